/-! CardHolder -/
set_option maxRecDepth 100000
def RX0 : String := "CardHolder"
def TX0 : u_T := fun k => match k with
  | 0 => ("CardHolder", "city", "LCardHolder$City;", false)
  | 1 => ("CardHolder", "tape", "[B", true)
  | 2 => ("CardHolder", "taped", "I", false)
  | 3 => ("CardHolder", "faultKind", "I", false)
  | 4 => ("CardHolder", "faultPlace", "I", false)
  | 5 => ("CardHolder", "day", "I", false)
  | 6 => ("CardHolder", "askedToday", "I", false)
  | 7 => ("CardHolder", "stolen", "I", false)
  | 8 => ("CardHolder", "deedsDone", "I", false)
  | 9 => ("CardHolder", "holder", "[I", true)
  | 10 => ("CardHolder", "worn", "[I", true)
  | 11 => ("CardHolder", "had", "[I", true)
  | 12 => ("CardHolder", "kinds", "Ljava/util/ArrayList;", true)
  | 13 => ("CardHolder", "wished", "[I", true)
  | 14 => ("CardHolder", "doing", "[I", true)
  | 15 => ("CardHolder", "tried", "I", false)
  | 16 => ("CardHolder", "watchWorst", "I", false)
  | 17 => ("CardHolder", "layMost", "I", false)
  | 18 => ("CardHolder", "layCard", "I", false)
  | 19 => ("CardHolder", "layReply", "I", false)
  | 20 => ("CardHolder", "laid", "[I", true)
  | 21 => ("CardHolder", "slots", "[LCardHolder$Slot;", true)
  | _ => ("CardHolder", "images", "Ljava/util/ArrayList;", true)
def tyX0 : Nat → FieldType := fun k => match k with
  | 0 => .object "CardHolder$City"
  | 1 => .array .byte
  | 2 => .int
  | 3 => .int
  | 4 => .int
  | 5 => .int
  | 6 => .int
  | 7 => .int
  | 8 => .int
  | 9 => .array .int
  | 10 => .array .int
  | 11 => .array .int
  | 12 => .object "java/util/ArrayList"
  | 13 => .array .int
  | 14 => .array .int
  | 15 => .int
  | 16 => .int
  | 17 => .int
  | 18 => .int
  | 19 => .int
  | 20 => .array .int
  | 21 => .array (.object "CardHolder$Slot")
  | _ => .object "java/util/ArrayList"
abbrev wsX00 : List Cond := u_ws RX0 TX0 23
set_option maxRecDepth 100000 in
theorem nmX0 : ∀ a, a < 23 → ∀ b, b < 23 → a ≠ b → (TX0 a).2.1 ≠ (TX0 b).2.1 := by decide +kernel
set_option maxRecDepth 100000 in
theorem tyX0_ok : ∀ k, k < 23 → parseFieldDescriptor (TX0 k).2.2.1 = some (tyX0 k) := by decide +kernel
abbrev cX0_init : ByteArray := prog_1_method_3_code
def yX0_init : MethodName := ⟨RX0, "<init>", "()V"⟩
def dkwX0_init_6 : List UInt8 := [183, 0, 36, 181, 0, 57, 177]
abbrev dktX0_init_6 : List UInt8 := dkwX0_init_6 ++ []
def dkwX0_init_5 : List UInt8 := [183, 0, 52, 83, 89, 6, 187, 0, 50, 89, 183, 0, 52, 83, 181, 0, 53, 42, 187, 0, 34, 89]
abbrev dktX0_init_5 : List UInt8 := dkwX0_init_5 ++ dktX0_init_6
def dkwX0_init_4 : List UInt8 := [187, 0, 50, 89, 183, 0, 52, 83, 89, 4, 187, 0, 50, 89, 183, 0, 52, 83, 89, 5, 187, 0, 50, 89]
abbrev dktX0_init_4 : List UInt8 := dkwX0_init_4 ++ dktX0_init_5
def dkwX0_init_3 : List UInt8 := [42, 16, 8, 188, 10, 181, 0, 44, 42, 16, 8, 188, 10, 181, 0, 47, 42, 7, 189, 0, 50, 89, 3]
abbrev dktX0_init_3 : List UInt8 := dkwX0_init_3 ++ dktX0_init_4
def dkwX0_init_2 : List UInt8 := [188, 10, 181, 0, 31, 42, 187, 0, 34, 89, 183, 0, 36, 181, 0, 37, 42, 16, 48, 188, 10, 181, 0, 41]
abbrev dktX0_init_2 : List UInt8 := dkwX0_init_2 ++ dktX0_init_3
def dkwX0_init_1 : List UInt8 := [42, 2, 181, 0, 20, 42, 16, 8, 188, 10, 181, 0, 24, 42, 16, 8, 188, 10, 181, 0, 28, 42, 16, 8]
abbrev dktX0_init_1 : List UInt8 := dkwX0_init_1 ++ dktX0_init_2
def dkwX0_init_0 : List UInt8 := [42, 183, 0, 3, 42, 187, 0, 9, 89, 183, 0, 11, 181, 0, 12, 42, 17, 3, 132, 188, 8, 181, 0, 16]
abbrev dktX0_init_0 : List UInt8 := dkwX0_init_0 ++ dktX0_init_1
theorem dksX0_init_0 : cX0_init.data.toList.drop 0 = dktX0_init_0 := by decide +kernel
theorem dksX0_init_1 : cX0_init.data.toList.drop 24 = dktX0_init_1 := dk_seg dksX0_init_0 24 rfl rfl
theorem dksX0_init_2 : cX0_init.data.toList.drop 48 = dktX0_init_2 := dk_seg dksX0_init_1 24 rfl rfl
theorem dksX0_init_3 : cX0_init.data.toList.drop 72 = dktX0_init_3 := dk_seg dksX0_init_2 24 rfl rfl
theorem dksX0_init_4 : cX0_init.data.toList.drop 95 = dktX0_init_4 := dk_seg dksX0_init_3 23 rfl rfl
theorem dksX0_init_5 : cX0_init.data.toList.drop 119 = dktX0_init_5 := dk_seg dksX0_init_4 24 rfl rfl
theorem dksX0_init_6 : cX0_init.data.toList.drop 141 = dktX0_init_6 := dk_seg dksX0_init_5 22 rfl rfl
theorem dX0_init_0 : decode cX0_init 0 = .ok (.aload_n 0, 1) := dk_42 (dk_at dksX0_init_0 0 rfl rfl)
theorem dX0_init_1 : decode cX0_init 1 = .ok (.invokespecial 3, 3) := dk_183 0 3 (dk_at dksX0_init_0 1 rfl rfl)
theorem dX0_init_4 : decode cX0_init 4 = .ok (.aload_n 0, 1) := dk_42 (dk_at dksX0_init_0 4 rfl rfl)
theorem dX0_init_5 : decode cX0_init 5 = .ok (.new 9, 3) := dk_187 0 9 (dk_at dksX0_init_0 5 rfl rfl)
theorem dX0_init_8 : decode cX0_init 8 = .ok (.dup, 1) := dk_89 (dk_at dksX0_init_0 8 rfl rfl)
theorem dX0_init_9 : decode cX0_init 9 = .ok (.invokespecial 11, 3) := dk_183 0 11 (dk_at dksX0_init_0 9 rfl rfl)
theorem dX0_init_12 : decode cX0_init 12 = .ok (.putfield 12, 3) := dk_181 0 12 (dk_at dksX0_init_0 12 rfl rfl)
theorem dX0_init_15 : decode cX0_init 15 = .ok (.aload_n 0, 1) := dk_42 (dk_at dksX0_init_0 15 rfl rfl)
theorem dX0_init_16 : decode cX0_init 16 = .ok (.sipush 900, 3) := dk_17 3 132 (dk_at dksX0_init_0 16 rfl rfl)
theorem dX0_init_19 : decode cX0_init 19 = .ok (.newarray .byte, 2) := dk_188_8 (dk_at dksX0_init_0 19 rfl rfl)
theorem dX0_init_21 : decode cX0_init 21 = .ok (.putfield 16, 3) := dk_181 0 16 (dk_at dksX0_init_0 21 rfl rfl)
theorem dX0_init_24 : decode cX0_init 24 = .ok (.aload_n 0, 1) := dk_42 (dk_at dksX0_init_1 0 rfl rfl)
theorem dX0_init_25 : decode cX0_init 25 = .ok (.iconst (-1), 1) := dk_2 (dk_at dksX0_init_1 1 rfl rfl)
theorem dX0_init_26 : decode cX0_init 26 = .ok (.putfield 20, 3) := dk_181 0 20 (dk_at dksX0_init_1 2 rfl rfl)
theorem dX0_init_29 : decode cX0_init 29 = .ok (.aload_n 0, 1) := dk_42 (dk_at dksX0_init_1 5 rfl rfl)
theorem dX0_init_30 : decode cX0_init 30 = .ok (.bipush 8, 2) := dk_16 8 (dk_at dksX0_init_1 6 rfl rfl)
theorem dX0_init_32 : decode cX0_init 32 = .ok (.newarray .int, 2) := dk_188_10 (dk_at dksX0_init_1 8 rfl rfl)
theorem dX0_init_34 : decode cX0_init 34 = .ok (.putfield 24, 3) := dk_181 0 24 (dk_at dksX0_init_1 10 rfl rfl)
theorem dX0_init_37 : decode cX0_init 37 = .ok (.aload_n 0, 1) := dk_42 (dk_at dksX0_init_1 13 rfl rfl)
theorem dX0_init_38 : decode cX0_init 38 = .ok (.bipush 8, 2) := dk_16 8 (dk_at dksX0_init_1 14 rfl rfl)
theorem dX0_init_40 : decode cX0_init 40 = .ok (.newarray .int, 2) := dk_188_10 (dk_at dksX0_init_1 16 rfl rfl)
theorem dX0_init_42 : decode cX0_init 42 = .ok (.putfield 28, 3) := dk_181 0 28 (dk_at dksX0_init_1 18 rfl rfl)
theorem dX0_init_45 : decode cX0_init 45 = .ok (.aload_n 0, 1) := dk_42 (dk_at dksX0_init_1 21 rfl rfl)
theorem dX0_init_46 : decode cX0_init 46 = .ok (.bipush 8, 2) := dk_16 8 (dk_at dksX0_init_1 22 rfl rfl)
theorem dX0_init_48 : decode cX0_init 48 = .ok (.newarray .int, 2) := dk_188_10 (dk_at dksX0_init_2 0 rfl rfl)
theorem dX0_init_50 : decode cX0_init 50 = .ok (.putfield 31, 3) := dk_181 0 31 (dk_at dksX0_init_2 2 rfl rfl)
theorem dX0_init_53 : decode cX0_init 53 = .ok (.aload_n 0, 1) := dk_42 (dk_at dksX0_init_2 5 rfl rfl)
theorem dX0_init_54 : decode cX0_init 54 = .ok (.new 34, 3) := dk_187 0 34 (dk_at dksX0_init_2 6 rfl rfl)
theorem dX0_init_57 : decode cX0_init 57 = .ok (.dup, 1) := dk_89 (dk_at dksX0_init_2 9 rfl rfl)
theorem dX0_init_58 : decode cX0_init 58 = .ok (.invokespecial 36, 3) := dk_183 0 36 (dk_at dksX0_init_2 10 rfl rfl)
theorem dX0_init_61 : decode cX0_init 61 = .ok (.putfield 37, 3) := dk_181 0 37 (dk_at dksX0_init_2 13 rfl rfl)
theorem dX0_init_64 : decode cX0_init 64 = .ok (.aload_n 0, 1) := dk_42 (dk_at dksX0_init_2 16 rfl rfl)
theorem dX0_init_65 : decode cX0_init 65 = .ok (.bipush 48, 2) := dk_16 48 (dk_at dksX0_init_2 17 rfl rfl)
theorem dX0_init_67 : decode cX0_init 67 = .ok (.newarray .int, 2) := dk_188_10 (dk_at dksX0_init_2 19 rfl rfl)
theorem dX0_init_69 : decode cX0_init 69 = .ok (.putfield 41, 3) := dk_181 0 41 (dk_at dksX0_init_2 21 rfl rfl)
theorem dX0_init_72 : decode cX0_init 72 = .ok (.aload_n 0, 1) := dk_42 (dk_at dksX0_init_3 0 rfl rfl)
theorem dX0_init_73 : decode cX0_init 73 = .ok (.bipush 8, 2) := dk_16 8 (dk_at dksX0_init_3 1 rfl rfl)
theorem dX0_init_75 : decode cX0_init 75 = .ok (.newarray .int, 2) := dk_188_10 (dk_at dksX0_init_3 3 rfl rfl)
theorem dX0_init_77 : decode cX0_init 77 = .ok (.putfield 44, 3) := dk_181 0 44 (dk_at dksX0_init_3 5 rfl rfl)
theorem dX0_init_80 : decode cX0_init 80 = .ok (.aload_n 0, 1) := dk_42 (dk_at dksX0_init_3 8 rfl rfl)
theorem dX0_init_81 : decode cX0_init 81 = .ok (.bipush 8, 2) := dk_16 8 (dk_at dksX0_init_3 9 rfl rfl)
theorem dX0_init_83 : decode cX0_init 83 = .ok (.newarray .int, 2) := dk_188_10 (dk_at dksX0_init_3 11 rfl rfl)
theorem dX0_init_85 : decode cX0_init 85 = .ok (.putfield 47, 3) := dk_181 0 47 (dk_at dksX0_init_3 13 rfl rfl)
theorem dX0_init_88 : decode cX0_init 88 = .ok (.aload_n 0, 1) := dk_42 (dk_at dksX0_init_3 16 rfl rfl)
theorem dX0_init_89 : decode cX0_init 89 = .ok (.iconst 4, 1) := dk_7 (dk_at dksX0_init_3 17 rfl rfl)
theorem dX0_init_90 : decode cX0_init 90 = .ok (.anewarray 50, 3) := dk_189 0 50 (dk_at dksX0_init_3 18 rfl rfl)
theorem dX0_init_93 : decode cX0_init 93 = .ok (.dup, 1) := dk_89 (dk_at dksX0_init_3 21 rfl rfl)
theorem dX0_init_94 : decode cX0_init 94 = .ok (.iconst 0, 1) := dk_3 (dk_at dksX0_init_3 22 rfl rfl)
theorem dX0_init_95 : decode cX0_init 95 = .ok (.new 50, 3) := dk_187 0 50 (dk_at dksX0_init_4 0 rfl rfl)
theorem dX0_init_98 : decode cX0_init 98 = .ok (.dup, 1) := dk_89 (dk_at dksX0_init_4 3 rfl rfl)
theorem dX0_init_99 : decode cX0_init 99 = .ok (.invokespecial 52, 3) := dk_183 0 52 (dk_at dksX0_init_4 4 rfl rfl)
theorem dX0_init_102 : decode cX0_init 102 = .ok (.aastore, 1) := dk_83 (dk_at dksX0_init_4 7 rfl rfl)
theorem dX0_init_103 : decode cX0_init 103 = .ok (.dup, 1) := dk_89 (dk_at dksX0_init_4 8 rfl rfl)
theorem dX0_init_104 : decode cX0_init 104 = .ok (.iconst 1, 1) := dk_4 (dk_at dksX0_init_4 9 rfl rfl)
theorem dX0_init_105 : decode cX0_init 105 = .ok (.new 50, 3) := dk_187 0 50 (dk_at dksX0_init_4 10 rfl rfl)
theorem dX0_init_108 : decode cX0_init 108 = .ok (.dup, 1) := dk_89 (dk_at dksX0_init_4 13 rfl rfl)
theorem dX0_init_109 : decode cX0_init 109 = .ok (.invokespecial 52, 3) := dk_183 0 52 (dk_at dksX0_init_4 14 rfl rfl)
theorem dX0_init_112 : decode cX0_init 112 = .ok (.aastore, 1) := dk_83 (dk_at dksX0_init_4 17 rfl rfl)
theorem dX0_init_113 : decode cX0_init 113 = .ok (.dup, 1) := dk_89 (dk_at dksX0_init_4 18 rfl rfl)
theorem dX0_init_114 : decode cX0_init 114 = .ok (.iconst 2, 1) := dk_5 (dk_at dksX0_init_4 19 rfl rfl)
theorem dX0_init_115 : decode cX0_init 115 = .ok (.new 50, 3) := dk_187 0 50 (dk_at dksX0_init_4 20 rfl rfl)
theorem dX0_init_118 : decode cX0_init 118 = .ok (.dup, 1) := dk_89 (dk_at dksX0_init_4 23 rfl rfl)
theorem dX0_init_119 : decode cX0_init 119 = .ok (.invokespecial 52, 3) := dk_183 0 52 (dk_at dksX0_init_5 0 rfl rfl)
theorem dX0_init_122 : decode cX0_init 122 = .ok (.aastore, 1) := dk_83 (dk_at dksX0_init_5 3 rfl rfl)
theorem dX0_init_123 : decode cX0_init 123 = .ok (.dup, 1) := dk_89 (dk_at dksX0_init_5 4 rfl rfl)
theorem dX0_init_124 : decode cX0_init 124 = .ok (.iconst 3, 1) := dk_6 (dk_at dksX0_init_5 5 rfl rfl)
theorem dX0_init_125 : decode cX0_init 125 = .ok (.new 50, 3) := dk_187 0 50 (dk_at dksX0_init_5 6 rfl rfl)
theorem dX0_init_128 : decode cX0_init 128 = .ok (.dup, 1) := dk_89 (dk_at dksX0_init_5 9 rfl rfl)
theorem dX0_init_129 : decode cX0_init 129 = .ok (.invokespecial 52, 3) := dk_183 0 52 (dk_at dksX0_init_5 10 rfl rfl)
theorem dX0_init_132 : decode cX0_init 132 = .ok (.aastore, 1) := dk_83 (dk_at dksX0_init_5 13 rfl rfl)
theorem dX0_init_133 : decode cX0_init 133 = .ok (.putfield 53, 3) := dk_181 0 53 (dk_at dksX0_init_5 14 rfl rfl)
theorem dX0_init_136 : decode cX0_init 136 = .ok (.aload_n 0, 1) := dk_42 (dk_at dksX0_init_5 17 rfl rfl)
theorem dX0_init_137 : decode cX0_init 137 = .ok (.new 34, 3) := dk_187 0 34 (dk_at dksX0_init_5 18 rfl rfl)
theorem dX0_init_140 : decode cX0_init 140 = .ok (.dup, 1) := dk_89 (dk_at dksX0_init_5 21 rfl rfl)
theorem dX0_init_141 : decode cX0_init 141 = .ok (.invokespecial 36, 3) := dk_183 0 36 (dk_at dksX0_init_6 0 rfl rfl)
theorem dX0_init_144 : decode cX0_init 144 = .ok (.putfield 57, 3) := dk_181 0 57 (dk_at dksX0_init_6 3 rfl rfl)
theorem dX0_init_147 : decode cX0_init 147 = .ok (.return_, 1) := dk_177 (dk_at dksX0_init_6 6 rfl rfl)
abbrev cX0_feed : ByteArray := prog_1_method_5_code
def yX0_feed : MethodName := ⟨RX0, "feed", "(IIIII)I"⟩
def dkwX0_feed_2 : List UInt8 := [172]
abbrev dktX0_feed_2 : List UInt8 := dkwX0_feed_2 ++ []
def dkwX0_feed_1 : List UInt8 := [182, 0, 63, 42, 29, 182, 0, 63, 42, 21, 4, 182, 0, 63, 42, 21, 5, 182, 0, 63, 42, 180, 0, 60]
abbrev dktX0_feed_1 : List UInt8 := dkwX0_feed_1 ++ dktX0_feed_2
def dkwX0_feed_0 : List UInt8 := [42, 180, 0, 60, 16, 20, 96, 17, 3, 132, 164, 0, 5, 2, 172, 42, 27, 182, 0, 63, 42, 28]
abbrev dktX0_feed_0 : List UInt8 := dkwX0_feed_0 ++ dktX0_feed_1
theorem dksX0_feed_0 : cX0_feed.data.toList.drop 0 = dktX0_feed_0 := by decide +kernel
theorem dksX0_feed_1 : cX0_feed.data.toList.drop 22 = dktX0_feed_1 := dk_seg dksX0_feed_0 22 rfl rfl
theorem dksX0_feed_2 : cX0_feed.data.toList.drop 46 = dktX0_feed_2 := dk_seg dksX0_feed_1 24 rfl rfl
theorem dX0_feed_0 : decode cX0_feed 0 = .ok (.aload_n 0, 1) := dk_42 (dk_at dksX0_feed_0 0 rfl rfl)
theorem dX0_feed_1 : decode cX0_feed 1 = .ok (.getfield 60, 3) := dk_180 0 60 (dk_at dksX0_feed_0 1 rfl rfl)
theorem dX0_feed_4 : decode cX0_feed 4 = .ok (.bipush 20, 2) := dk_16 20 (dk_at dksX0_feed_0 4 rfl rfl)
theorem dX0_feed_6 : decode cX0_feed 6 = .ok (.iadd, 1) := dk_96 (dk_at dksX0_feed_0 6 rfl rfl)
theorem dX0_feed_7 : decode cX0_feed 7 = .ok (.sipush 900, 3) := dk_17 3 132 (dk_at dksX0_feed_0 7 rfl rfl)
theorem dX0_feed_10 : decode cX0_feed 10 = .ok (.if_icmp .le 5, 3) := dk_164 0 5 (dk_at dksX0_feed_0 10 rfl rfl)
theorem dX0_feed_13 : decode cX0_feed 13 = .ok (.iconst (-1), 1) := dk_2 (dk_at dksX0_feed_0 13 rfl rfl)
theorem dX0_feed_14 : decode cX0_feed 14 = .ok (.ireturn, 1) := dk_172 (dk_at dksX0_feed_0 14 rfl rfl)
theorem dX0_feed_15 : decode cX0_feed 15 = .ok (.aload_n 0, 1) := dk_42 (dk_at dksX0_feed_0 15 rfl rfl)
theorem dX0_feed_16 : decode cX0_feed 16 = .ok (.iload_n 1, 1) := dk_27 (dk_at dksX0_feed_0 16 rfl rfl)
theorem dX0_feed_17 : decode cX0_feed 17 = .ok (.invokevirtual 63, 3) := dk_182 0 63 (dk_at dksX0_feed_0 17 rfl rfl)
theorem dX0_feed_20 : decode cX0_feed 20 = .ok (.aload_n 0, 1) := dk_42 (dk_at dksX0_feed_0 20 rfl rfl)
theorem dX0_feed_21 : decode cX0_feed 21 = .ok (.iload_n 2, 1) := dk_28 (dk_at dksX0_feed_0 21 rfl rfl)
theorem dX0_feed_22 : decode cX0_feed 22 = .ok (.invokevirtual 63, 3) := dk_182 0 63 (dk_at dksX0_feed_1 0 rfl rfl)
theorem dX0_feed_25 : decode cX0_feed 25 = .ok (.aload_n 0, 1) := dk_42 (dk_at dksX0_feed_1 3 rfl rfl)
theorem dX0_feed_26 : decode cX0_feed 26 = .ok (.iload_n 3, 1) := dk_29 (dk_at dksX0_feed_1 4 rfl rfl)
theorem dX0_feed_27 : decode cX0_feed 27 = .ok (.invokevirtual 63, 3) := dk_182 0 63 (dk_at dksX0_feed_1 5 rfl rfl)
theorem dX0_feed_30 : decode cX0_feed 30 = .ok (.aload_n 0, 1) := dk_42 (dk_at dksX0_feed_1 8 rfl rfl)
theorem dX0_feed_31 : decode cX0_feed 31 = .ok (.iload 4, 2) := dk_21 4 (dk_at dksX0_feed_1 9 rfl rfl)
theorem dX0_feed_33 : decode cX0_feed 33 = .ok (.invokevirtual 63, 3) := dk_182 0 63 (dk_at dksX0_feed_1 11 rfl rfl)
theorem dX0_feed_36 : decode cX0_feed 36 = .ok (.aload_n 0, 1) := dk_42 (dk_at dksX0_feed_1 14 rfl rfl)
theorem dX0_feed_37 : decode cX0_feed 37 = .ok (.iload 5, 2) := dk_21 5 (dk_at dksX0_feed_1 15 rfl rfl)
theorem dX0_feed_39 : decode cX0_feed 39 = .ok (.invokevirtual 63, 3) := dk_182 0 63 (dk_at dksX0_feed_1 17 rfl rfl)
theorem dX0_feed_42 : decode cX0_feed 42 = .ok (.aload_n 0, 1) := dk_42 (dk_at dksX0_feed_1 20 rfl rfl)
theorem dX0_feed_43 : decode cX0_feed 43 = .ok (.getfield 60, 3) := dk_180 0 60 (dk_at dksX0_feed_1 21 rfl rfl)
theorem dX0_feed_46 : decode cX0_feed 46 = .ok (.ireturn, 1) := dk_172 (dk_at dksX0_feed_2 0 rfl rfl)
abbrev cX0_puts : ByteArray := prog_1_method_4_code
def yX0_puts : MethodName := ⟨RX0, "puts", "(I)V"⟩
def dkwX0_puts_1 : List UInt8 := [180, 0, 60, 4, 96, 181, 0, 60, 132, 2, 248, 167, 255, 226, 177]
abbrev dktX0_puts_1 : List UInt8 := dkwX0_puts_1 ++ []
def dkwX0_puts_0 : List UInt8 := [16, 24, 61, 28, 155, 0, 32, 42, 180, 0, 16, 42, 180, 0, 60, 27, 28, 122, 145, 84, 42, 89]
abbrev dktX0_puts_0 : List UInt8 := dkwX0_puts_0 ++ dktX0_puts_1
theorem dksX0_puts_0 : cX0_puts.data.toList.drop 0 = dktX0_puts_0 := by decide +kernel
theorem dksX0_puts_1 : cX0_puts.data.toList.drop 22 = dktX0_puts_1 := dk_seg dksX0_puts_0 22 rfl rfl
theorem dX0_puts_0 : decode cX0_puts 0 = .ok (.bipush 24, 2) := dk_16 24 (dk_at dksX0_puts_0 0 rfl rfl)
theorem dX0_puts_2 : decode cX0_puts 2 = .ok (.istore_n 2, 1) := dk_61 (dk_at dksX0_puts_0 2 rfl rfl)
theorem dX0_puts_3 : decode cX0_puts 3 = .ok (.iload_n 2, 1) := dk_28 (dk_at dksX0_puts_0 3 rfl rfl)
theorem dX0_puts_4 : decode cX0_puts 4 = .ok (.ifCond .lt 32, 3) := dk_155 0 32 (dk_at dksX0_puts_0 4 rfl rfl)
theorem dX0_puts_7 : decode cX0_puts 7 = .ok (.aload_n 0, 1) := dk_42 (dk_at dksX0_puts_0 7 rfl rfl)
theorem dX0_puts_8 : decode cX0_puts 8 = .ok (.getfield 16, 3) := dk_180 0 16 (dk_at dksX0_puts_0 8 rfl rfl)
theorem dX0_puts_11 : decode cX0_puts 11 = .ok (.aload_n 0, 1) := dk_42 (dk_at dksX0_puts_0 11 rfl rfl)
theorem dX0_puts_12 : decode cX0_puts 12 = .ok (.getfield 60, 3) := dk_180 0 60 (dk_at dksX0_puts_0 12 rfl rfl)
theorem dX0_puts_15 : decode cX0_puts 15 = .ok (.iload_n 1, 1) := dk_27 (dk_at dksX0_puts_0 15 rfl rfl)
theorem dX0_puts_16 : decode cX0_puts 16 = .ok (.iload_n 2, 1) := dk_28 (dk_at dksX0_puts_0 16 rfl rfl)
theorem dX0_puts_17 : decode cX0_puts 17 = .ok (.ishr, 1) := dk_122 (dk_at dksX0_puts_0 17 rfl rfl)
theorem dX0_puts_18 : decode cX0_puts 18 = .ok (.i2b, 1) := dk_145 (dk_at dksX0_puts_0 18 rfl rfl)
theorem dX0_puts_19 : decode cX0_puts 19 = .ok (.bastore, 1) := dk_84 (dk_at dksX0_puts_0 19 rfl rfl)
theorem dX0_puts_20 : decode cX0_puts 20 = .ok (.aload_n 0, 1) := dk_42 (dk_at dksX0_puts_0 20 rfl rfl)
theorem dX0_puts_21 : decode cX0_puts 21 = .ok (.dup, 1) := dk_89 (dk_at dksX0_puts_0 21 rfl rfl)
theorem dX0_puts_22 : decode cX0_puts 22 = .ok (.getfield 60, 3) := dk_180 0 60 (dk_at dksX0_puts_1 0 rfl rfl)
theorem dX0_puts_25 : decode cX0_puts 25 = .ok (.iconst 1, 1) := dk_4 (dk_at dksX0_puts_1 3 rfl rfl)
theorem dX0_puts_26 : decode cX0_puts 26 = .ok (.iadd, 1) := dk_96 (dk_at dksX0_puts_1 4 rfl rfl)
theorem dX0_puts_27 : decode cX0_puts 27 = .ok (.putfield 60, 3) := dk_181 0 60 (dk_at dksX0_puts_1 5 rfl rfl)
theorem dX0_puts_30 : decode cX0_puts 30 = .ok (.iinc 2 (-8), 3) := dk_132 2 248 (dk_at dksX0_puts_1 8 rfl rfl)
theorem dX0_puts_33 : decode cX0_puts 33 = .ok (.goto (-30), 3) := dk_167 255 226 (dk_at dksX0_puts_1 11 rfl rfl)
theorem dX0_puts_36 : decode cX0_puts 36 = .ok (.return_, 1) := dk_177 (dk_at dksX0_puts_1 14 rfl rfl)
abbrev cX0_end : ByteArray := prog_1_method_6_code
def yX0_end : MethodName := ⟨RX0, "end", "(I)I"⟩
def dkwX0_end_0 : List UInt8 := [27, 133, 9, 42, 180, 0, 60, 133, 184, 0, 67, 154, 0, 5, 2, 172, 42, 27, 181, 0, 60, 27, 172]
abbrev dktX0_end_0 : List UInt8 := dkwX0_end_0 ++ []
theorem dksX0_end_0 : cX0_end.data.toList.drop 0 = dktX0_end_0 := by decide +kernel
theorem dX0_end_0 : decode cX0_end 0 = .ok (.iload_n 1, 1) := dk_27 (dk_at dksX0_end_0 0 rfl rfl)
theorem dX0_end_1 : decode cX0_end 1 = .ok (.i2l, 1) := dk_133 (dk_at dksX0_end_0 1 rfl rfl)
theorem dX0_end_2 : decode cX0_end 2 = .ok (.lconst 0, 1) := dk_9 (dk_at dksX0_end_0 2 rfl rfl)
theorem dX0_end_3 : decode cX0_end 3 = .ok (.aload_n 0, 1) := dk_42 (dk_at dksX0_end_0 3 rfl rfl)
theorem dX0_end_4 : decode cX0_end 4 = .ok (.getfield 60, 3) := dk_180 0 60 (dk_at dksX0_end_0 4 rfl rfl)
theorem dX0_end_7 : decode cX0_end 7 = .ok (.i2l, 1) := dk_133 (dk_at dksX0_end_0 7 rfl rfl)
theorem dX0_end_8 : decode cX0_end 8 = .ok (.invokestatic 67, 3) := dk_184 0 67 (dk_at dksX0_end_0 8 rfl rfl)
theorem dX0_end_11 : decode cX0_end 11 = .ok (.ifCond .ne 5, 3) := dk_154 0 5 (dk_at dksX0_end_0 11 rfl rfl)
theorem dX0_end_14 : decode cX0_end 14 = .ok (.iconst (-1), 1) := dk_2 (dk_at dksX0_end_0 14 rfl rfl)
theorem dX0_end_15 : decode cX0_end 15 = .ok (.ireturn, 1) := dk_172 (dk_at dksX0_end_0 15 rfl rfl)
theorem dX0_end_16 : decode cX0_end 16 = .ok (.aload_n 0, 1) := dk_42 (dk_at dksX0_end_0 16 rfl rfl)
theorem dX0_end_17 : decode cX0_end 17 = .ok (.iload_n 1, 1) := dk_27 (dk_at dksX0_end_0 17 rfl rfl)
theorem dX0_end_18 : decode cX0_end 18 = .ok (.putfield 60, 3) := dk_181 0 60 (dk_at dksX0_end_0 18 rfl rfl)
theorem dX0_end_21 : decode cX0_end 21 = .ok (.iload_n 1, 1) := dk_27 (dk_at dksX0_end_0 21 rfl rfl)
theorem dX0_end_22 : decode cX0_end 22 = .ok (.ireturn, 1) := dk_172 (dk_at dksX0_end_0 22 rfl rfl)
abbrev cX0_isIn : ByteArray := prog_1_method_1_code
def yX0_isIn : MethodName := ⟨RX0, "isIn", "(JJJ)Z"⟩
def dkwX0_isIn_0 : List UInt8 := [30, 32, 148, 155, 0, 14, 30, 22, 4, 148, 157, 0, 7, 4, 167, 0, 4, 3, 172]
abbrev dktX0_isIn_0 : List UInt8 := dkwX0_isIn_0 ++ []
theorem dksX0_isIn_0 : cX0_isIn.data.toList.drop 0 = dktX0_isIn_0 := by decide +kernel
theorem dX0_isIn_0 : decode cX0_isIn 0 = .ok (.lload_n 0, 1) := dk_30 (dk_at dksX0_isIn_0 0 rfl rfl)
theorem dX0_isIn_1 : decode cX0_isIn 1 = .ok (.lload_n 2, 1) := dk_32 (dk_at dksX0_isIn_0 1 rfl rfl)
theorem dX0_isIn_2 : decode cX0_isIn 2 = .ok (.lcmp, 1) := dk_148 (dk_at dksX0_isIn_0 2 rfl rfl)
theorem dX0_isIn_3 : decode cX0_isIn 3 = .ok (.ifCond .lt 14, 3) := dk_155 0 14 (dk_at dksX0_isIn_0 3 rfl rfl)
theorem dX0_isIn_6 : decode cX0_isIn 6 = .ok (.lload_n 0, 1) := dk_30 (dk_at dksX0_isIn_0 6 rfl rfl)
theorem dX0_isIn_7 : decode cX0_isIn 7 = .ok (.lload 4, 2) := dk_22 4 (dk_at dksX0_isIn_0 7 rfl rfl)
theorem dX0_isIn_9 : decode cX0_isIn 9 = .ok (.lcmp, 1) := dk_148 (dk_at dksX0_isIn_0 9 rfl rfl)
theorem dX0_isIn_10 : decode cX0_isIn 10 = .ok (.ifCond .gt 7, 3) := dk_157 0 7 (dk_at dksX0_isIn_0 10 rfl rfl)
theorem dX0_isIn_13 : decode cX0_isIn 13 = .ok (.iconst 1, 1) := dk_4 (dk_at dksX0_isIn_0 13 rfl rfl)
theorem dX0_isIn_14 : decode cX0_isIn 14 = .ok (.goto 4, 3) := dk_167 0 4 (dk_at dksX0_isIn_0 14 rfl rfl)
theorem dX0_isIn_17 : decode cX0_isIn 17 = .ok (.iconst 0, 1) := dk_3 (dk_at dksX0_isIn_0 17 rfl rfl)
theorem dX0_isIn_18 : decode cX0_isIn 18 = .ok (.ireturn, 1) := dk_172 (dk_at dksX0_isIn_0 18 rfl rfl)
abbrev cX0_city : ByteArray := prog_1_method_7_code
def yX0_city : MethodName := ⟨RX0, "city", "()I"⟩
def dkwX0_city_3 : List UInt8 := [181, 0, 60, 45, 191]
abbrev dktX0_city_3 : List UInt8 := dkwX0_city_3 ++ []
def dkwX0_city_2 : List UInt8 := [181, 0, 80, 42, 43, 180, 0, 91, 181, 0, 20, 16, 252, 61, 42, 3, 181, 0, 60, 28, 172, 78, 42, 3]
abbrev dktX0_city_2 : List UInt8 := dkwX0_city_2 ++ dktX0_city_3
def dkwX0_city_1 : List UInt8 := [181, 0, 20, 42, 180, 0, 12, 180, 0, 83, 60, 42, 3, 181, 0, 60, 27, 172, 76, 42, 43, 180, 0, 88]
abbrev dktX0_city_1 : List UInt8 := dkwX0_city_1 ++ dktX0_city_2
def dkwX0_city_0 : List UInt8 := [42, 187, 0, 71, 89, 42, 183, 0, 73, 182, 0, 76, 181, 0, 12, 42, 3, 181, 0, 80, 42, 2]
abbrev dktX0_city_0 : List UInt8 := dkwX0_city_0 ++ dktX0_city_1
theorem dksX0_city_0 : cX0_city.data.toList.drop 0 = dktX0_city_0 := by decide +kernel
theorem dksX0_city_1 : cX0_city.data.toList.drop 22 = dktX0_city_1 := dk_seg dksX0_city_0 22 rfl rfl
theorem dksX0_city_2 : cX0_city.data.toList.drop 46 = dktX0_city_2 := dk_seg dksX0_city_1 24 rfl rfl
theorem dksX0_city_3 : cX0_city.data.toList.drop 70 = dktX0_city_3 := dk_seg dksX0_city_2 24 rfl rfl
theorem dX0_city_0 : decode cX0_city 0 = .ok (.aload_n 0, 1) := dk_42 (dk_at dksX0_city_0 0 rfl rfl)
theorem dX0_city_1 : decode cX0_city 1 = .ok (.new 71, 3) := dk_187 0 71 (dk_at dksX0_city_0 1 rfl rfl)
theorem dX0_city_4 : decode cX0_city 4 = .ok (.dup, 1) := dk_89 (dk_at dksX0_city_0 4 rfl rfl)
theorem dX0_city_5 : decode cX0_city 5 = .ok (.aload_n 0, 1) := dk_42 (dk_at dksX0_city_0 5 rfl rfl)
theorem dX0_city_6 : decode cX0_city 6 = .ok (.invokespecial 73, 3) := dk_183 0 73 (dk_at dksX0_city_0 6 rfl rfl)
theorem dX0_city_9 : decode cX0_city 9 = .ok (.invokevirtual 76, 3) := dk_182 0 76 (dk_at dksX0_city_0 9 rfl rfl)
theorem dX0_city_12 : decode cX0_city 12 = .ok (.putfield 12, 3) := dk_181 0 12 (dk_at dksX0_city_0 12 rfl rfl)
theorem dX0_city_15 : decode cX0_city 15 = .ok (.aload_n 0, 1) := dk_42 (dk_at dksX0_city_0 15 rfl rfl)
theorem dX0_city_16 : decode cX0_city 16 = .ok (.iconst 0, 1) := dk_3 (dk_at dksX0_city_0 16 rfl rfl)
theorem dX0_city_17 : decode cX0_city 17 = .ok (.putfield 80, 3) := dk_181 0 80 (dk_at dksX0_city_0 17 rfl rfl)
theorem dX0_city_20 : decode cX0_city 20 = .ok (.aload_n 0, 1) := dk_42 (dk_at dksX0_city_0 20 rfl rfl)
theorem dX0_city_21 : decode cX0_city 21 = .ok (.iconst (-1), 1) := dk_2 (dk_at dksX0_city_0 21 rfl rfl)
theorem dX0_city_22 : decode cX0_city 22 = .ok (.putfield 20, 3) := dk_181 0 20 (dk_at dksX0_city_1 0 rfl rfl)
theorem dX0_city_25 : decode cX0_city 25 = .ok (.aload_n 0, 1) := dk_42 (dk_at dksX0_city_1 3 rfl rfl)
theorem dX0_city_26 : decode cX0_city 26 = .ok (.getfield 12, 3) := dk_180 0 12 (dk_at dksX0_city_1 4 rfl rfl)
theorem dX0_city_29 : decode cX0_city 29 = .ok (.getfield 83, 3) := dk_180 0 83 (dk_at dksX0_city_1 7 rfl rfl)
theorem dX0_city_32 : decode cX0_city 32 = .ok (.istore_n 1, 1) := dk_60 (dk_at dksX0_city_1 10 rfl rfl)
theorem dX0_city_33 : decode cX0_city 33 = .ok (.aload_n 0, 1) := dk_42 (dk_at dksX0_city_1 11 rfl rfl)
theorem dX0_city_34 : decode cX0_city 34 = .ok (.iconst 0, 1) := dk_3 (dk_at dksX0_city_1 12 rfl rfl)
theorem dX0_city_35 : decode cX0_city 35 = .ok (.putfield 60, 3) := dk_181 0 60 (dk_at dksX0_city_1 13 rfl rfl)
theorem dX0_city_38 : decode cX0_city 38 = .ok (.iload_n 1, 1) := dk_27 (dk_at dksX0_city_1 16 rfl rfl)
theorem dX0_city_39 : decode cX0_city 39 = .ok (.ireturn, 1) := dk_172 (dk_at dksX0_city_1 17 rfl rfl)
theorem dX0_city_40 : decode cX0_city 40 = .ok (.astore_n 1, 1) := dk_76 (dk_at dksX0_city_1 18 rfl rfl)
theorem dX0_city_41 : decode cX0_city 41 = .ok (.aload_n 0, 1) := dk_42 (dk_at dksX0_city_1 19 rfl rfl)
theorem dX0_city_42 : decode cX0_city 42 = .ok (.aload_n 1, 1) := dk_43 (dk_at dksX0_city_1 20 rfl rfl)
theorem dX0_city_43 : decode cX0_city 43 = .ok (.getfield 88, 3) := dk_180 0 88 (dk_at dksX0_city_1 21 rfl rfl)
theorem dX0_city_46 : decode cX0_city 46 = .ok (.putfield 80, 3) := dk_181 0 80 (dk_at dksX0_city_2 0 rfl rfl)
theorem dX0_city_49 : decode cX0_city 49 = .ok (.aload_n 0, 1) := dk_42 (dk_at dksX0_city_2 3 rfl rfl)
theorem dX0_city_50 : decode cX0_city 50 = .ok (.aload_n 1, 1) := dk_43 (dk_at dksX0_city_2 4 rfl rfl)
theorem dX0_city_51 : decode cX0_city 51 = .ok (.getfield 91, 3) := dk_180 0 91 (dk_at dksX0_city_2 5 rfl rfl)
theorem dX0_city_54 : decode cX0_city 54 = .ok (.putfield 20, 3) := dk_181 0 20 (dk_at dksX0_city_2 8 rfl rfl)
theorem dX0_city_57 : decode cX0_city 57 = .ok (.bipush (-4), 2) := dk_16 252 (dk_at dksX0_city_2 11 rfl rfl)
theorem dX0_city_59 : decode cX0_city 59 = .ok (.istore_n 2, 1) := dk_61 (dk_at dksX0_city_2 13 rfl rfl)
theorem dX0_city_60 : decode cX0_city 60 = .ok (.aload_n 0, 1) := dk_42 (dk_at dksX0_city_2 14 rfl rfl)
theorem dX0_city_61 : decode cX0_city 61 = .ok (.iconst 0, 1) := dk_3 (dk_at dksX0_city_2 15 rfl rfl)
theorem dX0_city_62 : decode cX0_city 62 = .ok (.putfield 60, 3) := dk_181 0 60 (dk_at dksX0_city_2 16 rfl rfl)
theorem dX0_city_65 : decode cX0_city 65 = .ok (.iload_n 2, 1) := dk_28 (dk_at dksX0_city_2 19 rfl rfl)
theorem dX0_city_66 : decode cX0_city 66 = .ok (.ireturn, 1) := dk_172 (dk_at dksX0_city_2 20 rfl rfl)
theorem dX0_city_67 : decode cX0_city 67 = .ok (.astore_n 3, 1) := dk_78 (dk_at dksX0_city_2 21 rfl rfl)
theorem dX0_city_68 : decode cX0_city 68 = .ok (.aload_n 0, 1) := dk_42 (dk_at dksX0_city_2 22 rfl rfl)
theorem dX0_city_69 : decode cX0_city 69 = .ok (.iconst 0, 1) := dk_3 (dk_at dksX0_city_2 23 rfl rfl)
theorem dX0_city_70 : decode cX0_city 70 = .ok (.putfield 60, 3) := dk_181 0 60 (dk_at dksX0_city_3 0 rfl rfl)
theorem dX0_city_73 : decode cX0_city 73 = .ok (.aload_n 3, 1) := dk_45 (dk_at dksX0_city_3 3 rfl rfl)
theorem dX0_city_74 : decode cX0_city 74 = .ok (.athrow, 1) := dk_191 (dk_at dksX0_city_3 4 rfl rfl)
abbrev cX0_isOf : ByteArray := prog_1_method_2_code
def yX0_isOf : MethodName := ⟨RX0, "isOf", "(II)Z"⟩
def dkwX0_isOf_0 : List UInt8 := [26, 27, 122, 4, 126, 4, 160, 0, 7, 4, 167, 0, 4, 3, 172]
abbrev dktX0_isOf_0 : List UInt8 := dkwX0_isOf_0 ++ []
theorem dksX0_isOf_0 : cX0_isOf.data.toList.drop 0 = dktX0_isOf_0 := by decide +kernel
theorem dX0_isOf_0 : decode cX0_isOf 0 = .ok (.iload_n 0, 1) := dk_26 (dk_at dksX0_isOf_0 0 rfl rfl)
theorem dX0_isOf_1 : decode cX0_isOf 1 = .ok (.iload_n 1, 1) := dk_27 (dk_at dksX0_isOf_0 1 rfl rfl)
theorem dX0_isOf_2 : decode cX0_isOf 2 = .ok (.ishr, 1) := dk_122 (dk_at dksX0_isOf_0 2 rfl rfl)
theorem dX0_isOf_3 : decode cX0_isOf 3 = .ok (.iconst 1, 1) := dk_4 (dk_at dksX0_isOf_0 3 rfl rfl)
theorem dX0_isOf_4 : decode cX0_isOf 4 = .ok (.iand, 1) := dk_126 (dk_at dksX0_isOf_0 4 rfl rfl)
theorem dX0_isOf_5 : decode cX0_isOf 5 = .ok (.iconst 1, 1) := dk_4 (dk_at dksX0_isOf_0 5 rfl rfl)
theorem dX0_isOf_6 : decode cX0_isOf 6 = .ok (.if_icmp .ne 7, 3) := dk_160 0 7 (dk_at dksX0_isOf_0 6 rfl rfl)
theorem dX0_isOf_9 : decode cX0_isOf 9 = .ok (.iconst 1, 1) := dk_4 (dk_at dksX0_isOf_0 9 rfl rfl)
theorem dX0_isOf_10 : decode cX0_isOf 10 = .ok (.goto 4, 3) := dk_167 0 4 (dk_at dksX0_isOf_0 10 rfl rfl)
theorem dX0_isOf_13 : decode cX0_isOf 13 = .ok (.iconst 0, 1) := dk_3 (dk_at dksX0_isOf_0 13 rfl rfl)
theorem dX0_isOf_14 : decode cX0_isOf 14 = .ok (.ireturn, 1) := dk_172 (dk_at dksX0_isOf_0 14 rfl rfl)
abbrev cX0_fault : ByteArray := prog_1_method_8_code
def yX0_fault : MethodName := ⟨RX0, "fault", "(I)I"⟩
def dkwX0_fault_1 : List UInt8 := [172]
abbrev dktX0_fault_1 : List UInt8 := dkwX0_fault_1 ++ []
def dkwX0_fault_0 : List UInt8 := [27, 154, 0, 10, 42, 180, 0, 80, 167, 0, 16, 27, 4, 160, 0, 10, 42, 180, 0, 20, 167, 0, 4, 2]
abbrev dktX0_fault_0 : List UInt8 := dkwX0_fault_0 ++ dktX0_fault_1
theorem dksX0_fault_0 : cX0_fault.data.toList.drop 0 = dktX0_fault_0 := by decide +kernel
theorem dksX0_fault_1 : cX0_fault.data.toList.drop 24 = dktX0_fault_1 := dk_seg dksX0_fault_0 24 rfl rfl
theorem dX0_fault_0 : decode cX0_fault 0 = .ok (.iload_n 1, 1) := dk_27 (dk_at dksX0_fault_0 0 rfl rfl)
theorem dX0_fault_1 : decode cX0_fault 1 = .ok (.ifCond .ne 10, 3) := dk_154 0 10 (dk_at dksX0_fault_0 1 rfl rfl)
theorem dX0_fault_4 : decode cX0_fault 4 = .ok (.aload_n 0, 1) := dk_42 (dk_at dksX0_fault_0 4 rfl rfl)
theorem dX0_fault_5 : decode cX0_fault 5 = .ok (.getfield 80, 3) := dk_180 0 80 (dk_at dksX0_fault_0 5 rfl rfl)
theorem dX0_fault_8 : decode cX0_fault 8 = .ok (.goto 16, 3) := dk_167 0 16 (dk_at dksX0_fault_0 8 rfl rfl)
theorem dX0_fault_11 : decode cX0_fault 11 = .ok (.iload_n 1, 1) := dk_27 (dk_at dksX0_fault_0 11 rfl rfl)
theorem dX0_fault_12 : decode cX0_fault 12 = .ok (.iconst 1, 1) := dk_4 (dk_at dksX0_fault_0 12 rfl rfl)
theorem dX0_fault_13 : decode cX0_fault 13 = .ok (.if_icmp .ne 10, 3) := dk_160 0 10 (dk_at dksX0_fault_0 13 rfl rfl)
theorem dX0_fault_16 : decode cX0_fault 16 = .ok (.aload_n 0, 1) := dk_42 (dk_at dksX0_fault_0 16 rfl rfl)
theorem dX0_fault_17 : decode cX0_fault 17 = .ok (.getfield 20, 3) := dk_180 0 20 (dk_at dksX0_fault_0 17 rfl rfl)
theorem dX0_fault_20 : decode cX0_fault 20 = .ok (.goto 4, 3) := dk_167 0 4 (dk_at dksX0_fault_0 20 rfl rfl)
theorem dX0_fault_23 : decode cX0_fault 23 = .ok (.iconst (-1), 1) := dk_2 (dk_at dksX0_fault_0 23 rfl rfl)
theorem dX0_fault_24 : decode cX0_fault 24 = .ok (.ireturn, 1) := dk_172 (dk_at dksX0_fault_1 0 rfl rfl)
abbrev cX0_person : ByteArray := prog_1_method_23_code
def yX0_person : MethodName := ⟨RX0, "person", "(II)I"⟩
def dkwX0_person_6 : List UInt8 := [160, 0, 7, 3, 167, 0, 15, 42, 27, 182, 0, 205, 42, 180, 0, 28, 27, 46, 100, 172]
abbrev dktX0_person_6 : List UInt8 := dkwX0_person_6 ++ []
def dkwX0_person_5 : List UInt8 := [122, 4, 126, 172, 42, 180, 0, 12, 180, 0, 111, 27, 122, 4, 126, 172, 42, 180, 0, 24, 27, 46, 2]
abbrev dktX0_person_5 : List UInt8 := dkwX0_person_5 ++ dktX0_person_6
def dkwX0_person_4 : List UInt8 := [27, 46, 172, 42, 27, 182, 0, 198, 172, 42, 180, 0, 12, 180, 0, 202, 27, 46, 172, 42, 180, 0, 124, 27]
abbrev dktX0_person_4 : List UInt8 := dkwX0_person_4 ++ dktX0_person_5
def dkwX0_person_3 : List UInt8 := [42, 180, 0, 12, 180, 0, 193, 27, 46, 172, 42, 180, 0, 12, 180, 0, 196, 27, 46, 172, 42, 180, 0, 24]
abbrev dktX0_person_3 : List UInt8 := dkwX0_person_3 ++ dktX0_person_4
def dkwX0_person_2 : List UInt8 := [170, 0, 0, 0, 105, 0, 0, 0, 0, 0, 0, 0, 6, 0, 0, 0, 41, 0, 0, 0, 51, 0, 0, 0, 61, 0, 0, 0, 68, 0, 0, 0, 74, 0, 0, 0, 84, 0, 0, 0, 93]
abbrev dktX0_person_2 : List UInt8 := dkwX0_person_2 ++ dktX0_person_3
def dkwX0_person_1 : List UInt8 := [182, 0, 190, 28]
abbrev dktX0_person_1 : List UInt8 := dkwX0_person_1 ++ dktX0_person_2
def dkwX0_person_0 : List UInt8 := [42, 27, 133, 182, 0, 186, 153, 0, 13, 28, 133, 16, 8, 184, 0, 97, 154, 0, 6, 16, 254, 172, 42]
abbrev dktX0_person_0 : List UInt8 := dkwX0_person_0 ++ dktX0_person_1
theorem dksX0_person_0 : cX0_person.data.toList.drop 0 = dktX0_person_0 := by decide +kernel
theorem dksX0_person_1 : cX0_person.data.toList.drop 23 = dktX0_person_1 := dk_seg dksX0_person_0 23 rfl rfl
theorem dksX0_person_2 : cX0_person.data.toList.drop 27 = dktX0_person_2 := dk_seg dksX0_person_1 4 rfl rfl
theorem dksX0_person_3 : cX0_person.data.toList.drop 68 = dktX0_person_3 := dk_seg dksX0_person_2 41 rfl rfl
theorem dksX0_person_4 : cX0_person.data.toList.drop 92 = dktX0_person_4 := dk_seg dksX0_person_3 24 rfl rfl
theorem dksX0_person_5 : cX0_person.data.toList.drop 116 = dktX0_person_5 := dk_seg dksX0_person_4 24 rfl rfl
theorem dksX0_person_6 : cX0_person.data.toList.drop 139 = dktX0_person_6 := dk_seg dksX0_person_5 23 rfl rfl
theorem dX0_person_0 : decode cX0_person 0 = .ok (.aload_n 0, 1) := dk_42 (dk_at dksX0_person_0 0 rfl rfl)
theorem dX0_person_1 : decode cX0_person 1 = .ok (.iload_n 1, 1) := dk_27 (dk_at dksX0_person_0 1 rfl rfl)
theorem dX0_person_2 : decode cX0_person 2 = .ok (.i2l, 1) := dk_133 (dk_at dksX0_person_0 2 rfl rfl)
theorem dX0_person_3 : decode cX0_person 3 = .ok (.invokevirtual 186, 3) := dk_182 0 186 (dk_at dksX0_person_0 3 rfl rfl)
theorem dX0_person_6 : decode cX0_person 6 = .ok (.ifCond .eq 13, 3) := dk_153 0 13 (dk_at dksX0_person_0 6 rfl rfl)
theorem dX0_person_9 : decode cX0_person 9 = .ok (.iload_n 2, 1) := dk_28 (dk_at dksX0_person_0 9 rfl rfl)
theorem dX0_person_10 : decode cX0_person 10 = .ok (.i2l, 1) := dk_133 (dk_at dksX0_person_0 10 rfl rfl)
theorem dX0_person_11 : decode cX0_person 11 = .ok (.bipush 8, 2) := dk_16 8 (dk_at dksX0_person_0 11 rfl rfl)
theorem dX0_person_13 : decode cX0_person 13 = .ok (.invokestatic 97, 3) := dk_184 0 97 (dk_at dksX0_person_0 13 rfl rfl)
theorem dX0_person_16 : decode cX0_person 16 = .ok (.ifCond .ne 6, 3) := dk_154 0 6 (dk_at dksX0_person_0 16 rfl rfl)
theorem dX0_person_19 : decode cX0_person 19 = .ok (.bipush (-2), 2) := dk_16 254 (dk_at dksX0_person_0 19 rfl rfl)
theorem dX0_person_21 : decode cX0_person 21 = .ok (.ireturn, 1) := dk_172 (dk_at dksX0_person_0 21 rfl rfl)
theorem dX0_person_22 : decode cX0_person 22 = .ok (.aload_n 0, 1) := dk_42 (dk_at dksX0_person_0 22 rfl rfl)
theorem dX0_person_23 : decode cX0_person 23 = .ok (.invokevirtual 190, 3) := dk_182 0 190 (dk_at dksX0_person_1 0 rfl rfl)
theorem dX0_person_26 : decode cX0_person 26 = .ok (.iload_n 2, 1) := dk_28 (dk_at dksX0_person_1 3 rfl rfl)
theorem dX0_person_27 : decode cX0_person 27 = .ok (.tableswitch 105 0 6 #[41, 51, 61, 68, 74, 84, 93], 41) := by decide +kernel
theorem dX0_person_68 : decode cX0_person 68 = .ok (.aload_n 0, 1) := dk_42 (dk_at dksX0_person_3 0 rfl rfl)
theorem dX0_person_69 : decode cX0_person 69 = .ok (.getfield 12, 3) := dk_180 0 12 (dk_at dksX0_person_3 1 rfl rfl)
theorem dX0_person_72 : decode cX0_person 72 = .ok (.getfield 193, 3) := dk_180 0 193 (dk_at dksX0_person_3 4 rfl rfl)
theorem dX0_person_75 : decode cX0_person 75 = .ok (.iload_n 1, 1) := dk_27 (dk_at dksX0_person_3 7 rfl rfl)
theorem dX0_person_76 : decode cX0_person 76 = .ok (.iaload, 1) := dk_46 (dk_at dksX0_person_3 8 rfl rfl)
theorem dX0_person_77 : decode cX0_person 77 = .ok (.ireturn, 1) := dk_172 (dk_at dksX0_person_3 9 rfl rfl)
theorem dX0_person_78 : decode cX0_person 78 = .ok (.aload_n 0, 1) := dk_42 (dk_at dksX0_person_3 10 rfl rfl)
theorem dX0_person_79 : decode cX0_person 79 = .ok (.getfield 12, 3) := dk_180 0 12 (dk_at dksX0_person_3 11 rfl rfl)
theorem dX0_person_82 : decode cX0_person 82 = .ok (.getfield 196, 3) := dk_180 0 196 (dk_at dksX0_person_3 14 rfl rfl)
theorem dX0_person_85 : decode cX0_person 85 = .ok (.iload_n 1, 1) := dk_27 (dk_at dksX0_person_3 17 rfl rfl)
theorem dX0_person_86 : decode cX0_person 86 = .ok (.iaload, 1) := dk_46 (dk_at dksX0_person_3 18 rfl rfl)
theorem dX0_person_87 : decode cX0_person 87 = .ok (.ireturn, 1) := dk_172 (dk_at dksX0_person_3 19 rfl rfl)
theorem dX0_person_88 : decode cX0_person 88 = .ok (.aload_n 0, 1) := dk_42 (dk_at dksX0_person_3 20 rfl rfl)
theorem dX0_person_89 : decode cX0_person 89 = .ok (.getfield 24, 3) := dk_180 0 24 (dk_at dksX0_person_3 21 rfl rfl)
theorem dX0_person_92 : decode cX0_person 92 = .ok (.iload_n 1, 1) := dk_27 (dk_at dksX0_person_4 0 rfl rfl)
theorem dX0_person_93 : decode cX0_person 93 = .ok (.iaload, 1) := dk_46 (dk_at dksX0_person_4 1 rfl rfl)
theorem dX0_person_94 : decode cX0_person 94 = .ok (.ireturn, 1) := dk_172 (dk_at dksX0_person_4 2 rfl rfl)
theorem dX0_person_95 : decode cX0_person 95 = .ok (.aload_n 0, 1) := dk_42 (dk_at dksX0_person_4 3 rfl rfl)
theorem dX0_person_96 : decode cX0_person 96 = .ok (.iload_n 1, 1) := dk_27 (dk_at dksX0_person_4 4 rfl rfl)
theorem dX0_person_97 : decode cX0_person 97 = .ok (.invokevirtual 198, 3) := dk_182 0 198 (dk_at dksX0_person_4 5 rfl rfl)
theorem dX0_person_100 : decode cX0_person 100 = .ok (.ireturn, 1) := dk_172 (dk_at dksX0_person_4 8 rfl rfl)
theorem dX0_person_101 : decode cX0_person 101 = .ok (.aload_n 0, 1) := dk_42 (dk_at dksX0_person_4 9 rfl rfl)
theorem dX0_person_102 : decode cX0_person 102 = .ok (.getfield 12, 3) := dk_180 0 12 (dk_at dksX0_person_4 10 rfl rfl)
theorem dX0_person_105 : decode cX0_person 105 = .ok (.getfield 202, 3) := dk_180 0 202 (dk_at dksX0_person_4 13 rfl rfl)
theorem dX0_person_108 : decode cX0_person 108 = .ok (.iload_n 1, 1) := dk_27 (dk_at dksX0_person_4 16 rfl rfl)
theorem dX0_person_109 : decode cX0_person 109 = .ok (.iaload, 1) := dk_46 (dk_at dksX0_person_4 17 rfl rfl)
theorem dX0_person_110 : decode cX0_person 110 = .ok (.ireturn, 1) := dk_172 (dk_at dksX0_person_4 18 rfl rfl)
theorem dX0_person_111 : decode cX0_person 111 = .ok (.aload_n 0, 1) := dk_42 (dk_at dksX0_person_4 19 rfl rfl)
theorem dX0_person_112 : decode cX0_person 112 = .ok (.getfield 124, 3) := dk_180 0 124 (dk_at dksX0_person_4 20 rfl rfl)
theorem dX0_person_115 : decode cX0_person 115 = .ok (.iload_n 1, 1) := dk_27 (dk_at dksX0_person_4 23 rfl rfl)
theorem dX0_person_116 : decode cX0_person 116 = .ok (.ishr, 1) := dk_122 (dk_at dksX0_person_5 0 rfl rfl)
theorem dX0_person_117 : decode cX0_person 117 = .ok (.iconst 1, 1) := dk_4 (dk_at dksX0_person_5 1 rfl rfl)
theorem dX0_person_118 : decode cX0_person 118 = .ok (.iand, 1) := dk_126 (dk_at dksX0_person_5 2 rfl rfl)
theorem dX0_person_119 : decode cX0_person 119 = .ok (.ireturn, 1) := dk_172 (dk_at dksX0_person_5 3 rfl rfl)
theorem dX0_person_120 : decode cX0_person 120 = .ok (.aload_n 0, 1) := dk_42 (dk_at dksX0_person_5 4 rfl rfl)
theorem dX0_person_121 : decode cX0_person 121 = .ok (.getfield 12, 3) := dk_180 0 12 (dk_at dksX0_person_5 5 rfl rfl)
theorem dX0_person_124 : decode cX0_person 124 = .ok (.getfield 111, 3) := dk_180 0 111 (dk_at dksX0_person_5 8 rfl rfl)
theorem dX0_person_127 : decode cX0_person 127 = .ok (.iload_n 1, 1) := dk_27 (dk_at dksX0_person_5 11 rfl rfl)
theorem dX0_person_128 : decode cX0_person 128 = .ok (.ishr, 1) := dk_122 (dk_at dksX0_person_5 12 rfl rfl)
theorem dX0_person_129 : decode cX0_person 129 = .ok (.iconst 1, 1) := dk_4 (dk_at dksX0_person_5 13 rfl rfl)
theorem dX0_person_130 : decode cX0_person 130 = .ok (.iand, 1) := dk_126 (dk_at dksX0_person_5 14 rfl rfl)
theorem dX0_person_131 : decode cX0_person 131 = .ok (.ireturn, 1) := dk_172 (dk_at dksX0_person_5 15 rfl rfl)
theorem dX0_person_132 : decode cX0_person 132 = .ok (.aload_n 0, 1) := dk_42 (dk_at dksX0_person_5 16 rfl rfl)
theorem dX0_person_133 : decode cX0_person 133 = .ok (.getfield 24, 3) := dk_180 0 24 (dk_at dksX0_person_5 17 rfl rfl)
theorem dX0_person_136 : decode cX0_person 136 = .ok (.iload_n 1, 1) := dk_27 (dk_at dksX0_person_5 20 rfl rfl)
theorem dX0_person_137 : decode cX0_person 137 = .ok (.iaload, 1) := dk_46 (dk_at dksX0_person_5 21 rfl rfl)
theorem dX0_person_138 : decode cX0_person 138 = .ok (.iconst (-1), 1) := dk_2 (dk_at dksX0_person_5 22 rfl rfl)
theorem dX0_person_139 : decode cX0_person 139 = .ok (.if_icmp .ne 7, 3) := dk_160 0 7 (dk_at dksX0_person_6 0 rfl rfl)
theorem dX0_person_142 : decode cX0_person 142 = .ok (.iconst 0, 1) := dk_3 (dk_at dksX0_person_6 3 rfl rfl)
theorem dX0_person_143 : decode cX0_person 143 = .ok (.goto 15, 3) := dk_167 0 15 (dk_at dksX0_person_6 4 rfl rfl)
theorem dX0_person_146 : decode cX0_person 146 = .ok (.aload_n 0, 1) := dk_42 (dk_at dksX0_person_6 7 rfl rfl)
theorem dX0_person_147 : decode cX0_person 147 = .ok (.iload_n 1, 1) := dk_27 (dk_at dksX0_person_6 8 rfl rfl)
theorem dX0_person_148 : decode cX0_person 148 = .ok (.invokevirtual 205, 3) := dk_182 0 205 (dk_at dksX0_person_6 9 rfl rfl)
theorem dX0_person_151 : decode cX0_person 151 = .ok (.aload_n 0, 1) := dk_42 (dk_at dksX0_person_6 12 rfl rfl)
theorem dX0_person_152 : decode cX0_person 152 = .ok (.getfield 28, 3) := dk_180 0 28 (dk_at dksX0_person_6 13 rfl rfl)
theorem dX0_person_155 : decode cX0_person 155 = .ok (.iload_n 1, 1) := dk_27 (dk_at dksX0_person_6 16 rfl rfl)
theorem dX0_person_156 : decode cX0_person 156 = .ok (.iaload, 1) := dk_46 (dk_at dksX0_person_6 17 rfl rfl)
theorem dX0_person_157 : decode cX0_person 157 = .ok (.isub, 1) := dk_100 (dk_at dksX0_person_6 18 rfl rfl)
theorem dX0_person_158 : decode cX0_person 158 = .ok (.ireturn, 1) := dk_172 (dk_at dksX0_person_6 19 rfl rfl)
abbrev cX0_isPerson : ByteArray := prog_1_method_10_code
def yX0_isPerson : MethodName := ⟨RX0, "isPerson", "(J)Z"⟩
def dkwX0_isPerson_0 : List UInt8 := [31, 9, 42, 180, 0, 12, 180, 0, 94, 4, 100, 133, 184, 0, 67, 172]
abbrev dktX0_isPerson_0 : List UInt8 := dkwX0_isPerson_0 ++ []
theorem dksX0_isPerson_0 : cX0_isPerson.data.toList.drop 0 = dktX0_isPerson_0 := by decide +kernel
theorem dX0_isPerson_0 : decode cX0_isPerson 0 = .ok (.lload_n 1, 1) := dk_31 (dk_at dksX0_isPerson_0 0 rfl rfl)
theorem dX0_isPerson_1 : decode cX0_isPerson 1 = .ok (.lconst 0, 1) := dk_9 (dk_at dksX0_isPerson_0 1 rfl rfl)
theorem dX0_isPerson_2 : decode cX0_isPerson 2 = .ok (.aload_n 0, 1) := dk_42 (dk_at dksX0_isPerson_0 2 rfl rfl)
theorem dX0_isPerson_3 : decode cX0_isPerson 3 = .ok (.getfield 12, 3) := dk_180 0 12 (dk_at dksX0_isPerson_0 3 rfl rfl)
theorem dX0_isPerson_6 : decode cX0_isPerson 6 = .ok (.getfield 94, 3) := dk_180 0 94 (dk_at dksX0_isPerson_0 6 rfl rfl)
theorem dX0_isPerson_9 : decode cX0_isPerson 9 = .ok (.iconst 1, 1) := dk_4 (dk_at dksX0_isPerson_0 9 rfl rfl)
theorem dX0_isPerson_10 : decode cX0_isPerson 10 = .ok (.isub, 1) := dk_100 (dk_at dksX0_isPerson_0 10 rfl rfl)
theorem dX0_isPerson_11 : decode cX0_isPerson 11 = .ok (.i2l, 1) := dk_133 (dk_at dksX0_isPerson_0 11 rfl rfl)
theorem dX0_isPerson_12 : decode cX0_isPerson 12 = .ok (.invokestatic 67, 3) := dk_184 0 67 (dk_at dksX0_isPerson_0 12 rfl rfl)
theorem dX0_isPerson_15 : decode cX0_isPerson 15 = .ok (.ireturn, 1) := dk_172 (dk_at dksX0_isPerson_0 15 rfl rfl)
abbrev cX0_isOneOf : ByteArray := prog_1_method_11_code
def yX0_isOneOf : MethodName := ⟨RX0, "isOneOf", "(JI)Z"⟩
def dkwX0_isOneOf_0 : List UInt8 := [30, 9, 28, 4, 100, 133, 184, 0, 67, 172]
abbrev dktX0_isOneOf_0 : List UInt8 := dkwX0_isOneOf_0 ++ []
theorem dksX0_isOneOf_0 : cX0_isOneOf.data.toList.drop 0 = dktX0_isOneOf_0 := by decide +kernel
theorem dX0_isOneOf_0 : decode cX0_isOneOf 0 = .ok (.lload_n 0, 1) := dk_30 (dk_at dksX0_isOneOf_0 0 rfl rfl)
theorem dX0_isOneOf_1 : decode cX0_isOneOf 1 = .ok (.lconst 0, 1) := dk_9 (dk_at dksX0_isOneOf_0 1 rfl rfl)
theorem dX0_isOneOf_2 : decode cX0_isOneOf 2 = .ok (.iload_n 2, 1) := dk_28 (dk_at dksX0_isOneOf_0 2 rfl rfl)
theorem dX0_isOneOf_3 : decode cX0_isOneOf 3 = .ok (.iconst 1, 1) := dk_4 (dk_at dksX0_isOneOf_0 3 rfl rfl)
theorem dX0_isOneOf_4 : decode cX0_isOneOf 4 = .ok (.isub, 1) := dk_100 (dk_at dksX0_isOneOf_0 4 rfl rfl)
theorem dX0_isOneOf_5 : decode cX0_isOneOf 5 = .ok (.i2l, 1) := dk_133 (dk_at dksX0_isOneOf_0 5 rfl rfl)
theorem dX0_isOneOf_6 : decode cX0_isOneOf 6 = .ok (.invokestatic 67, 3) := dk_184 0 67 (dk_at dksX0_isOneOf_0 6 rfl rfl)
theorem dX0_isOneOf_9 : decode cX0_isOneOf 9 = .ok (.ireturn, 1) := dk_172 (dk_at dksX0_isOneOf_0 9 rfl rfl)
abbrev cX0_asItIs : ByteArray := prog_1_method_18_code
def yX0_asItIs : MethodName := ⟨RX0, "asItIs", "()V"⟩
def dkwX0_asItIs_1 : List UInt8 := [180, 0, 146, 27, 46, 182, 0, 149, 132, 1, 1, 167, 255, 229, 177]
abbrev dktX0_asItIs_1 : List UInt8 := dkwX0_asItIs_1 ++ []
def dkwX0_asItIs_0 : List UInt8 := [42, 182, 0, 140, 3, 60, 27, 42, 180, 0, 12, 180, 0, 143, 162, 0, 22, 42, 42, 180, 0, 12]
abbrev dktX0_asItIs_0 : List UInt8 := dkwX0_asItIs_0 ++ dktX0_asItIs_1
theorem dksX0_asItIs_0 : cX0_asItIs.data.toList.drop 0 = dktX0_asItIs_0 := by decide +kernel
theorem dksX0_asItIs_1 : cX0_asItIs.data.toList.drop 22 = dktX0_asItIs_1 := dk_seg dksX0_asItIs_0 22 rfl rfl
theorem dX0_asItIs_0 : decode cX0_asItIs 0 = .ok (.aload_n 0, 1) := dk_42 (dk_at dksX0_asItIs_0 0 rfl rfl)
theorem dX0_asItIs_1 : decode cX0_asItIs 1 = .ok (.invokevirtual 140, 3) := dk_182 0 140 (dk_at dksX0_asItIs_0 1 rfl rfl)
theorem dX0_asItIs_4 : decode cX0_asItIs 4 = .ok (.iconst 0, 1) := dk_3 (dk_at dksX0_asItIs_0 4 rfl rfl)
theorem dX0_asItIs_5 : decode cX0_asItIs 5 = .ok (.istore_n 1, 1) := dk_60 (dk_at dksX0_asItIs_0 5 rfl rfl)
theorem dX0_asItIs_6 : decode cX0_asItIs 6 = .ok (.iload_n 1, 1) := dk_27 (dk_at dksX0_asItIs_0 6 rfl rfl)
theorem dX0_asItIs_7 : decode cX0_asItIs 7 = .ok (.aload_n 0, 1) := dk_42 (dk_at dksX0_asItIs_0 7 rfl rfl)
theorem dX0_asItIs_8 : decode cX0_asItIs 8 = .ok (.getfield 12, 3) := dk_180 0 12 (dk_at dksX0_asItIs_0 8 rfl rfl)
theorem dX0_asItIs_11 : decode cX0_asItIs 11 = .ok (.getfield 143, 3) := dk_180 0 143 (dk_at dksX0_asItIs_0 11 rfl rfl)
theorem dX0_asItIs_14 : decode cX0_asItIs 14 = .ok (.if_icmp .ge 22, 3) := dk_162 0 22 (dk_at dksX0_asItIs_0 14 rfl rfl)
theorem dX0_asItIs_17 : decode cX0_asItIs 17 = .ok (.aload_n 0, 1) := dk_42 (dk_at dksX0_asItIs_0 17 rfl rfl)
theorem dX0_asItIs_18 : decode cX0_asItIs 18 = .ok (.aload_n 0, 1) := dk_42 (dk_at dksX0_asItIs_0 18 rfl rfl)
theorem dX0_asItIs_19 : decode cX0_asItIs 19 = .ok (.getfield 12, 3) := dk_180 0 12 (dk_at dksX0_asItIs_0 19 rfl rfl)
theorem dX0_asItIs_22 : decode cX0_asItIs 22 = .ok (.getfield 146, 3) := dk_180 0 146 (dk_at dksX0_asItIs_1 0 rfl rfl)
theorem dX0_asItIs_25 : decode cX0_asItIs 25 = .ok (.iload_n 1, 1) := dk_27 (dk_at dksX0_asItIs_1 3 rfl rfl)
theorem dX0_asItIs_26 : decode cX0_asItIs 26 = .ok (.iaload, 1) := dk_46 (dk_at dksX0_asItIs_1 4 rfl rfl)
theorem dX0_asItIs_27 : decode cX0_asItIs 27 = .ok (.invokevirtual 149, 3) := dk_182 0 149 (dk_at dksX0_asItIs_1 5 rfl rfl)
theorem dX0_asItIs_30 : decode cX0_asItIs 30 = .ok (.iinc 1 1, 3) := dk_132 1 1 (dk_at dksX0_asItIs_1 8 rfl rfl)
theorem dX0_asItIs_33 : decode cX0_asItIs 33 = .ok (.goto (-27), 3) := dk_167 255 229 (dk_at dksX0_asItIs_1 11 rfl rfl)
theorem dX0_asItIs_36 : decode cX0_asItIs 36 = .ok (.return_, 1) := dk_177 (dk_at dksX0_asItIs_1 14 rfl rfl)
abbrev cX0_asAtFirst : ByteArray := prog_1_method_17_code
def yX0_asAtFirst : MethodName := ⟨RX0, "asAtFirst", "()V"⟩
def dkwX0_asAtFirst_2 : List UInt8 := [180, 0, 28, 27, 3, 79, 132, 1, 1, 167, 255, 240, 177]
abbrev dktX0_asAtFirst_2 : List UInt8 := dkwX0_asAtFirst_2 ++ []
def dkwX0_asAtFirst_1 : List UInt8 := [180, 0, 133, 3, 42, 180, 0, 24, 3, 16, 8, 184, 0, 134, 3, 60, 27, 16, 8, 162, 0, 16, 42]
abbrev dktX0_asAtFirst_1 : List UInt8 := dkwX0_asAtFirst_1 ++ dktX0_asAtFirst_2
def dkwX0_asAtFirst_0 : List UInt8 := [42, 3, 181, 0, 121, 42, 3, 181, 0, 124, 42, 3, 181, 0, 127, 42, 3, 181, 0, 130, 42, 180, 0, 12]
abbrev dktX0_asAtFirst_0 : List UInt8 := dkwX0_asAtFirst_0 ++ dktX0_asAtFirst_1
theorem dksX0_asAtFirst_0 : cX0_asAtFirst.data.toList.drop 0 = dktX0_asAtFirst_0 := by decide +kernel
theorem dksX0_asAtFirst_1 : cX0_asAtFirst.data.toList.drop 24 = dktX0_asAtFirst_1 := dk_seg dksX0_asAtFirst_0 24 rfl rfl
theorem dksX0_asAtFirst_2 : cX0_asAtFirst.data.toList.drop 47 = dktX0_asAtFirst_2 := dk_seg dksX0_asAtFirst_1 23 rfl rfl
theorem dX0_asAtFirst_0 : decode cX0_asAtFirst 0 = .ok (.aload_n 0, 1) := dk_42 (dk_at dksX0_asAtFirst_0 0 rfl rfl)
theorem dX0_asAtFirst_1 : decode cX0_asAtFirst 1 = .ok (.iconst 0, 1) := dk_3 (dk_at dksX0_asAtFirst_0 1 rfl rfl)
theorem dX0_asAtFirst_2 : decode cX0_asAtFirst 2 = .ok (.putfield 121, 3) := dk_181 0 121 (dk_at dksX0_asAtFirst_0 2 rfl rfl)
theorem dX0_asAtFirst_5 : decode cX0_asAtFirst 5 = .ok (.aload_n 0, 1) := dk_42 (dk_at dksX0_asAtFirst_0 5 rfl rfl)
theorem dX0_asAtFirst_6 : decode cX0_asAtFirst 6 = .ok (.iconst 0, 1) := dk_3 (dk_at dksX0_asAtFirst_0 6 rfl rfl)
theorem dX0_asAtFirst_7 : decode cX0_asAtFirst 7 = .ok (.putfield 124, 3) := dk_181 0 124 (dk_at dksX0_asAtFirst_0 7 rfl rfl)
theorem dX0_asAtFirst_10 : decode cX0_asAtFirst 10 = .ok (.aload_n 0, 1) := dk_42 (dk_at dksX0_asAtFirst_0 10 rfl rfl)
theorem dX0_asAtFirst_11 : decode cX0_asAtFirst 11 = .ok (.iconst 0, 1) := dk_3 (dk_at dksX0_asAtFirst_0 11 rfl rfl)
theorem dX0_asAtFirst_12 : decode cX0_asAtFirst 12 = .ok (.putfield 127, 3) := dk_181 0 127 (dk_at dksX0_asAtFirst_0 12 rfl rfl)
theorem dX0_asAtFirst_15 : decode cX0_asAtFirst 15 = .ok (.aload_n 0, 1) := dk_42 (dk_at dksX0_asAtFirst_0 15 rfl rfl)
theorem dX0_asAtFirst_16 : decode cX0_asAtFirst 16 = .ok (.iconst 0, 1) := dk_3 (dk_at dksX0_asAtFirst_0 16 rfl rfl)
theorem dX0_asAtFirst_17 : decode cX0_asAtFirst 17 = .ok (.putfield 130, 3) := dk_181 0 130 (dk_at dksX0_asAtFirst_0 17 rfl rfl)
theorem dX0_asAtFirst_20 : decode cX0_asAtFirst 20 = .ok (.aload_n 0, 1) := dk_42 (dk_at dksX0_asAtFirst_0 20 rfl rfl)
theorem dX0_asAtFirst_21 : decode cX0_asAtFirst 21 = .ok (.getfield 12, 3) := dk_180 0 12 (dk_at dksX0_asAtFirst_0 21 rfl rfl)
theorem dX0_asAtFirst_24 : decode cX0_asAtFirst 24 = .ok (.getfield 133, 3) := dk_180 0 133 (dk_at dksX0_asAtFirst_1 0 rfl rfl)
theorem dX0_asAtFirst_27 : decode cX0_asAtFirst 27 = .ok (.iconst 0, 1) := dk_3 (dk_at dksX0_asAtFirst_1 3 rfl rfl)
theorem dX0_asAtFirst_28 : decode cX0_asAtFirst 28 = .ok (.aload_n 0, 1) := dk_42 (dk_at dksX0_asAtFirst_1 4 rfl rfl)
theorem dX0_asAtFirst_29 : decode cX0_asAtFirst 29 = .ok (.getfield 24, 3) := dk_180 0 24 (dk_at dksX0_asAtFirst_1 5 rfl rfl)
theorem dX0_asAtFirst_32 : decode cX0_asAtFirst 32 = .ok (.iconst 0, 1) := dk_3 (dk_at dksX0_asAtFirst_1 8 rfl rfl)
theorem dX0_asAtFirst_33 : decode cX0_asAtFirst 33 = .ok (.bipush 8, 2) := dk_16 8 (dk_at dksX0_asAtFirst_1 9 rfl rfl)
theorem dX0_asAtFirst_35 : decode cX0_asAtFirst 35 = .ok (.invokestatic 134, 3) := dk_184 0 134 (dk_at dksX0_asAtFirst_1 11 rfl rfl)
theorem dX0_asAtFirst_38 : decode cX0_asAtFirst 38 = .ok (.iconst 0, 1) := dk_3 (dk_at dksX0_asAtFirst_1 14 rfl rfl)
theorem dX0_asAtFirst_39 : decode cX0_asAtFirst 39 = .ok (.istore_n 1, 1) := dk_60 (dk_at dksX0_asAtFirst_1 15 rfl rfl)
theorem dX0_asAtFirst_40 : decode cX0_asAtFirst 40 = .ok (.iload_n 1, 1) := dk_27 (dk_at dksX0_asAtFirst_1 16 rfl rfl)
theorem dX0_asAtFirst_41 : decode cX0_asAtFirst 41 = .ok (.bipush 8, 2) := dk_16 8 (dk_at dksX0_asAtFirst_1 17 rfl rfl)
theorem dX0_asAtFirst_43 : decode cX0_asAtFirst 43 = .ok (.if_icmp .ge 16, 3) := dk_162 0 16 (dk_at dksX0_asAtFirst_1 19 rfl rfl)
theorem dX0_asAtFirst_46 : decode cX0_asAtFirst 46 = .ok (.aload_n 0, 1) := dk_42 (dk_at dksX0_asAtFirst_1 22 rfl rfl)
theorem dX0_asAtFirst_47 : decode cX0_asAtFirst 47 = .ok (.getfield 28, 3) := dk_180 0 28 (dk_at dksX0_asAtFirst_2 0 rfl rfl)
theorem dX0_asAtFirst_50 : decode cX0_asAtFirst 50 = .ok (.iload_n 1, 1) := dk_27 (dk_at dksX0_asAtFirst_2 3 rfl rfl)
theorem dX0_asAtFirst_51 : decode cX0_asAtFirst 51 = .ok (.iconst 0, 1) := dk_3 (dk_at dksX0_asAtFirst_2 4 rfl rfl)
theorem dX0_asAtFirst_52 : decode cX0_asAtFirst 52 = .ok (.iastore, 1) := dk_79 (dk_at dksX0_asAtFirst_2 5 rfl rfl)
theorem dX0_asAtFirst_53 : decode cX0_asAtFirst 53 = .ok (.iinc 1 1, 3) := dk_132 1 1 (dk_at dksX0_asAtFirst_2 6 rfl rfl)
theorem dX0_asAtFirst_56 : decode cX0_asAtFirst 56 = .ok (.goto (-16), 3) := dk_167 255 240 (dk_at dksX0_asAtFirst_2 9 rfl rfl)
theorem dX0_asAtFirst_59 : decode cX0_asAtFirst 59 = .ok (.return_, 1) := dk_177 (dk_at dksX0_asAtFirst_2 12 rfl rfl)
abbrev cX0_does : ByteArray := prog_1_method_21_code
def yX0_does : MethodName := ⟨RX0, "does", "(I)V"⟩
def dkwX0_does_1 : List UInt8 := [27, 16, 10, 108, 16, 10, 112, 27, 16, 10, 112, 182, 0, 183, 177]
abbrev dktX0_does_1 : List UInt8 := dkwX0_does_1 ++ []
def dkwX0_does_0 : List UInt8 := [42, 27, 17, 39, 16, 108, 182, 0, 180, 27, 17, 3, 232, 108, 16, 10, 112, 27, 16, 100, 108, 16, 10, 112]
abbrev dktX0_does_0 : List UInt8 := dkwX0_does_0 ++ dktX0_does_1
theorem dksX0_does_0 : cX0_does.data.toList.drop 0 = dktX0_does_0 := by decide +kernel
theorem dksX0_does_1 : cX0_does.data.toList.drop 24 = dktX0_does_1 := dk_seg dksX0_does_0 24 rfl rfl
theorem dX0_does_0 : decode cX0_does 0 = .ok (.aload_n 0, 1) := dk_42 (dk_at dksX0_does_0 0 rfl rfl)
theorem dX0_does_1 : decode cX0_does 1 = .ok (.iload_n 1, 1) := dk_27 (dk_at dksX0_does_0 1 rfl rfl)
theorem dX0_does_2 : decode cX0_does 2 = .ok (.sipush 10000, 3) := dk_17 39 16 (dk_at dksX0_does_0 2 rfl rfl)
theorem dX0_does_5 : decode cX0_does 5 = .ok (.idiv, 1) := dk_108 (dk_at dksX0_does_0 5 rfl rfl)
theorem dX0_does_6 : decode cX0_does 6 = .ok (.invokevirtual 180, 3) := dk_182 0 180 (dk_at dksX0_does_0 6 rfl rfl)
theorem dX0_does_9 : decode cX0_does 9 = .ok (.iload_n 1, 1) := dk_27 (dk_at dksX0_does_0 9 rfl rfl)
theorem dX0_does_10 : decode cX0_does 10 = .ok (.sipush 1000, 3) := dk_17 3 232 (dk_at dksX0_does_0 10 rfl rfl)
theorem dX0_does_13 : decode cX0_does 13 = .ok (.idiv, 1) := dk_108 (dk_at dksX0_does_0 13 rfl rfl)
theorem dX0_does_14 : decode cX0_does 14 = .ok (.bipush 10, 2) := dk_16 10 (dk_at dksX0_does_0 14 rfl rfl)
theorem dX0_does_16 : decode cX0_does 16 = .ok (.irem, 1) := dk_112 (dk_at dksX0_does_0 16 rfl rfl)
theorem dX0_does_17 : decode cX0_does 17 = .ok (.iload_n 1, 1) := dk_27 (dk_at dksX0_does_0 17 rfl rfl)
theorem dX0_does_18 : decode cX0_does 18 = .ok (.bipush 100, 2) := dk_16 100 (dk_at dksX0_does_0 18 rfl rfl)
theorem dX0_does_20 : decode cX0_does 20 = .ok (.idiv, 1) := dk_108 (dk_at dksX0_does_0 20 rfl rfl)
theorem dX0_does_21 : decode cX0_does 21 = .ok (.bipush 10, 2) := dk_16 10 (dk_at dksX0_does_0 21 rfl rfl)
theorem dX0_does_23 : decode cX0_does 23 = .ok (.irem, 1) := dk_112 (dk_at dksX0_does_0 23 rfl rfl)
theorem dX0_does_24 : decode cX0_does 24 = .ok (.iload_n 1, 1) := dk_27 (dk_at dksX0_does_1 0 rfl rfl)
theorem dX0_does_25 : decode cX0_does 25 = .ok (.bipush 10, 2) := dk_16 10 (dk_at dksX0_does_1 1 rfl rfl)
theorem dX0_does_27 : decode cX0_does 27 = .ok (.idiv, 1) := dk_108 (dk_at dksX0_does_1 3 rfl rfl)
theorem dX0_does_28 : decode cX0_does 28 = .ok (.bipush 10, 2) := dk_16 10 (dk_at dksX0_does_1 4 rfl rfl)
theorem dX0_does_30 : decode cX0_does 30 = .ok (.irem, 1) := dk_112 (dk_at dksX0_does_1 6 rfl rfl)
theorem dX0_does_31 : decode cX0_does 31 = .ok (.iload_n 1, 1) := dk_27 (dk_at dksX0_does_1 7 rfl rfl)
theorem dX0_does_32 : decode cX0_does 32 = .ok (.bipush 10, 2) := dk_16 10 (dk_at dksX0_does_1 8 rfl rfl)
theorem dX0_does_34 : decode cX0_does 34 = .ok (.irem, 1) := dk_112 (dk_at dksX0_does_1 10 rfl rfl)
theorem dX0_does_35 : decode cX0_does 35 = .ok (.invokevirtual 183, 3) := dk_182 0 183 (dk_at dksX0_does_1 11 rfl rfl)
theorem dX0_does_38 : decode cX0_does 38 = .ok (.return_, 1) := dk_177 (dk_at dksX0_does_1 14 rfl rfl)
abbrev cX0_kind : ByteArray := prog_1_method_20_code
def yX0_kind : MethodName := ⟨RX0, "kind", "(I)LCardHolder$Act;"⟩
def dkwX0_kind_4 : List UInt8 := [27, 182, 0, 174, 192, 0, 178, 176]
abbrev dktX0_kind_4 : List UInt8 := dkwX0_kind_4 ++ []
def dkwX0_kind_3 : List UInt8 := [182, 0, 158, 87, 42, 180, 0, 37, 187, 0, 171, 89, 42, 183, 0, 173, 182, 0, 158, 87, 42, 180, 0, 37]
abbrev dktX0_kind_3 : List UInt8 := dkwX0_kind_3 ++ dktX0_kind_4
def dkwX0_kind_2 : List UInt8 := [187, 0, 165, 89, 42, 183, 0, 167, 182, 0, 158, 87, 42, 180, 0, 37, 187, 0, 168, 89, 42, 183, 0, 170]
abbrev dktX0_kind_2 : List UInt8 := dkwX0_kind_2 ++ dktX0_kind_3
def dkwX0_kind_1 : List UInt8 := [182, 0, 158, 87, 42, 180, 0, 37, 187, 0, 162, 89, 42, 183, 0, 164, 182, 0, 158, 87, 42, 180, 0, 37]
abbrev dktX0_kind_1 : List UInt8 := dkwX0_kind_1 ++ dktX0_kind_2
def dkwX0_kind_0 : List UInt8 := [42, 180, 0, 37, 182, 0, 152, 153, 0, 83, 42, 180, 0, 37, 187, 0, 155, 89, 42, 183, 0, 157]
abbrev dktX0_kind_0 : List UInt8 := dkwX0_kind_0 ++ dktX0_kind_1
theorem dksX0_kind_0 : cX0_kind.data.toList.drop 0 = dktX0_kind_0 := by decide +kernel
theorem dksX0_kind_1 : cX0_kind.data.toList.drop 22 = dktX0_kind_1 := dk_seg dksX0_kind_0 22 rfl rfl
theorem dksX0_kind_2 : cX0_kind.data.toList.drop 46 = dktX0_kind_2 := dk_seg dksX0_kind_1 24 rfl rfl
theorem dksX0_kind_3 : cX0_kind.data.toList.drop 70 = dktX0_kind_3 := dk_seg dksX0_kind_2 24 rfl rfl
theorem dksX0_kind_4 : cX0_kind.data.toList.drop 94 = dktX0_kind_4 := dk_seg dksX0_kind_3 24 rfl rfl
theorem dX0_kind_0 : decode cX0_kind 0 = .ok (.aload_n 0, 1) := dk_42 (dk_at dksX0_kind_0 0 rfl rfl)
theorem dX0_kind_1 : decode cX0_kind 1 = .ok (.getfield 37, 3) := dk_180 0 37 (dk_at dksX0_kind_0 1 rfl rfl)
theorem dX0_kind_4 : decode cX0_kind 4 = .ok (.invokevirtual 152, 3) := dk_182 0 152 (dk_at dksX0_kind_0 4 rfl rfl)
theorem dX0_kind_7 : decode cX0_kind 7 = .ok (.ifCond .eq 83, 3) := dk_153 0 83 (dk_at dksX0_kind_0 7 rfl rfl)
theorem dX0_kind_10 : decode cX0_kind 10 = .ok (.aload_n 0, 1) := dk_42 (dk_at dksX0_kind_0 10 rfl rfl)
theorem dX0_kind_11 : decode cX0_kind 11 = .ok (.getfield 37, 3) := dk_180 0 37 (dk_at dksX0_kind_0 11 rfl rfl)
theorem dX0_kind_14 : decode cX0_kind 14 = .ok (.new 155, 3) := dk_187 0 155 (dk_at dksX0_kind_0 14 rfl rfl)
theorem dX0_kind_17 : decode cX0_kind 17 = .ok (.dup, 1) := dk_89 (dk_at dksX0_kind_0 17 rfl rfl)
theorem dX0_kind_18 : decode cX0_kind 18 = .ok (.aload_n 0, 1) := dk_42 (dk_at dksX0_kind_0 18 rfl rfl)
theorem dX0_kind_19 : decode cX0_kind 19 = .ok (.invokespecial 157, 3) := dk_183 0 157 (dk_at dksX0_kind_0 19 rfl rfl)
theorem dX0_kind_22 : decode cX0_kind 22 = .ok (.invokevirtual 158, 3) := dk_182 0 158 (dk_at dksX0_kind_1 0 rfl rfl)
theorem dX0_kind_25 : decode cX0_kind 25 = .ok (.pop, 1) := dk_87 (dk_at dksX0_kind_1 3 rfl rfl)
theorem dX0_kind_26 : decode cX0_kind 26 = .ok (.aload_n 0, 1) := dk_42 (dk_at dksX0_kind_1 4 rfl rfl)
theorem dX0_kind_27 : decode cX0_kind 27 = .ok (.getfield 37, 3) := dk_180 0 37 (dk_at dksX0_kind_1 5 rfl rfl)
theorem dX0_kind_30 : decode cX0_kind 30 = .ok (.new 162, 3) := dk_187 0 162 (dk_at dksX0_kind_1 8 rfl rfl)
theorem dX0_kind_33 : decode cX0_kind 33 = .ok (.dup, 1) := dk_89 (dk_at dksX0_kind_1 11 rfl rfl)
theorem dX0_kind_34 : decode cX0_kind 34 = .ok (.aload_n 0, 1) := dk_42 (dk_at dksX0_kind_1 12 rfl rfl)
theorem dX0_kind_35 : decode cX0_kind 35 = .ok (.invokespecial 164, 3) := dk_183 0 164 (dk_at dksX0_kind_1 13 rfl rfl)
theorem dX0_kind_38 : decode cX0_kind 38 = .ok (.invokevirtual 158, 3) := dk_182 0 158 (dk_at dksX0_kind_1 16 rfl rfl)
theorem dX0_kind_41 : decode cX0_kind 41 = .ok (.pop, 1) := dk_87 (dk_at dksX0_kind_1 19 rfl rfl)
theorem dX0_kind_42 : decode cX0_kind 42 = .ok (.aload_n 0, 1) := dk_42 (dk_at dksX0_kind_1 20 rfl rfl)
theorem dX0_kind_43 : decode cX0_kind 43 = .ok (.getfield 37, 3) := dk_180 0 37 (dk_at dksX0_kind_1 21 rfl rfl)
theorem dX0_kind_46 : decode cX0_kind 46 = .ok (.new 165, 3) := dk_187 0 165 (dk_at dksX0_kind_2 0 rfl rfl)
theorem dX0_kind_49 : decode cX0_kind 49 = .ok (.dup, 1) := dk_89 (dk_at dksX0_kind_2 3 rfl rfl)
theorem dX0_kind_50 : decode cX0_kind 50 = .ok (.aload_n 0, 1) := dk_42 (dk_at dksX0_kind_2 4 rfl rfl)
theorem dX0_kind_51 : decode cX0_kind 51 = .ok (.invokespecial 167, 3) := dk_183 0 167 (dk_at dksX0_kind_2 5 rfl rfl)
theorem dX0_kind_54 : decode cX0_kind 54 = .ok (.invokevirtual 158, 3) := dk_182 0 158 (dk_at dksX0_kind_2 8 rfl rfl)
theorem dX0_kind_57 : decode cX0_kind 57 = .ok (.pop, 1) := dk_87 (dk_at dksX0_kind_2 11 rfl rfl)
theorem dX0_kind_58 : decode cX0_kind 58 = .ok (.aload_n 0, 1) := dk_42 (dk_at dksX0_kind_2 12 rfl rfl)
theorem dX0_kind_59 : decode cX0_kind 59 = .ok (.getfield 37, 3) := dk_180 0 37 (dk_at dksX0_kind_2 13 rfl rfl)
theorem dX0_kind_62 : decode cX0_kind 62 = .ok (.new 168, 3) := dk_187 0 168 (dk_at dksX0_kind_2 16 rfl rfl)
theorem dX0_kind_65 : decode cX0_kind 65 = .ok (.dup, 1) := dk_89 (dk_at dksX0_kind_2 19 rfl rfl)
theorem dX0_kind_66 : decode cX0_kind 66 = .ok (.aload_n 0, 1) := dk_42 (dk_at dksX0_kind_2 20 rfl rfl)
theorem dX0_kind_67 : decode cX0_kind 67 = .ok (.invokespecial 170, 3) := dk_183 0 170 (dk_at dksX0_kind_2 21 rfl rfl)
theorem dX0_kind_70 : decode cX0_kind 70 = .ok (.invokevirtual 158, 3) := dk_182 0 158 (dk_at dksX0_kind_3 0 rfl rfl)
theorem dX0_kind_73 : decode cX0_kind 73 = .ok (.pop, 1) := dk_87 (dk_at dksX0_kind_3 3 rfl rfl)
theorem dX0_kind_74 : decode cX0_kind 74 = .ok (.aload_n 0, 1) := dk_42 (dk_at dksX0_kind_3 4 rfl rfl)
theorem dX0_kind_75 : decode cX0_kind 75 = .ok (.getfield 37, 3) := dk_180 0 37 (dk_at dksX0_kind_3 5 rfl rfl)
theorem dX0_kind_78 : decode cX0_kind 78 = .ok (.new 171, 3) := dk_187 0 171 (dk_at dksX0_kind_3 8 rfl rfl)
theorem dX0_kind_81 : decode cX0_kind 81 = .ok (.dup, 1) := dk_89 (dk_at dksX0_kind_3 11 rfl rfl)
theorem dX0_kind_82 : decode cX0_kind 82 = .ok (.aload_n 0, 1) := dk_42 (dk_at dksX0_kind_3 12 rfl rfl)
theorem dX0_kind_83 : decode cX0_kind 83 = .ok (.invokespecial 173, 3) := dk_183 0 173 (dk_at dksX0_kind_3 13 rfl rfl)
theorem dX0_kind_86 : decode cX0_kind 86 = .ok (.invokevirtual 158, 3) := dk_182 0 158 (dk_at dksX0_kind_3 16 rfl rfl)
theorem dX0_kind_89 : decode cX0_kind 89 = .ok (.pop, 1) := dk_87 (dk_at dksX0_kind_3 19 rfl rfl)
theorem dX0_kind_90 : decode cX0_kind 90 = .ok (.aload_n 0, 1) := dk_42 (dk_at dksX0_kind_3 20 rfl rfl)
theorem dX0_kind_91 : decode cX0_kind 91 = .ok (.getfield 37, 3) := dk_180 0 37 (dk_at dksX0_kind_3 21 rfl rfl)
theorem dX0_kind_94 : decode cX0_kind 94 = .ok (.iload_n 1, 1) := dk_27 (dk_at dksX0_kind_4 0 rfl rfl)
theorem dX0_kind_95 : decode cX0_kind 95 = .ok (.invokevirtual 174, 3) := dk_182 0 174 (dk_at dksX0_kind_4 1 rfl rfl)
theorem dX0_kind_98 : decode cX0_kind 98 = .ok (.checkcast 178, 3) := dk_192 0 178 (dk_at dksX0_kind_4 4 rfl rfl)
theorem dX0_kind_101 : decode cX0_kind 101 = .ok (.areturn, 1) := dk_176 (dk_at dksX0_kind_4 7 rfl rfl)
abbrev cX0_limit : ByteArray := prog_1_method_16_code
def yX0_limit : MethodName := ⟨RX0, "limit", "(I)I"⟩
def dkwX0_limit_1 : List UInt8 := [180, 0, 118, 172]
abbrev dktX0_limit_1 : List UInt8 := dkwX0_limit_1 ++ []
def dkwX0_limit_0 : List UInt8 := [42, 180, 0, 12, 180, 0, 111, 27, 184, 0, 114, 153, 0, 7, 4, 167, 0, 10, 42, 180, 0, 12]
abbrev dktX0_limit_0 : List UInt8 := dkwX0_limit_0 ++ dktX0_limit_1
theorem dksX0_limit_0 : cX0_limit.data.toList.drop 0 = dktX0_limit_0 := by decide +kernel
theorem dksX0_limit_1 : cX0_limit.data.toList.drop 22 = dktX0_limit_1 := dk_seg dksX0_limit_0 22 rfl rfl
theorem dX0_limit_0 : decode cX0_limit 0 = .ok (.aload_n 0, 1) := dk_42 (dk_at dksX0_limit_0 0 rfl rfl)
theorem dX0_limit_1 : decode cX0_limit 1 = .ok (.getfield 12, 3) := dk_180 0 12 (dk_at dksX0_limit_0 1 rfl rfl)
theorem dX0_limit_4 : decode cX0_limit 4 = .ok (.getfield 111, 3) := dk_180 0 111 (dk_at dksX0_limit_0 4 rfl rfl)
theorem dX0_limit_7 : decode cX0_limit 7 = .ok (.iload_n 1, 1) := dk_27 (dk_at dksX0_limit_0 7 rfl rfl)
theorem dX0_limit_8 : decode cX0_limit 8 = .ok (.invokestatic 114, 3) := dk_184 0 114 (dk_at dksX0_limit_0 8 rfl rfl)
theorem dX0_limit_11 : decode cX0_limit 11 = .ok (.ifCond .eq 7, 3) := dk_153 0 7 (dk_at dksX0_limit_0 11 rfl rfl)
theorem dX0_limit_14 : decode cX0_limit 14 = .ok (.iconst 1, 1) := dk_4 (dk_at dksX0_limit_0 14 rfl rfl)
theorem dX0_limit_15 : decode cX0_limit 15 = .ok (.goto 10, 3) := dk_167 0 10 (dk_at dksX0_limit_0 15 rfl rfl)
theorem dX0_limit_18 : decode cX0_limit 18 = .ok (.aload_n 0, 1) := dk_42 (dk_at dksX0_limit_0 18 rfl rfl)
theorem dX0_limit_19 : decode cX0_limit 19 = .ok (.getfield 12, 3) := dk_180 0 12 (dk_at dksX0_limit_0 19 rfl rfl)
theorem dX0_limit_22 : decode cX0_limit 22 = .ok (.getfield 118, 3) := dk_180 0 118 (dk_at dksX0_limit_1 0 rfl rfl)
theorem dX0_limit_25 : decode cX0_limit 25 = .ok (.ireturn, 1) := dk_172 (dk_at dksX0_limit_1 3 rfl rfl)
abbrev cX0_handOf : ByteArray := prog_1_method_19_code
def yX0_handOf : MethodName := ⟨RX0, "handOf", "(I)I"⟩
def dkwX0_handOf_1 : List UInt8 := [160, 0, 9, 4, 29, 120, 167, 0, 4, 3, 128, 61, 132, 3, 1, 167, 255, 222, 28, 172]
abbrev dktX0_handOf_1 : List UInt8 := dkwX0_handOf_1 ++ []
def dkwX0_handOf_0 : List UInt8 := [3, 61, 3, 62, 29, 42, 180, 0, 12, 180, 0, 94, 162, 0, 29, 28, 42, 180, 0, 24, 29, 46, 27]
abbrev dktX0_handOf_0 : List UInt8 := dkwX0_handOf_0 ++ dktX0_handOf_1
theorem dksX0_handOf_0 : cX0_handOf.data.toList.drop 0 = dktX0_handOf_0 := by decide +kernel
theorem dksX0_handOf_1 : cX0_handOf.data.toList.drop 23 = dktX0_handOf_1 := dk_seg dksX0_handOf_0 23 rfl rfl
theorem dX0_handOf_0 : decode cX0_handOf 0 = .ok (.iconst 0, 1) := dk_3 (dk_at dksX0_handOf_0 0 rfl rfl)
theorem dX0_handOf_1 : decode cX0_handOf 1 = .ok (.istore_n 2, 1) := dk_61 (dk_at dksX0_handOf_0 1 rfl rfl)
theorem dX0_handOf_2 : decode cX0_handOf 2 = .ok (.iconst 0, 1) := dk_3 (dk_at dksX0_handOf_0 2 rfl rfl)
theorem dX0_handOf_3 : decode cX0_handOf 3 = .ok (.istore_n 3, 1) := dk_62 (dk_at dksX0_handOf_0 3 rfl rfl)
theorem dX0_handOf_4 : decode cX0_handOf 4 = .ok (.iload_n 3, 1) := dk_29 (dk_at dksX0_handOf_0 4 rfl rfl)
theorem dX0_handOf_5 : decode cX0_handOf 5 = .ok (.aload_n 0, 1) := dk_42 (dk_at dksX0_handOf_0 5 rfl rfl)
theorem dX0_handOf_6 : decode cX0_handOf 6 = .ok (.getfield 12, 3) := dk_180 0 12 (dk_at dksX0_handOf_0 6 rfl rfl)
theorem dX0_handOf_9 : decode cX0_handOf 9 = .ok (.getfield 94, 3) := dk_180 0 94 (dk_at dksX0_handOf_0 9 rfl rfl)
theorem dX0_handOf_12 : decode cX0_handOf 12 = .ok (.if_icmp .ge 29, 3) := dk_162 0 29 (dk_at dksX0_handOf_0 12 rfl rfl)
theorem dX0_handOf_15 : decode cX0_handOf 15 = .ok (.iload_n 2, 1) := dk_28 (dk_at dksX0_handOf_0 15 rfl rfl)
theorem dX0_handOf_16 : decode cX0_handOf 16 = .ok (.aload_n 0, 1) := dk_42 (dk_at dksX0_handOf_0 16 rfl rfl)
theorem dX0_handOf_17 : decode cX0_handOf 17 = .ok (.getfield 24, 3) := dk_180 0 24 (dk_at dksX0_handOf_0 17 rfl rfl)
theorem dX0_handOf_20 : decode cX0_handOf 20 = .ok (.iload_n 3, 1) := dk_29 (dk_at dksX0_handOf_0 20 rfl rfl)
theorem dX0_handOf_21 : decode cX0_handOf 21 = .ok (.iaload, 1) := dk_46 (dk_at dksX0_handOf_0 21 rfl rfl)
theorem dX0_handOf_22 : decode cX0_handOf 22 = .ok (.iload_n 1, 1) := dk_27 (dk_at dksX0_handOf_0 22 rfl rfl)
theorem dX0_handOf_23 : decode cX0_handOf 23 = .ok (.if_icmp .ne 9, 3) := dk_160 0 9 (dk_at dksX0_handOf_1 0 rfl rfl)
theorem dX0_handOf_26 : decode cX0_handOf 26 = .ok (.iconst 1, 1) := dk_4 (dk_at dksX0_handOf_1 3 rfl rfl)
theorem dX0_handOf_27 : decode cX0_handOf 27 = .ok (.iload_n 3, 1) := dk_29 (dk_at dksX0_handOf_1 4 rfl rfl)
theorem dX0_handOf_28 : decode cX0_handOf 28 = .ok (.ishl, 1) := dk_120 (dk_at dksX0_handOf_1 5 rfl rfl)
theorem dX0_handOf_29 : decode cX0_handOf 29 = .ok (.goto 4, 3) := dk_167 0 4 (dk_at dksX0_handOf_1 6 rfl rfl)
theorem dX0_handOf_32 : decode cX0_handOf 32 = .ok (.iconst 0, 1) := dk_3 (dk_at dksX0_handOf_1 9 rfl rfl)
theorem dX0_handOf_33 : decode cX0_handOf 33 = .ok (.ior, 1) := dk_128 (dk_at dksX0_handOf_1 10 rfl rfl)
theorem dX0_handOf_34 : decode cX0_handOf 34 = .ok (.istore_n 2, 1) := dk_61 (dk_at dksX0_handOf_1 11 rfl rfl)
theorem dX0_handOf_35 : decode cX0_handOf 35 = .ok (.iinc 3 1, 3) := dk_132 3 1 (dk_at dksX0_handOf_1 12 rfl rfl)
theorem dX0_handOf_38 : decode cX0_handOf 38 = .ok (.goto (-34), 3) := dk_167 255 222 (dk_at dksX0_handOf_1 15 rfl rfl)
theorem dX0_handOf_41 : decode cX0_handOf 41 = .ok (.iload_n 2, 1) := dk_28 (dk_at dksX0_handOf_1 18 rfl rfl)
theorem dX0_handOf_42 : decode cX0_handOf 42 = .ok (.ireturn, 1) := dk_172 (dk_at dksX0_handOf_1 19 rfl rfl)
abbrev cX0_free : ByteArray := prog_1_method_24_code
def yX0_free : MethodName := ⟨RX0, "free", "()I"⟩
def dkwX0_free_0 : List UInt8 := [42, 182, 0, 103, 154, 0, 6, 16, 254, 172, 42, 182, 0, 190, 42, 2, 182, 0, 198, 172]
abbrev dktX0_free_0 : List UInt8 := dkwX0_free_0 ++ []
theorem dksX0_free_0 : cX0_free.data.toList.drop 0 = dktX0_free_0 := by decide +kernel
theorem dX0_free_0 : decode cX0_free 0 = .ok (.aload_n 0, 1) := dk_42 (dk_at dksX0_free_0 0 rfl rfl)
theorem dX0_free_1 : decode cX0_free 1 = .ok (.invokevirtual 103, 3) := dk_182 0 103 (dk_at dksX0_free_0 1 rfl rfl)
theorem dX0_free_4 : decode cX0_free 4 = .ok (.ifCond .ne 6, 3) := dk_154 0 6 (dk_at dksX0_free_0 4 rfl rfl)
theorem dX0_free_7 : decode cX0_free 7 = .ok (.bipush (-2), 2) := dk_16 254 (dk_at dksX0_free_0 7 rfl rfl)
theorem dX0_free_9 : decode cX0_free 9 = .ok (.ireturn, 1) := dk_172 (dk_at dksX0_free_0 9 rfl rfl)
theorem dX0_free_10 : decode cX0_free 10 = .ok (.aload_n 0, 1) := dk_42 (dk_at dksX0_free_0 10 rfl rfl)
theorem dX0_free_11 : decode cX0_free 11 = .ok (.invokevirtual 190, 3) := dk_182 0 190 (dk_at dksX0_free_0 11 rfl rfl)
theorem dX0_free_14 : decode cX0_free 14 = .ok (.aload_n 0, 1) := dk_42 (dk_at dksX0_free_0 14 rfl rfl)
theorem dX0_free_15 : decode cX0_free 15 = .ok (.iconst (-1), 1) := dk_2 (dk_at dksX0_free_0 15 rfl rfl)
theorem dX0_free_16 : decode cX0_free 16 = .ok (.invokevirtual 198, 3) := dk_182 0 198 (dk_at dksX0_free_0 16 rfl rfl)
theorem dX0_free_19 : decode cX0_free 19 = .ok (.ireturn, 1) := dk_172 (dk_at dksX0_free_0 19 rfl rfl)
abbrev cX0_isCity : ByteArray := prog_1_method_9_code
def yX0_isCity : MethodName := ⟨RX0, "isCity", "()Z"⟩
def dkwX0_isCity_0 : List UInt8 := [42, 180, 0, 12, 180, 0, 83, 158, 0, 7, 4, 167, 0, 4, 3, 172]
abbrev dktX0_isCity_0 : List UInt8 := dkwX0_isCity_0 ++ []
theorem dksX0_isCity_0 : cX0_isCity.data.toList.drop 0 = dktX0_isCity_0 := by decide +kernel
theorem dX0_isCity_0 : decode cX0_isCity 0 = .ok (.aload_n 0, 1) := dk_42 (dk_at dksX0_isCity_0 0 rfl rfl)
theorem dX0_isCity_1 : decode cX0_isCity 1 = .ok (.getfield 12, 3) := dk_180 0 12 (dk_at dksX0_isCity_0 1 rfl rfl)
theorem dX0_isCity_4 : decode cX0_isCity 4 = .ok (.getfield 83, 3) := dk_180 0 83 (dk_at dksX0_isCity_0 4 rfl rfl)
theorem dX0_isCity_7 : decode cX0_isCity 7 = .ok (.ifCond .le 7, 3) := dk_158 0 7 (dk_at dksX0_isCity_0 7 rfl rfl)
theorem dX0_isCity_10 : decode cX0_isCity 10 = .ok (.iconst 1, 1) := dk_4 (dk_at dksX0_isCity_0 10 rfl rfl)
theorem dX0_isCity_11 : decode cX0_isCity 11 = .ok (.goto 4, 3) := dk_167 0 4 (dk_at dksX0_isCity_0 11 rfl rfl)
theorem dX0_isCity_14 : decode cX0_isCity 14 = .ok (.iconst 0, 1) := dk_3 (dk_at dksX0_isCity_0 14 rfl rfl)
theorem dX0_isCity_15 : decode cX0_isCity 15 = .ok (.ireturn, 1) := dk_172 (dk_at dksX0_isCity_0 15 rfl rfl)
abbrev cX0_under : ByteArray := prog_1_method_26_code
def yX0_under : MethodName := ⟨RX0, "under", "(I)I"⟩
def dkwX0_under_0 : List UInt8 := [42, 27, 133, 182, 0, 186, 154, 0, 6, 16, 254, 172, 42, 182, 0, 190, 42, 27, 182, 0, 208, 172]
abbrev dktX0_under_0 : List UInt8 := dkwX0_under_0 ++ []
theorem dksX0_under_0 : cX0_under.data.toList.drop 0 = dktX0_under_0 := by decide +kernel
theorem dX0_under_0 : decode cX0_under 0 = .ok (.aload_n 0, 1) := dk_42 (dk_at dksX0_under_0 0 rfl rfl)
theorem dX0_under_1 : decode cX0_under 1 = .ok (.iload_n 1, 1) := dk_27 (dk_at dksX0_under_0 1 rfl rfl)
theorem dX0_under_2 : decode cX0_under 2 = .ok (.i2l, 1) := dk_133 (dk_at dksX0_under_0 2 rfl rfl)
theorem dX0_under_3 : decode cX0_under 3 = .ok (.invokevirtual 186, 3) := dk_182 0 186 (dk_at dksX0_under_0 3 rfl rfl)
theorem dX0_under_6 : decode cX0_under 6 = .ok (.ifCond .ne 6, 3) := dk_154 0 6 (dk_at dksX0_under_0 6 rfl rfl)
theorem dX0_under_9 : decode cX0_under 9 = .ok (.bipush (-2), 2) := dk_16 254 (dk_at dksX0_under_0 9 rfl rfl)
theorem dX0_under_11 : decode cX0_under 11 = .ok (.ireturn, 1) := dk_172 (dk_at dksX0_under_0 11 rfl rfl)
theorem dX0_under_12 : decode cX0_under 12 = .ok (.aload_n 0, 1) := dk_42 (dk_at dksX0_under_0 12 rfl rfl)
theorem dX0_under_13 : decode cX0_under 13 = .ok (.invokevirtual 190, 3) := dk_182 0 190 (dk_at dksX0_under_0 13 rfl rfl)
theorem dX0_under_16 : decode cX0_under 16 = .ok (.aload_n 0, 1) := dk_42 (dk_at dksX0_under_0 16 rfl rfl)
theorem dX0_under_17 : decode cX0_under 17 = .ok (.iload_n 1, 1) := dk_27 (dk_at dksX0_under_0 17 rfl rfl)
theorem dX0_under_18 : decode cX0_under 18 = .ok (.invokevirtual 208, 3) := dk_182 0 208 (dk_at dksX0_under_0 18 rfl rfl)
theorem dX0_under_21 : decode cX0_under 21 = .ok (.ireturn, 1) := dk_172 (dk_at dksX0_under_0 21 rfl rfl)
abbrev cX0_underOf : ByteArray := prog_1_method_25_code
def yX0_underOf : MethodName := ⟨RX0, "underOf", "(I)I"⟩
def dkwX0_underOf_3 : List UInt8 := [132, 4, 1, 167, 255, 205, 132, 3, 1, 167, 255, 185, 28, 172]
abbrev dktX0_underOf_3 : List UInt8 := dkwX0_underOf_3 ++ []
def dkwX0_underOf_2 : List UInt8 := [180, 0, 24, 21, 4, 46, 184, 0, 114, 153, 0, 10, 4, 21, 4, 120, 167, 0, 4, 3, 128, 61]
abbrev dktX0_underOf_2 : List UInt8 := dkwX0_underOf_2 ++ dktX0_underOf_3
def dkwX0_underOf_1 : List UInt8 := [42, 180, 0, 12, 180, 0, 94, 162, 0, 45, 28, 42, 180, 0, 24, 21, 4, 46, 2, 159, 0, 24, 28, 42]
abbrev dktX0_underOf_1 : List UInt8 := dkwX0_underOf_1 ++ dktX0_underOf_2
def dkwX0_underOf_0 : List UInt8 := [42, 27, 182, 0, 198, 61, 3, 62, 29, 42, 180, 0, 12, 180, 0, 94, 162, 0, 66, 3, 54, 4, 21, 4]
abbrev dktX0_underOf_0 : List UInt8 := dkwX0_underOf_0 ++ dktX0_underOf_1
theorem dksX0_underOf_0 : cX0_underOf.data.toList.drop 0 = dktX0_underOf_0 := by decide +kernel
theorem dksX0_underOf_1 : cX0_underOf.data.toList.drop 24 = dktX0_underOf_1 := dk_seg dksX0_underOf_0 24 rfl rfl
theorem dksX0_underOf_2 : cX0_underOf.data.toList.drop 48 = dktX0_underOf_2 := dk_seg dksX0_underOf_1 24 rfl rfl
theorem dksX0_underOf_3 : cX0_underOf.data.toList.drop 70 = dktX0_underOf_3 := dk_seg dksX0_underOf_2 22 rfl rfl
theorem dX0_underOf_0 : decode cX0_underOf 0 = .ok (.aload_n 0, 1) := dk_42 (dk_at dksX0_underOf_0 0 rfl rfl)
theorem dX0_underOf_1 : decode cX0_underOf 1 = .ok (.iload_n 1, 1) := dk_27 (dk_at dksX0_underOf_0 1 rfl rfl)
theorem dX0_underOf_2 : decode cX0_underOf 2 = .ok (.invokevirtual 198, 3) := dk_182 0 198 (dk_at dksX0_underOf_0 2 rfl rfl)
theorem dX0_underOf_5 : decode cX0_underOf 5 = .ok (.istore_n 2, 1) := dk_61 (dk_at dksX0_underOf_0 5 rfl rfl)
theorem dX0_underOf_6 : decode cX0_underOf 6 = .ok (.iconst 0, 1) := dk_3 (dk_at dksX0_underOf_0 6 rfl rfl)
theorem dX0_underOf_7 : decode cX0_underOf 7 = .ok (.istore_n 3, 1) := dk_62 (dk_at dksX0_underOf_0 7 rfl rfl)
theorem dX0_underOf_8 : decode cX0_underOf 8 = .ok (.iload_n 3, 1) := dk_29 (dk_at dksX0_underOf_0 8 rfl rfl)
theorem dX0_underOf_9 : decode cX0_underOf 9 = .ok (.aload_n 0, 1) := dk_42 (dk_at dksX0_underOf_0 9 rfl rfl)
theorem dX0_underOf_10 : decode cX0_underOf 10 = .ok (.getfield 12, 3) := dk_180 0 12 (dk_at dksX0_underOf_0 10 rfl rfl)
theorem dX0_underOf_13 : decode cX0_underOf 13 = .ok (.getfield 94, 3) := dk_180 0 94 (dk_at dksX0_underOf_0 13 rfl rfl)
theorem dX0_underOf_16 : decode cX0_underOf 16 = .ok (.if_icmp .ge 66, 3) := dk_162 0 66 (dk_at dksX0_underOf_0 16 rfl rfl)
theorem dX0_underOf_19 : decode cX0_underOf 19 = .ok (.iconst 0, 1) := dk_3 (dk_at dksX0_underOf_0 19 rfl rfl)
theorem dX0_underOf_20 : decode cX0_underOf 20 = .ok (.istore 4, 2) := dk_54 4 (dk_at dksX0_underOf_0 20 rfl rfl)
theorem dX0_underOf_22 : decode cX0_underOf 22 = .ok (.iload 4, 2) := dk_21 4 (dk_at dksX0_underOf_0 22 rfl rfl)
theorem dX0_underOf_24 : decode cX0_underOf 24 = .ok (.aload_n 0, 1) := dk_42 (dk_at dksX0_underOf_1 0 rfl rfl)
theorem dX0_underOf_25 : decode cX0_underOf 25 = .ok (.getfield 12, 3) := dk_180 0 12 (dk_at dksX0_underOf_1 1 rfl rfl)
theorem dX0_underOf_28 : decode cX0_underOf 28 = .ok (.getfield 94, 3) := dk_180 0 94 (dk_at dksX0_underOf_1 4 rfl rfl)
theorem dX0_underOf_31 : decode cX0_underOf 31 = .ok (.if_icmp .ge 45, 3) := dk_162 0 45 (dk_at dksX0_underOf_1 7 rfl rfl)
theorem dX0_underOf_34 : decode cX0_underOf 34 = .ok (.iload_n 2, 1) := dk_28 (dk_at dksX0_underOf_1 10 rfl rfl)
theorem dX0_underOf_35 : decode cX0_underOf 35 = .ok (.aload_n 0, 1) := dk_42 (dk_at dksX0_underOf_1 11 rfl rfl)
theorem dX0_underOf_36 : decode cX0_underOf 36 = .ok (.getfield 24, 3) := dk_180 0 24 (dk_at dksX0_underOf_1 12 rfl rfl)
theorem dX0_underOf_39 : decode cX0_underOf 39 = .ok (.iload 4, 2) := dk_21 4 (dk_at dksX0_underOf_1 15 rfl rfl)
theorem dX0_underOf_41 : decode cX0_underOf 41 = .ok (.iaload, 1) := dk_46 (dk_at dksX0_underOf_1 17 rfl rfl)
theorem dX0_underOf_42 : decode cX0_underOf 42 = .ok (.iconst (-1), 1) := dk_2 (dk_at dksX0_underOf_1 18 rfl rfl)
theorem dX0_underOf_43 : decode cX0_underOf 43 = .ok (.if_icmp .eq 24, 3) := dk_159 0 24 (dk_at dksX0_underOf_1 19 rfl rfl)
theorem dX0_underOf_46 : decode cX0_underOf 46 = .ok (.iload_n 2, 1) := dk_28 (dk_at dksX0_underOf_1 22 rfl rfl)
theorem dX0_underOf_47 : decode cX0_underOf 47 = .ok (.aload_n 0, 1) := dk_42 (dk_at dksX0_underOf_1 23 rfl rfl)
theorem dX0_underOf_48 : decode cX0_underOf 48 = .ok (.getfield 24, 3) := dk_180 0 24 (dk_at dksX0_underOf_2 0 rfl rfl)
theorem dX0_underOf_51 : decode cX0_underOf 51 = .ok (.iload 4, 2) := dk_21 4 (dk_at dksX0_underOf_2 3 rfl rfl)
theorem dX0_underOf_53 : decode cX0_underOf 53 = .ok (.iaload, 1) := dk_46 (dk_at dksX0_underOf_2 5 rfl rfl)
theorem dX0_underOf_54 : decode cX0_underOf 54 = .ok (.invokestatic 114, 3) := dk_184 0 114 (dk_at dksX0_underOf_2 6 rfl rfl)
theorem dX0_underOf_57 : decode cX0_underOf 57 = .ok (.ifCond .eq 10, 3) := dk_153 0 10 (dk_at dksX0_underOf_2 9 rfl rfl)
theorem dX0_underOf_60 : decode cX0_underOf 60 = .ok (.iconst 1, 1) := dk_4 (dk_at dksX0_underOf_2 12 rfl rfl)
theorem dX0_underOf_61 : decode cX0_underOf 61 = .ok (.iload 4, 2) := dk_21 4 (dk_at dksX0_underOf_2 13 rfl rfl)
theorem dX0_underOf_63 : decode cX0_underOf 63 = .ok (.ishl, 1) := dk_120 (dk_at dksX0_underOf_2 15 rfl rfl)
theorem dX0_underOf_64 : decode cX0_underOf 64 = .ok (.goto 4, 3) := dk_167 0 4 (dk_at dksX0_underOf_2 16 rfl rfl)
theorem dX0_underOf_67 : decode cX0_underOf 67 = .ok (.iconst 0, 1) := dk_3 (dk_at dksX0_underOf_2 19 rfl rfl)
theorem dX0_underOf_68 : decode cX0_underOf 68 = .ok (.ior, 1) := dk_128 (dk_at dksX0_underOf_2 20 rfl rfl)
theorem dX0_underOf_69 : decode cX0_underOf 69 = .ok (.istore_n 2, 1) := dk_61 (dk_at dksX0_underOf_2 21 rfl rfl)
theorem dX0_underOf_70 : decode cX0_underOf 70 = .ok (.iinc 4 1, 3) := dk_132 4 1 (dk_at dksX0_underOf_3 0 rfl rfl)
theorem dX0_underOf_73 : decode cX0_underOf 73 = .ok (.goto (-51), 3) := dk_167 255 205 (dk_at dksX0_underOf_3 3 rfl rfl)
theorem dX0_underOf_76 : decode cX0_underOf 76 = .ok (.iinc 3 1, 3) := dk_132 3 1 (dk_at dksX0_underOf_3 6 rfl rfl)
theorem dX0_underOf_79 : decode cX0_underOf 79 = .ok (.goto (-71), 3) := dk_167 255 185 (dk_at dksX0_underOf_3 9 rfl rfl)
theorem dX0_underOf_82 : decode cX0_underOf 82 = .ok (.iload_n 2, 1) := dk_28 (dk_at dksX0_underOf_3 12 rfl rfl)
theorem dX0_underOf_83 : decode cX0_underOf 83 = .ok (.ireturn, 1) := dk_172 (dk_at dksX0_underOf_3 13 rfl rfl)
abbrev cX0_time : ByteArray := prog_1_method_29_code
def yX0_time : MethodName := ⟨RX0, "time", "(II)I"⟩
def dkwX0_time_1 : List UInt8 := [182, 0, 190, 42, 27, 28, 182, 0, 214, 172]
abbrev dktX0_time_1 : List UInt8 := dkwX0_time_1 ++ []
def dkwX0_time_0 : List UInt8 := [42, 27, 133, 182, 0, 186, 153, 0, 12, 42, 28, 133, 182, 0, 186, 154, 0, 6, 16, 254, 172, 42]
abbrev dktX0_time_0 : List UInt8 := dkwX0_time_0 ++ dktX0_time_1
theorem dksX0_time_0 : cX0_time.data.toList.drop 0 = dktX0_time_0 := by decide +kernel
theorem dksX0_time_1 : cX0_time.data.toList.drop 22 = dktX0_time_1 := dk_seg dksX0_time_0 22 rfl rfl
theorem dX0_time_0 : decode cX0_time 0 = .ok (.aload_n 0, 1) := dk_42 (dk_at dksX0_time_0 0 rfl rfl)
theorem dX0_time_1 : decode cX0_time 1 = .ok (.iload_n 1, 1) := dk_27 (dk_at dksX0_time_0 1 rfl rfl)
theorem dX0_time_2 : decode cX0_time 2 = .ok (.i2l, 1) := dk_133 (dk_at dksX0_time_0 2 rfl rfl)
theorem dX0_time_3 : decode cX0_time 3 = .ok (.invokevirtual 186, 3) := dk_182 0 186 (dk_at dksX0_time_0 3 rfl rfl)
theorem dX0_time_6 : decode cX0_time 6 = .ok (.ifCond .eq 12, 3) := dk_153 0 12 (dk_at dksX0_time_0 6 rfl rfl)
theorem dX0_time_9 : decode cX0_time 9 = .ok (.aload_n 0, 1) := dk_42 (dk_at dksX0_time_0 9 rfl rfl)
theorem dX0_time_10 : decode cX0_time 10 = .ok (.iload_n 2, 1) := dk_28 (dk_at dksX0_time_0 10 rfl rfl)
theorem dX0_time_11 : decode cX0_time 11 = .ok (.i2l, 1) := dk_133 (dk_at dksX0_time_0 11 rfl rfl)
theorem dX0_time_12 : decode cX0_time 12 = .ok (.invokevirtual 186, 3) := dk_182 0 186 (dk_at dksX0_time_0 12 rfl rfl)
theorem dX0_time_15 : decode cX0_time 15 = .ok (.ifCond .ne 6, 3) := dk_154 0 6 (dk_at dksX0_time_0 15 rfl rfl)
theorem dX0_time_18 : decode cX0_time 18 = .ok (.bipush (-2), 2) := dk_16 254 (dk_at dksX0_time_0 18 rfl rfl)
theorem dX0_time_20 : decode cX0_time 20 = .ok (.ireturn, 1) := dk_172 (dk_at dksX0_time_0 20 rfl rfl)
theorem dX0_time_21 : decode cX0_time 21 = .ok (.aload_n 0, 1) := dk_42 (dk_at dksX0_time_0 21 rfl rfl)
theorem dX0_time_22 : decode cX0_time 22 = .ok (.invokevirtual 190, 3) := dk_182 0 190 (dk_at dksX0_time_1 0 rfl rfl)
theorem dX0_time_25 : decode cX0_time 25 = .ok (.aload_n 0, 1) := dk_42 (dk_at dksX0_time_1 3 rfl rfl)
theorem dX0_time_26 : decode cX0_time 26 = .ok (.iload_n 1, 1) := dk_27 (dk_at dksX0_time_1 4 rfl rfl)
theorem dX0_time_27 : decode cX0_time 27 = .ok (.iload_n 2, 1) := dk_28 (dk_at dksX0_time_1 5 rfl rfl)
theorem dX0_time_28 : decode cX0_time 28 = .ok (.invokevirtual 214, 3) := dk_182 0 214 (dk_at dksX0_time_1 6 rfl rfl)
theorem dX0_time_31 : decode cX0_time 31 = .ok (.ireturn, 1) := dk_172 (dk_at dksX0_time_1 9 rfl rfl)
abbrev cX0_timeOf : ByteArray := prog_1_method_28_code
def yX0_timeOf : MethodName := ⟨RX0, "timeOf", "(II)I"⟩
def dkwX0_timeOf_2 : List UInt8 := [54, 4, 21, 4, 27, 160, 0, 5, 29, 172, 132, 5, 1, 167, 255, 204, 2, 172]
abbrev dktX0_timeOf_2 : List UInt8 := dkwX0_timeOf_2 ++ []
def dkwX0_timeOf_1 : List UInt8 := [21, 4, 46, 2, 159, 0, 35, 29, 42, 21, 4, 182, 0, 211, 96, 62, 42, 180, 0, 24, 21, 4, 46]
abbrev dktX0_timeOf_1 : List UInt8 := dkwX0_timeOf_1 ++ dktX0_timeOf_2
def dkwX0_timeOf_0 : List UInt8 := [3, 62, 28, 54, 4, 3, 54, 5, 21, 5, 42, 180, 0, 12, 180, 0, 94, 162, 0, 46, 42, 180, 0, 24]
abbrev dktX0_timeOf_0 : List UInt8 := dkwX0_timeOf_0 ++ dktX0_timeOf_1
theorem dksX0_timeOf_0 : cX0_timeOf.data.toList.drop 0 = dktX0_timeOf_0 := by decide +kernel
theorem dksX0_timeOf_1 : cX0_timeOf.data.toList.drop 24 = dktX0_timeOf_1 := dk_seg dksX0_timeOf_0 24 rfl rfl
theorem dksX0_timeOf_2 : cX0_timeOf.data.toList.drop 47 = dktX0_timeOf_2 := dk_seg dksX0_timeOf_1 23 rfl rfl
theorem dX0_timeOf_0 : decode cX0_timeOf 0 = .ok (.iconst 0, 1) := dk_3 (dk_at dksX0_timeOf_0 0 rfl rfl)
theorem dX0_timeOf_1 : decode cX0_timeOf 1 = .ok (.istore_n 3, 1) := dk_62 (dk_at dksX0_timeOf_0 1 rfl rfl)
theorem dX0_timeOf_2 : decode cX0_timeOf 2 = .ok (.iload_n 2, 1) := dk_28 (dk_at dksX0_timeOf_0 2 rfl rfl)
theorem dX0_timeOf_3 : decode cX0_timeOf 3 = .ok (.istore 4, 2) := dk_54 4 (dk_at dksX0_timeOf_0 3 rfl rfl)
theorem dX0_timeOf_5 : decode cX0_timeOf 5 = .ok (.iconst 0, 1) := dk_3 (dk_at dksX0_timeOf_0 5 rfl rfl)
theorem dX0_timeOf_6 : decode cX0_timeOf 6 = .ok (.istore 5, 2) := dk_54 5 (dk_at dksX0_timeOf_0 6 rfl rfl)
theorem dX0_timeOf_8 : decode cX0_timeOf 8 = .ok (.iload 5, 2) := dk_21 5 (dk_at dksX0_timeOf_0 8 rfl rfl)
theorem dX0_timeOf_10 : decode cX0_timeOf 10 = .ok (.aload_n 0, 1) := dk_42 (dk_at dksX0_timeOf_0 10 rfl rfl)
theorem dX0_timeOf_11 : decode cX0_timeOf 11 = .ok (.getfield 12, 3) := dk_180 0 12 (dk_at dksX0_timeOf_0 11 rfl rfl)
theorem dX0_timeOf_14 : decode cX0_timeOf 14 = .ok (.getfield 94, 3) := dk_180 0 94 (dk_at dksX0_timeOf_0 14 rfl rfl)
theorem dX0_timeOf_17 : decode cX0_timeOf 17 = .ok (.if_icmp .ge 46, 3) := dk_162 0 46 (dk_at dksX0_timeOf_0 17 rfl rfl)
theorem dX0_timeOf_20 : decode cX0_timeOf 20 = .ok (.aload_n 0, 1) := dk_42 (dk_at dksX0_timeOf_0 20 rfl rfl)
theorem dX0_timeOf_21 : decode cX0_timeOf 21 = .ok (.getfield 24, 3) := dk_180 0 24 (dk_at dksX0_timeOf_0 21 rfl rfl)
theorem dX0_timeOf_24 : decode cX0_timeOf 24 = .ok (.iload 4, 2) := dk_21 4 (dk_at dksX0_timeOf_1 0 rfl rfl)
theorem dX0_timeOf_26 : decode cX0_timeOf 26 = .ok (.iaload, 1) := dk_46 (dk_at dksX0_timeOf_1 2 rfl rfl)
theorem dX0_timeOf_27 : decode cX0_timeOf 27 = .ok (.iconst (-1), 1) := dk_2 (dk_at dksX0_timeOf_1 3 rfl rfl)
theorem dX0_timeOf_28 : decode cX0_timeOf 28 = .ok (.if_icmp .eq 35, 3) := dk_159 0 35 (dk_at dksX0_timeOf_1 4 rfl rfl)
theorem dX0_timeOf_31 : decode cX0_timeOf 31 = .ok (.iload_n 3, 1) := dk_29 (dk_at dksX0_timeOf_1 7 rfl rfl)
theorem dX0_timeOf_32 : decode cX0_timeOf 32 = .ok (.aload_n 0, 1) := dk_42 (dk_at dksX0_timeOf_1 8 rfl rfl)
theorem dX0_timeOf_33 : decode cX0_timeOf 33 = .ok (.iload 4, 2) := dk_21 4 (dk_at dksX0_timeOf_1 9 rfl rfl)
theorem dX0_timeOf_35 : decode cX0_timeOf 35 = .ok (.invokevirtual 211, 3) := dk_182 0 211 (dk_at dksX0_timeOf_1 11 rfl rfl)
theorem dX0_timeOf_38 : decode cX0_timeOf 38 = .ok (.iadd, 1) := dk_96 (dk_at dksX0_timeOf_1 14 rfl rfl)
theorem dX0_timeOf_39 : decode cX0_timeOf 39 = .ok (.istore_n 3, 1) := dk_62 (dk_at dksX0_timeOf_1 15 rfl rfl)
theorem dX0_timeOf_40 : decode cX0_timeOf 40 = .ok (.aload_n 0, 1) := dk_42 (dk_at dksX0_timeOf_1 16 rfl rfl)
theorem dX0_timeOf_41 : decode cX0_timeOf 41 = .ok (.getfield 24, 3) := dk_180 0 24 (dk_at dksX0_timeOf_1 17 rfl rfl)
theorem dX0_timeOf_44 : decode cX0_timeOf 44 = .ok (.iload 4, 2) := dk_21 4 (dk_at dksX0_timeOf_1 20 rfl rfl)
theorem dX0_timeOf_46 : decode cX0_timeOf 46 = .ok (.iaload, 1) := dk_46 (dk_at dksX0_timeOf_1 22 rfl rfl)
theorem dX0_timeOf_47 : decode cX0_timeOf 47 = .ok (.istore 4, 2) := dk_54 4 (dk_at dksX0_timeOf_2 0 rfl rfl)
theorem dX0_timeOf_49 : decode cX0_timeOf 49 = .ok (.iload 4, 2) := dk_21 4 (dk_at dksX0_timeOf_2 2 rfl rfl)
theorem dX0_timeOf_51 : decode cX0_timeOf 51 = .ok (.iload_n 1, 1) := dk_27 (dk_at dksX0_timeOf_2 4 rfl rfl)
theorem dX0_timeOf_52 : decode cX0_timeOf 52 = .ok (.if_icmp .ne 5, 3) := dk_160 0 5 (dk_at dksX0_timeOf_2 5 rfl rfl)
theorem dX0_timeOf_55 : decode cX0_timeOf 55 = .ok (.iload_n 3, 1) := dk_29 (dk_at dksX0_timeOf_2 8 rfl rfl)
theorem dX0_timeOf_56 : decode cX0_timeOf 56 = .ok (.ireturn, 1) := dk_172 (dk_at dksX0_timeOf_2 9 rfl rfl)
theorem dX0_timeOf_57 : decode cX0_timeOf 57 = .ok (.iinc 5 1, 3) := dk_132 5 1 (dk_at dksX0_timeOf_2 10 rfl rfl)
theorem dX0_timeOf_60 : decode cX0_timeOf 60 = .ok (.goto (-52), 3) := dk_167 255 204 (dk_at dksX0_timeOf_2 13 rfl rfl)
theorem dX0_timeOf_63 : decode cX0_timeOf 63 = .ok (.iconst (-1), 1) := dk_2 (dk_at dksX0_timeOf_2 16 rfl rfl)
theorem dX0_timeOf_64 : decode cX0_timeOf 64 = .ok (.ireturn, 1) := dk_172 (dk_at dksX0_timeOf_2 17 rfl rfl)
abbrev cX0_cost : ByteArray := prog_1_method_27_code
def yX0_cost : MethodName := ⟨RX0, "cost", "(I)I"⟩
def dkwX0_cost_0 : List UInt8 := [42, 180, 0, 12, 180, 0, 111, 27, 184, 0, 114, 153, 0, 7, 5, 167, 0, 4, 4, 172]
abbrev dktX0_cost_0 : List UInt8 := dkwX0_cost_0 ++ []
theorem dksX0_cost_0 : cX0_cost.data.toList.drop 0 = dktX0_cost_0 := by decide +kernel
theorem dX0_cost_0 : decode cX0_cost 0 = .ok (.aload_n 0, 1) := dk_42 (dk_at dksX0_cost_0 0 rfl rfl)
theorem dX0_cost_1 : decode cX0_cost 1 = .ok (.getfield 12, 3) := dk_180 0 12 (dk_at dksX0_cost_0 1 rfl rfl)
theorem dX0_cost_4 : decode cX0_cost 4 = .ok (.getfield 111, 3) := dk_180 0 111 (dk_at dksX0_cost_0 4 rfl rfl)
theorem dX0_cost_7 : decode cX0_cost 7 = .ok (.iload_n 1, 1) := dk_27 (dk_at dksX0_cost_0 7 rfl rfl)
theorem dX0_cost_8 : decode cX0_cost 8 = .ok (.invokestatic 114, 3) := dk_184 0 114 (dk_at dksX0_cost_0 8 rfl rfl)
theorem dX0_cost_11 : decode cX0_cost 11 = .ok (.ifCond .eq 7, 3) := dk_153 0 7 (dk_at dksX0_cost_0 11 rfl rfl)
theorem dX0_cost_14 : decode cX0_cost 14 = .ok (.iconst 2, 1) := dk_5 (dk_at dksX0_cost_0 14 rfl rfl)
theorem dX0_cost_15 : decode cX0_cost 15 = .ok (.goto 4, 3) := dk_167 0 4 (dk_at dksX0_cost_0 15 rfl rfl)
theorem dX0_cost_18 : decode cX0_cost 18 = .ok (.iconst 1, 1) := dk_4 (dk_at dksX0_cost_0 18 rfl rfl)
theorem dX0_cost_19 : decode cX0_cost 19 = .ok (.ireturn, 1) := dk_172 (dk_at dksX0_cost_0 19 rfl rfl)
abbrev cX0_top : ByteArray := prog_1_method_30_code
def yX0_top : MethodName := ⟨RX0, "top", "(I)I"⟩
def dkwX0_top_2 : List UInt8 := [180, 0, 24, 28, 46, 61, 132, 3, 1, 167, 255, 223, 2, 172]
abbrev dktX0_top_2 : List UInt8 := dkwX0_top_2 ++ []
def dkwX0_top_1 : List UInt8 := [180, 0, 12, 180, 0, 94, 163, 0, 28, 42, 180, 0, 24, 28, 46, 2, 160, 0, 5, 28, 172, 42]
abbrev dktX0_top_1 : List UInt8 := dkwX0_top_1 ++ dktX0_top_2
def dkwX0_top_0 : List UInt8 := [42, 27, 133, 182, 0, 186, 154, 0, 6, 16, 254, 172, 42, 182, 0, 190, 27, 61, 3, 62, 29, 42]
abbrev dktX0_top_0 : List UInt8 := dkwX0_top_0 ++ dktX0_top_1
theorem dksX0_top_0 : cX0_top.data.toList.drop 0 = dktX0_top_0 := by decide +kernel
theorem dksX0_top_1 : cX0_top.data.toList.drop 22 = dktX0_top_1 := dk_seg dksX0_top_0 22 rfl rfl
theorem dksX0_top_2 : cX0_top.data.toList.drop 44 = dktX0_top_2 := dk_seg dksX0_top_1 22 rfl rfl
theorem dX0_top_0 : decode cX0_top 0 = .ok (.aload_n 0, 1) := dk_42 (dk_at dksX0_top_0 0 rfl rfl)
theorem dX0_top_1 : decode cX0_top 1 = .ok (.iload_n 1, 1) := dk_27 (dk_at dksX0_top_0 1 rfl rfl)
theorem dX0_top_2 : decode cX0_top 2 = .ok (.i2l, 1) := dk_133 (dk_at dksX0_top_0 2 rfl rfl)
theorem dX0_top_3 : decode cX0_top 3 = .ok (.invokevirtual 186, 3) := dk_182 0 186 (dk_at dksX0_top_0 3 rfl rfl)
theorem dX0_top_6 : decode cX0_top 6 = .ok (.ifCond .ne 6, 3) := dk_154 0 6 (dk_at dksX0_top_0 6 rfl rfl)
theorem dX0_top_9 : decode cX0_top 9 = .ok (.bipush (-2), 2) := dk_16 254 (dk_at dksX0_top_0 9 rfl rfl)
theorem dX0_top_11 : decode cX0_top 11 = .ok (.ireturn, 1) := dk_172 (dk_at dksX0_top_0 11 rfl rfl)
theorem dX0_top_12 : decode cX0_top 12 = .ok (.aload_n 0, 1) := dk_42 (dk_at dksX0_top_0 12 rfl rfl)
theorem dX0_top_13 : decode cX0_top 13 = .ok (.invokevirtual 190, 3) := dk_182 0 190 (dk_at dksX0_top_0 13 rfl rfl)
theorem dX0_top_16 : decode cX0_top 16 = .ok (.iload_n 1, 1) := dk_27 (dk_at dksX0_top_0 16 rfl rfl)
theorem dX0_top_17 : decode cX0_top 17 = .ok (.istore_n 2, 1) := dk_61 (dk_at dksX0_top_0 17 rfl rfl)
theorem dX0_top_18 : decode cX0_top 18 = .ok (.iconst 0, 1) := dk_3 (dk_at dksX0_top_0 18 rfl rfl)
theorem dX0_top_19 : decode cX0_top 19 = .ok (.istore_n 3, 1) := dk_62 (dk_at dksX0_top_0 19 rfl rfl)
theorem dX0_top_20 : decode cX0_top 20 = .ok (.iload_n 3, 1) := dk_29 (dk_at dksX0_top_0 20 rfl rfl)
theorem dX0_top_21 : decode cX0_top 21 = .ok (.aload_n 0, 1) := dk_42 (dk_at dksX0_top_0 21 rfl rfl)
theorem dX0_top_22 : decode cX0_top 22 = .ok (.getfield 12, 3) := dk_180 0 12 (dk_at dksX0_top_1 0 rfl rfl)
theorem dX0_top_25 : decode cX0_top 25 = .ok (.getfield 94, 3) := dk_180 0 94 (dk_at dksX0_top_1 3 rfl rfl)
theorem dX0_top_28 : decode cX0_top 28 = .ok (.if_icmp .gt 28, 3) := dk_163 0 28 (dk_at dksX0_top_1 6 rfl rfl)
theorem dX0_top_31 : decode cX0_top 31 = .ok (.aload_n 0, 1) := dk_42 (dk_at dksX0_top_1 9 rfl rfl)
theorem dX0_top_32 : decode cX0_top 32 = .ok (.getfield 24, 3) := dk_180 0 24 (dk_at dksX0_top_1 10 rfl rfl)
theorem dX0_top_35 : decode cX0_top 35 = .ok (.iload_n 2, 1) := dk_28 (dk_at dksX0_top_1 13 rfl rfl)
theorem dX0_top_36 : decode cX0_top 36 = .ok (.iaload, 1) := dk_46 (dk_at dksX0_top_1 14 rfl rfl)
theorem dX0_top_37 : decode cX0_top 37 = .ok (.iconst (-1), 1) := dk_2 (dk_at dksX0_top_1 15 rfl rfl)
theorem dX0_top_38 : decode cX0_top 38 = .ok (.if_icmp .ne 5, 3) := dk_160 0 5 (dk_at dksX0_top_1 16 rfl rfl)
theorem dX0_top_41 : decode cX0_top 41 = .ok (.iload_n 2, 1) := dk_28 (dk_at dksX0_top_1 19 rfl rfl)
theorem dX0_top_42 : decode cX0_top 42 = .ok (.ireturn, 1) := dk_172 (dk_at dksX0_top_1 20 rfl rfl)
theorem dX0_top_43 : decode cX0_top 43 = .ok (.aload_n 0, 1) := dk_42 (dk_at dksX0_top_1 21 rfl rfl)
theorem dX0_top_44 : decode cX0_top 44 = .ok (.getfield 24, 3) := dk_180 0 24 (dk_at dksX0_top_2 0 rfl rfl)
theorem dX0_top_47 : decode cX0_top 47 = .ok (.iload_n 2, 1) := dk_28 (dk_at dksX0_top_2 3 rfl rfl)
theorem dX0_top_48 : decode cX0_top 48 = .ok (.iaload, 1) := dk_46 (dk_at dksX0_top_2 4 rfl rfl)
theorem dX0_top_49 : decode cX0_top 49 = .ok (.istore_n 2, 1) := dk_61 (dk_at dksX0_top_2 5 rfl rfl)
theorem dX0_top_50 : decode cX0_top 50 = .ok (.iinc 3 1, 3) := dk_132 3 1 (dk_at dksX0_top_2 6 rfl rfl)
theorem dX0_top_53 : decode cX0_top 53 = .ok (.goto (-33), 3) := dk_167 255 223 (dk_at dksX0_top_2 9 rfl rfl)
theorem dX0_top_56 : decode cX0_top 56 = .ok (.iconst (-1), 1) := dk_2 (dk_at dksX0_top_2 12 rfl rfl)
theorem dX0_top_57 : decode cX0_top 57 = .ok (.ireturn, 1) := dk_172 (dk_at dksX0_top_2 13 rfl rfl)
abbrev cX0_ring : ByteArray := prog_1_method_32_code
def yX0_ring : MethodName := ⟨RX0, "ring", "(I)I"⟩
def dkwX0_ring_0 : List UInt8 := [42, 27, 133, 182, 0, 186, 154, 0, 6, 16, 254, 172, 42, 182, 0, 190, 42, 27, 182, 0, 218, 172]
abbrev dktX0_ring_0 : List UInt8 := dkwX0_ring_0 ++ []
theorem dksX0_ring_0 : cX0_ring.data.toList.drop 0 = dktX0_ring_0 := by decide +kernel
theorem dX0_ring_0 : decode cX0_ring 0 = .ok (.aload_n 0, 1) := dk_42 (dk_at dksX0_ring_0 0 rfl rfl)
theorem dX0_ring_1 : decode cX0_ring 1 = .ok (.iload_n 1, 1) := dk_27 (dk_at dksX0_ring_0 1 rfl rfl)
theorem dX0_ring_2 : decode cX0_ring 2 = .ok (.i2l, 1) := dk_133 (dk_at dksX0_ring_0 2 rfl rfl)
theorem dX0_ring_3 : decode cX0_ring 3 = .ok (.invokevirtual 186, 3) := dk_182 0 186 (dk_at dksX0_ring_0 3 rfl rfl)
theorem dX0_ring_6 : decode cX0_ring 6 = .ok (.ifCond .ne 6, 3) := dk_154 0 6 (dk_at dksX0_ring_0 6 rfl rfl)
theorem dX0_ring_9 : decode cX0_ring 9 = .ok (.bipush (-2), 2) := dk_16 254 (dk_at dksX0_ring_0 9 rfl rfl)
theorem dX0_ring_11 : decode cX0_ring 11 = .ok (.ireturn, 1) := dk_172 (dk_at dksX0_ring_0 11 rfl rfl)
theorem dX0_ring_12 : decode cX0_ring 12 = .ok (.aload_n 0, 1) := dk_42 (dk_at dksX0_ring_0 12 rfl rfl)
theorem dX0_ring_13 : decode cX0_ring 13 = .ok (.invokevirtual 190, 3) := dk_182 0 190 (dk_at dksX0_ring_0 13 rfl rfl)
theorem dX0_ring_16 : decode cX0_ring 16 = .ok (.aload_n 0, 1) := dk_42 (dk_at dksX0_ring_0 16 rfl rfl)
theorem dX0_ring_17 : decode cX0_ring 17 = .ok (.iload_n 1, 1) := dk_27 (dk_at dksX0_ring_0 17 rfl rfl)
theorem dX0_ring_18 : decode cX0_ring 18 = .ok (.invokevirtual 218, 3) := dk_182 0 218 (dk_at dksX0_ring_0 18 rfl rfl)
theorem dX0_ring_21 : decode cX0_ring 21 = .ok (.ireturn, 1) := dk_172 (dk_at dksX0_ring_0 21 rfl rfl)
abbrev cX0_ringOf : ByteArray := prog_1_method_31_code
def yX0_ringOf : MethodName := ⟨RX0, "ringOf", "(I)I"⟩
def dkwX0_ringOf_1 : List UInt8 := [160, 0, 5, 3, 172, 28, 27, 160, 0, 5, 29, 172, 132, 3, 1, 167, 255, 221, 3, 172]
abbrev dktX0_ringOf_1 : List UInt8 := dkwX0_ringOf_1 ++ []
def dkwX0_ringOf_0 : List UInt8 := [27, 61, 4, 62, 29, 42, 180, 0, 12, 180, 0, 94, 163, 0, 30, 42, 180, 0, 24, 28, 46, 61, 28, 2]
abbrev dktX0_ringOf_0 : List UInt8 := dkwX0_ringOf_0 ++ dktX0_ringOf_1
theorem dksX0_ringOf_0 : cX0_ringOf.data.toList.drop 0 = dktX0_ringOf_0 := by decide +kernel
theorem dksX0_ringOf_1 : cX0_ringOf.data.toList.drop 24 = dktX0_ringOf_1 := dk_seg dksX0_ringOf_0 24 rfl rfl
theorem dX0_ringOf_0 : decode cX0_ringOf 0 = .ok (.iload_n 1, 1) := dk_27 (dk_at dksX0_ringOf_0 0 rfl rfl)
theorem dX0_ringOf_1 : decode cX0_ringOf 1 = .ok (.istore_n 2, 1) := dk_61 (dk_at dksX0_ringOf_0 1 rfl rfl)
theorem dX0_ringOf_2 : decode cX0_ringOf 2 = .ok (.iconst 1, 1) := dk_4 (dk_at dksX0_ringOf_0 2 rfl rfl)
theorem dX0_ringOf_3 : decode cX0_ringOf 3 = .ok (.istore_n 3, 1) := dk_62 (dk_at dksX0_ringOf_0 3 rfl rfl)
theorem dX0_ringOf_4 : decode cX0_ringOf 4 = .ok (.iload_n 3, 1) := dk_29 (dk_at dksX0_ringOf_0 4 rfl rfl)
theorem dX0_ringOf_5 : decode cX0_ringOf 5 = .ok (.aload_n 0, 1) := dk_42 (dk_at dksX0_ringOf_0 5 rfl rfl)
theorem dX0_ringOf_6 : decode cX0_ringOf 6 = .ok (.getfield 12, 3) := dk_180 0 12 (dk_at dksX0_ringOf_0 6 rfl rfl)
theorem dX0_ringOf_9 : decode cX0_ringOf 9 = .ok (.getfield 94, 3) := dk_180 0 94 (dk_at dksX0_ringOf_0 9 rfl rfl)
theorem dX0_ringOf_12 : decode cX0_ringOf 12 = .ok (.if_icmp .gt 30, 3) := dk_163 0 30 (dk_at dksX0_ringOf_0 12 rfl rfl)
theorem dX0_ringOf_15 : decode cX0_ringOf 15 = .ok (.aload_n 0, 1) := dk_42 (dk_at dksX0_ringOf_0 15 rfl rfl)
theorem dX0_ringOf_16 : decode cX0_ringOf 16 = .ok (.getfield 24, 3) := dk_180 0 24 (dk_at dksX0_ringOf_0 16 rfl rfl)
theorem dX0_ringOf_19 : decode cX0_ringOf 19 = .ok (.iload_n 2, 1) := dk_28 (dk_at dksX0_ringOf_0 19 rfl rfl)
theorem dX0_ringOf_20 : decode cX0_ringOf 20 = .ok (.iaload, 1) := dk_46 (dk_at dksX0_ringOf_0 20 rfl rfl)
theorem dX0_ringOf_21 : decode cX0_ringOf 21 = .ok (.istore_n 2, 1) := dk_61 (dk_at dksX0_ringOf_0 21 rfl rfl)
theorem dX0_ringOf_22 : decode cX0_ringOf 22 = .ok (.iload_n 2, 1) := dk_28 (dk_at dksX0_ringOf_0 22 rfl rfl)
theorem dX0_ringOf_23 : decode cX0_ringOf 23 = .ok (.iconst (-1), 1) := dk_2 (dk_at dksX0_ringOf_0 23 rfl rfl)
theorem dX0_ringOf_24 : decode cX0_ringOf 24 = .ok (.if_icmp .ne 5, 3) := dk_160 0 5 (dk_at dksX0_ringOf_1 0 rfl rfl)
theorem dX0_ringOf_27 : decode cX0_ringOf 27 = .ok (.iconst 0, 1) := dk_3 (dk_at dksX0_ringOf_1 3 rfl rfl)
theorem dX0_ringOf_28 : decode cX0_ringOf 28 = .ok (.ireturn, 1) := dk_172 (dk_at dksX0_ringOf_1 4 rfl rfl)
theorem dX0_ringOf_29 : decode cX0_ringOf 29 = .ok (.iload_n 2, 1) := dk_28 (dk_at dksX0_ringOf_1 5 rfl rfl)
theorem dX0_ringOf_30 : decode cX0_ringOf 30 = .ok (.iload_n 1, 1) := dk_27 (dk_at dksX0_ringOf_1 6 rfl rfl)
theorem dX0_ringOf_31 : decode cX0_ringOf 31 = .ok (.if_icmp .ne 5, 3) := dk_160 0 5 (dk_at dksX0_ringOf_1 7 rfl rfl)
theorem dX0_ringOf_34 : decode cX0_ringOf 34 = .ok (.iload_n 3, 1) := dk_29 (dk_at dksX0_ringOf_1 10 rfl rfl)
theorem dX0_ringOf_35 : decode cX0_ringOf 35 = .ok (.ireturn, 1) := dk_172 (dk_at dksX0_ringOf_1 11 rfl rfl)
theorem dX0_ringOf_36 : decode cX0_ringOf 36 = .ok (.iinc 3 1, 3) := dk_132 3 1 (dk_at dksX0_ringOf_1 12 rfl rfl)
theorem dX0_ringOf_39 : decode cX0_ringOf 39 = .ok (.goto (-35), 3) := dk_167 255 221 (dk_at dksX0_ringOf_1 15 rfl rfl)
theorem dX0_ringOf_42 : decode cX0_ringOf 42 = .ok (.iconst 0, 1) := dk_3 (dk_at dksX0_ringOf_1 18 rfl rfl)
theorem dX0_ringOf_43 : decode cX0_ringOf 43 = .ok (.ireturn, 1) := dk_172 (dk_at dksX0_ringOf_1 19 rfl rfl)
abbrev cX0_rings : ByteArray := prog_1_method_35_code
def yX0_rings : MethodName := ⟨RX0, "rings", "()I"⟩
def dkwX0_rings_0 : List UInt8 := [42, 182, 0, 103, 154, 0, 6, 16, 254, 172, 42, 182, 0, 190, 42, 182, 0, 229, 172]
abbrev dktX0_rings_0 : List UInt8 := dkwX0_rings_0 ++ []
theorem dksX0_rings_0 : cX0_rings.data.toList.drop 0 = dktX0_rings_0 := by decide +kernel
theorem dX0_rings_0 : decode cX0_rings 0 = .ok (.aload_n 0, 1) := dk_42 (dk_at dksX0_rings_0 0 rfl rfl)
theorem dX0_rings_1 : decode cX0_rings 1 = .ok (.invokevirtual 103, 3) := dk_182 0 103 (dk_at dksX0_rings_0 1 rfl rfl)
theorem dX0_rings_4 : decode cX0_rings 4 = .ok (.ifCond .ne 6, 3) := dk_154 0 6 (dk_at dksX0_rings_0 4 rfl rfl)
theorem dX0_rings_7 : decode cX0_rings 7 = .ok (.bipush (-2), 2) := dk_16 254 (dk_at dksX0_rings_0 7 rfl rfl)
theorem dX0_rings_9 : decode cX0_rings 9 = .ok (.ireturn, 1) := dk_172 (dk_at dksX0_rings_0 9 rfl rfl)
theorem dX0_rings_10 : decode cX0_rings 10 = .ok (.aload_n 0, 1) := dk_42 (dk_at dksX0_rings_0 10 rfl rfl)
theorem dX0_rings_11 : decode cX0_rings 11 = .ok (.invokevirtual 190, 3) := dk_182 0 190 (dk_at dksX0_rings_0 11 rfl rfl)
theorem dX0_rings_14 : decode cX0_rings 14 = .ok (.aload_n 0, 1) := dk_42 (dk_at dksX0_rings_0 14 rfl rfl)
theorem dX0_rings_15 : decode cX0_rings 15 = .ok (.invokevirtual 229, 3) := dk_182 0 229 (dk_at dksX0_rings_0 15 rfl rfl)
theorem dX0_rings_18 : decode cX0_rings 18 = .ok (.ireturn, 1) := dk_172 (dk_at dksX0_rings_0 18 rfl rfl)
abbrev cX0_ringMany : ByteArray := prog_1_method_34_code
def yX0_ringMany : MethodName := ⟨RX0, "ringMany", "()I"⟩
def dkwX0_ringMany_1 : List UInt8 := [42, 28, 182, 0, 226, 28, 160, 0, 7, 4, 167, 0, 4, 3, 96, 60, 132, 2, 1, 167, 255, 217, 27, 172]
abbrev dktX0_ringMany_1 : List UInt8 := dkwX0_ringMany_1 ++ []
def dkwX0_ringMany_0 : List UInt8 := [3, 60, 3, 61, 28, 42, 180, 0, 12, 180, 0, 94, 162, 0, 34, 27, 42, 28, 182, 0, 218, 158, 0, 16]
abbrev dktX0_ringMany_0 : List UInt8 := dkwX0_ringMany_0 ++ dktX0_ringMany_1
theorem dksX0_ringMany_0 : cX0_ringMany.data.toList.drop 0 = dktX0_ringMany_0 := by decide +kernel
theorem dksX0_ringMany_1 : cX0_ringMany.data.toList.drop 24 = dktX0_ringMany_1 := dk_seg dksX0_ringMany_0 24 rfl rfl
theorem dX0_ringMany_0 : decode cX0_ringMany 0 = .ok (.iconst 0, 1) := dk_3 (dk_at dksX0_ringMany_0 0 rfl rfl)
theorem dX0_ringMany_1 : decode cX0_ringMany 1 = .ok (.istore_n 1, 1) := dk_60 (dk_at dksX0_ringMany_0 1 rfl rfl)
theorem dX0_ringMany_2 : decode cX0_ringMany 2 = .ok (.iconst 0, 1) := dk_3 (dk_at dksX0_ringMany_0 2 rfl rfl)
theorem dX0_ringMany_3 : decode cX0_ringMany 3 = .ok (.istore_n 2, 1) := dk_61 (dk_at dksX0_ringMany_0 3 rfl rfl)
theorem dX0_ringMany_4 : decode cX0_ringMany 4 = .ok (.iload_n 2, 1) := dk_28 (dk_at dksX0_ringMany_0 4 rfl rfl)
theorem dX0_ringMany_5 : decode cX0_ringMany 5 = .ok (.aload_n 0, 1) := dk_42 (dk_at dksX0_ringMany_0 5 rfl rfl)
theorem dX0_ringMany_6 : decode cX0_ringMany 6 = .ok (.getfield 12, 3) := dk_180 0 12 (dk_at dksX0_ringMany_0 6 rfl rfl)
theorem dX0_ringMany_9 : decode cX0_ringMany 9 = .ok (.getfield 94, 3) := dk_180 0 94 (dk_at dksX0_ringMany_0 9 rfl rfl)
theorem dX0_ringMany_12 : decode cX0_ringMany 12 = .ok (.if_icmp .ge 34, 3) := dk_162 0 34 (dk_at dksX0_ringMany_0 12 rfl rfl)
theorem dX0_ringMany_15 : decode cX0_ringMany 15 = .ok (.iload_n 1, 1) := dk_27 (dk_at dksX0_ringMany_0 15 rfl rfl)
theorem dX0_ringMany_16 : decode cX0_ringMany 16 = .ok (.aload_n 0, 1) := dk_42 (dk_at dksX0_ringMany_0 16 rfl rfl)
theorem dX0_ringMany_17 : decode cX0_ringMany 17 = .ok (.iload_n 2, 1) := dk_28 (dk_at dksX0_ringMany_0 17 rfl rfl)
theorem dX0_ringMany_18 : decode cX0_ringMany 18 = .ok (.invokevirtual 218, 3) := dk_182 0 218 (dk_at dksX0_ringMany_0 18 rfl rfl)
theorem dX0_ringMany_21 : decode cX0_ringMany 21 = .ok (.ifCond .le 16, 3) := dk_158 0 16 (dk_at dksX0_ringMany_0 21 rfl rfl)
theorem dX0_ringMany_24 : decode cX0_ringMany 24 = .ok (.aload_n 0, 1) := dk_42 (dk_at dksX0_ringMany_1 0 rfl rfl)
theorem dX0_ringMany_25 : decode cX0_ringMany 25 = .ok (.iload_n 2, 1) := dk_28 (dk_at dksX0_ringMany_1 1 rfl rfl)
theorem dX0_ringMany_26 : decode cX0_ringMany 26 = .ok (.invokevirtual 226, 3) := dk_182 0 226 (dk_at dksX0_ringMany_1 2 rfl rfl)
theorem dX0_ringMany_29 : decode cX0_ringMany 29 = .ok (.iload_n 2, 1) := dk_28 (dk_at dksX0_ringMany_1 5 rfl rfl)
theorem dX0_ringMany_30 : decode cX0_ringMany 30 = .ok (.if_icmp .ne 7, 3) := dk_160 0 7 (dk_at dksX0_ringMany_1 6 rfl rfl)
theorem dX0_ringMany_33 : decode cX0_ringMany 33 = .ok (.iconst 1, 1) := dk_4 (dk_at dksX0_ringMany_1 9 rfl rfl)
theorem dX0_ringMany_34 : decode cX0_ringMany 34 = .ok (.goto 4, 3) := dk_167 0 4 (dk_at dksX0_ringMany_1 10 rfl rfl)
theorem dX0_ringMany_37 : decode cX0_ringMany 37 = .ok (.iconst 0, 1) := dk_3 (dk_at dksX0_ringMany_1 13 rfl rfl)
theorem dX0_ringMany_38 : decode cX0_ringMany 38 = .ok (.iadd, 1) := dk_96 (dk_at dksX0_ringMany_1 14 rfl rfl)
theorem dX0_ringMany_39 : decode cX0_ringMany 39 = .ok (.istore_n 1, 1) := dk_60 (dk_at dksX0_ringMany_1 15 rfl rfl)
theorem dX0_ringMany_40 : decode cX0_ringMany 40 = .ok (.iinc 2 1, 3) := dk_132 2 1 (dk_at dksX0_ringMany_1 16 rfl rfl)
theorem dX0_ringMany_43 : decode cX0_ringMany 43 = .ok (.goto (-39), 3) := dk_167 255 217 (dk_at dksX0_ringMany_1 19 rfl rfl)
theorem dX0_ringMany_46 : decode cX0_ringMany 46 = .ok (.iload_n 1, 1) := dk_27 (dk_at dksX0_ringMany_1 22 rfl rfl)
theorem dX0_ringMany_47 : decode cX0_ringMany 47 = .ok (.ireturn, 1) := dk_172 (dk_at dksX0_ringMany_1 23 rfl rfl)
abbrev cX0_leastOf : ByteArray := prog_1_method_33_code
def yX0_leastOf : MethodName := ⟨RX0, "leastOf", "(I)I"⟩
def dkwX0_leastOf_1 : List UInt8 := [29, 46, 62, 167, 255, 238, 28, 172]
abbrev dktX0_leastOf_1 : List UInt8 := dkwX0_leastOf_1 ++ []
def dkwX0_leastOf_0 : List UInt8 := [27, 61, 42, 180, 0, 24, 27, 46, 62, 29, 27, 159, 0, 19, 28, 29, 184, 0, 221, 61, 42, 180, 0, 24]
abbrev dktX0_leastOf_0 : List UInt8 := dkwX0_leastOf_0 ++ dktX0_leastOf_1
theorem dksX0_leastOf_0 : cX0_leastOf.data.toList.drop 0 = dktX0_leastOf_0 := by decide +kernel
theorem dksX0_leastOf_1 : cX0_leastOf.data.toList.drop 24 = dktX0_leastOf_1 := dk_seg dksX0_leastOf_0 24 rfl rfl
theorem dX0_leastOf_0 : decode cX0_leastOf 0 = .ok (.iload_n 1, 1) := dk_27 (dk_at dksX0_leastOf_0 0 rfl rfl)
theorem dX0_leastOf_1 : decode cX0_leastOf 1 = .ok (.istore_n 2, 1) := dk_61 (dk_at dksX0_leastOf_0 1 rfl rfl)
theorem dX0_leastOf_2 : decode cX0_leastOf 2 = .ok (.aload_n 0, 1) := dk_42 (dk_at dksX0_leastOf_0 2 rfl rfl)
theorem dX0_leastOf_3 : decode cX0_leastOf 3 = .ok (.getfield 24, 3) := dk_180 0 24 (dk_at dksX0_leastOf_0 3 rfl rfl)
theorem dX0_leastOf_6 : decode cX0_leastOf 6 = .ok (.iload_n 1, 1) := dk_27 (dk_at dksX0_leastOf_0 6 rfl rfl)
theorem dX0_leastOf_7 : decode cX0_leastOf 7 = .ok (.iaload, 1) := dk_46 (dk_at dksX0_leastOf_0 7 rfl rfl)
theorem dX0_leastOf_8 : decode cX0_leastOf 8 = .ok (.istore_n 3, 1) := dk_62 (dk_at dksX0_leastOf_0 8 rfl rfl)
theorem dX0_leastOf_9 : decode cX0_leastOf 9 = .ok (.iload_n 3, 1) := dk_29 (dk_at dksX0_leastOf_0 9 rfl rfl)
theorem dX0_leastOf_10 : decode cX0_leastOf 10 = .ok (.iload_n 1, 1) := dk_27 (dk_at dksX0_leastOf_0 10 rfl rfl)
theorem dX0_leastOf_11 : decode cX0_leastOf 11 = .ok (.if_icmp .eq 19, 3) := dk_159 0 19 (dk_at dksX0_leastOf_0 11 rfl rfl)
theorem dX0_leastOf_14 : decode cX0_leastOf 14 = .ok (.iload_n 2, 1) := dk_28 (dk_at dksX0_leastOf_0 14 rfl rfl)
theorem dX0_leastOf_15 : decode cX0_leastOf 15 = .ok (.iload_n 3, 1) := dk_29 (dk_at dksX0_leastOf_0 15 rfl rfl)
theorem dX0_leastOf_16 : decode cX0_leastOf 16 = .ok (.invokestatic 221, 3) := dk_184 0 221 (dk_at dksX0_leastOf_0 16 rfl rfl)
theorem dX0_leastOf_19 : decode cX0_leastOf 19 = .ok (.istore_n 2, 1) := dk_61 (dk_at dksX0_leastOf_0 19 rfl rfl)
theorem dX0_leastOf_20 : decode cX0_leastOf 20 = .ok (.aload_n 0, 1) := dk_42 (dk_at dksX0_leastOf_0 20 rfl rfl)
theorem dX0_leastOf_21 : decode cX0_leastOf 21 = .ok (.getfield 24, 3) := dk_180 0 24 (dk_at dksX0_leastOf_0 21 rfl rfl)
theorem dX0_leastOf_24 : decode cX0_leastOf 24 = .ok (.iload_n 3, 1) := dk_29 (dk_at dksX0_leastOf_1 0 rfl rfl)
theorem dX0_leastOf_25 : decode cX0_leastOf 25 = .ok (.iaload, 1) := dk_46 (dk_at dksX0_leastOf_1 1 rfl rfl)
theorem dX0_leastOf_26 : decode cX0_leastOf 26 = .ok (.istore_n 3, 1) := dk_62 (dk_at dksX0_leastOf_1 2 rfl rfl)
theorem dX0_leastOf_27 : decode cX0_leastOf 27 = .ok (.goto (-18), 3) := dk_167 255 238 (dk_at dksX0_leastOf_1 3 rfl rfl)
theorem dX0_leastOf_30 : decode cX0_leastOf 30 = .ok (.iload_n 2, 1) := dk_28 (dk_at dksX0_leastOf_1 6 rfl rfl)
theorem dX0_leastOf_31 : decode cX0_leastOf 31 = .ok (.ireturn, 1) := dk_172 (dk_at dksX0_leastOf_1 7 rfl rfl)
abbrev cX0_chain : ByteArray := prog_1_method_37_code
def yX0_chain : MethodName := ⟨RX0, "chain", "(II)I"⟩
def dkwX0_chain_1 : List UInt8 := [42, 27, 28, 182, 0, 235, 62, 29, 2, 160, 0, 7, 2, 167, 0, 9, 42, 27, 29, 182, 0, 214, 172]
abbrev dktX0_chain_1 : List UInt8 := dkwX0_chain_1 ++ []
def dkwX0_chain_0 : List UInt8 := [42, 27, 133, 182, 0, 186, 153, 0, 11, 28, 133, 184, 0, 232, 154, 0, 6, 16, 254, 172, 42, 182, 0, 190]
abbrev dktX0_chain_0 : List UInt8 := dkwX0_chain_0 ++ dktX0_chain_1
theorem dksX0_chain_0 : cX0_chain.data.toList.drop 0 = dktX0_chain_0 := by decide +kernel
theorem dksX0_chain_1 : cX0_chain.data.toList.drop 24 = dktX0_chain_1 := dk_seg dksX0_chain_0 24 rfl rfl
theorem dX0_chain_0 : decode cX0_chain 0 = .ok (.aload_n 0, 1) := dk_42 (dk_at dksX0_chain_0 0 rfl rfl)
theorem dX0_chain_1 : decode cX0_chain 1 = .ok (.iload_n 1, 1) := dk_27 (dk_at dksX0_chain_0 1 rfl rfl)
theorem dX0_chain_2 : decode cX0_chain 2 = .ok (.i2l, 1) := dk_133 (dk_at dksX0_chain_0 2 rfl rfl)
theorem dX0_chain_3 : decode cX0_chain 3 = .ok (.invokevirtual 186, 3) := dk_182 0 186 (dk_at dksX0_chain_0 3 rfl rfl)
theorem dX0_chain_6 : decode cX0_chain 6 = .ok (.ifCond .eq 11, 3) := dk_153 0 11 (dk_at dksX0_chain_0 6 rfl rfl)
theorem dX0_chain_9 : decode cX0_chain 9 = .ok (.iload_n 2, 1) := dk_28 (dk_at dksX0_chain_0 9 rfl rfl)
theorem dX0_chain_10 : decode cX0_chain 10 = .ok (.i2l, 1) := dk_133 (dk_at dksX0_chain_0 10 rfl rfl)
theorem dX0_chain_11 : decode cX0_chain 11 = .ok (.invokestatic 232, 3) := dk_184 0 232 (dk_at dksX0_chain_0 11 rfl rfl)
theorem dX0_chain_14 : decode cX0_chain 14 = .ok (.ifCond .ne 6, 3) := dk_154 0 6 (dk_at dksX0_chain_0 14 rfl rfl)
theorem dX0_chain_17 : decode cX0_chain 17 = .ok (.bipush (-2), 2) := dk_16 254 (dk_at dksX0_chain_0 17 rfl rfl)
theorem dX0_chain_19 : decode cX0_chain 19 = .ok (.ireturn, 1) := dk_172 (dk_at dksX0_chain_0 19 rfl rfl)
theorem dX0_chain_20 : decode cX0_chain 20 = .ok (.aload_n 0, 1) := dk_42 (dk_at dksX0_chain_0 20 rfl rfl)
theorem dX0_chain_21 : decode cX0_chain 21 = .ok (.invokevirtual 190, 3) := dk_182 0 190 (dk_at dksX0_chain_0 21 rfl rfl)
theorem dX0_chain_24 : decode cX0_chain 24 = .ok (.aload_n 0, 1) := dk_42 (dk_at dksX0_chain_1 0 rfl rfl)
theorem dX0_chain_25 : decode cX0_chain 25 = .ok (.iload_n 1, 1) := dk_27 (dk_at dksX0_chain_1 1 rfl rfl)
theorem dX0_chain_26 : decode cX0_chain 26 = .ok (.iload_n 2, 1) := dk_28 (dk_at dksX0_chain_1 2 rfl rfl)
theorem dX0_chain_27 : decode cX0_chain 27 = .ok (.invokevirtual 235, 3) := dk_182 0 235 (dk_at dksX0_chain_1 3 rfl rfl)
theorem dX0_chain_30 : decode cX0_chain 30 = .ok (.istore_n 3, 1) := dk_62 (dk_at dksX0_chain_1 6 rfl rfl)
theorem dX0_chain_31 : decode cX0_chain 31 = .ok (.iload_n 3, 1) := dk_29 (dk_at dksX0_chain_1 7 rfl rfl)
theorem dX0_chain_32 : decode cX0_chain 32 = .ok (.iconst (-1), 1) := dk_2 (dk_at dksX0_chain_1 8 rfl rfl)
theorem dX0_chain_33 : decode cX0_chain 33 = .ok (.if_icmp .ne 7, 3) := dk_160 0 7 (dk_at dksX0_chain_1 9 rfl rfl)
theorem dX0_chain_36 : decode cX0_chain 36 = .ok (.iconst (-1), 1) := dk_2 (dk_at dksX0_chain_1 12 rfl rfl)
theorem dX0_chain_37 : decode cX0_chain 37 = .ok (.goto 9, 3) := dk_167 0 9 (dk_at dksX0_chain_1 13 rfl rfl)
theorem dX0_chain_40 : decode cX0_chain 40 = .ok (.aload_n 0, 1) := dk_42 (dk_at dksX0_chain_1 16 rfl rfl)
theorem dX0_chain_41 : decode cX0_chain 41 = .ok (.iload_n 1, 1) := dk_27 (dk_at dksX0_chain_1 17 rfl rfl)
theorem dX0_chain_42 : decode cX0_chain 42 = .ok (.iload_n 3, 1) := dk_29 (dk_at dksX0_chain_1 18 rfl rfl)
theorem dX0_chain_43 : decode cX0_chain 43 = .ok (.invokevirtual 214, 3) := dk_182 0 214 (dk_at dksX0_chain_1 19 rfl rfl)
theorem dX0_chain_46 : decode cX0_chain 46 = .ok (.ireturn, 1) := dk_172 (dk_at dksX0_chain_1 22 rfl rfl)
abbrev cX0_isDeed : ByteArray := prog_1_method_12_code
def yX0_isDeed : MethodName := ⟨RX0, "isDeed", "(J)Z"⟩
def dkwX0_isDeed_0 : List UInt8 := [30, 16, 6, 184, 0, 97, 172]
abbrev dktX0_isDeed_0 : List UInt8 := dkwX0_isDeed_0 ++ []
theorem dksX0_isDeed_0 : cX0_isDeed.data.toList.drop 0 = dktX0_isDeed_0 := by decide +kernel
theorem dX0_isDeed_0 : decode cX0_isDeed 0 = .ok (.lload_n 0, 1) := dk_30 (dk_at dksX0_isDeed_0 0 rfl rfl)
theorem dX0_isDeed_1 : decode cX0_isDeed 1 = .ok (.bipush 6, 2) := dk_16 6 (dk_at dksX0_isDeed_0 1 rfl rfl)
theorem dX0_isDeed_3 : decode cX0_isDeed 3 = .ok (.invokestatic 97, 3) := dk_184 0 97 (dk_at dksX0_isDeed_0 3 rfl rfl)
theorem dX0_isDeed_6 : decode cX0_isDeed 6 = .ok (.ireturn, 1) := dk_172 (dk_at dksX0_isDeed_0 6 rfl rfl)
abbrev cX0_doerOf : ByteArray := prog_1_method_36_code
def yX0_doerOf : MethodName := ⟨RX0, "doerOf", "(II)I"⟩
def dkwX0_doerOf_3 : List UInt8 := [167, 0, 4, 29, 62, 132, 4, 1, 167, 255, 182, 29, 172]
abbrev dktX0_doerOf_3 : List UInt8 := dkwX0_doerOf_3 ++ []
def dkwX0_doerOf_2 : List UInt8 := [29, 2, 159, 0, 19, 42, 27, 21, 4, 182, 0, 214, 42, 27, 29, 182, 0, 214, 162, 0, 8, 21, 4]
abbrev dktX0_doerOf_2 : List UInt8 := dkwX0_doerOf_2 ++ dktX0_doerOf_3
def dkwX0_doerOf_1 : List UInt8 := [21, 4, 46, 28, 184, 0, 114, 153, 0, 45, 42, 27, 21, 4, 182, 0, 214, 2, 160, 0, 6, 167, 0, 31]
abbrev dktX0_doerOf_1 : List UInt8 := dkwX0_doerOf_1 ++ dktX0_doerOf_2
def dkwX0_doerOf_0 : List UInt8 := [2, 62, 3, 54, 4, 21, 4, 42, 180, 0, 12, 180, 0, 94, 162, 0, 68, 42, 180, 0, 12, 180, 0, 196]
abbrev dktX0_doerOf_0 : List UInt8 := dkwX0_doerOf_0 ++ dktX0_doerOf_1
theorem dksX0_doerOf_0 : cX0_doerOf.data.toList.drop 0 = dktX0_doerOf_0 := by decide +kernel
theorem dksX0_doerOf_1 : cX0_doerOf.data.toList.drop 24 = dktX0_doerOf_1 := dk_seg dksX0_doerOf_0 24 rfl rfl
theorem dksX0_doerOf_2 : cX0_doerOf.data.toList.drop 48 = dktX0_doerOf_2 := dk_seg dksX0_doerOf_1 24 rfl rfl
theorem dksX0_doerOf_3 : cX0_doerOf.data.toList.drop 71 = dktX0_doerOf_3 := dk_seg dksX0_doerOf_2 23 rfl rfl
theorem dX0_doerOf_0 : decode cX0_doerOf 0 = .ok (.iconst (-1), 1) := dk_2 (dk_at dksX0_doerOf_0 0 rfl rfl)
theorem dX0_doerOf_1 : decode cX0_doerOf 1 = .ok (.istore_n 3, 1) := dk_62 (dk_at dksX0_doerOf_0 1 rfl rfl)
theorem dX0_doerOf_2 : decode cX0_doerOf 2 = .ok (.iconst 0, 1) := dk_3 (dk_at dksX0_doerOf_0 2 rfl rfl)
theorem dX0_doerOf_3 : decode cX0_doerOf 3 = .ok (.istore 4, 2) := dk_54 4 (dk_at dksX0_doerOf_0 3 rfl rfl)
theorem dX0_doerOf_5 : decode cX0_doerOf 5 = .ok (.iload 4, 2) := dk_21 4 (dk_at dksX0_doerOf_0 5 rfl rfl)
theorem dX0_doerOf_7 : decode cX0_doerOf 7 = .ok (.aload_n 0, 1) := dk_42 (dk_at dksX0_doerOf_0 7 rfl rfl)
theorem dX0_doerOf_8 : decode cX0_doerOf 8 = .ok (.getfield 12, 3) := dk_180 0 12 (dk_at dksX0_doerOf_0 8 rfl rfl)
theorem dX0_doerOf_11 : decode cX0_doerOf 11 = .ok (.getfield 94, 3) := dk_180 0 94 (dk_at dksX0_doerOf_0 11 rfl rfl)
theorem dX0_doerOf_14 : decode cX0_doerOf 14 = .ok (.if_icmp .ge 68, 3) := dk_162 0 68 (dk_at dksX0_doerOf_0 14 rfl rfl)
theorem dX0_doerOf_17 : decode cX0_doerOf 17 = .ok (.aload_n 0, 1) := dk_42 (dk_at dksX0_doerOf_0 17 rfl rfl)
theorem dX0_doerOf_18 : decode cX0_doerOf 18 = .ok (.getfield 12, 3) := dk_180 0 12 (dk_at dksX0_doerOf_0 18 rfl rfl)
theorem dX0_doerOf_21 : decode cX0_doerOf 21 = .ok (.getfield 196, 3) := dk_180 0 196 (dk_at dksX0_doerOf_0 21 rfl rfl)
theorem dX0_doerOf_24 : decode cX0_doerOf 24 = .ok (.iload 4, 2) := dk_21 4 (dk_at dksX0_doerOf_1 0 rfl rfl)
theorem dX0_doerOf_26 : decode cX0_doerOf 26 = .ok (.iaload, 1) := dk_46 (dk_at dksX0_doerOf_1 2 rfl rfl)
theorem dX0_doerOf_27 : decode cX0_doerOf 27 = .ok (.iload_n 2, 1) := dk_28 (dk_at dksX0_doerOf_1 3 rfl rfl)
theorem dX0_doerOf_28 : decode cX0_doerOf 28 = .ok (.invokestatic 114, 3) := dk_184 0 114 (dk_at dksX0_doerOf_1 4 rfl rfl)
theorem dX0_doerOf_31 : decode cX0_doerOf 31 = .ok (.ifCond .eq 45, 3) := dk_153 0 45 (dk_at dksX0_doerOf_1 7 rfl rfl)
theorem dX0_doerOf_34 : decode cX0_doerOf 34 = .ok (.aload_n 0, 1) := dk_42 (dk_at dksX0_doerOf_1 10 rfl rfl)
theorem dX0_doerOf_35 : decode cX0_doerOf 35 = .ok (.iload_n 1, 1) := dk_27 (dk_at dksX0_doerOf_1 11 rfl rfl)
theorem dX0_doerOf_36 : decode cX0_doerOf 36 = .ok (.iload 4, 2) := dk_21 4 (dk_at dksX0_doerOf_1 12 rfl rfl)
theorem dX0_doerOf_38 : decode cX0_doerOf 38 = .ok (.invokevirtual 214, 3) := dk_182 0 214 (dk_at dksX0_doerOf_1 14 rfl rfl)
theorem dX0_doerOf_41 : decode cX0_doerOf 41 = .ok (.iconst (-1), 1) := dk_2 (dk_at dksX0_doerOf_1 17 rfl rfl)
theorem dX0_doerOf_42 : decode cX0_doerOf 42 = .ok (.if_icmp .ne 6, 3) := dk_160 0 6 (dk_at dksX0_doerOf_1 18 rfl rfl)
theorem dX0_doerOf_45 : decode cX0_doerOf 45 = .ok (.goto 31, 3) := dk_167 0 31 (dk_at dksX0_doerOf_1 21 rfl rfl)
theorem dX0_doerOf_48 : decode cX0_doerOf 48 = .ok (.iload_n 3, 1) := dk_29 (dk_at dksX0_doerOf_2 0 rfl rfl)
theorem dX0_doerOf_49 : decode cX0_doerOf 49 = .ok (.iconst (-1), 1) := dk_2 (dk_at dksX0_doerOf_2 1 rfl rfl)
theorem dX0_doerOf_50 : decode cX0_doerOf 50 = .ok (.if_icmp .eq 19, 3) := dk_159 0 19 (dk_at dksX0_doerOf_2 2 rfl rfl)
theorem dX0_doerOf_53 : decode cX0_doerOf 53 = .ok (.aload_n 0, 1) := dk_42 (dk_at dksX0_doerOf_2 5 rfl rfl)
theorem dX0_doerOf_54 : decode cX0_doerOf 54 = .ok (.iload_n 1, 1) := dk_27 (dk_at dksX0_doerOf_2 6 rfl rfl)
theorem dX0_doerOf_55 : decode cX0_doerOf 55 = .ok (.iload 4, 2) := dk_21 4 (dk_at dksX0_doerOf_2 7 rfl rfl)
theorem dX0_doerOf_57 : decode cX0_doerOf 57 = .ok (.invokevirtual 214, 3) := dk_182 0 214 (dk_at dksX0_doerOf_2 9 rfl rfl)
theorem dX0_doerOf_60 : decode cX0_doerOf 60 = .ok (.aload_n 0, 1) := dk_42 (dk_at dksX0_doerOf_2 12 rfl rfl)
theorem dX0_doerOf_61 : decode cX0_doerOf 61 = .ok (.iload_n 1, 1) := dk_27 (dk_at dksX0_doerOf_2 13 rfl rfl)
theorem dX0_doerOf_62 : decode cX0_doerOf 62 = .ok (.iload_n 3, 1) := dk_29 (dk_at dksX0_doerOf_2 14 rfl rfl)
theorem dX0_doerOf_63 : decode cX0_doerOf 63 = .ok (.invokevirtual 214, 3) := dk_182 0 214 (dk_at dksX0_doerOf_2 15 rfl rfl)
theorem dX0_doerOf_66 : decode cX0_doerOf 66 = .ok (.if_icmp .ge 8, 3) := dk_162 0 8 (dk_at dksX0_doerOf_2 18 rfl rfl)
theorem dX0_doerOf_69 : decode cX0_doerOf 69 = .ok (.iload 4, 2) := dk_21 4 (dk_at dksX0_doerOf_2 21 rfl rfl)
theorem dX0_doerOf_71 : decode cX0_doerOf 71 = .ok (.goto 4, 3) := dk_167 0 4 (dk_at dksX0_doerOf_3 0 rfl rfl)
theorem dX0_doerOf_74 : decode cX0_doerOf 74 = .ok (.iload_n 3, 1) := dk_29 (dk_at dksX0_doerOf_3 3 rfl rfl)
theorem dX0_doerOf_75 : decode cX0_doerOf 75 = .ok (.istore_n 3, 1) := dk_62 (dk_at dksX0_doerOf_3 4 rfl rfl)
theorem dX0_doerOf_76 : decode cX0_doerOf 76 = .ok (.iinc 4 1, 3) := dk_132 4 1 (dk_at dksX0_doerOf_3 5 rfl rfl)
theorem dX0_doerOf_79 : decode cX0_doerOf 79 = .ok (.goto (-74), 3) := dk_167 255 182 (dk_at dksX0_doerOf_3 8 rfl rfl)
theorem dX0_doerOf_82 : decode cX0_doerOf 82 = .ok (.iload_n 3, 1) := dk_29 (dk_at dksX0_doerOf_3 11 rfl rfl)
theorem dX0_doerOf_83 : decode cX0_doerOf 83 = .ok (.ireturn, 1) := dk_172 (dk_at dksX0_doerOf_3 12 rfl rfl)
abbrev cX0_doer : ByteArray := prog_1_method_38_code
def yX0_doer : MethodName := ⟨RX0, "doer", "(II)I"⟩
def dkwX0_doer_1 : List UInt8 := [42, 27, 28, 182, 0, 235, 172]
abbrev dktX0_doer_1 : List UInt8 := dkwX0_doer_1 ++ []
def dkwX0_doer_0 : List UInt8 := [42, 27, 133, 182, 0, 186, 153, 0, 11, 28, 133, 184, 0, 232, 154, 0, 6, 16, 254, 172, 42, 182, 0, 190]
abbrev dktX0_doer_0 : List UInt8 := dkwX0_doer_0 ++ dktX0_doer_1
theorem dksX0_doer_0 : cX0_doer.data.toList.drop 0 = dktX0_doer_0 := by decide +kernel
theorem dksX0_doer_1 : cX0_doer.data.toList.drop 24 = dktX0_doer_1 := dk_seg dksX0_doer_0 24 rfl rfl
theorem dX0_doer_0 : decode cX0_doer 0 = .ok (.aload_n 0, 1) := dk_42 (dk_at dksX0_doer_0 0 rfl rfl)
theorem dX0_doer_1 : decode cX0_doer 1 = .ok (.iload_n 1, 1) := dk_27 (dk_at dksX0_doer_0 1 rfl rfl)
theorem dX0_doer_2 : decode cX0_doer 2 = .ok (.i2l, 1) := dk_133 (dk_at dksX0_doer_0 2 rfl rfl)
theorem dX0_doer_3 : decode cX0_doer 3 = .ok (.invokevirtual 186, 3) := dk_182 0 186 (dk_at dksX0_doer_0 3 rfl rfl)
theorem dX0_doer_6 : decode cX0_doer 6 = .ok (.ifCond .eq 11, 3) := dk_153 0 11 (dk_at dksX0_doer_0 6 rfl rfl)
theorem dX0_doer_9 : decode cX0_doer 9 = .ok (.iload_n 2, 1) := dk_28 (dk_at dksX0_doer_0 9 rfl rfl)
theorem dX0_doer_10 : decode cX0_doer 10 = .ok (.i2l, 1) := dk_133 (dk_at dksX0_doer_0 10 rfl rfl)
theorem dX0_doer_11 : decode cX0_doer 11 = .ok (.invokestatic 232, 3) := dk_184 0 232 (dk_at dksX0_doer_0 11 rfl rfl)
theorem dX0_doer_14 : decode cX0_doer 14 = .ok (.ifCond .ne 6, 3) := dk_154 0 6 (dk_at dksX0_doer_0 14 rfl rfl)
theorem dX0_doer_17 : decode cX0_doer 17 = .ok (.bipush (-2), 2) := dk_16 254 (dk_at dksX0_doer_0 17 rfl rfl)
theorem dX0_doer_19 : decode cX0_doer 19 = .ok (.ireturn, 1) := dk_172 (dk_at dksX0_doer_0 19 rfl rfl)
theorem dX0_doer_20 : decode cX0_doer 20 = .ok (.aload_n 0, 1) := dk_42 (dk_at dksX0_doer_0 20 rfl rfl)
theorem dX0_doer_21 : decode cX0_doer 21 = .ok (.invokevirtual 190, 3) := dk_182 0 190 (dk_at dksX0_doer_0 21 rfl rfl)
theorem dX0_doer_24 : decode cX0_doer 24 = .ok (.aload_n 0, 1) := dk_42 (dk_at dksX0_doer_1 0 rfl rfl)
theorem dX0_doer_25 : decode cX0_doer 25 = .ok (.iload_n 1, 1) := dk_27 (dk_at dksX0_doer_1 1 rfl rfl)
theorem dX0_doer_26 : decode cX0_doer 26 = .ok (.iload_n 2, 1) := dk_28 (dk_at dksX0_doer_1 2 rfl rfl)
theorem dX0_doer_27 : decode cX0_doer 27 = .ok (.invokevirtual 235, 3) := dk_182 0 235 (dk_at dksX0_doer_1 3 rfl rfl)
theorem dX0_doer_30 : decode cX0_doer 30 = .ok (.ireturn, 1) := dk_172 (dk_at dksX0_doer_1 6 rfl rfl)
abbrev cX0_asked : ByteArray := prog_1_method_39_code
def yX0_asked : MethodName := ⟨RX0, "asked", "(III)I"⟩
def dkwX0_asked_5 : List UInt8 := [167, 255, 238, 21, 6, 172]
abbrev dktX0_asked_5 : List UInt8 := dkwX0_asked_5 ++ []
def dkwX0_asked_4 : List UInt8 := [21, 5, 4, 100, 54, 7, 21, 7, 29, 164, 0, 18, 42, 180, 0, 24, 21, 6, 46, 54, 6, 132, 7, 255]
abbrev dktX0_asked_4 : List UInt8 := dkwX0_asked_4 ++ dktX0_asked_5
def dkwX0_asked_3 : List UInt8 := [167, 255, 238, 29, 133, 9, 21, 5, 4, 100, 133, 184, 0, 67, 154, 0, 5, 2, 172, 21, 4, 54, 6]
abbrev dktX0_asked_3 : List UInt8 := dkwX0_asked_3 ++ dktX0_asked_4
def dkwX0_asked_2 : List UInt8 := [21, 4, 46, 54, 6, 21, 6, 27, 159, 0, 18, 132, 5, 1, 42, 180, 0, 24, 21, 6, 46, 54, 6]
abbrev dktX0_asked_2 : List UInt8 := dkwX0_asked_2 ++ dktX0_asked_3
def dkwX0_asked_1 : List UInt8 := [42, 27, 28, 182, 0, 235, 54, 4, 21, 4, 2, 160, 0, 5, 2, 172, 4, 54, 5, 42, 180, 0, 24]
abbrev dktX0_asked_1 : List UInt8 := dkwX0_asked_1 ++ dktX0_asked_2
def dkwX0_asked_0 : List UInt8 := [42, 27, 133, 182, 0, 186, 153, 0, 11, 28, 133, 184, 0, 232, 154, 0, 6, 16, 254, 172, 42, 182, 0, 190]
abbrev dktX0_asked_0 : List UInt8 := dkwX0_asked_0 ++ dktX0_asked_1
theorem dksX0_asked_0 : cX0_asked.data.toList.drop 0 = dktX0_asked_0 := by decide +kernel
theorem dksX0_asked_1 : cX0_asked.data.toList.drop 24 = dktX0_asked_1 := dk_seg dksX0_asked_0 24 rfl rfl
theorem dksX0_asked_2 : cX0_asked.data.toList.drop 47 = dktX0_asked_2 := dk_seg dksX0_asked_1 23 rfl rfl
theorem dksX0_asked_3 : cX0_asked.data.toList.drop 70 = dktX0_asked_3 := dk_seg dksX0_asked_2 23 rfl rfl
theorem dksX0_asked_4 : cX0_asked.data.toList.drop 93 = dktX0_asked_4 := dk_seg dksX0_asked_3 23 rfl rfl
theorem dksX0_asked_5 : cX0_asked.data.toList.drop 117 = dktX0_asked_5 := dk_seg dksX0_asked_4 24 rfl rfl
theorem dX0_asked_0 : decode cX0_asked 0 = .ok (.aload_n 0, 1) := dk_42 (dk_at dksX0_asked_0 0 rfl rfl)
theorem dX0_asked_1 : decode cX0_asked 1 = .ok (.iload_n 1, 1) := dk_27 (dk_at dksX0_asked_0 1 rfl rfl)
theorem dX0_asked_2 : decode cX0_asked 2 = .ok (.i2l, 1) := dk_133 (dk_at dksX0_asked_0 2 rfl rfl)
theorem dX0_asked_3 : decode cX0_asked 3 = .ok (.invokevirtual 186, 3) := dk_182 0 186 (dk_at dksX0_asked_0 3 rfl rfl)
theorem dX0_asked_6 : decode cX0_asked 6 = .ok (.ifCond .eq 11, 3) := dk_153 0 11 (dk_at dksX0_asked_0 6 rfl rfl)
theorem dX0_asked_9 : decode cX0_asked 9 = .ok (.iload_n 2, 1) := dk_28 (dk_at dksX0_asked_0 9 rfl rfl)
theorem dX0_asked_10 : decode cX0_asked 10 = .ok (.i2l, 1) := dk_133 (dk_at dksX0_asked_0 10 rfl rfl)
theorem dX0_asked_11 : decode cX0_asked 11 = .ok (.invokestatic 232, 3) := dk_184 0 232 (dk_at dksX0_asked_0 11 rfl rfl)
theorem dX0_asked_14 : decode cX0_asked 14 = .ok (.ifCond .ne 6, 3) := dk_154 0 6 (dk_at dksX0_asked_0 14 rfl rfl)
theorem dX0_asked_17 : decode cX0_asked 17 = .ok (.bipush (-2), 2) := dk_16 254 (dk_at dksX0_asked_0 17 rfl rfl)
theorem dX0_asked_19 : decode cX0_asked 19 = .ok (.ireturn, 1) := dk_172 (dk_at dksX0_asked_0 19 rfl rfl)
theorem dX0_asked_20 : decode cX0_asked 20 = .ok (.aload_n 0, 1) := dk_42 (dk_at dksX0_asked_0 20 rfl rfl)
theorem dX0_asked_21 : decode cX0_asked 21 = .ok (.invokevirtual 190, 3) := dk_182 0 190 (dk_at dksX0_asked_0 21 rfl rfl)
theorem dX0_asked_24 : decode cX0_asked 24 = .ok (.aload_n 0, 1) := dk_42 (dk_at dksX0_asked_1 0 rfl rfl)
theorem dX0_asked_25 : decode cX0_asked 25 = .ok (.iload_n 1, 1) := dk_27 (dk_at dksX0_asked_1 1 rfl rfl)
theorem dX0_asked_26 : decode cX0_asked 26 = .ok (.iload_n 2, 1) := dk_28 (dk_at dksX0_asked_1 2 rfl rfl)
theorem dX0_asked_27 : decode cX0_asked 27 = .ok (.invokevirtual 235, 3) := dk_182 0 235 (dk_at dksX0_asked_1 3 rfl rfl)
theorem dX0_asked_30 : decode cX0_asked 30 = .ok (.istore 4, 2) := dk_54 4 (dk_at dksX0_asked_1 6 rfl rfl)
theorem dX0_asked_32 : decode cX0_asked 32 = .ok (.iload 4, 2) := dk_21 4 (dk_at dksX0_asked_1 8 rfl rfl)
theorem dX0_asked_34 : decode cX0_asked 34 = .ok (.iconst (-1), 1) := dk_2 (dk_at dksX0_asked_1 10 rfl rfl)
theorem dX0_asked_35 : decode cX0_asked 35 = .ok (.if_icmp .ne 5, 3) := dk_160 0 5 (dk_at dksX0_asked_1 11 rfl rfl)
theorem dX0_asked_38 : decode cX0_asked 38 = .ok (.iconst (-1), 1) := dk_2 (dk_at dksX0_asked_1 14 rfl rfl)
theorem dX0_asked_39 : decode cX0_asked 39 = .ok (.ireturn, 1) := dk_172 (dk_at dksX0_asked_1 15 rfl rfl)
theorem dX0_asked_40 : decode cX0_asked 40 = .ok (.iconst 1, 1) := dk_4 (dk_at dksX0_asked_1 16 rfl rfl)
theorem dX0_asked_41 : decode cX0_asked 41 = .ok (.istore 5, 2) := dk_54 5 (dk_at dksX0_asked_1 17 rfl rfl)
theorem dX0_asked_43 : decode cX0_asked 43 = .ok (.aload_n 0, 1) := dk_42 (dk_at dksX0_asked_1 19 rfl rfl)
theorem dX0_asked_44 : decode cX0_asked 44 = .ok (.getfield 24, 3) := dk_180 0 24 (dk_at dksX0_asked_1 20 rfl rfl)
theorem dX0_asked_47 : decode cX0_asked 47 = .ok (.iload 4, 2) := dk_21 4 (dk_at dksX0_asked_2 0 rfl rfl)
theorem dX0_asked_49 : decode cX0_asked 49 = .ok (.iaload, 1) := dk_46 (dk_at dksX0_asked_2 2 rfl rfl)
theorem dX0_asked_50 : decode cX0_asked 50 = .ok (.istore 6, 2) := dk_54 6 (dk_at dksX0_asked_2 3 rfl rfl)
theorem dX0_asked_52 : decode cX0_asked 52 = .ok (.iload 6, 2) := dk_21 6 (dk_at dksX0_asked_2 5 rfl rfl)
theorem dX0_asked_54 : decode cX0_asked 54 = .ok (.iload_n 1, 1) := dk_27 (dk_at dksX0_asked_2 7 rfl rfl)
theorem dX0_asked_55 : decode cX0_asked 55 = .ok (.if_icmp .eq 18, 3) := dk_159 0 18 (dk_at dksX0_asked_2 8 rfl rfl)
theorem dX0_asked_58 : decode cX0_asked 58 = .ok (.iinc 5 1, 3) := dk_132 5 1 (dk_at dksX0_asked_2 11 rfl rfl)
theorem dX0_asked_61 : decode cX0_asked 61 = .ok (.aload_n 0, 1) := dk_42 (dk_at dksX0_asked_2 14 rfl rfl)
theorem dX0_asked_62 : decode cX0_asked 62 = .ok (.getfield 24, 3) := dk_180 0 24 (dk_at dksX0_asked_2 15 rfl rfl)
theorem dX0_asked_65 : decode cX0_asked 65 = .ok (.iload 6, 2) := dk_21 6 (dk_at dksX0_asked_2 18 rfl rfl)
theorem dX0_asked_67 : decode cX0_asked 67 = .ok (.iaload, 1) := dk_46 (dk_at dksX0_asked_2 20 rfl rfl)
theorem dX0_asked_68 : decode cX0_asked 68 = .ok (.istore 6, 2) := dk_54 6 (dk_at dksX0_asked_2 21 rfl rfl)
theorem dX0_asked_70 : decode cX0_asked 70 = .ok (.goto (-18), 3) := dk_167 255 238 (dk_at dksX0_asked_3 0 rfl rfl)
theorem dX0_asked_73 : decode cX0_asked 73 = .ok (.iload_n 3, 1) := dk_29 (dk_at dksX0_asked_3 3 rfl rfl)
theorem dX0_asked_74 : decode cX0_asked 74 = .ok (.i2l, 1) := dk_133 (dk_at dksX0_asked_3 4 rfl rfl)
theorem dX0_asked_75 : decode cX0_asked 75 = .ok (.lconst 0, 1) := dk_9 (dk_at dksX0_asked_3 5 rfl rfl)
theorem dX0_asked_76 : decode cX0_asked 76 = .ok (.iload 5, 2) := dk_21 5 (dk_at dksX0_asked_3 6 rfl rfl)
theorem dX0_asked_78 : decode cX0_asked 78 = .ok (.iconst 1, 1) := dk_4 (dk_at dksX0_asked_3 8 rfl rfl)
theorem dX0_asked_79 : decode cX0_asked 79 = .ok (.isub, 1) := dk_100 (dk_at dksX0_asked_3 9 rfl rfl)
theorem dX0_asked_80 : decode cX0_asked 80 = .ok (.i2l, 1) := dk_133 (dk_at dksX0_asked_3 10 rfl rfl)
theorem dX0_asked_81 : decode cX0_asked 81 = .ok (.invokestatic 67, 3) := dk_184 0 67 (dk_at dksX0_asked_3 11 rfl rfl)
theorem dX0_asked_84 : decode cX0_asked 84 = .ok (.ifCond .ne 5, 3) := dk_154 0 5 (dk_at dksX0_asked_3 14 rfl rfl)
theorem dX0_asked_87 : decode cX0_asked 87 = .ok (.iconst (-1), 1) := dk_2 (dk_at dksX0_asked_3 17 rfl rfl)
theorem dX0_asked_88 : decode cX0_asked 88 = .ok (.ireturn, 1) := dk_172 (dk_at dksX0_asked_3 18 rfl rfl)
theorem dX0_asked_89 : decode cX0_asked 89 = .ok (.iload 4, 2) := dk_21 4 (dk_at dksX0_asked_3 19 rfl rfl)
theorem dX0_asked_91 : decode cX0_asked 91 = .ok (.istore 6, 2) := dk_54 6 (dk_at dksX0_asked_3 21 rfl rfl)
theorem dX0_asked_93 : decode cX0_asked 93 = .ok (.iload 5, 2) := dk_21 5 (dk_at dksX0_asked_4 0 rfl rfl)
theorem dX0_asked_95 : decode cX0_asked 95 = .ok (.iconst 1, 1) := dk_4 (dk_at dksX0_asked_4 2 rfl rfl)
theorem dX0_asked_96 : decode cX0_asked 96 = .ok (.isub, 1) := dk_100 (dk_at dksX0_asked_4 3 rfl rfl)
theorem dX0_asked_97 : decode cX0_asked 97 = .ok (.istore 7, 2) := dk_54 7 (dk_at dksX0_asked_4 4 rfl rfl)
theorem dX0_asked_99 : decode cX0_asked 99 = .ok (.iload 7, 2) := dk_21 7 (dk_at dksX0_asked_4 6 rfl rfl)
theorem dX0_asked_101 : decode cX0_asked 101 = .ok (.iload_n 3, 1) := dk_29 (dk_at dksX0_asked_4 8 rfl rfl)
theorem dX0_asked_102 : decode cX0_asked 102 = .ok (.if_icmp .le 18, 3) := dk_164 0 18 (dk_at dksX0_asked_4 9 rfl rfl)
theorem dX0_asked_105 : decode cX0_asked 105 = .ok (.aload_n 0, 1) := dk_42 (dk_at dksX0_asked_4 12 rfl rfl)
theorem dX0_asked_106 : decode cX0_asked 106 = .ok (.getfield 24, 3) := dk_180 0 24 (dk_at dksX0_asked_4 13 rfl rfl)
theorem dX0_asked_109 : decode cX0_asked 109 = .ok (.iload 6, 2) := dk_21 6 (dk_at dksX0_asked_4 16 rfl rfl)
theorem dX0_asked_111 : decode cX0_asked 111 = .ok (.iaload, 1) := dk_46 (dk_at dksX0_asked_4 18 rfl rfl)
theorem dX0_asked_112 : decode cX0_asked 112 = .ok (.istore 6, 2) := dk_54 6 (dk_at dksX0_asked_4 19 rfl rfl)
theorem dX0_asked_114 : decode cX0_asked 114 = .ok (.iinc 7 (-1), 3) := dk_132 7 255 (dk_at dksX0_asked_4 21 rfl rfl)
theorem dX0_asked_117 : decode cX0_asked 117 = .ok (.goto (-18), 3) := dk_167 255 238 (dk_at dksX0_asked_5 0 rfl rfl)
theorem dX0_asked_120 : decode cX0_asked 120 = .ok (.iload 6, 2) := dk_21 6 (dk_at dksX0_asked_5 3 rfl rfl)
theorem dX0_asked_122 : decode cX0_asked 122 = .ok (.ireturn, 1) := dk_172 (dk_at dksX0_asked_5 5 rfl rfl)
abbrev cX0_can : ByteArray := prog_1_method_41_code
def yX0_can : MethodName := ⟨RX0, "can", "(I)I"⟩
def dkwX0_can_1 : List UInt8 := [46, 42, 42, 27, 182, 0, 208, 182, 0, 238, 126, 172]
abbrev dktX0_can_1 : List UInt8 := dkwX0_can_1 ++ []
def dkwX0_can_0 : List UInt8 := [42, 27, 133, 182, 0, 186, 154, 0, 6, 16, 254, 172, 42, 182, 0, 190, 42, 180, 0, 12, 180, 0, 202, 27]
abbrev dktX0_can_0 : List UInt8 := dkwX0_can_0 ++ dktX0_can_1
theorem dksX0_can_0 : cX0_can.data.toList.drop 0 = dktX0_can_0 := by decide +kernel
theorem dksX0_can_1 : cX0_can.data.toList.drop 24 = dktX0_can_1 := dk_seg dksX0_can_0 24 rfl rfl
theorem dX0_can_0 : decode cX0_can 0 = .ok (.aload_n 0, 1) := dk_42 (dk_at dksX0_can_0 0 rfl rfl)
theorem dX0_can_1 : decode cX0_can 1 = .ok (.iload_n 1, 1) := dk_27 (dk_at dksX0_can_0 1 rfl rfl)
theorem dX0_can_2 : decode cX0_can 2 = .ok (.i2l, 1) := dk_133 (dk_at dksX0_can_0 2 rfl rfl)
theorem dX0_can_3 : decode cX0_can 3 = .ok (.invokevirtual 186, 3) := dk_182 0 186 (dk_at dksX0_can_0 3 rfl rfl)
theorem dX0_can_6 : decode cX0_can 6 = .ok (.ifCond .ne 6, 3) := dk_154 0 6 (dk_at dksX0_can_0 6 rfl rfl)
theorem dX0_can_9 : decode cX0_can 9 = .ok (.bipush (-2), 2) := dk_16 254 (dk_at dksX0_can_0 9 rfl rfl)
theorem dX0_can_11 : decode cX0_can 11 = .ok (.ireturn, 1) := dk_172 (dk_at dksX0_can_0 11 rfl rfl)
theorem dX0_can_12 : decode cX0_can 12 = .ok (.aload_n 0, 1) := dk_42 (dk_at dksX0_can_0 12 rfl rfl)
theorem dX0_can_13 : decode cX0_can 13 = .ok (.invokevirtual 190, 3) := dk_182 0 190 (dk_at dksX0_can_0 13 rfl rfl)
theorem dX0_can_16 : decode cX0_can 16 = .ok (.aload_n 0, 1) := dk_42 (dk_at dksX0_can_0 16 rfl rfl)
theorem dX0_can_17 : decode cX0_can 17 = .ok (.getfield 12, 3) := dk_180 0 12 (dk_at dksX0_can_0 17 rfl rfl)
theorem dX0_can_20 : decode cX0_can 20 = .ok (.getfield 202, 3) := dk_180 0 202 (dk_at dksX0_can_0 20 rfl rfl)
theorem dX0_can_23 : decode cX0_can 23 = .ok (.iload_n 1, 1) := dk_27 (dk_at dksX0_can_0 23 rfl rfl)
theorem dX0_can_24 : decode cX0_can 24 = .ok (.iaload, 1) := dk_46 (dk_at dksX0_can_1 0 rfl rfl)
theorem dX0_can_25 : decode cX0_can 25 = .ok (.aload_n 0, 1) := dk_42 (dk_at dksX0_can_1 1 rfl rfl)
theorem dX0_can_26 : decode cX0_can 26 = .ok (.aload_n 0, 1) := dk_42 (dk_at dksX0_can_1 2 rfl rfl)
theorem dX0_can_27 : decode cX0_can 27 = .ok (.iload_n 1, 1) := dk_27 (dk_at dksX0_can_1 3 rfl rfl)
theorem dX0_can_28 : decode cX0_can 28 = .ok (.invokevirtual 208, 3) := dk_182 0 208 (dk_at dksX0_can_1 4 rfl rfl)
theorem dX0_can_31 : decode cX0_can 31 = .ok (.invokevirtual 238, 3) := dk_182 0 238 (dk_at dksX0_can_1 7 rfl rfl)
theorem dX0_can_34 : decode cX0_can 34 = .ok (.iand, 1) := dk_126 (dk_at dksX0_can_1 10 rfl rfl)
theorem dX0_can_35 : decode cX0_can 35 = .ok (.ireturn, 1) := dk_172 (dk_at dksX0_can_1 11 rfl rfl)
abbrev cX0_deedsOf : ByteArray := prog_1_method_40_code
def yX0_deedsOf : MethodName := ⟨RX0, "deedsOf", "(I)I"⟩
def dkwX0_deedsOf_1 : List UInt8 := [42, 180, 0, 12, 180, 0, 196, 29, 46, 167, 0, 4, 3, 128, 61, 132, 3, 1, 167, 255, 218, 28, 172]
abbrev dktX0_deedsOf_1 : List UInt8 := dkwX0_deedsOf_1 ++ []
def dkwX0_deedsOf_0 : List UInt8 := [3, 61, 3, 62, 29, 42, 180, 0, 12, 180, 0, 94, 162, 0, 33, 28, 27, 29, 184, 0, 114, 153, 0, 15]
abbrev dktX0_deedsOf_0 : List UInt8 := dkwX0_deedsOf_0 ++ dktX0_deedsOf_1
theorem dksX0_deedsOf_0 : cX0_deedsOf.data.toList.drop 0 = dktX0_deedsOf_0 := by decide +kernel
theorem dksX0_deedsOf_1 : cX0_deedsOf.data.toList.drop 24 = dktX0_deedsOf_1 := dk_seg dksX0_deedsOf_0 24 rfl rfl
theorem dX0_deedsOf_0 : decode cX0_deedsOf 0 = .ok (.iconst 0, 1) := dk_3 (dk_at dksX0_deedsOf_0 0 rfl rfl)
theorem dX0_deedsOf_1 : decode cX0_deedsOf 1 = .ok (.istore_n 2, 1) := dk_61 (dk_at dksX0_deedsOf_0 1 rfl rfl)
theorem dX0_deedsOf_2 : decode cX0_deedsOf 2 = .ok (.iconst 0, 1) := dk_3 (dk_at dksX0_deedsOf_0 2 rfl rfl)
theorem dX0_deedsOf_3 : decode cX0_deedsOf 3 = .ok (.istore_n 3, 1) := dk_62 (dk_at dksX0_deedsOf_0 3 rfl rfl)
theorem dX0_deedsOf_4 : decode cX0_deedsOf 4 = .ok (.iload_n 3, 1) := dk_29 (dk_at dksX0_deedsOf_0 4 rfl rfl)
theorem dX0_deedsOf_5 : decode cX0_deedsOf 5 = .ok (.aload_n 0, 1) := dk_42 (dk_at dksX0_deedsOf_0 5 rfl rfl)
theorem dX0_deedsOf_6 : decode cX0_deedsOf 6 = .ok (.getfield 12, 3) := dk_180 0 12 (dk_at dksX0_deedsOf_0 6 rfl rfl)
theorem dX0_deedsOf_9 : decode cX0_deedsOf 9 = .ok (.getfield 94, 3) := dk_180 0 94 (dk_at dksX0_deedsOf_0 9 rfl rfl)
theorem dX0_deedsOf_12 : decode cX0_deedsOf 12 = .ok (.if_icmp .ge 33, 3) := dk_162 0 33 (dk_at dksX0_deedsOf_0 12 rfl rfl)
theorem dX0_deedsOf_15 : decode cX0_deedsOf 15 = .ok (.iload_n 2, 1) := dk_28 (dk_at dksX0_deedsOf_0 15 rfl rfl)
theorem dX0_deedsOf_16 : decode cX0_deedsOf 16 = .ok (.iload_n 1, 1) := dk_27 (dk_at dksX0_deedsOf_0 16 rfl rfl)
theorem dX0_deedsOf_17 : decode cX0_deedsOf 17 = .ok (.iload_n 3, 1) := dk_29 (dk_at dksX0_deedsOf_0 17 rfl rfl)
theorem dX0_deedsOf_18 : decode cX0_deedsOf 18 = .ok (.invokestatic 114, 3) := dk_184 0 114 (dk_at dksX0_deedsOf_0 18 rfl rfl)
theorem dX0_deedsOf_21 : decode cX0_deedsOf 21 = .ok (.ifCond .eq 15, 3) := dk_153 0 15 (dk_at dksX0_deedsOf_0 21 rfl rfl)
theorem dX0_deedsOf_24 : decode cX0_deedsOf 24 = .ok (.aload_n 0, 1) := dk_42 (dk_at dksX0_deedsOf_1 0 rfl rfl)
theorem dX0_deedsOf_25 : decode cX0_deedsOf 25 = .ok (.getfield 12, 3) := dk_180 0 12 (dk_at dksX0_deedsOf_1 1 rfl rfl)
theorem dX0_deedsOf_28 : decode cX0_deedsOf 28 = .ok (.getfield 196, 3) := dk_180 0 196 (dk_at dksX0_deedsOf_1 4 rfl rfl)
theorem dX0_deedsOf_31 : decode cX0_deedsOf 31 = .ok (.iload_n 3, 1) := dk_29 (dk_at dksX0_deedsOf_1 7 rfl rfl)
theorem dX0_deedsOf_32 : decode cX0_deedsOf 32 = .ok (.iaload, 1) := dk_46 (dk_at dksX0_deedsOf_1 8 rfl rfl)
theorem dX0_deedsOf_33 : decode cX0_deedsOf 33 = .ok (.goto 4, 3) := dk_167 0 4 (dk_at dksX0_deedsOf_1 9 rfl rfl)
theorem dX0_deedsOf_36 : decode cX0_deedsOf 36 = .ok (.iconst 0, 1) := dk_3 (dk_at dksX0_deedsOf_1 12 rfl rfl)
theorem dX0_deedsOf_37 : decode cX0_deedsOf 37 = .ok (.ior, 1) := dk_128 (dk_at dksX0_deedsOf_1 13 rfl rfl)
theorem dX0_deedsOf_38 : decode cX0_deedsOf 38 = .ok (.istore_n 2, 1) := dk_61 (dk_at dksX0_deedsOf_1 14 rfl rfl)
theorem dX0_deedsOf_39 : decode cX0_deedsOf 39 = .ok (.iinc 3 1, 3) := dk_132 3 1 (dk_at dksX0_deedsOf_1 15 rfl rfl)
theorem dX0_deedsOf_42 : decode cX0_deedsOf 42 = .ok (.goto (-38), 3) := dk_167 255 218 (dk_at dksX0_deedsOf_1 18 rfl rfl)
theorem dX0_deedsOf_45 : decode cX0_deedsOf 45 = .ok (.iload_n 2, 1) := dk_28 (dk_at dksX0_deedsOf_1 21 rfl rfl)
theorem dX0_deedsOf_46 : decode cX0_deedsOf 46 = .ok (.ireturn, 1) := dk_172 (dk_at dksX0_deedsOf_1 22 rfl rfl)
abbrev cX0_why : ByteArray := prog_1_method_44_code
def yX0_why : MethodName := ⟨RX0, "why", "(III)I"⟩
def dkwX0_why_1 : List UInt8 := [172]
abbrev dktX0_why_1 : List UInt8 := dkwX0_why_1 ++ []
def dkwX0_why_0 : List UInt8 := [42, 27, 28, 29, 182, 0, 241, 154, 0, 6, 16, 254, 172, 42, 182, 0, 190, 42, 27, 28, 29, 182, 0, 245]
abbrev dktX0_why_0 : List UInt8 := dkwX0_why_0 ++ dktX0_why_1
theorem dksX0_why_0 : cX0_why.data.toList.drop 0 = dktX0_why_0 := by decide +kernel
theorem dksX0_why_1 : cX0_why.data.toList.drop 24 = dktX0_why_1 := dk_seg dksX0_why_0 24 rfl rfl
theorem dX0_why_0 : decode cX0_why 0 = .ok (.aload_n 0, 1) := dk_42 (dk_at dksX0_why_0 0 rfl rfl)
theorem dX0_why_1 : decode cX0_why 1 = .ok (.iload_n 1, 1) := dk_27 (dk_at dksX0_why_0 1 rfl rfl)
theorem dX0_why_2 : decode cX0_why 2 = .ok (.iload_n 2, 1) := dk_28 (dk_at dksX0_why_0 2 rfl rfl)
theorem dX0_why_3 : decode cX0_why 3 = .ok (.iload_n 3, 1) := dk_29 (dk_at dksX0_why_0 3 rfl rfl)
theorem dX0_why_4 : decode cX0_why 4 = .ok (.invokevirtual 241, 3) := dk_182 0 241 (dk_at dksX0_why_0 4 rfl rfl)
theorem dX0_why_7 : decode cX0_why 7 = .ok (.ifCond .ne 6, 3) := dk_154 0 6 (dk_at dksX0_why_0 7 rfl rfl)
theorem dX0_why_10 : decode cX0_why 10 = .ok (.bipush (-2), 2) := dk_16 254 (dk_at dksX0_why_0 10 rfl rfl)
theorem dX0_why_12 : decode cX0_why 12 = .ok (.ireturn, 1) := dk_172 (dk_at dksX0_why_0 12 rfl rfl)
theorem dX0_why_13 : decode cX0_why 13 = .ok (.aload_n 0, 1) := dk_42 (dk_at dksX0_why_0 13 rfl rfl)
theorem dX0_why_14 : decode cX0_why 14 = .ok (.invokevirtual 190, 3) := dk_182 0 190 (dk_at dksX0_why_0 14 rfl rfl)
theorem dX0_why_17 : decode cX0_why 17 = .ok (.aload_n 0, 1) := dk_42 (dk_at dksX0_why_0 17 rfl rfl)
theorem dX0_why_18 : decode cX0_why 18 = .ok (.iload_n 1, 1) := dk_27 (dk_at dksX0_why_0 18 rfl rfl)
theorem dX0_why_19 : decode cX0_why 19 = .ok (.iload_n 2, 1) := dk_28 (dk_at dksX0_why_0 19 rfl rfl)
theorem dX0_why_20 : decode cX0_why 20 = .ok (.iload_n 3, 1) := dk_29 (dk_at dksX0_why_0 20 rfl rfl)
theorem dX0_why_21 : decode cX0_why 21 = .ok (.invokevirtual 245, 3) := dk_182 0 245 (dk_at dksX0_why_0 21 rfl rfl)
theorem dX0_why_24 : decode cX0_why 24 = .ok (.ireturn, 1) := dk_172 (dk_at dksX0_why_1 0 rfl rfl)
abbrev cX0_isAsking : ByteArray := prog_1_method_43_code
def yX0_isAsking : MethodName := ⟨RX0, "isAsking", "(III)Z"⟩
def dkwX0_isAsking_1 : List UInt8 := [153, 0, 7, 4, 167, 0, 4, 3, 172]
abbrev dktX0_isAsking_1 : List UInt8 := dkwX0_isAsking_1 ++ []
def dkwX0_isAsking_0 : List UInt8 := [42, 27, 133, 182, 0, 186, 153, 0, 24, 42, 28, 133, 182, 0, 186, 153, 0, 15, 29, 133, 184, 0, 232]
abbrev dktX0_isAsking_0 : List UInt8 := dkwX0_isAsking_0 ++ dktX0_isAsking_1
theorem dksX0_isAsking_0 : cX0_isAsking.data.toList.drop 0 = dktX0_isAsking_0 := by decide +kernel
theorem dksX0_isAsking_1 : cX0_isAsking.data.toList.drop 23 = dktX0_isAsking_1 := dk_seg dksX0_isAsking_0 23 rfl rfl
theorem dX0_isAsking_0 : decode cX0_isAsking 0 = .ok (.aload_n 0, 1) := dk_42 (dk_at dksX0_isAsking_0 0 rfl rfl)
theorem dX0_isAsking_1 : decode cX0_isAsking 1 = .ok (.iload_n 1, 1) := dk_27 (dk_at dksX0_isAsking_0 1 rfl rfl)
theorem dX0_isAsking_2 : decode cX0_isAsking 2 = .ok (.i2l, 1) := dk_133 (dk_at dksX0_isAsking_0 2 rfl rfl)
theorem dX0_isAsking_3 : decode cX0_isAsking 3 = .ok (.invokevirtual 186, 3) := dk_182 0 186 (dk_at dksX0_isAsking_0 3 rfl rfl)
theorem dX0_isAsking_6 : decode cX0_isAsking 6 = .ok (.ifCond .eq 24, 3) := dk_153 0 24 (dk_at dksX0_isAsking_0 6 rfl rfl)
theorem dX0_isAsking_9 : decode cX0_isAsking 9 = .ok (.aload_n 0, 1) := dk_42 (dk_at dksX0_isAsking_0 9 rfl rfl)
theorem dX0_isAsking_10 : decode cX0_isAsking 10 = .ok (.iload_n 2, 1) := dk_28 (dk_at dksX0_isAsking_0 10 rfl rfl)
theorem dX0_isAsking_11 : decode cX0_isAsking 11 = .ok (.i2l, 1) := dk_133 (dk_at dksX0_isAsking_0 11 rfl rfl)
theorem dX0_isAsking_12 : decode cX0_isAsking 12 = .ok (.invokevirtual 186, 3) := dk_182 0 186 (dk_at dksX0_isAsking_0 12 rfl rfl)
theorem dX0_isAsking_15 : decode cX0_isAsking 15 = .ok (.ifCond .eq 15, 3) := dk_153 0 15 (dk_at dksX0_isAsking_0 15 rfl rfl)
theorem dX0_isAsking_18 : decode cX0_isAsking 18 = .ok (.iload_n 3, 1) := dk_29 (dk_at dksX0_isAsking_0 18 rfl rfl)
theorem dX0_isAsking_19 : decode cX0_isAsking 19 = .ok (.i2l, 1) := dk_133 (dk_at dksX0_isAsking_0 19 rfl rfl)
theorem dX0_isAsking_20 : decode cX0_isAsking 20 = .ok (.invokestatic 232, 3) := dk_184 0 232 (dk_at dksX0_isAsking_0 20 rfl rfl)
theorem dX0_isAsking_23 : decode cX0_isAsking 23 = .ok (.ifCond .eq 7, 3) := dk_153 0 7 (dk_at dksX0_isAsking_1 0 rfl rfl)
theorem dX0_isAsking_26 : decode cX0_isAsking 26 = .ok (.iconst 1, 1) := dk_4 (dk_at dksX0_isAsking_1 3 rfl rfl)
theorem dX0_isAsking_27 : decode cX0_isAsking 27 = .ok (.goto 4, 3) := dk_167 0 4 (dk_at dksX0_isAsking_1 4 rfl rfl)
theorem dX0_isAsking_30 : decode cX0_isAsking 30 = .ok (.iconst 0, 1) := dk_3 (dk_at dksX0_isAsking_1 7 rfl rfl)
theorem dX0_isAsking_31 : decode cX0_isAsking 31 = .ok (.ireturn, 1) := dk_172 (dk_at dksX0_isAsking_1 8 rfl rfl)
abbrev cX0_whyNot : ByteArray := prog_1_method_42_code
def yX0_whyNot : MethodName := ⟨RX0, "whyNot", "(III)I"⟩
def dkwX0_whyNot_2 : List UInt8 := [167, 0, 4, 6, 172]
abbrev dktX0_whyNot_2 : List UInt8 := dkwX0_whyNot_2 ++ []
def dkwX0_whyNot_1 : List UInt8 := [172, 29, 2, 159, 0, 19, 42, 180, 0, 12, 180, 0, 196, 28, 46, 29, 184, 0, 114, 153, 0, 7, 3]
abbrev dktX0_whyNot_1 : List UInt8 := dkwX0_whyNot_1 ++ dktX0_whyNot_2
def dkwX0_whyNot_0 : List UInt8 := [42, 180, 0, 24, 28, 46, 27, 159, 0, 5, 4, 172, 42, 180, 0, 124, 28, 184, 0, 114, 153, 0, 5, 5]
abbrev dktX0_whyNot_0 : List UInt8 := dkwX0_whyNot_0 ++ dktX0_whyNot_1
theorem dksX0_whyNot_0 : cX0_whyNot.data.toList.drop 0 = dktX0_whyNot_0 := by decide +kernel
theorem dksX0_whyNot_1 : cX0_whyNot.data.toList.drop 24 = dktX0_whyNot_1 := dk_seg dksX0_whyNot_0 24 rfl rfl
theorem dksX0_whyNot_2 : cX0_whyNot.data.toList.drop 47 = dktX0_whyNot_2 := dk_seg dksX0_whyNot_1 23 rfl rfl
theorem dX0_whyNot_0 : decode cX0_whyNot 0 = .ok (.aload_n 0, 1) := dk_42 (dk_at dksX0_whyNot_0 0 rfl rfl)
theorem dX0_whyNot_1 : decode cX0_whyNot 1 = .ok (.getfield 24, 3) := dk_180 0 24 (dk_at dksX0_whyNot_0 1 rfl rfl)
theorem dX0_whyNot_4 : decode cX0_whyNot 4 = .ok (.iload_n 2, 1) := dk_28 (dk_at dksX0_whyNot_0 4 rfl rfl)
theorem dX0_whyNot_5 : decode cX0_whyNot 5 = .ok (.iaload, 1) := dk_46 (dk_at dksX0_whyNot_0 5 rfl rfl)
theorem dX0_whyNot_6 : decode cX0_whyNot 6 = .ok (.iload_n 1, 1) := dk_27 (dk_at dksX0_whyNot_0 6 rfl rfl)
theorem dX0_whyNot_7 : decode cX0_whyNot 7 = .ok (.if_icmp .eq 5, 3) := dk_159 0 5 (dk_at dksX0_whyNot_0 7 rfl rfl)
theorem dX0_whyNot_10 : decode cX0_whyNot 10 = .ok (.iconst 1, 1) := dk_4 (dk_at dksX0_whyNot_0 10 rfl rfl)
theorem dX0_whyNot_11 : decode cX0_whyNot 11 = .ok (.ireturn, 1) := dk_172 (dk_at dksX0_whyNot_0 11 rfl rfl)
theorem dX0_whyNot_12 : decode cX0_whyNot 12 = .ok (.aload_n 0, 1) := dk_42 (dk_at dksX0_whyNot_0 12 rfl rfl)
theorem dX0_whyNot_13 : decode cX0_whyNot 13 = .ok (.getfield 124, 3) := dk_180 0 124 (dk_at dksX0_whyNot_0 13 rfl rfl)
theorem dX0_whyNot_16 : decode cX0_whyNot 16 = .ok (.iload_n 2, 1) := dk_28 (dk_at dksX0_whyNot_0 16 rfl rfl)
theorem dX0_whyNot_17 : decode cX0_whyNot 17 = .ok (.invokestatic 114, 3) := dk_184 0 114 (dk_at dksX0_whyNot_0 17 rfl rfl)
theorem dX0_whyNot_20 : decode cX0_whyNot 20 = .ok (.ifCond .eq 5, 3) := dk_153 0 5 (dk_at dksX0_whyNot_0 20 rfl rfl)
theorem dX0_whyNot_23 : decode cX0_whyNot 23 = .ok (.iconst 2, 1) := dk_5 (dk_at dksX0_whyNot_0 23 rfl rfl)
theorem dX0_whyNot_24 : decode cX0_whyNot 24 = .ok (.ireturn, 1) := dk_172 (dk_at dksX0_whyNot_1 0 rfl rfl)
theorem dX0_whyNot_25 : decode cX0_whyNot 25 = .ok (.iload_n 3, 1) := dk_29 (dk_at dksX0_whyNot_1 1 rfl rfl)
theorem dX0_whyNot_26 : decode cX0_whyNot 26 = .ok (.iconst (-1), 1) := dk_2 (dk_at dksX0_whyNot_1 2 rfl rfl)
theorem dX0_whyNot_27 : decode cX0_whyNot 27 = .ok (.if_icmp .eq 19, 3) := dk_159 0 19 (dk_at dksX0_whyNot_1 3 rfl rfl)
theorem dX0_whyNot_30 : decode cX0_whyNot 30 = .ok (.aload_n 0, 1) := dk_42 (dk_at dksX0_whyNot_1 6 rfl rfl)
theorem dX0_whyNot_31 : decode cX0_whyNot 31 = .ok (.getfield 12, 3) := dk_180 0 12 (dk_at dksX0_whyNot_1 7 rfl rfl)
theorem dX0_whyNot_34 : decode cX0_whyNot 34 = .ok (.getfield 196, 3) := dk_180 0 196 (dk_at dksX0_whyNot_1 10 rfl rfl)
theorem dX0_whyNot_37 : decode cX0_whyNot 37 = .ok (.iload_n 2, 1) := dk_28 (dk_at dksX0_whyNot_1 13 rfl rfl)
theorem dX0_whyNot_38 : decode cX0_whyNot 38 = .ok (.iaload, 1) := dk_46 (dk_at dksX0_whyNot_1 14 rfl rfl)
theorem dX0_whyNot_39 : decode cX0_whyNot 39 = .ok (.iload_n 3, 1) := dk_29 (dk_at dksX0_whyNot_1 15 rfl rfl)
theorem dX0_whyNot_40 : decode cX0_whyNot 40 = .ok (.invokestatic 114, 3) := dk_184 0 114 (dk_at dksX0_whyNot_1 16 rfl rfl)
theorem dX0_whyNot_43 : decode cX0_whyNot 43 = .ok (.ifCond .eq 7, 3) := dk_153 0 7 (dk_at dksX0_whyNot_1 19 rfl rfl)
theorem dX0_whyNot_46 : decode cX0_whyNot 46 = .ok (.iconst 0, 1) := dk_3 (dk_at dksX0_whyNot_1 22 rfl rfl)
theorem dX0_whyNot_47 : decode cX0_whyNot 47 = .ok (.goto 4, 3) := dk_167 0 4 (dk_at dksX0_whyNot_2 0 rfl rfl)
theorem dX0_whyNot_50 : decode cX0_whyNot 50 = .ok (.iconst 3, 1) := dk_6 (dk_at dksX0_whyNot_2 3 rfl rfl)
theorem dX0_whyNot_51 : decode cX0_whyNot 51 = .ok (.ireturn, 1) := dk_172 (dk_at dksX0_whyNot_2 4 rfl rfl)
abbrev cX0_ask : ByteArray := prog_1_method_45_code
def yX0_ask : MethodName := ⟨RX0, "ask", "(III)I"⟩
def dkwX0_ask_2 : List UInt8 := [182, 0, 249, 42, 28, 182, 0, 205, 42, 180, 0, 28, 28, 46, 100, 172]
abbrev dktX0_ask_2 : List UInt8 := dkwX0_ask_2 ++ []
def dkwX0_ask_1 : List UInt8 := [154, 0, 15, 42, 180, 0, 12, 180, 0, 143, 16, 40, 160, 0, 6, 16, 251, 172, 42, 3, 27, 28, 29, 3]
abbrev dktX0_ask_1 : List UInt8 := dkwX0_ask_1 ++ dktX0_ask_2
def dkwX0_ask_0 : List UInt8 := [42, 27, 28, 29, 182, 0, 241, 154, 0, 6, 16, 254, 172, 42, 182, 0, 190, 42, 27, 28, 29, 182, 0, 245]
abbrev dktX0_ask_0 : List UInt8 := dkwX0_ask_0 ++ dktX0_ask_1
theorem dksX0_ask_0 : cX0_ask.data.toList.drop 0 = dktX0_ask_0 := by decide +kernel
theorem dksX0_ask_1 : cX0_ask.data.toList.drop 24 = dktX0_ask_1 := dk_seg dksX0_ask_0 24 rfl rfl
theorem dksX0_ask_2 : cX0_ask.data.toList.drop 48 = dktX0_ask_2 := dk_seg dksX0_ask_1 24 rfl rfl
theorem dX0_ask_0 : decode cX0_ask 0 = .ok (.aload_n 0, 1) := dk_42 (dk_at dksX0_ask_0 0 rfl rfl)
theorem dX0_ask_1 : decode cX0_ask 1 = .ok (.iload_n 1, 1) := dk_27 (dk_at dksX0_ask_0 1 rfl rfl)
theorem dX0_ask_2 : decode cX0_ask 2 = .ok (.iload_n 2, 1) := dk_28 (dk_at dksX0_ask_0 2 rfl rfl)
theorem dX0_ask_3 : decode cX0_ask 3 = .ok (.iload_n 3, 1) := dk_29 (dk_at dksX0_ask_0 3 rfl rfl)
theorem dX0_ask_4 : decode cX0_ask 4 = .ok (.invokevirtual 241, 3) := dk_182 0 241 (dk_at dksX0_ask_0 4 rfl rfl)
theorem dX0_ask_7 : decode cX0_ask 7 = .ok (.ifCond .ne 6, 3) := dk_154 0 6 (dk_at dksX0_ask_0 7 rfl rfl)
theorem dX0_ask_10 : decode cX0_ask 10 = .ok (.bipush (-2), 2) := dk_16 254 (dk_at dksX0_ask_0 10 rfl rfl)
theorem dX0_ask_12 : decode cX0_ask 12 = .ok (.ireturn, 1) := dk_172 (dk_at dksX0_ask_0 12 rfl rfl)
theorem dX0_ask_13 : decode cX0_ask 13 = .ok (.aload_n 0, 1) := dk_42 (dk_at dksX0_ask_0 13 rfl rfl)
theorem dX0_ask_14 : decode cX0_ask 14 = .ok (.invokevirtual 190, 3) := dk_182 0 190 (dk_at dksX0_ask_0 14 rfl rfl)
theorem dX0_ask_17 : decode cX0_ask 17 = .ok (.aload_n 0, 1) := dk_42 (dk_at dksX0_ask_0 17 rfl rfl)
theorem dX0_ask_18 : decode cX0_ask 18 = .ok (.iload_n 1, 1) := dk_27 (dk_at dksX0_ask_0 18 rfl rfl)
theorem dX0_ask_19 : decode cX0_ask 19 = .ok (.iload_n 2, 1) := dk_28 (dk_at dksX0_ask_0 19 rfl rfl)
theorem dX0_ask_20 : decode cX0_ask 20 = .ok (.iload_n 3, 1) := dk_29 (dk_at dksX0_ask_0 20 rfl rfl)
theorem dX0_ask_21 : decode cX0_ask 21 = .ok (.invokevirtual 245, 3) := dk_182 0 245 (dk_at dksX0_ask_0 21 rfl rfl)
theorem dX0_ask_24 : decode cX0_ask 24 = .ok (.ifCond .ne 15, 3) := dk_154 0 15 (dk_at dksX0_ask_1 0 rfl rfl)
theorem dX0_ask_27 : decode cX0_ask 27 = .ok (.aload_n 0, 1) := dk_42 (dk_at dksX0_ask_1 3 rfl rfl)
theorem dX0_ask_28 : decode cX0_ask 28 = .ok (.getfield 12, 3) := dk_180 0 12 (dk_at dksX0_ask_1 4 rfl rfl)
theorem dX0_ask_31 : decode cX0_ask 31 = .ok (.getfield 143, 3) := dk_180 0 143 (dk_at dksX0_ask_1 7 rfl rfl)
theorem dX0_ask_34 : decode cX0_ask 34 = .ok (.bipush 40, 2) := dk_16 40 (dk_at dksX0_ask_1 10 rfl rfl)
theorem dX0_ask_36 : decode cX0_ask 36 = .ok (.if_icmp .ne 6, 3) := dk_160 0 6 (dk_at dksX0_ask_1 12 rfl rfl)
theorem dX0_ask_39 : decode cX0_ask 39 = .ok (.bipush (-5), 2) := dk_16 251 (dk_at dksX0_ask_1 15 rfl rfl)
theorem dX0_ask_41 : decode cX0_ask 41 = .ok (.ireturn, 1) := dk_172 (dk_at dksX0_ask_1 17 rfl rfl)
theorem dX0_ask_42 : decode cX0_ask 42 = .ok (.aload_n 0, 1) := dk_42 (dk_at dksX0_ask_1 18 rfl rfl)
theorem dX0_ask_43 : decode cX0_ask 43 = .ok (.iconst 0, 1) := dk_3 (dk_at dksX0_ask_1 19 rfl rfl)
theorem dX0_ask_44 : decode cX0_ask 44 = .ok (.iload_n 1, 1) := dk_27 (dk_at dksX0_ask_1 20 rfl rfl)
theorem dX0_ask_45 : decode cX0_ask 45 = .ok (.iload_n 2, 1) := dk_28 (dk_at dksX0_ask_1 21 rfl rfl)
theorem dX0_ask_46 : decode cX0_ask 46 = .ok (.iload_n 3, 1) := dk_29 (dk_at dksX0_ask_1 22 rfl rfl)
theorem dX0_ask_47 : decode cX0_ask 47 = .ok (.iconst 0, 1) := dk_3 (dk_at dksX0_ask_1 23 rfl rfl)
theorem dX0_ask_48 : decode cX0_ask 48 = .ok (.invokevirtual 249, 3) := dk_182 0 249 (dk_at dksX0_ask_2 0 rfl rfl)
theorem dX0_ask_51 : decode cX0_ask 51 = .ok (.aload_n 0, 1) := dk_42 (dk_at dksX0_ask_2 3 rfl rfl)
theorem dX0_ask_52 : decode cX0_ask 52 = .ok (.iload_n 2, 1) := dk_28 (dk_at dksX0_ask_2 4 rfl rfl)
theorem dX0_ask_53 : decode cX0_ask 53 = .ok (.invokevirtual 205, 3) := dk_182 0 205 (dk_at dksX0_ask_2 5 rfl rfl)
theorem dX0_ask_56 : decode cX0_ask 56 = .ok (.aload_n 0, 1) := dk_42 (dk_at dksX0_ask_2 8 rfl rfl)
theorem dX0_ask_57 : decode cX0_ask 57 = .ok (.getfield 28, 3) := dk_180 0 28 (dk_at dksX0_ask_2 9 rfl rfl)
theorem dX0_ask_60 : decode cX0_ask 60 = .ok (.iload_n 2, 1) := dk_28 (dk_at dksX0_ask_2 12 rfl rfl)
theorem dX0_ask_61 : decode cX0_ask 61 = .ok (.iaload, 1) := dk_46 (dk_at dksX0_ask_2 13 rfl rfl)
theorem dX0_ask_62 : decode cX0_ask 62 = .ok (.isub, 1) := dk_100 (dk_at dksX0_ask_2 14 rfl rfl)
theorem dX0_ask_63 : decode cX0_ask 63 = .ok (.ireturn, 1) := dk_172 (dk_at dksX0_ask_2 15 rfl rfl)
abbrev cX0_keeps : ByteArray := prog_1_method_22_code
def yX0_keeps : MethodName := ⟨RX0, "keeps", "(IIIII)V"⟩
def dkwX0_keeps_2 : List UInt8 := [89, 180, 0, 143, 4, 96, 181, 0, 143, 42, 21, 6, 182, 0, 149, 177]
abbrev dktX0_keeps_2 : List UInt8 := dkwX0_keeps_2 ++ []
def dkwX0_keeps_1 : List UInt8 := [96, 54, 6, 42, 180, 0, 12, 180, 0, 146, 42, 180, 0, 12, 180, 0, 143, 21, 6, 79, 42, 180, 0, 12]
abbrev dktX0_keeps_1 : List UInt8 := dkwX0_keeps_1 ++ dktX0_keeps_2
def dkwX0_keeps_0 : List UInt8 := [17, 39, 16, 27, 104, 17, 3, 232, 28, 104, 96, 16, 100, 29, 104, 96, 16, 10, 21, 4, 104, 96, 21, 5]
abbrev dktX0_keeps_0 : List UInt8 := dkwX0_keeps_0 ++ dktX0_keeps_1
theorem dksX0_keeps_0 : cX0_keeps.data.toList.drop 0 = dktX0_keeps_0 := by decide +kernel
theorem dksX0_keeps_1 : cX0_keeps.data.toList.drop 24 = dktX0_keeps_1 := dk_seg dksX0_keeps_0 24 rfl rfl
theorem dksX0_keeps_2 : cX0_keeps.data.toList.drop 48 = dktX0_keeps_2 := dk_seg dksX0_keeps_1 24 rfl rfl
theorem dX0_keeps_0 : decode cX0_keeps 0 = .ok (.sipush 10000, 3) := dk_17 39 16 (dk_at dksX0_keeps_0 0 rfl rfl)
theorem dX0_keeps_3 : decode cX0_keeps 3 = .ok (.iload_n 1, 1) := dk_27 (dk_at dksX0_keeps_0 3 rfl rfl)
theorem dX0_keeps_4 : decode cX0_keeps 4 = .ok (.imul, 1) := dk_104 (dk_at dksX0_keeps_0 4 rfl rfl)
theorem dX0_keeps_5 : decode cX0_keeps 5 = .ok (.sipush 1000, 3) := dk_17 3 232 (dk_at dksX0_keeps_0 5 rfl rfl)
theorem dX0_keeps_8 : decode cX0_keeps 8 = .ok (.iload_n 2, 1) := dk_28 (dk_at dksX0_keeps_0 8 rfl rfl)
theorem dX0_keeps_9 : decode cX0_keeps 9 = .ok (.imul, 1) := dk_104 (dk_at dksX0_keeps_0 9 rfl rfl)
theorem dX0_keeps_10 : decode cX0_keeps 10 = .ok (.iadd, 1) := dk_96 (dk_at dksX0_keeps_0 10 rfl rfl)
theorem dX0_keeps_11 : decode cX0_keeps 11 = .ok (.bipush 100, 2) := dk_16 100 (dk_at dksX0_keeps_0 11 rfl rfl)
theorem dX0_keeps_13 : decode cX0_keeps 13 = .ok (.iload_n 3, 1) := dk_29 (dk_at dksX0_keeps_0 13 rfl rfl)
theorem dX0_keeps_14 : decode cX0_keeps 14 = .ok (.imul, 1) := dk_104 (dk_at dksX0_keeps_0 14 rfl rfl)
theorem dX0_keeps_15 : decode cX0_keeps 15 = .ok (.iadd, 1) := dk_96 (dk_at dksX0_keeps_0 15 rfl rfl)
theorem dX0_keeps_16 : decode cX0_keeps 16 = .ok (.bipush 10, 2) := dk_16 10 (dk_at dksX0_keeps_0 16 rfl rfl)
theorem dX0_keeps_18 : decode cX0_keeps 18 = .ok (.iload 4, 2) := dk_21 4 (dk_at dksX0_keeps_0 18 rfl rfl)
theorem dX0_keeps_20 : decode cX0_keeps 20 = .ok (.imul, 1) := dk_104 (dk_at dksX0_keeps_0 20 rfl rfl)
theorem dX0_keeps_21 : decode cX0_keeps 21 = .ok (.iadd, 1) := dk_96 (dk_at dksX0_keeps_0 21 rfl rfl)
theorem dX0_keeps_22 : decode cX0_keeps 22 = .ok (.iload 5, 2) := dk_21 5 (dk_at dksX0_keeps_0 22 rfl rfl)
theorem dX0_keeps_24 : decode cX0_keeps 24 = .ok (.iadd, 1) := dk_96 (dk_at dksX0_keeps_1 0 rfl rfl)
theorem dX0_keeps_25 : decode cX0_keeps 25 = .ok (.istore 6, 2) := dk_54 6 (dk_at dksX0_keeps_1 1 rfl rfl)
theorem dX0_keeps_27 : decode cX0_keeps 27 = .ok (.aload_n 0, 1) := dk_42 (dk_at dksX0_keeps_1 3 rfl rfl)
theorem dX0_keeps_28 : decode cX0_keeps 28 = .ok (.getfield 12, 3) := dk_180 0 12 (dk_at dksX0_keeps_1 4 rfl rfl)
theorem dX0_keeps_31 : decode cX0_keeps 31 = .ok (.getfield 146, 3) := dk_180 0 146 (dk_at dksX0_keeps_1 7 rfl rfl)
theorem dX0_keeps_34 : decode cX0_keeps 34 = .ok (.aload_n 0, 1) := dk_42 (dk_at dksX0_keeps_1 10 rfl rfl)
theorem dX0_keeps_35 : decode cX0_keeps 35 = .ok (.getfield 12, 3) := dk_180 0 12 (dk_at dksX0_keeps_1 11 rfl rfl)
theorem dX0_keeps_38 : decode cX0_keeps 38 = .ok (.getfield 143, 3) := dk_180 0 143 (dk_at dksX0_keeps_1 14 rfl rfl)
theorem dX0_keeps_41 : decode cX0_keeps 41 = .ok (.iload 6, 2) := dk_21 6 (dk_at dksX0_keeps_1 17 rfl rfl)
theorem dX0_keeps_43 : decode cX0_keeps 43 = .ok (.iastore, 1) := dk_79 (dk_at dksX0_keeps_1 19 rfl rfl)
theorem dX0_keeps_44 : decode cX0_keeps 44 = .ok (.aload_n 0, 1) := dk_42 (dk_at dksX0_keeps_1 20 rfl rfl)
theorem dX0_keeps_45 : decode cX0_keeps 45 = .ok (.getfield 12, 3) := dk_180 0 12 (dk_at dksX0_keeps_1 21 rfl rfl)
theorem dX0_keeps_48 : decode cX0_keeps 48 = .ok (.dup, 1) := dk_89 (dk_at dksX0_keeps_2 0 rfl rfl)
theorem dX0_keeps_49 : decode cX0_keeps 49 = .ok (.getfield 143, 3) := dk_180 0 143 (dk_at dksX0_keeps_2 1 rfl rfl)
theorem dX0_keeps_52 : decode cX0_keeps 52 = .ok (.iconst 1, 1) := dk_4 (dk_at dksX0_keeps_2 4 rfl rfl)
theorem dX0_keeps_53 : decode cX0_keeps 53 = .ok (.iadd, 1) := dk_96 (dk_at dksX0_keeps_2 5 rfl rfl)
theorem dX0_keeps_54 : decode cX0_keeps 54 = .ok (.putfield 143, 3) := dk_181 0 143 (dk_at dksX0_keeps_2 6 rfl rfl)
theorem dX0_keeps_57 : decode cX0_keeps 57 = .ok (.aload_n 0, 1) := dk_42 (dk_at dksX0_keeps_2 9 rfl rfl)
theorem dX0_keeps_58 : decode cX0_keeps 58 = .ok (.iload 6, 2) := dk_21 6 (dk_at dksX0_keeps_2 10 rfl rfl)
theorem dX0_keeps_60 : decode cX0_keeps 60 = .ok (.invokevirtual 149, 3) := dk_182 0 149 (dk_at dksX0_keeps_2 12 rfl rfl)
theorem dX0_keeps_63 : decode cX0_keeps 63 = .ok (.return_, 1) := dk_177 (dk_at dksX0_keeps_2 15 rfl rfl)
abbrev cX0_give : ByteArray := prog_1_method_46_code
def yX0_give : MethodName := ⟨RX0, "give", "(IIII)I"⟩
def dkwX0_give_3 : List UInt8 := [16, 40, 160, 0, 6, 16, 251, 172, 42, 4, 27, 28, 29, 21, 4, 182, 0, 249, 3, 172]
abbrev dktX0_give_3 : List UInt8 := dkwX0_give_3 ++ []
def dkwX0_give_2 : List UInt8 := [182, 0, 245, 154, 0, 25, 42, 180, 0, 24, 29, 46, 28, 160, 0, 15, 42, 180, 0, 12, 180, 0, 143]
abbrev dktX0_give_2 : List UInt8 := dkwX0_give_2 ++ dktX0_give_3
def dkwX0_give_1 : List UInt8 := [153, 0, 13, 42, 21, 4, 133, 182, 0, 186, 154, 0, 6, 16, 254, 172, 42, 182, 0, 190, 42, 27, 28, 2]
abbrev dktX0_give_1 : List UInt8 := dkwX0_give_1 ++ dktX0_give_2
def dkwX0_give_0 : List UInt8 := [42, 27, 133, 182, 0, 186, 153, 0, 31, 42, 28, 133, 182, 0, 186, 153, 0, 22, 42, 29, 133, 182, 0, 186]
abbrev dktX0_give_0 : List UInt8 := dkwX0_give_0 ++ dktX0_give_1
theorem dksX0_give_0 : cX0_give.data.toList.drop 0 = dktX0_give_0 := by decide +kernel
theorem dksX0_give_1 : cX0_give.data.toList.drop 24 = dktX0_give_1 := dk_seg dksX0_give_0 24 rfl rfl
theorem dksX0_give_2 : cX0_give.data.toList.drop 48 = dktX0_give_2 := dk_seg dksX0_give_1 24 rfl rfl
theorem dksX0_give_3 : cX0_give.data.toList.drop 71 = dktX0_give_3 := dk_seg dksX0_give_2 23 rfl rfl
theorem dX0_give_0 : decode cX0_give 0 = .ok (.aload_n 0, 1) := dk_42 (dk_at dksX0_give_0 0 rfl rfl)
theorem dX0_give_1 : decode cX0_give 1 = .ok (.iload_n 1, 1) := dk_27 (dk_at dksX0_give_0 1 rfl rfl)
theorem dX0_give_2 : decode cX0_give 2 = .ok (.i2l, 1) := dk_133 (dk_at dksX0_give_0 2 rfl rfl)
theorem dX0_give_3 : decode cX0_give 3 = .ok (.invokevirtual 186, 3) := dk_182 0 186 (dk_at dksX0_give_0 3 rfl rfl)
theorem dX0_give_6 : decode cX0_give 6 = .ok (.ifCond .eq 31, 3) := dk_153 0 31 (dk_at dksX0_give_0 6 rfl rfl)
theorem dX0_give_9 : decode cX0_give 9 = .ok (.aload_n 0, 1) := dk_42 (dk_at dksX0_give_0 9 rfl rfl)
theorem dX0_give_10 : decode cX0_give 10 = .ok (.iload_n 2, 1) := dk_28 (dk_at dksX0_give_0 10 rfl rfl)
theorem dX0_give_11 : decode cX0_give 11 = .ok (.i2l, 1) := dk_133 (dk_at dksX0_give_0 11 rfl rfl)
theorem dX0_give_12 : decode cX0_give 12 = .ok (.invokevirtual 186, 3) := dk_182 0 186 (dk_at dksX0_give_0 12 rfl rfl)
theorem dX0_give_15 : decode cX0_give 15 = .ok (.ifCond .eq 22, 3) := dk_153 0 22 (dk_at dksX0_give_0 15 rfl rfl)
theorem dX0_give_18 : decode cX0_give 18 = .ok (.aload_n 0, 1) := dk_42 (dk_at dksX0_give_0 18 rfl rfl)
theorem dX0_give_19 : decode cX0_give 19 = .ok (.iload_n 3, 1) := dk_29 (dk_at dksX0_give_0 19 rfl rfl)
theorem dX0_give_20 : decode cX0_give 20 = .ok (.i2l, 1) := dk_133 (dk_at dksX0_give_0 20 rfl rfl)
theorem dX0_give_21 : decode cX0_give 21 = .ok (.invokevirtual 186, 3) := dk_182 0 186 (dk_at dksX0_give_0 21 rfl rfl)
theorem dX0_give_24 : decode cX0_give 24 = .ok (.ifCond .eq 13, 3) := dk_153 0 13 (dk_at dksX0_give_1 0 rfl rfl)
theorem dX0_give_27 : decode cX0_give 27 = .ok (.aload_n 0, 1) := dk_42 (dk_at dksX0_give_1 3 rfl rfl)
theorem dX0_give_28 : decode cX0_give 28 = .ok (.iload 4, 2) := dk_21 4 (dk_at dksX0_give_1 4 rfl rfl)
theorem dX0_give_30 : decode cX0_give 30 = .ok (.i2l, 1) := dk_133 (dk_at dksX0_give_1 6 rfl rfl)
theorem dX0_give_31 : decode cX0_give 31 = .ok (.invokevirtual 186, 3) := dk_182 0 186 (dk_at dksX0_give_1 7 rfl rfl)
theorem dX0_give_34 : decode cX0_give 34 = .ok (.ifCond .ne 6, 3) := dk_154 0 6 (dk_at dksX0_give_1 10 rfl rfl)
theorem dX0_give_37 : decode cX0_give 37 = .ok (.bipush (-2), 2) := dk_16 254 (dk_at dksX0_give_1 13 rfl rfl)
theorem dX0_give_39 : decode cX0_give 39 = .ok (.ireturn, 1) := dk_172 (dk_at dksX0_give_1 15 rfl rfl)
theorem dX0_give_40 : decode cX0_give 40 = .ok (.aload_n 0, 1) := dk_42 (dk_at dksX0_give_1 16 rfl rfl)
theorem dX0_give_41 : decode cX0_give 41 = .ok (.invokevirtual 190, 3) := dk_182 0 190 (dk_at dksX0_give_1 17 rfl rfl)
theorem dX0_give_44 : decode cX0_give 44 = .ok (.aload_n 0, 1) := dk_42 (dk_at dksX0_give_1 20 rfl rfl)
theorem dX0_give_45 : decode cX0_give 45 = .ok (.iload_n 1, 1) := dk_27 (dk_at dksX0_give_1 21 rfl rfl)
theorem dX0_give_46 : decode cX0_give 46 = .ok (.iload_n 2, 1) := dk_28 (dk_at dksX0_give_1 22 rfl rfl)
theorem dX0_give_47 : decode cX0_give 47 = .ok (.iconst (-1), 1) := dk_2 (dk_at dksX0_give_1 23 rfl rfl)
theorem dX0_give_48 : decode cX0_give 48 = .ok (.invokevirtual 245, 3) := dk_182 0 245 (dk_at dksX0_give_2 0 rfl rfl)
theorem dX0_give_51 : decode cX0_give 51 = .ok (.ifCond .ne 25, 3) := dk_154 0 25 (dk_at dksX0_give_2 3 rfl rfl)
theorem dX0_give_54 : decode cX0_give 54 = .ok (.aload_n 0, 1) := dk_42 (dk_at dksX0_give_2 6 rfl rfl)
theorem dX0_give_55 : decode cX0_give 55 = .ok (.getfield 24, 3) := dk_180 0 24 (dk_at dksX0_give_2 7 rfl rfl)
theorem dX0_give_58 : decode cX0_give 58 = .ok (.iload_n 3, 1) := dk_29 (dk_at dksX0_give_2 10 rfl rfl)
theorem dX0_give_59 : decode cX0_give 59 = .ok (.iaload, 1) := dk_46 (dk_at dksX0_give_2 11 rfl rfl)
theorem dX0_give_60 : decode cX0_give 60 = .ok (.iload_n 2, 1) := dk_28 (dk_at dksX0_give_2 12 rfl rfl)
theorem dX0_give_61 : decode cX0_give 61 = .ok (.if_icmp .ne 15, 3) := dk_160 0 15 (dk_at dksX0_give_2 13 rfl rfl)
theorem dX0_give_64 : decode cX0_give 64 = .ok (.aload_n 0, 1) := dk_42 (dk_at dksX0_give_2 16 rfl rfl)
theorem dX0_give_65 : decode cX0_give 65 = .ok (.getfield 12, 3) := dk_180 0 12 (dk_at dksX0_give_2 17 rfl rfl)
theorem dX0_give_68 : decode cX0_give 68 = .ok (.getfield 143, 3) := dk_180 0 143 (dk_at dksX0_give_2 20 rfl rfl)
theorem dX0_give_71 : decode cX0_give 71 = .ok (.bipush 40, 2) := dk_16 40 (dk_at dksX0_give_3 0 rfl rfl)
theorem dX0_give_73 : decode cX0_give 73 = .ok (.if_icmp .ne 6, 3) := dk_160 0 6 (dk_at dksX0_give_3 2 rfl rfl)
theorem dX0_give_76 : decode cX0_give 76 = .ok (.bipush (-5), 2) := dk_16 251 (dk_at dksX0_give_3 5 rfl rfl)
theorem dX0_give_78 : decode cX0_give 78 = .ok (.ireturn, 1) := dk_172 (dk_at dksX0_give_3 7 rfl rfl)
theorem dX0_give_79 : decode cX0_give 79 = .ok (.aload_n 0, 1) := dk_42 (dk_at dksX0_give_3 8 rfl rfl)
theorem dX0_give_80 : decode cX0_give 80 = .ok (.iconst 1, 1) := dk_4 (dk_at dksX0_give_3 9 rfl rfl)
theorem dX0_give_81 : decode cX0_give 81 = .ok (.iload_n 1, 1) := dk_27 (dk_at dksX0_give_3 10 rfl rfl)
theorem dX0_give_82 : decode cX0_give 82 = .ok (.iload_n 2, 1) := dk_28 (dk_at dksX0_give_3 11 rfl rfl)
theorem dX0_give_83 : decode cX0_give 83 = .ok (.iload_n 3, 1) := dk_29 (dk_at dksX0_give_3 12 rfl rfl)
theorem dX0_give_84 : decode cX0_give 84 = .ok (.iload 4, 2) := dk_21 4 (dk_at dksX0_give_3 13 rfl rfl)
theorem dX0_give_86 : decode cX0_give 86 = .ok (.invokevirtual 249, 3) := dk_182 0 249 (dk_at dksX0_give_3 15 rfl rfl)
theorem dX0_give_89 : decode cX0_give 89 = .ok (.iconst 0, 1) := dk_3 (dk_at dksX0_give_3 18 rfl rfl)
theorem dX0_give_90 : decode cX0_give 90 = .ok (.ireturn, 1) := dk_172 (dk_at dksX0_give_3 19 rfl rfl)
abbrev cX0_swap : ByteArray := prog_1_method_47_code
def yX0_swap : MethodName := ⟨RX0, "swap", "(II)I"⟩
def dkwX0_swap_3 : List UInt8 := [180, 0, 143, 16, 40, 160, 0, 6, 16, 251, 172, 42, 5, 27, 28, 3, 3, 182, 0, 249, 3, 172]
abbrev dktX0_swap_3 : List UInt8 := dkwX0_swap_3 ++ []
def dkwX0_swap_2 : List UInt8 := [159, 0, 30, 42, 180, 0, 24, 27, 46, 42, 180, 0, 24, 28, 46, 159, 0, 15, 42, 180, 0, 12]
abbrev dktX0_swap_2 : List UInt8 := dkwX0_swap_2 ++ dktX0_swap_3
def dkwX0_swap_1 : List UInt8 := [16, 254, 172, 42, 182, 0, 190, 42, 180, 0, 24, 27, 46, 2, 159, 0, 40, 42, 180, 0, 24, 28, 46, 2]
abbrev dktX0_swap_1 : List UInt8 := dkwX0_swap_1 ++ dktX0_swap_2
def dkwX0_swap_0 : List UInt8 := [42, 27, 133, 182, 0, 186, 153, 0, 17, 42, 28, 133, 182, 0, 186, 153, 0, 8, 27, 28, 160, 0, 6]
abbrev dktX0_swap_0 : List UInt8 := dkwX0_swap_0 ++ dktX0_swap_1
theorem dksX0_swap_0 : cX0_swap.data.toList.drop 0 = dktX0_swap_0 := by decide +kernel
theorem dksX0_swap_1 : cX0_swap.data.toList.drop 23 = dktX0_swap_1 := dk_seg dksX0_swap_0 23 rfl rfl
theorem dksX0_swap_2 : cX0_swap.data.toList.drop 47 = dktX0_swap_2 := dk_seg dksX0_swap_1 24 rfl rfl
theorem dksX0_swap_3 : cX0_swap.data.toList.drop 69 = dktX0_swap_3 := dk_seg dksX0_swap_2 22 rfl rfl
theorem dX0_swap_0 : decode cX0_swap 0 = .ok (.aload_n 0, 1) := dk_42 (dk_at dksX0_swap_0 0 rfl rfl)
theorem dX0_swap_1 : decode cX0_swap 1 = .ok (.iload_n 1, 1) := dk_27 (dk_at dksX0_swap_0 1 rfl rfl)
theorem dX0_swap_2 : decode cX0_swap 2 = .ok (.i2l, 1) := dk_133 (dk_at dksX0_swap_0 2 rfl rfl)
theorem dX0_swap_3 : decode cX0_swap 3 = .ok (.invokevirtual 186, 3) := dk_182 0 186 (dk_at dksX0_swap_0 3 rfl rfl)
theorem dX0_swap_6 : decode cX0_swap 6 = .ok (.ifCond .eq 17, 3) := dk_153 0 17 (dk_at dksX0_swap_0 6 rfl rfl)
theorem dX0_swap_9 : decode cX0_swap 9 = .ok (.aload_n 0, 1) := dk_42 (dk_at dksX0_swap_0 9 rfl rfl)
theorem dX0_swap_10 : decode cX0_swap 10 = .ok (.iload_n 2, 1) := dk_28 (dk_at dksX0_swap_0 10 rfl rfl)
theorem dX0_swap_11 : decode cX0_swap 11 = .ok (.i2l, 1) := dk_133 (dk_at dksX0_swap_0 11 rfl rfl)
theorem dX0_swap_12 : decode cX0_swap 12 = .ok (.invokevirtual 186, 3) := dk_182 0 186 (dk_at dksX0_swap_0 12 rfl rfl)
theorem dX0_swap_15 : decode cX0_swap 15 = .ok (.ifCond .eq 8, 3) := dk_153 0 8 (dk_at dksX0_swap_0 15 rfl rfl)
theorem dX0_swap_18 : decode cX0_swap 18 = .ok (.iload_n 1, 1) := dk_27 (dk_at dksX0_swap_0 18 rfl rfl)
theorem dX0_swap_19 : decode cX0_swap 19 = .ok (.iload_n 2, 1) := dk_28 (dk_at dksX0_swap_0 19 rfl rfl)
theorem dX0_swap_20 : decode cX0_swap 20 = .ok (.if_icmp .ne 6, 3) := dk_160 0 6 (dk_at dksX0_swap_0 20 rfl rfl)
theorem dX0_swap_23 : decode cX0_swap 23 = .ok (.bipush (-2), 2) := dk_16 254 (dk_at dksX0_swap_1 0 rfl rfl)
theorem dX0_swap_25 : decode cX0_swap 25 = .ok (.ireturn, 1) := dk_172 (dk_at dksX0_swap_1 2 rfl rfl)
theorem dX0_swap_26 : decode cX0_swap 26 = .ok (.aload_n 0, 1) := dk_42 (dk_at dksX0_swap_1 3 rfl rfl)
theorem dX0_swap_27 : decode cX0_swap 27 = .ok (.invokevirtual 190, 3) := dk_182 0 190 (dk_at dksX0_swap_1 4 rfl rfl)
theorem dX0_swap_30 : decode cX0_swap 30 = .ok (.aload_n 0, 1) := dk_42 (dk_at dksX0_swap_1 7 rfl rfl)
theorem dX0_swap_31 : decode cX0_swap 31 = .ok (.getfield 24, 3) := dk_180 0 24 (dk_at dksX0_swap_1 8 rfl rfl)
theorem dX0_swap_34 : decode cX0_swap 34 = .ok (.iload_n 1, 1) := dk_27 (dk_at dksX0_swap_1 11 rfl rfl)
theorem dX0_swap_35 : decode cX0_swap 35 = .ok (.iaload, 1) := dk_46 (dk_at dksX0_swap_1 12 rfl rfl)
theorem dX0_swap_36 : decode cX0_swap 36 = .ok (.iconst (-1), 1) := dk_2 (dk_at dksX0_swap_1 13 rfl rfl)
theorem dX0_swap_37 : decode cX0_swap 37 = .ok (.if_icmp .eq 40, 3) := dk_159 0 40 (dk_at dksX0_swap_1 14 rfl rfl)
theorem dX0_swap_40 : decode cX0_swap 40 = .ok (.aload_n 0, 1) := dk_42 (dk_at dksX0_swap_1 17 rfl rfl)
theorem dX0_swap_41 : decode cX0_swap 41 = .ok (.getfield 24, 3) := dk_180 0 24 (dk_at dksX0_swap_1 18 rfl rfl)
theorem dX0_swap_44 : decode cX0_swap 44 = .ok (.iload_n 2, 1) := dk_28 (dk_at dksX0_swap_1 21 rfl rfl)
theorem dX0_swap_45 : decode cX0_swap 45 = .ok (.iaload, 1) := dk_46 (dk_at dksX0_swap_1 22 rfl rfl)
theorem dX0_swap_46 : decode cX0_swap 46 = .ok (.iconst (-1), 1) := dk_2 (dk_at dksX0_swap_1 23 rfl rfl)
theorem dX0_swap_47 : decode cX0_swap 47 = .ok (.if_icmp .eq 30, 3) := dk_159 0 30 (dk_at dksX0_swap_2 0 rfl rfl)
theorem dX0_swap_50 : decode cX0_swap 50 = .ok (.aload_n 0, 1) := dk_42 (dk_at dksX0_swap_2 3 rfl rfl)
theorem dX0_swap_51 : decode cX0_swap 51 = .ok (.getfield 24, 3) := dk_180 0 24 (dk_at dksX0_swap_2 4 rfl rfl)
theorem dX0_swap_54 : decode cX0_swap 54 = .ok (.iload_n 1, 1) := dk_27 (dk_at dksX0_swap_2 7 rfl rfl)
theorem dX0_swap_55 : decode cX0_swap 55 = .ok (.iaload, 1) := dk_46 (dk_at dksX0_swap_2 8 rfl rfl)
theorem dX0_swap_56 : decode cX0_swap 56 = .ok (.aload_n 0, 1) := dk_42 (dk_at dksX0_swap_2 9 rfl rfl)
theorem dX0_swap_57 : decode cX0_swap 57 = .ok (.getfield 24, 3) := dk_180 0 24 (dk_at dksX0_swap_2 10 rfl rfl)
theorem dX0_swap_60 : decode cX0_swap 60 = .ok (.iload_n 2, 1) := dk_28 (dk_at dksX0_swap_2 13 rfl rfl)
theorem dX0_swap_61 : decode cX0_swap 61 = .ok (.iaload, 1) := dk_46 (dk_at dksX0_swap_2 14 rfl rfl)
theorem dX0_swap_62 : decode cX0_swap 62 = .ok (.if_icmp .eq 15, 3) := dk_159 0 15 (dk_at dksX0_swap_2 15 rfl rfl)
theorem dX0_swap_65 : decode cX0_swap 65 = .ok (.aload_n 0, 1) := dk_42 (dk_at dksX0_swap_2 18 rfl rfl)
theorem dX0_swap_66 : decode cX0_swap 66 = .ok (.getfield 12, 3) := dk_180 0 12 (dk_at dksX0_swap_2 19 rfl rfl)
theorem dX0_swap_69 : decode cX0_swap 69 = .ok (.getfield 143, 3) := dk_180 0 143 (dk_at dksX0_swap_3 0 rfl rfl)
theorem dX0_swap_72 : decode cX0_swap 72 = .ok (.bipush 40, 2) := dk_16 40 (dk_at dksX0_swap_3 3 rfl rfl)
theorem dX0_swap_74 : decode cX0_swap 74 = .ok (.if_icmp .ne 6, 3) := dk_160 0 6 (dk_at dksX0_swap_3 5 rfl rfl)
theorem dX0_swap_77 : decode cX0_swap 77 = .ok (.bipush (-5), 2) := dk_16 251 (dk_at dksX0_swap_3 8 rfl rfl)
theorem dX0_swap_79 : decode cX0_swap 79 = .ok (.ireturn, 1) := dk_172 (dk_at dksX0_swap_3 10 rfl rfl)
theorem dX0_swap_80 : decode cX0_swap 80 = .ok (.aload_n 0, 1) := dk_42 (dk_at dksX0_swap_3 11 rfl rfl)
theorem dX0_swap_81 : decode cX0_swap 81 = .ok (.iconst 2, 1) := dk_5 (dk_at dksX0_swap_3 12 rfl rfl)
theorem dX0_swap_82 : decode cX0_swap 82 = .ok (.iload_n 1, 1) := dk_27 (dk_at dksX0_swap_3 13 rfl rfl)
theorem dX0_swap_83 : decode cX0_swap 83 = .ok (.iload_n 2, 1) := dk_28 (dk_at dksX0_swap_3 14 rfl rfl)
theorem dX0_swap_84 : decode cX0_swap 84 = .ok (.iconst 0, 1) := dk_3 (dk_at dksX0_swap_3 15 rfl rfl)
theorem dX0_swap_85 : decode cX0_swap 85 = .ok (.iconst 0, 1) := dk_3 (dk_at dksX0_swap_3 16 rfl rfl)
theorem dX0_swap_86 : decode cX0_swap 86 = .ok (.invokevirtual 249, 3) := dk_182 0 249 (dk_at dksX0_swap_3 17 rfl rfl)
theorem dX0_swap_89 : decode cX0_swap 89 = .ok (.iconst 0, 1) := dk_3 (dk_at dksX0_swap_3 20 rfl rfl)
theorem dX0_swap_90 : decode cX0_swap 90 = .ok (.ireturn, 1) := dk_172 (dk_at dksX0_swap_3 21 rfl rfl)
abbrev cX0_steal : ByteArray := prog_1_method_48_code
def yX0_steal : MethodName := ⟨RX0, "steal", "(II)I"⟩
def dkwX0_steal_3 : List UInt8 := [27, 28, 3, 3, 182, 0, 249, 29, 172]
abbrev dktX0_steal_3 : List UInt8 := dkwX0_steal_3 ++ []
def dkwX0_steal_2 : List UInt8 := [28, 184, 0, 114, 154, 0, 15, 42, 180, 0, 12, 180, 0, 143, 16, 40, 160, 0, 6, 16, 251, 172, 42, 6]
abbrev dktX0_steal_2 : List UInt8 := dkwX0_steal_2 ++ dktX0_steal_3
def dkwX0_steal_1 : List UInt8 := [182, 0, 190, 42, 180, 0, 24, 28, 46, 62, 29, 2, 159, 0, 31, 29, 27, 159, 0, 26, 42, 180, 0, 127]
abbrev dktX0_steal_1 : List UInt8 := dkwX0_steal_1 ++ dktX0_steal_2
def dkwX0_steal_0 : List UInt8 := [42, 27, 133, 182, 0, 186, 153, 0, 12, 42, 28, 133, 182, 0, 186, 154, 0, 6, 16, 254, 172, 42]
abbrev dktX0_steal_0 : List UInt8 := dkwX0_steal_0 ++ dktX0_steal_1
theorem dksX0_steal_0 : cX0_steal.data.toList.drop 0 = dktX0_steal_0 := by decide +kernel
theorem dksX0_steal_1 : cX0_steal.data.toList.drop 22 = dktX0_steal_1 := dk_seg dksX0_steal_0 22 rfl rfl
theorem dksX0_steal_2 : cX0_steal.data.toList.drop 46 = dktX0_steal_2 := dk_seg dksX0_steal_1 24 rfl rfl
theorem dksX0_steal_3 : cX0_steal.data.toList.drop 70 = dktX0_steal_3 := dk_seg dksX0_steal_2 24 rfl rfl
theorem dX0_steal_0 : decode cX0_steal 0 = .ok (.aload_n 0, 1) := dk_42 (dk_at dksX0_steal_0 0 rfl rfl)
theorem dX0_steal_1 : decode cX0_steal 1 = .ok (.iload_n 1, 1) := dk_27 (dk_at dksX0_steal_0 1 rfl rfl)
theorem dX0_steal_2 : decode cX0_steal 2 = .ok (.i2l, 1) := dk_133 (dk_at dksX0_steal_0 2 rfl rfl)
theorem dX0_steal_3 : decode cX0_steal 3 = .ok (.invokevirtual 186, 3) := dk_182 0 186 (dk_at dksX0_steal_0 3 rfl rfl)
theorem dX0_steal_6 : decode cX0_steal 6 = .ok (.ifCond .eq 12, 3) := dk_153 0 12 (dk_at dksX0_steal_0 6 rfl rfl)
theorem dX0_steal_9 : decode cX0_steal 9 = .ok (.aload_n 0, 1) := dk_42 (dk_at dksX0_steal_0 9 rfl rfl)
theorem dX0_steal_10 : decode cX0_steal 10 = .ok (.iload_n 2, 1) := dk_28 (dk_at dksX0_steal_0 10 rfl rfl)
theorem dX0_steal_11 : decode cX0_steal 11 = .ok (.i2l, 1) := dk_133 (dk_at dksX0_steal_0 11 rfl rfl)
theorem dX0_steal_12 : decode cX0_steal 12 = .ok (.invokevirtual 186, 3) := dk_182 0 186 (dk_at dksX0_steal_0 12 rfl rfl)
theorem dX0_steal_15 : decode cX0_steal 15 = .ok (.ifCond .ne 6, 3) := dk_154 0 6 (dk_at dksX0_steal_0 15 rfl rfl)
theorem dX0_steal_18 : decode cX0_steal 18 = .ok (.bipush (-2), 2) := dk_16 254 (dk_at dksX0_steal_0 18 rfl rfl)
theorem dX0_steal_20 : decode cX0_steal 20 = .ok (.ireturn, 1) := dk_172 (dk_at dksX0_steal_0 20 rfl rfl)
theorem dX0_steal_21 : decode cX0_steal 21 = .ok (.aload_n 0, 1) := dk_42 (dk_at dksX0_steal_0 21 rfl rfl)
theorem dX0_steal_22 : decode cX0_steal 22 = .ok (.invokevirtual 190, 3) := dk_182 0 190 (dk_at dksX0_steal_1 0 rfl rfl)
theorem dX0_steal_25 : decode cX0_steal 25 = .ok (.aload_n 0, 1) := dk_42 (dk_at dksX0_steal_1 3 rfl rfl)
theorem dX0_steal_26 : decode cX0_steal 26 = .ok (.getfield 24, 3) := dk_180 0 24 (dk_at dksX0_steal_1 4 rfl rfl)
theorem dX0_steal_29 : decode cX0_steal 29 = .ok (.iload_n 2, 1) := dk_28 (dk_at dksX0_steal_1 7 rfl rfl)
theorem dX0_steal_30 : decode cX0_steal 30 = .ok (.iaload, 1) := dk_46 (dk_at dksX0_steal_1 8 rfl rfl)
theorem dX0_steal_31 : decode cX0_steal 31 = .ok (.istore_n 3, 1) := dk_62 (dk_at dksX0_steal_1 9 rfl rfl)
theorem dX0_steal_32 : decode cX0_steal 32 = .ok (.iload_n 3, 1) := dk_29 (dk_at dksX0_steal_1 10 rfl rfl)
theorem dX0_steal_33 : decode cX0_steal 33 = .ok (.iconst (-1), 1) := dk_2 (dk_at dksX0_steal_1 11 rfl rfl)
theorem dX0_steal_34 : decode cX0_steal 34 = .ok (.if_icmp .eq 31, 3) := dk_159 0 31 (dk_at dksX0_steal_1 12 rfl rfl)
theorem dX0_steal_37 : decode cX0_steal 37 = .ok (.iload_n 3, 1) := dk_29 (dk_at dksX0_steal_1 15 rfl rfl)
theorem dX0_steal_38 : decode cX0_steal 38 = .ok (.iload_n 1, 1) := dk_27 (dk_at dksX0_steal_1 16 rfl rfl)
theorem dX0_steal_39 : decode cX0_steal 39 = .ok (.if_icmp .eq 26, 3) := dk_159 0 26 (dk_at dksX0_steal_1 17 rfl rfl)
theorem dX0_steal_42 : decode cX0_steal 42 = .ok (.aload_n 0, 1) := dk_42 (dk_at dksX0_steal_1 20 rfl rfl)
theorem dX0_steal_43 : decode cX0_steal 43 = .ok (.getfield 127, 3) := dk_180 0 127 (dk_at dksX0_steal_1 21 rfl rfl)
theorem dX0_steal_46 : decode cX0_steal 46 = .ok (.iload_n 2, 1) := dk_28 (dk_at dksX0_steal_2 0 rfl rfl)
theorem dX0_steal_47 : decode cX0_steal 47 = .ok (.invokestatic 114, 3) := dk_184 0 114 (dk_at dksX0_steal_2 1 rfl rfl)
theorem dX0_steal_50 : decode cX0_steal 50 = .ok (.ifCond .ne 15, 3) := dk_154 0 15 (dk_at dksX0_steal_2 4 rfl rfl)
theorem dX0_steal_53 : decode cX0_steal 53 = .ok (.aload_n 0, 1) := dk_42 (dk_at dksX0_steal_2 7 rfl rfl)
theorem dX0_steal_54 : decode cX0_steal 54 = .ok (.getfield 12, 3) := dk_180 0 12 (dk_at dksX0_steal_2 8 rfl rfl)
theorem dX0_steal_57 : decode cX0_steal 57 = .ok (.getfield 143, 3) := dk_180 0 143 (dk_at dksX0_steal_2 11 rfl rfl)
theorem dX0_steal_60 : decode cX0_steal 60 = .ok (.bipush 40, 2) := dk_16 40 (dk_at dksX0_steal_2 14 rfl rfl)
theorem dX0_steal_62 : decode cX0_steal 62 = .ok (.if_icmp .ne 6, 3) := dk_160 0 6 (dk_at dksX0_steal_2 16 rfl rfl)
theorem dX0_steal_65 : decode cX0_steal 65 = .ok (.bipush (-5), 2) := dk_16 251 (dk_at dksX0_steal_2 19 rfl rfl)
theorem dX0_steal_67 : decode cX0_steal 67 = .ok (.ireturn, 1) := dk_172 (dk_at dksX0_steal_2 21 rfl rfl)
theorem dX0_steal_68 : decode cX0_steal 68 = .ok (.aload_n 0, 1) := dk_42 (dk_at dksX0_steal_2 22 rfl rfl)
theorem dX0_steal_69 : decode cX0_steal 69 = .ok (.iconst 3, 1) := dk_6 (dk_at dksX0_steal_2 23 rfl rfl)
theorem dX0_steal_70 : decode cX0_steal 70 = .ok (.iload_n 1, 1) := dk_27 (dk_at dksX0_steal_3 0 rfl rfl)
theorem dX0_steal_71 : decode cX0_steal 71 = .ok (.iload_n 2, 1) := dk_28 (dk_at dksX0_steal_3 1 rfl rfl)
theorem dX0_steal_72 : decode cX0_steal 72 = .ok (.iconst 0, 1) := dk_3 (dk_at dksX0_steal_3 2 rfl rfl)
theorem dX0_steal_73 : decode cX0_steal 73 = .ok (.iconst 0, 1) := dk_3 (dk_at dksX0_steal_3 3 rfl rfl)
theorem dX0_steal_74 : decode cX0_steal 74 = .ok (.invokevirtual 249, 3) := dk_182 0 249 (dk_at dksX0_steal_3 4 rfl rfl)
theorem dX0_steal_77 : decode cX0_steal 77 = .ok (.iload_n 3, 1) := dk_29 (dk_at dksX0_steal_3 7 rfl rfl)
theorem dX0_steal_78 : decode cX0_steal 78 = .ok (.ireturn, 1) := dk_172 (dk_at dksX0_steal_3 8 rfl rfl)
abbrev cX0_day : ByteArray := prog_1_method_49_code
def yX0_day : MethodName := ⟨RX0, "day", "()I"⟩
def dkwX0_day_1 : List UInt8 := [172, 42, 182, 0, 190, 42, 7, 3, 3, 3, 3, 182, 0, 249, 42, 180, 0, 121, 4, 100, 172]
abbrev dktX0_day_1 : List UInt8 := dkwX0_day_1 ++ []
def dkwX0_day_0 : List UInt8 := [42, 182, 0, 103, 154, 0, 6, 16, 254, 172, 42, 180, 0, 12, 180, 0, 143, 16, 40, 160, 0, 6, 16, 251]
abbrev dktX0_day_0 : List UInt8 := dkwX0_day_0 ++ dktX0_day_1
theorem dksX0_day_0 : cX0_day.data.toList.drop 0 = dktX0_day_0 := by decide +kernel
theorem dksX0_day_1 : cX0_day.data.toList.drop 24 = dktX0_day_1 := dk_seg dksX0_day_0 24 rfl rfl
theorem dX0_day_0 : decode cX0_day 0 = .ok (.aload_n 0, 1) := dk_42 (dk_at dksX0_day_0 0 rfl rfl)
theorem dX0_day_1 : decode cX0_day 1 = .ok (.invokevirtual 103, 3) := dk_182 0 103 (dk_at dksX0_day_0 1 rfl rfl)
theorem dX0_day_4 : decode cX0_day 4 = .ok (.ifCond .ne 6, 3) := dk_154 0 6 (dk_at dksX0_day_0 4 rfl rfl)
theorem dX0_day_7 : decode cX0_day 7 = .ok (.bipush (-2), 2) := dk_16 254 (dk_at dksX0_day_0 7 rfl rfl)
theorem dX0_day_9 : decode cX0_day 9 = .ok (.ireturn, 1) := dk_172 (dk_at dksX0_day_0 9 rfl rfl)
theorem dX0_day_10 : decode cX0_day 10 = .ok (.aload_n 0, 1) := dk_42 (dk_at dksX0_day_0 10 rfl rfl)
theorem dX0_day_11 : decode cX0_day 11 = .ok (.getfield 12, 3) := dk_180 0 12 (dk_at dksX0_day_0 11 rfl rfl)
theorem dX0_day_14 : decode cX0_day 14 = .ok (.getfield 143, 3) := dk_180 0 143 (dk_at dksX0_day_0 14 rfl rfl)
theorem dX0_day_17 : decode cX0_day 17 = .ok (.bipush 40, 2) := dk_16 40 (dk_at dksX0_day_0 17 rfl rfl)
theorem dX0_day_19 : decode cX0_day 19 = .ok (.if_icmp .ne 6, 3) := dk_160 0 6 (dk_at dksX0_day_0 19 rfl rfl)
theorem dX0_day_22 : decode cX0_day 22 = .ok (.bipush (-5), 2) := dk_16 251 (dk_at dksX0_day_0 22 rfl rfl)
theorem dX0_day_24 : decode cX0_day 24 = .ok (.ireturn, 1) := dk_172 (dk_at dksX0_day_1 0 rfl rfl)
theorem dX0_day_25 : decode cX0_day 25 = .ok (.aload_n 0, 1) := dk_42 (dk_at dksX0_day_1 1 rfl rfl)
theorem dX0_day_26 : decode cX0_day 26 = .ok (.invokevirtual 190, 3) := dk_182 0 190 (dk_at dksX0_day_1 2 rfl rfl)
theorem dX0_day_29 : decode cX0_day 29 = .ok (.aload_n 0, 1) := dk_42 (dk_at dksX0_day_1 5 rfl rfl)
theorem dX0_day_30 : decode cX0_day 30 = .ok (.iconst 4, 1) := dk_7 (dk_at dksX0_day_1 6 rfl rfl)
theorem dX0_day_31 : decode cX0_day 31 = .ok (.iconst 0, 1) := dk_3 (dk_at dksX0_day_1 7 rfl rfl)
theorem dX0_day_32 : decode cX0_day 32 = .ok (.iconst 0, 1) := dk_3 (dk_at dksX0_day_1 8 rfl rfl)
theorem dX0_day_33 : decode cX0_day 33 = .ok (.iconst 0, 1) := dk_3 (dk_at dksX0_day_1 9 rfl rfl)
theorem dX0_day_34 : decode cX0_day 34 = .ok (.iconst 0, 1) := dk_3 (dk_at dksX0_day_1 10 rfl rfl)
theorem dX0_day_35 : decode cX0_day 35 = .ok (.invokevirtual 249, 3) := dk_182 0 249 (dk_at dksX0_day_1 11 rfl rfl)
theorem dX0_day_38 : decode cX0_day 38 = .ok (.aload_n 0, 1) := dk_42 (dk_at dksX0_day_1 14 rfl rfl)
theorem dX0_day_39 : decode cX0_day 39 = .ok (.getfield 121, 3) := dk_180 0 121 (dk_at dksX0_day_1 15 rfl rfl)
theorem dX0_day_42 : decode cX0_day 42 = .ok (.iconst 1, 1) := dk_4 (dk_at dksX0_day_1 18 rfl rfl)
theorem dX0_day_43 : decode cX0_day 43 = .ok (.isub, 1) := dk_100 (dk_at dksX0_day_1 19 rfl rfl)
theorem dX0_day_44 : decode cX0_day 44 = .ok (.ireturn, 1) := dk_172 (dk_at dksX0_day_1 20 rfl rfl)
abbrev cX0_undo : ByteArray := prog_1_method_50_code
def yX0_undo : MethodName := ⟨RX0, "undo", "()I"⟩
def dkwX0_undo_1 : List UInt8 := [180, 0, 12, 89, 180, 0, 143, 4, 100, 181, 0, 143, 42, 180, 0, 12, 180, 0, 143, 172]
abbrev dktX0_undo_1 : List UInt8 := dkwX0_undo_1 ++ []
def dkwX0_undo_0 : List UInt8 := [42, 182, 0, 103, 154, 0, 6, 16, 254, 172, 42, 180, 0, 12, 180, 0, 143, 154, 0, 6, 16, 251, 172, 42]
abbrev dktX0_undo_0 : List UInt8 := dkwX0_undo_0 ++ dktX0_undo_1
theorem dksX0_undo_0 : cX0_undo.data.toList.drop 0 = dktX0_undo_0 := by decide +kernel
theorem dksX0_undo_1 : cX0_undo.data.toList.drop 24 = dktX0_undo_1 := dk_seg dksX0_undo_0 24 rfl rfl
theorem dX0_undo_0 : decode cX0_undo 0 = .ok (.aload_n 0, 1) := dk_42 (dk_at dksX0_undo_0 0 rfl rfl)
theorem dX0_undo_1 : decode cX0_undo 1 = .ok (.invokevirtual 103, 3) := dk_182 0 103 (dk_at dksX0_undo_0 1 rfl rfl)
theorem dX0_undo_4 : decode cX0_undo 4 = .ok (.ifCond .ne 6, 3) := dk_154 0 6 (dk_at dksX0_undo_0 4 rfl rfl)
theorem dX0_undo_7 : decode cX0_undo 7 = .ok (.bipush (-2), 2) := dk_16 254 (dk_at dksX0_undo_0 7 rfl rfl)
theorem dX0_undo_9 : decode cX0_undo 9 = .ok (.ireturn, 1) := dk_172 (dk_at dksX0_undo_0 9 rfl rfl)
theorem dX0_undo_10 : decode cX0_undo 10 = .ok (.aload_n 0, 1) := dk_42 (dk_at dksX0_undo_0 10 rfl rfl)
theorem dX0_undo_11 : decode cX0_undo 11 = .ok (.getfield 12, 3) := dk_180 0 12 (dk_at dksX0_undo_0 11 rfl rfl)
theorem dX0_undo_14 : decode cX0_undo 14 = .ok (.getfield 143, 3) := dk_180 0 143 (dk_at dksX0_undo_0 14 rfl rfl)
theorem dX0_undo_17 : decode cX0_undo 17 = .ok (.ifCond .ne 6, 3) := dk_154 0 6 (dk_at dksX0_undo_0 17 rfl rfl)
theorem dX0_undo_20 : decode cX0_undo 20 = .ok (.bipush (-5), 2) := dk_16 251 (dk_at dksX0_undo_0 20 rfl rfl)
theorem dX0_undo_22 : decode cX0_undo 22 = .ok (.ireturn, 1) := dk_172 (dk_at dksX0_undo_0 22 rfl rfl)
theorem dX0_undo_23 : decode cX0_undo 23 = .ok (.aload_n 0, 1) := dk_42 (dk_at dksX0_undo_0 23 rfl rfl)
theorem dX0_undo_24 : decode cX0_undo 24 = .ok (.getfield 12, 3) := dk_180 0 12 (dk_at dksX0_undo_1 0 rfl rfl)
theorem dX0_undo_27 : decode cX0_undo 27 = .ok (.dup, 1) := dk_89 (dk_at dksX0_undo_1 3 rfl rfl)
theorem dX0_undo_28 : decode cX0_undo 28 = .ok (.getfield 143, 3) := dk_180 0 143 (dk_at dksX0_undo_1 4 rfl rfl)
theorem dX0_undo_31 : decode cX0_undo 31 = .ok (.iconst 1, 1) := dk_4 (dk_at dksX0_undo_1 7 rfl rfl)
theorem dX0_undo_32 : decode cX0_undo 32 = .ok (.isub, 1) := dk_100 (dk_at dksX0_undo_1 8 rfl rfl)
theorem dX0_undo_33 : decode cX0_undo 33 = .ok (.putfield 143, 3) := dk_181 0 143 (dk_at dksX0_undo_1 9 rfl rfl)
theorem dX0_undo_36 : decode cX0_undo 36 = .ok (.aload_n 0, 1) := dk_42 (dk_at dksX0_undo_1 12 rfl rfl)
theorem dX0_undo_37 : decode cX0_undo 37 = .ok (.getfield 12, 3) := dk_180 0 12 (dk_at dksX0_undo_1 13 rfl rfl)
theorem dX0_undo_40 : decode cX0_undo 40 = .ok (.getfield 143, 3) := dk_180 0 143 (dk_at dksX0_undo_1 16 rfl rfl)
theorem dX0_undo_43 : decode cX0_undo 43 = .ok (.ireturn, 1) := dk_172 (dk_at dksX0_undo_1 19 rfl rfl)
abbrev cX0_anew : ByteArray := prog_1_method_51_code
def yX0_anew : MethodName := ⟨RX0, "anew", "()I"⟩
def dkwX0_anew_1 : List UInt8 := [181, 0, 143, 27, 172]
abbrev dktX0_anew_1 : List UInt8 := dkwX0_anew_1 ++ []
def dkwX0_anew_0 : List UInt8 := [42, 182, 0, 103, 154, 0, 6, 16, 254, 172, 42, 180, 0, 12, 180, 0, 143, 60, 42, 180, 0, 12, 3]
abbrev dktX0_anew_0 : List UInt8 := dkwX0_anew_0 ++ dktX0_anew_1
theorem dksX0_anew_0 : cX0_anew.data.toList.drop 0 = dktX0_anew_0 := by decide +kernel
theorem dksX0_anew_1 : cX0_anew.data.toList.drop 23 = dktX0_anew_1 := dk_seg dksX0_anew_0 23 rfl rfl
theorem dX0_anew_0 : decode cX0_anew 0 = .ok (.aload_n 0, 1) := dk_42 (dk_at dksX0_anew_0 0 rfl rfl)
theorem dX0_anew_1 : decode cX0_anew 1 = .ok (.invokevirtual 103, 3) := dk_182 0 103 (dk_at dksX0_anew_0 1 rfl rfl)
theorem dX0_anew_4 : decode cX0_anew 4 = .ok (.ifCond .ne 6, 3) := dk_154 0 6 (dk_at dksX0_anew_0 4 rfl rfl)
theorem dX0_anew_7 : decode cX0_anew 7 = .ok (.bipush (-2), 2) := dk_16 254 (dk_at dksX0_anew_0 7 rfl rfl)
theorem dX0_anew_9 : decode cX0_anew 9 = .ok (.ireturn, 1) := dk_172 (dk_at dksX0_anew_0 9 rfl rfl)
theorem dX0_anew_10 : decode cX0_anew 10 = .ok (.aload_n 0, 1) := dk_42 (dk_at dksX0_anew_0 10 rfl rfl)
theorem dX0_anew_11 : decode cX0_anew 11 = .ok (.getfield 12, 3) := dk_180 0 12 (dk_at dksX0_anew_0 11 rfl rfl)
theorem dX0_anew_14 : decode cX0_anew 14 = .ok (.getfield 143, 3) := dk_180 0 143 (dk_at dksX0_anew_0 14 rfl rfl)
theorem dX0_anew_17 : decode cX0_anew 17 = .ok (.istore_n 1, 1) := dk_60 (dk_at dksX0_anew_0 17 rfl rfl)
theorem dX0_anew_18 : decode cX0_anew 18 = .ok (.aload_n 0, 1) := dk_42 (dk_at dksX0_anew_0 18 rfl rfl)
theorem dX0_anew_19 : decode cX0_anew 19 = .ok (.getfield 12, 3) := dk_180 0 12 (dk_at dksX0_anew_0 19 rfl rfl)
theorem dX0_anew_22 : decode cX0_anew 22 = .ok (.iconst 0, 1) := dk_3 (dk_at dksX0_anew_0 22 rfl rfl)
theorem dX0_anew_23 : decode cX0_anew 23 = .ok (.putfield 143, 3) := dk_181 0 143 (dk_at dksX0_anew_1 0 rfl rfl)
theorem dX0_anew_26 : decode cX0_anew 26 = .ok (.iload_n 1, 1) := dk_27 (dk_at dksX0_anew_1 3 rfl rfl)
theorem dX0_anew_27 : decode cX0_anew 27 = .ok (.ireturn, 1) := dk_172 (dk_at dksX0_anew_1 4 rfl rfl)
abbrev cX0_now : ByteArray := prog_1_method_52_code
def yX0_now : MethodName := ⟨RX0, "now", "(I)I"⟩
def dkwX0_now_2 : List UInt8 := [160, 0, 10, 42, 180, 0, 127, 167, 0, 7, 42, 180, 0, 130, 172]
abbrev dktX0_now_2 : List UInt8 := dkwX0_now_2 ++ []
def dkwX0_now_1 : List UInt8 := [154, 0, 10, 42, 180, 0, 121, 167, 0, 31, 27, 4, 160, 0, 10, 42, 180, 0, 124, 167, 0, 19, 27, 5]
abbrev dktX0_now_1 : List UInt8 := dkwX0_now_1 ++ dktX0_now_2
def dkwX0_now_0 : List UInt8 := [42, 182, 0, 103, 153, 0, 12, 27, 133, 7, 184, 0, 97, 154, 0, 6, 16, 254, 172, 42, 182, 0, 190, 27]
abbrev dktX0_now_0 : List UInt8 := dkwX0_now_0 ++ dktX0_now_1
theorem dksX0_now_0 : cX0_now.data.toList.drop 0 = dktX0_now_0 := by decide +kernel
theorem dksX0_now_1 : cX0_now.data.toList.drop 24 = dktX0_now_1 := dk_seg dksX0_now_0 24 rfl rfl
theorem dksX0_now_2 : cX0_now.data.toList.drop 48 = dktX0_now_2 := dk_seg dksX0_now_1 24 rfl rfl
theorem dX0_now_0 : decode cX0_now 0 = .ok (.aload_n 0, 1) := dk_42 (dk_at dksX0_now_0 0 rfl rfl)
theorem dX0_now_1 : decode cX0_now 1 = .ok (.invokevirtual 103, 3) := dk_182 0 103 (dk_at dksX0_now_0 1 rfl rfl)
theorem dX0_now_4 : decode cX0_now 4 = .ok (.ifCond .eq 12, 3) := dk_153 0 12 (dk_at dksX0_now_0 4 rfl rfl)
theorem dX0_now_7 : decode cX0_now 7 = .ok (.iload_n 1, 1) := dk_27 (dk_at dksX0_now_0 7 rfl rfl)
theorem dX0_now_8 : decode cX0_now 8 = .ok (.i2l, 1) := dk_133 (dk_at dksX0_now_0 8 rfl rfl)
theorem dX0_now_9 : decode cX0_now 9 = .ok (.iconst 4, 1) := dk_7 (dk_at dksX0_now_0 9 rfl rfl)
theorem dX0_now_10 : decode cX0_now 10 = .ok (.invokestatic 97, 3) := dk_184 0 97 (dk_at dksX0_now_0 10 rfl rfl)
theorem dX0_now_13 : decode cX0_now 13 = .ok (.ifCond .ne 6, 3) := dk_154 0 6 (dk_at dksX0_now_0 13 rfl rfl)
theorem dX0_now_16 : decode cX0_now 16 = .ok (.bipush (-2), 2) := dk_16 254 (dk_at dksX0_now_0 16 rfl rfl)
theorem dX0_now_18 : decode cX0_now 18 = .ok (.ireturn, 1) := dk_172 (dk_at dksX0_now_0 18 rfl rfl)
theorem dX0_now_19 : decode cX0_now 19 = .ok (.aload_n 0, 1) := dk_42 (dk_at dksX0_now_0 19 rfl rfl)
theorem dX0_now_20 : decode cX0_now 20 = .ok (.invokevirtual 190, 3) := dk_182 0 190 (dk_at dksX0_now_0 20 rfl rfl)
theorem dX0_now_23 : decode cX0_now 23 = .ok (.iload_n 1, 1) := dk_27 (dk_at dksX0_now_0 23 rfl rfl)
theorem dX0_now_24 : decode cX0_now 24 = .ok (.ifCond .ne 10, 3) := dk_154 0 10 (dk_at dksX0_now_1 0 rfl rfl)
theorem dX0_now_27 : decode cX0_now 27 = .ok (.aload_n 0, 1) := dk_42 (dk_at dksX0_now_1 3 rfl rfl)
theorem dX0_now_28 : decode cX0_now 28 = .ok (.getfield 121, 3) := dk_180 0 121 (dk_at dksX0_now_1 4 rfl rfl)
theorem dX0_now_31 : decode cX0_now 31 = .ok (.goto 31, 3) := dk_167 0 31 (dk_at dksX0_now_1 7 rfl rfl)
theorem dX0_now_34 : decode cX0_now 34 = .ok (.iload_n 1, 1) := dk_27 (dk_at dksX0_now_1 10 rfl rfl)
theorem dX0_now_35 : decode cX0_now 35 = .ok (.iconst 1, 1) := dk_4 (dk_at dksX0_now_1 11 rfl rfl)
theorem dX0_now_36 : decode cX0_now 36 = .ok (.if_icmp .ne 10, 3) := dk_160 0 10 (dk_at dksX0_now_1 12 rfl rfl)
theorem dX0_now_39 : decode cX0_now 39 = .ok (.aload_n 0, 1) := dk_42 (dk_at dksX0_now_1 15 rfl rfl)
theorem dX0_now_40 : decode cX0_now 40 = .ok (.getfield 124, 3) := dk_180 0 124 (dk_at dksX0_now_1 16 rfl rfl)
theorem dX0_now_43 : decode cX0_now 43 = .ok (.goto 19, 3) := dk_167 0 19 (dk_at dksX0_now_1 19 rfl rfl)
theorem dX0_now_46 : decode cX0_now 46 = .ok (.iload_n 1, 1) := dk_27 (dk_at dksX0_now_1 22 rfl rfl)
theorem dX0_now_47 : decode cX0_now 47 = .ok (.iconst 2, 1) := dk_5 (dk_at dksX0_now_1 23 rfl rfl)
theorem dX0_now_48 : decode cX0_now 48 = .ok (.if_icmp .ne 10, 3) := dk_160 0 10 (dk_at dksX0_now_2 0 rfl rfl)
theorem dX0_now_51 : decode cX0_now 51 = .ok (.aload_n 0, 1) := dk_42 (dk_at dksX0_now_2 3 rfl rfl)
theorem dX0_now_52 : decode cX0_now 52 = .ok (.getfield 127, 3) := dk_180 0 127 (dk_at dksX0_now_2 4 rfl rfl)
theorem dX0_now_55 : decode cX0_now 55 = .ok (.goto 7, 3) := dk_167 0 7 (dk_at dksX0_now_2 7 rfl rfl)
theorem dX0_now_58 : decode cX0_now 58 = .ok (.aload_n 0, 1) := dk_42 (dk_at dksX0_now_2 10 rfl rfl)
theorem dX0_now_59 : decode cX0_now 59 = .ok (.getfield 130, 3) := dk_180 0 130 (dk_at dksX0_now_2 11 rfl rfl)
theorem dX0_now_62 : decode cX0_now 62 = .ok (.ireturn, 1) := dk_172 (dk_at dksX0_now_2 14 rfl rfl)
abbrev cX0_own : ByteArray := prog_1_method_54_code
def yX0_own : MethodName := ⟨RX0, "own", "()I"⟩
def dkwX0_own_1 : List UInt8 := [180, 0, 12, 180, 0, 94, 42, 182, 0, 229, 100, 167, 0, 4, 2, 172]
abbrev dktX0_own_1 : List UInt8 := dkwX0_own_1 ++ []
def dkwX0_own_0 : List UInt8 := [42, 182, 0, 103, 154, 0, 6, 16, 254, 172, 42, 182, 0, 190, 42, 182, 0, 253, 153, 0, 18, 42]
abbrev dktX0_own_0 : List UInt8 := dkwX0_own_0 ++ dktX0_own_1
theorem dksX0_own_0 : cX0_own.data.toList.drop 0 = dktX0_own_0 := by decide +kernel
theorem dksX0_own_1 : cX0_own.data.toList.drop 22 = dktX0_own_1 := dk_seg dksX0_own_0 22 rfl rfl
theorem dX0_own_0 : decode cX0_own 0 = .ok (.aload_n 0, 1) := dk_42 (dk_at dksX0_own_0 0 rfl rfl)
theorem dX0_own_1 : decode cX0_own 1 = .ok (.invokevirtual 103, 3) := dk_182 0 103 (dk_at dksX0_own_0 1 rfl rfl)
theorem dX0_own_4 : decode cX0_own 4 = .ok (.ifCond .ne 6, 3) := dk_154 0 6 (dk_at dksX0_own_0 4 rfl rfl)
theorem dX0_own_7 : decode cX0_own 7 = .ok (.bipush (-2), 2) := dk_16 254 (dk_at dksX0_own_0 7 rfl rfl)
theorem dX0_own_9 : decode cX0_own 9 = .ok (.ireturn, 1) := dk_172 (dk_at dksX0_own_0 9 rfl rfl)
theorem dX0_own_10 : decode cX0_own 10 = .ok (.aload_n 0, 1) := dk_42 (dk_at dksX0_own_0 10 rfl rfl)
theorem dX0_own_11 : decode cX0_own 11 = .ok (.invokevirtual 190, 3) := dk_182 0 190 (dk_at dksX0_own_0 11 rfl rfl)
theorem dX0_own_14 : decode cX0_own 14 = .ok (.aload_n 0, 1) := dk_42 (dk_at dksX0_own_0 14 rfl rfl)
theorem dX0_own_15 : decode cX0_own 15 = .ok (.invokevirtual 253, 3) := dk_182 0 253 (dk_at dksX0_own_0 15 rfl rfl)
theorem dX0_own_18 : decode cX0_own 18 = .ok (.ifCond .eq 18, 3) := dk_153 0 18 (dk_at dksX0_own_0 18 rfl rfl)
theorem dX0_own_21 : decode cX0_own 21 = .ok (.aload_n 0, 1) := dk_42 (dk_at dksX0_own_0 21 rfl rfl)
theorem dX0_own_22 : decode cX0_own 22 = .ok (.getfield 12, 3) := dk_180 0 12 (dk_at dksX0_own_1 0 rfl rfl)
theorem dX0_own_25 : decode cX0_own 25 = .ok (.getfield 94, 3) := dk_180 0 94 (dk_at dksX0_own_1 3 rfl rfl)
theorem dX0_own_28 : decode cX0_own 28 = .ok (.aload_n 0, 1) := dk_42 (dk_at dksX0_own_1 6 rfl rfl)
theorem dX0_own_29 : decode cX0_own 29 = .ok (.invokevirtual 229, 3) := dk_182 0 229 (dk_at dksX0_own_1 7 rfl rfl)
theorem dX0_own_32 : decode cX0_own 32 = .ok (.isub, 1) := dk_100 (dk_at dksX0_own_1 10 rfl rfl)
theorem dX0_own_33 : decode cX0_own 33 = .ok (.goto 4, 3) := dk_167 0 4 (dk_at dksX0_own_1 11 rfl rfl)
theorem dX0_own_36 : decode cX0_own 36 = .ok (.iconst (-1), 1) := dk_2 (dk_at dksX0_own_1 14 rfl rfl)
theorem dX0_own_37 : decode cX0_own 37 = .ok (.ireturn, 1) := dk_172 (dk_at dksX0_own_1 15 rfl rfl)
abbrev cX0_isDealt : ByteArray := prog_1_method_53_code
def yX0_isDealt : MethodName := ⟨RX0, "isDealt", "()Z"⟩
def dkwX0_isDealt_1 : List UInt8 := [132, 1, 1, 167, 255, 232, 4, 172]
abbrev dktX0_isDealt_1 : List UInt8 := dkwX0_isDealt_1 ++ []
def dkwX0_isDealt_0 : List UInt8 := [3, 60, 27, 42, 180, 0, 12, 180, 0, 94, 162, 0, 19, 42, 27, 182, 0, 218, 154, 0, 5, 3, 172]
abbrev dktX0_isDealt_0 : List UInt8 := dkwX0_isDealt_0 ++ dktX0_isDealt_1
theorem dksX0_isDealt_0 : cX0_isDealt.data.toList.drop 0 = dktX0_isDealt_0 := by decide +kernel
theorem dksX0_isDealt_1 : cX0_isDealt.data.toList.drop 23 = dktX0_isDealt_1 := dk_seg dksX0_isDealt_0 23 rfl rfl
theorem dX0_isDealt_0 : decode cX0_isDealt 0 = .ok (.iconst 0, 1) := dk_3 (dk_at dksX0_isDealt_0 0 rfl rfl)
theorem dX0_isDealt_1 : decode cX0_isDealt 1 = .ok (.istore_n 1, 1) := dk_60 (dk_at dksX0_isDealt_0 1 rfl rfl)
theorem dX0_isDealt_2 : decode cX0_isDealt 2 = .ok (.iload_n 1, 1) := dk_27 (dk_at dksX0_isDealt_0 2 rfl rfl)
theorem dX0_isDealt_3 : decode cX0_isDealt 3 = .ok (.aload_n 0, 1) := dk_42 (dk_at dksX0_isDealt_0 3 rfl rfl)
theorem dX0_isDealt_4 : decode cX0_isDealt 4 = .ok (.getfield 12, 3) := dk_180 0 12 (dk_at dksX0_isDealt_0 4 rfl rfl)
theorem dX0_isDealt_7 : decode cX0_isDealt 7 = .ok (.getfield 94, 3) := dk_180 0 94 (dk_at dksX0_isDealt_0 7 rfl rfl)
theorem dX0_isDealt_10 : decode cX0_isDealt 10 = .ok (.if_icmp .ge 19, 3) := dk_162 0 19 (dk_at dksX0_isDealt_0 10 rfl rfl)
theorem dX0_isDealt_13 : decode cX0_isDealt 13 = .ok (.aload_n 0, 1) := dk_42 (dk_at dksX0_isDealt_0 13 rfl rfl)
theorem dX0_isDealt_14 : decode cX0_isDealt 14 = .ok (.iload_n 1, 1) := dk_27 (dk_at dksX0_isDealt_0 14 rfl rfl)
theorem dX0_isDealt_15 : decode cX0_isDealt 15 = .ok (.invokevirtual 218, 3) := dk_182 0 218 (dk_at dksX0_isDealt_0 15 rfl rfl)
theorem dX0_isDealt_18 : decode cX0_isDealt 18 = .ok (.ifCond .ne 5, 3) := dk_154 0 5 (dk_at dksX0_isDealt_0 18 rfl rfl)
theorem dX0_isDealt_21 : decode cX0_isDealt 21 = .ok (.iconst 0, 1) := dk_3 (dk_at dksX0_isDealt_0 21 rfl rfl)
theorem dX0_isDealt_22 : decode cX0_isDealt 22 = .ok (.ireturn, 1) := dk_172 (dk_at dksX0_isDealt_0 22 rfl rfl)
theorem dX0_isDealt_23 : decode cX0_isDealt 23 = .ok (.iinc 1 1, 3) := dk_132 1 1 (dk_at dksX0_isDealt_1 0 rfl rfl)
theorem dX0_isDealt_26 : decode cX0_isDealt 26 = .ok (.goto (-24), 3) := dk_167 255 232 (dk_at dksX0_isDealt_1 3 rfl rfl)
theorem dX0_isDealt_29 : decode cX0_isDealt 29 = .ok (.iconst 1, 1) := dk_4 (dk_at dksX0_isDealt_1 6 rfl rfl)
theorem dX0_isDealt_30 : decode cX0_isDealt 30 = .ok (.ireturn, 1) := dk_172 (dk_at dksX0_isDealt_1 7 rfl rfl)
abbrev cX0_first : ByteArray := prog_1_method_55_code
def yX0_first : MethodName := ⟨RX0, "first", "(I)I"⟩
def dkwX0_first_4 : List UInt8 := [167, 255, 198, 2, 172]
abbrev dktX0_first_4 : List UInt8 := dkwX0_first_4 ++ []
def dkwX0_first_3 : List UInt8 := [160, 0, 13, 27, 154, 0, 7, 28, 167, 0, 4, 29, 172, 132, 3, 1, 167, 255, 219, 132, 2, 1]
abbrev dktX0_first_3 : List UInt8 := dkwX0_first_3 ++ dktX0_first_4
def dkwX0_first_2 : List UInt8 := [62, 29, 42, 180, 0, 12, 180, 0, 94, 162, 0, 32, 42, 28, 182, 0, 226, 42, 29, 182, 0, 226]
abbrev dktX0_first_2 : List UInt8 := dkwX0_first_2 ++ dktX0_first_3
def dkwX0_first_1 : List UInt8 := [182, 0, 253, 154, 0, 5, 2, 172, 3, 61, 28, 42, 180, 0, 12, 180, 0, 94, 162, 0, 53, 28, 4, 96]
abbrev dktX0_first_1 : List UInt8 := dkwX0_first_1 ++ dktX0_first_2
def dkwX0_first_0 : List UInt8 := [42, 182, 0, 103, 153, 0, 12, 27, 133, 5, 184, 0, 97, 154, 0, 6, 16, 254, 172, 42, 182, 0, 190, 42]
abbrev dktX0_first_0 : List UInt8 := dkwX0_first_0 ++ dktX0_first_1
theorem dksX0_first_0 : cX0_first.data.toList.drop 0 = dktX0_first_0 := by decide +kernel
theorem dksX0_first_1 : cX0_first.data.toList.drop 24 = dktX0_first_1 := dk_seg dksX0_first_0 24 rfl rfl
theorem dksX0_first_2 : cX0_first.data.toList.drop 48 = dktX0_first_2 := dk_seg dksX0_first_1 24 rfl rfl
theorem dksX0_first_3 : cX0_first.data.toList.drop 70 = dktX0_first_3 := dk_seg dksX0_first_2 22 rfl rfl
theorem dksX0_first_4 : cX0_first.data.toList.drop 92 = dktX0_first_4 := dk_seg dksX0_first_3 22 rfl rfl
theorem dX0_first_0 : decode cX0_first 0 = .ok (.aload_n 0, 1) := dk_42 (dk_at dksX0_first_0 0 rfl rfl)
theorem dX0_first_1 : decode cX0_first 1 = .ok (.invokevirtual 103, 3) := dk_182 0 103 (dk_at dksX0_first_0 1 rfl rfl)
theorem dX0_first_4 : decode cX0_first 4 = .ok (.ifCond .eq 12, 3) := dk_153 0 12 (dk_at dksX0_first_0 4 rfl rfl)
theorem dX0_first_7 : decode cX0_first 7 = .ok (.iload_n 1, 1) := dk_27 (dk_at dksX0_first_0 7 rfl rfl)
theorem dX0_first_8 : decode cX0_first 8 = .ok (.i2l, 1) := dk_133 (dk_at dksX0_first_0 8 rfl rfl)
theorem dX0_first_9 : decode cX0_first 9 = .ok (.iconst 2, 1) := dk_5 (dk_at dksX0_first_0 9 rfl rfl)
theorem dX0_first_10 : decode cX0_first 10 = .ok (.invokestatic 97, 3) := dk_184 0 97 (dk_at dksX0_first_0 10 rfl rfl)
theorem dX0_first_13 : decode cX0_first 13 = .ok (.ifCond .ne 6, 3) := dk_154 0 6 (dk_at dksX0_first_0 13 rfl rfl)
theorem dX0_first_16 : decode cX0_first 16 = .ok (.bipush (-2), 2) := dk_16 254 (dk_at dksX0_first_0 16 rfl rfl)
theorem dX0_first_18 : decode cX0_first 18 = .ok (.ireturn, 1) := dk_172 (dk_at dksX0_first_0 18 rfl rfl)
theorem dX0_first_19 : decode cX0_first 19 = .ok (.aload_n 0, 1) := dk_42 (dk_at dksX0_first_0 19 rfl rfl)
theorem dX0_first_20 : decode cX0_first 20 = .ok (.invokevirtual 190, 3) := dk_182 0 190 (dk_at dksX0_first_0 20 rfl rfl)
theorem dX0_first_23 : decode cX0_first 23 = .ok (.aload_n 0, 1) := dk_42 (dk_at dksX0_first_0 23 rfl rfl)
theorem dX0_first_24 : decode cX0_first 24 = .ok (.invokevirtual 253, 3) := dk_182 0 253 (dk_at dksX0_first_1 0 rfl rfl)
theorem dX0_first_27 : decode cX0_first 27 = .ok (.ifCond .ne 5, 3) := dk_154 0 5 (dk_at dksX0_first_1 3 rfl rfl)
theorem dX0_first_30 : decode cX0_first 30 = .ok (.iconst (-1), 1) := dk_2 (dk_at dksX0_first_1 6 rfl rfl)
theorem dX0_first_31 : decode cX0_first 31 = .ok (.ireturn, 1) := dk_172 (dk_at dksX0_first_1 7 rfl rfl)
theorem dX0_first_32 : decode cX0_first 32 = .ok (.iconst 0, 1) := dk_3 (dk_at dksX0_first_1 8 rfl rfl)
theorem dX0_first_33 : decode cX0_first 33 = .ok (.istore_n 2, 1) := dk_61 (dk_at dksX0_first_1 9 rfl rfl)
theorem dX0_first_34 : decode cX0_first 34 = .ok (.iload_n 2, 1) := dk_28 (dk_at dksX0_first_1 10 rfl rfl)
theorem dX0_first_35 : decode cX0_first 35 = .ok (.aload_n 0, 1) := dk_42 (dk_at dksX0_first_1 11 rfl rfl)
theorem dX0_first_36 : decode cX0_first 36 = .ok (.getfield 12, 3) := dk_180 0 12 (dk_at dksX0_first_1 12 rfl rfl)
theorem dX0_first_39 : decode cX0_first 39 = .ok (.getfield 94, 3) := dk_180 0 94 (dk_at dksX0_first_1 15 rfl rfl)
theorem dX0_first_42 : decode cX0_first 42 = .ok (.if_icmp .ge 53, 3) := dk_162 0 53 (dk_at dksX0_first_1 18 rfl rfl)
theorem dX0_first_45 : decode cX0_first 45 = .ok (.iload_n 2, 1) := dk_28 (dk_at dksX0_first_1 21 rfl rfl)
theorem dX0_first_46 : decode cX0_first 46 = .ok (.iconst 1, 1) := dk_4 (dk_at dksX0_first_1 22 rfl rfl)
theorem dX0_first_47 : decode cX0_first 47 = .ok (.iadd, 1) := dk_96 (dk_at dksX0_first_1 23 rfl rfl)
theorem dX0_first_48 : decode cX0_first 48 = .ok (.istore_n 3, 1) := dk_62 (dk_at dksX0_first_2 0 rfl rfl)
theorem dX0_first_49 : decode cX0_first 49 = .ok (.iload_n 3, 1) := dk_29 (dk_at dksX0_first_2 1 rfl rfl)
theorem dX0_first_50 : decode cX0_first 50 = .ok (.aload_n 0, 1) := dk_42 (dk_at dksX0_first_2 2 rfl rfl)
theorem dX0_first_51 : decode cX0_first 51 = .ok (.getfield 12, 3) := dk_180 0 12 (dk_at dksX0_first_2 3 rfl rfl)
theorem dX0_first_54 : decode cX0_first 54 = .ok (.getfield 94, 3) := dk_180 0 94 (dk_at dksX0_first_2 6 rfl rfl)
theorem dX0_first_57 : decode cX0_first 57 = .ok (.if_icmp .ge 32, 3) := dk_162 0 32 (dk_at dksX0_first_2 9 rfl rfl)
theorem dX0_first_60 : decode cX0_first 60 = .ok (.aload_n 0, 1) := dk_42 (dk_at dksX0_first_2 12 rfl rfl)
theorem dX0_first_61 : decode cX0_first 61 = .ok (.iload_n 2, 1) := dk_28 (dk_at dksX0_first_2 13 rfl rfl)
theorem dX0_first_62 : decode cX0_first 62 = .ok (.invokevirtual 226, 3) := dk_182 0 226 (dk_at dksX0_first_2 14 rfl rfl)
theorem dX0_first_65 : decode cX0_first 65 = .ok (.aload_n 0, 1) := dk_42 (dk_at dksX0_first_2 17 rfl rfl)
theorem dX0_first_66 : decode cX0_first 66 = .ok (.iload_n 3, 1) := dk_29 (dk_at dksX0_first_2 18 rfl rfl)
theorem dX0_first_67 : decode cX0_first 67 = .ok (.invokevirtual 226, 3) := dk_182 0 226 (dk_at dksX0_first_2 19 rfl rfl)
theorem dX0_first_70 : decode cX0_first 70 = .ok (.if_icmp .ne 13, 3) := dk_160 0 13 (dk_at dksX0_first_3 0 rfl rfl)
theorem dX0_first_73 : decode cX0_first 73 = .ok (.iload_n 1, 1) := dk_27 (dk_at dksX0_first_3 3 rfl rfl)
theorem dX0_first_74 : decode cX0_first 74 = .ok (.ifCond .ne 7, 3) := dk_154 0 7 (dk_at dksX0_first_3 4 rfl rfl)
theorem dX0_first_77 : decode cX0_first 77 = .ok (.iload_n 2, 1) := dk_28 (dk_at dksX0_first_3 7 rfl rfl)
theorem dX0_first_78 : decode cX0_first 78 = .ok (.goto 4, 3) := dk_167 0 4 (dk_at dksX0_first_3 8 rfl rfl)
theorem dX0_first_81 : decode cX0_first 81 = .ok (.iload_n 3, 1) := dk_29 (dk_at dksX0_first_3 11 rfl rfl)
theorem dX0_first_82 : decode cX0_first 82 = .ok (.ireturn, 1) := dk_172 (dk_at dksX0_first_3 12 rfl rfl)
theorem dX0_first_83 : decode cX0_first 83 = .ok (.iinc 3 1, 3) := dk_132 3 1 (dk_at dksX0_first_3 13 rfl rfl)
theorem dX0_first_86 : decode cX0_first 86 = .ok (.goto (-37), 3) := dk_167 255 219 (dk_at dksX0_first_3 16 rfl rfl)
theorem dX0_first_89 : decode cX0_first 89 = .ok (.iinc 2 1, 3) := dk_132 2 1 (dk_at dksX0_first_3 19 rfl rfl)
theorem dX0_first_92 : decode cX0_first 92 = .ok (.goto (-58), 3) := dk_167 255 198 (dk_at dksX0_first_4 0 rfl rfl)
theorem dX0_first_95 : decode cX0_first 95 = .ok (.iconst (-1), 1) := dk_2 (dk_at dksX0_first_4 3 rfl rfl)
theorem dX0_first_96 : decode cX0_first 96 = .ok (.ireturn, 1) := dk_172 (dk_at dksX0_first_4 4 rfl rfl)
abbrev cX0_work : ByteArray := prog_1_method_59_code
def yX0_work : MethodName := ⟨RX0, "work", "()I"⟩
def dkwX0_work_0 : List UInt8 := [42, 182, 0, 103, 154, 0, 6, 16, 254, 172, 42, 182, 0, 190, 42, 3, 182, 1, 9, 172]
abbrev dktX0_work_0 : List UInt8 := dkwX0_work_0 ++ []
theorem dksX0_work_0 : cX0_work.data.toList.drop 0 = dktX0_work_0 := by decide +kernel
theorem dX0_work_0 : decode cX0_work 0 = .ok (.aload_n 0, 1) := dk_42 (dk_at dksX0_work_0 0 rfl rfl)
theorem dX0_work_1 : decode cX0_work 1 = .ok (.invokevirtual 103, 3) := dk_182 0 103 (dk_at dksX0_work_0 1 rfl rfl)
theorem dX0_work_4 : decode cX0_work 4 = .ok (.ifCond .ne 6, 3) := dk_154 0 6 (dk_at dksX0_work_0 4 rfl rfl)
theorem dX0_work_7 : decode cX0_work 7 = .ok (.bipush (-2), 2) := dk_16 254 (dk_at dksX0_work_0 7 rfl rfl)
theorem dX0_work_9 : decode cX0_work 9 = .ok (.ireturn, 1) := dk_172 (dk_at dksX0_work_0 9 rfl rfl)
theorem dX0_work_10 : decode cX0_work 10 = .ok (.aload_n 0, 1) := dk_42 (dk_at dksX0_work_0 10 rfl rfl)
theorem dX0_work_11 : decode cX0_work 11 = .ok (.invokevirtual 190, 3) := dk_182 0 190 (dk_at dksX0_work_0 11 rfl rfl)
theorem dX0_work_14 : decode cX0_work 14 = .ok (.aload_n 0, 1) := dk_42 (dk_at dksX0_work_0 14 rfl rfl)
theorem dX0_work_15 : decode cX0_work 15 = .ok (.iconst 0, 1) := dk_3 (dk_at dksX0_work_0 15 rfl rfl)
theorem dX0_work_16 : decode cX0_work 16 = .ok (.invokevirtual 265, 3) := dk_182 1 9 (dk_at dksX0_work_0 16 rfl rfl)
theorem dX0_work_19 : decode cX0_work 19 = .ok (.ireturn, 1) := dk_172 (dk_at dksX0_work_0 19 rfl rfl)
abbrev cX0_pairsAll : ByteArray := prog_1_method_58_code
def yX0_pairsAll : MethodName := ⟨RX0, "pairsAll", "(I)I"⟩
def dkwX0_pairsAll_6 : List UInt8 := [167, 255, 220, 28, 172]
abbrev dktX0_pairsAll_6 : List UInt8 := dkwX0_pairsAll_6 ++ []
def dkwX0_pairsAll_5 : List UInt8 := [181, 1, 3, 28, 42, 29, 27, 182, 1, 6, 153, 0, 7, 4, 167, 0, 4, 3, 96, 61, 132, 3, 1]
abbrev dktX0_pairsAll_5 : List UInt8 := dkwX0_pairsAll_5 ++ dktX0_pairsAll_6
def dkwX0_pairsAll_4 : List UInt8 := [2, 79, 132, 3, 1, 167, 255, 235, 27, 62, 29, 42, 180, 0, 12, 180, 0, 94, 162, 0, 31, 42, 3]
abbrev dktX0_pairsAll_4 : List UInt8 := dkwX0_pairsAll_4 ++ dktX0_pairsAll_5
def dkwX0_pairsAll_3 : List UInt8 := [132, 3, 1, 167, 255, 210, 27, 62, 29, 42, 180, 0, 12, 180, 0, 94, 162, 0, 16, 42, 180, 0, 44, 29]
abbrev dktX0_pairsAll_3 : List UInt8 := dkwX0_pairsAll_3 ++ dktX0_pairsAll_4
def dkwX0_pairsAll_2 : List UInt8 := [180, 0, 41, 16, 6, 42, 180, 0, 24, 29, 46, 104, 42, 180, 0, 44, 29, 46, 96, 29, 79, 132, 2, 1]
abbrev dktX0_pairsAll_2 : List UInt8 := dkwX0_pairsAll_2 ++ dktX0_pairsAll_3
def dkwX0_pairsAll_1 : List UInt8 := [167, 255, 237, 3, 62, 29, 27, 162, 0, 47, 42, 180, 0, 44, 29, 46, 2, 160, 0, 6, 167, 0, 28, 42]
abbrev dktX0_pairsAll_1 : List UInt8 := dkwX0_pairsAll_1 ++ dktX0_pairsAll_2
def dkwX0_pairsAll_0 : List UInt8 := [3, 61, 3, 62, 29, 42, 180, 0, 41, 190, 162, 0, 16, 42, 180, 0, 41, 29, 2, 79, 132, 3, 1]
abbrev dktX0_pairsAll_0 : List UInt8 := dkwX0_pairsAll_0 ++ dktX0_pairsAll_1
theorem dksX0_pairsAll_0 : cX0_pairsAll.data.toList.drop 0 = dktX0_pairsAll_0 := by decide +kernel
theorem dksX0_pairsAll_1 : cX0_pairsAll.data.toList.drop 23 = dktX0_pairsAll_1 := dk_seg dksX0_pairsAll_0 23 rfl rfl
theorem dksX0_pairsAll_2 : cX0_pairsAll.data.toList.drop 47 = dktX0_pairsAll_2 := dk_seg dksX0_pairsAll_1 24 rfl rfl
theorem dksX0_pairsAll_3 : cX0_pairsAll.data.toList.drop 71 = dktX0_pairsAll_3 := dk_seg dksX0_pairsAll_2 24 rfl rfl
theorem dksX0_pairsAll_4 : cX0_pairsAll.data.toList.drop 95 = dktX0_pairsAll_4 := dk_seg dksX0_pairsAll_3 24 rfl rfl
theorem dksX0_pairsAll_5 : cX0_pairsAll.data.toList.drop 118 = dktX0_pairsAll_5 := dk_seg dksX0_pairsAll_4 23 rfl rfl
theorem dksX0_pairsAll_6 : cX0_pairsAll.data.toList.drop 141 = dktX0_pairsAll_6 := dk_seg dksX0_pairsAll_5 23 rfl rfl
theorem dX0_pairsAll_0 : decode cX0_pairsAll 0 = .ok (.iconst 0, 1) := dk_3 (dk_at dksX0_pairsAll_0 0 rfl rfl)
theorem dX0_pairsAll_1 : decode cX0_pairsAll 1 = .ok (.istore_n 2, 1) := dk_61 (dk_at dksX0_pairsAll_0 1 rfl rfl)
theorem dX0_pairsAll_2 : decode cX0_pairsAll 2 = .ok (.iconst 0, 1) := dk_3 (dk_at dksX0_pairsAll_0 2 rfl rfl)
theorem dX0_pairsAll_3 : decode cX0_pairsAll 3 = .ok (.istore_n 3, 1) := dk_62 (dk_at dksX0_pairsAll_0 3 rfl rfl)
theorem dX0_pairsAll_4 : decode cX0_pairsAll 4 = .ok (.iload_n 3, 1) := dk_29 (dk_at dksX0_pairsAll_0 4 rfl rfl)
theorem dX0_pairsAll_5 : decode cX0_pairsAll 5 = .ok (.aload_n 0, 1) := dk_42 (dk_at dksX0_pairsAll_0 5 rfl rfl)
theorem dX0_pairsAll_6 : decode cX0_pairsAll 6 = .ok (.getfield 41, 3) := dk_180 0 41 (dk_at dksX0_pairsAll_0 6 rfl rfl)
theorem dX0_pairsAll_9 : decode cX0_pairsAll 9 = .ok (.arraylength, 1) := dk_190 (dk_at dksX0_pairsAll_0 9 rfl rfl)
theorem dX0_pairsAll_10 : decode cX0_pairsAll 10 = .ok (.if_icmp .ge 16, 3) := dk_162 0 16 (dk_at dksX0_pairsAll_0 10 rfl rfl)
theorem dX0_pairsAll_13 : decode cX0_pairsAll 13 = .ok (.aload_n 0, 1) := dk_42 (dk_at dksX0_pairsAll_0 13 rfl rfl)
theorem dX0_pairsAll_14 : decode cX0_pairsAll 14 = .ok (.getfield 41, 3) := dk_180 0 41 (dk_at dksX0_pairsAll_0 14 rfl rfl)
theorem dX0_pairsAll_17 : decode cX0_pairsAll 17 = .ok (.iload_n 3, 1) := dk_29 (dk_at dksX0_pairsAll_0 17 rfl rfl)
theorem dX0_pairsAll_18 : decode cX0_pairsAll 18 = .ok (.iconst (-1), 1) := dk_2 (dk_at dksX0_pairsAll_0 18 rfl rfl)
theorem dX0_pairsAll_19 : decode cX0_pairsAll 19 = .ok (.iastore, 1) := dk_79 (dk_at dksX0_pairsAll_0 19 rfl rfl)
theorem dX0_pairsAll_20 : decode cX0_pairsAll 20 = .ok (.iinc 3 1, 3) := dk_132 3 1 (dk_at dksX0_pairsAll_0 20 rfl rfl)
theorem dX0_pairsAll_23 : decode cX0_pairsAll 23 = .ok (.goto (-19), 3) := dk_167 255 237 (dk_at dksX0_pairsAll_1 0 rfl rfl)
theorem dX0_pairsAll_26 : decode cX0_pairsAll 26 = .ok (.iconst 0, 1) := dk_3 (dk_at dksX0_pairsAll_1 3 rfl rfl)
theorem dX0_pairsAll_27 : decode cX0_pairsAll 27 = .ok (.istore_n 3, 1) := dk_62 (dk_at dksX0_pairsAll_1 4 rfl rfl)
theorem dX0_pairsAll_28 : decode cX0_pairsAll 28 = .ok (.iload_n 3, 1) := dk_29 (dk_at dksX0_pairsAll_1 5 rfl rfl)
theorem dX0_pairsAll_29 : decode cX0_pairsAll 29 = .ok (.iload_n 1, 1) := dk_27 (dk_at dksX0_pairsAll_1 6 rfl rfl)
theorem dX0_pairsAll_30 : decode cX0_pairsAll 30 = .ok (.if_icmp .ge 47, 3) := dk_162 0 47 (dk_at dksX0_pairsAll_1 7 rfl rfl)
theorem dX0_pairsAll_33 : decode cX0_pairsAll 33 = .ok (.aload_n 0, 1) := dk_42 (dk_at dksX0_pairsAll_1 10 rfl rfl)
theorem dX0_pairsAll_34 : decode cX0_pairsAll 34 = .ok (.getfield 44, 3) := dk_180 0 44 (dk_at dksX0_pairsAll_1 11 rfl rfl)
theorem dX0_pairsAll_37 : decode cX0_pairsAll 37 = .ok (.iload_n 3, 1) := dk_29 (dk_at dksX0_pairsAll_1 14 rfl rfl)
theorem dX0_pairsAll_38 : decode cX0_pairsAll 38 = .ok (.iaload, 1) := dk_46 (dk_at dksX0_pairsAll_1 15 rfl rfl)
theorem dX0_pairsAll_39 : decode cX0_pairsAll 39 = .ok (.iconst (-1), 1) := dk_2 (dk_at dksX0_pairsAll_1 16 rfl rfl)
theorem dX0_pairsAll_40 : decode cX0_pairsAll 40 = .ok (.if_icmp .ne 6, 3) := dk_160 0 6 (dk_at dksX0_pairsAll_1 17 rfl rfl)
theorem dX0_pairsAll_43 : decode cX0_pairsAll 43 = .ok (.goto 28, 3) := dk_167 0 28 (dk_at dksX0_pairsAll_1 20 rfl rfl)
theorem dX0_pairsAll_46 : decode cX0_pairsAll 46 = .ok (.aload_n 0, 1) := dk_42 (dk_at dksX0_pairsAll_1 23 rfl rfl)
theorem dX0_pairsAll_47 : decode cX0_pairsAll 47 = .ok (.getfield 41, 3) := dk_180 0 41 (dk_at dksX0_pairsAll_2 0 rfl rfl)
theorem dX0_pairsAll_50 : decode cX0_pairsAll 50 = .ok (.bipush 6, 2) := dk_16 6 (dk_at dksX0_pairsAll_2 3 rfl rfl)
theorem dX0_pairsAll_52 : decode cX0_pairsAll 52 = .ok (.aload_n 0, 1) := dk_42 (dk_at dksX0_pairsAll_2 5 rfl rfl)
theorem dX0_pairsAll_53 : decode cX0_pairsAll 53 = .ok (.getfield 24, 3) := dk_180 0 24 (dk_at dksX0_pairsAll_2 6 rfl rfl)
theorem dX0_pairsAll_56 : decode cX0_pairsAll 56 = .ok (.iload_n 3, 1) := dk_29 (dk_at dksX0_pairsAll_2 9 rfl rfl)
theorem dX0_pairsAll_57 : decode cX0_pairsAll 57 = .ok (.iaload, 1) := dk_46 (dk_at dksX0_pairsAll_2 10 rfl rfl)
theorem dX0_pairsAll_58 : decode cX0_pairsAll 58 = .ok (.imul, 1) := dk_104 (dk_at dksX0_pairsAll_2 11 rfl rfl)
theorem dX0_pairsAll_59 : decode cX0_pairsAll 59 = .ok (.aload_n 0, 1) := dk_42 (dk_at dksX0_pairsAll_2 12 rfl rfl)
theorem dX0_pairsAll_60 : decode cX0_pairsAll 60 = .ok (.getfield 44, 3) := dk_180 0 44 (dk_at dksX0_pairsAll_2 13 rfl rfl)
theorem dX0_pairsAll_63 : decode cX0_pairsAll 63 = .ok (.iload_n 3, 1) := dk_29 (dk_at dksX0_pairsAll_2 16 rfl rfl)
theorem dX0_pairsAll_64 : decode cX0_pairsAll 64 = .ok (.iaload, 1) := dk_46 (dk_at dksX0_pairsAll_2 17 rfl rfl)
theorem dX0_pairsAll_65 : decode cX0_pairsAll 65 = .ok (.iadd, 1) := dk_96 (dk_at dksX0_pairsAll_2 18 rfl rfl)
theorem dX0_pairsAll_66 : decode cX0_pairsAll 66 = .ok (.iload_n 3, 1) := dk_29 (dk_at dksX0_pairsAll_2 19 rfl rfl)
theorem dX0_pairsAll_67 : decode cX0_pairsAll 67 = .ok (.iastore, 1) := dk_79 (dk_at dksX0_pairsAll_2 20 rfl rfl)
theorem dX0_pairsAll_68 : decode cX0_pairsAll 68 = .ok (.iinc 2 1, 3) := dk_132 2 1 (dk_at dksX0_pairsAll_2 21 rfl rfl)
theorem dX0_pairsAll_71 : decode cX0_pairsAll 71 = .ok (.iinc 3 1, 3) := dk_132 3 1 (dk_at dksX0_pairsAll_3 0 rfl rfl)
theorem dX0_pairsAll_74 : decode cX0_pairsAll 74 = .ok (.goto (-46), 3) := dk_167 255 210 (dk_at dksX0_pairsAll_3 3 rfl rfl)
theorem dX0_pairsAll_77 : decode cX0_pairsAll 77 = .ok (.iload_n 1, 1) := dk_27 (dk_at dksX0_pairsAll_3 6 rfl rfl)
theorem dX0_pairsAll_78 : decode cX0_pairsAll 78 = .ok (.istore_n 3, 1) := dk_62 (dk_at dksX0_pairsAll_3 7 rfl rfl)
theorem dX0_pairsAll_79 : decode cX0_pairsAll 79 = .ok (.iload_n 3, 1) := dk_29 (dk_at dksX0_pairsAll_3 8 rfl rfl)
theorem dX0_pairsAll_80 : decode cX0_pairsAll 80 = .ok (.aload_n 0, 1) := dk_42 (dk_at dksX0_pairsAll_3 9 rfl rfl)
theorem dX0_pairsAll_81 : decode cX0_pairsAll 81 = .ok (.getfield 12, 3) := dk_180 0 12 (dk_at dksX0_pairsAll_3 10 rfl rfl)
theorem dX0_pairsAll_84 : decode cX0_pairsAll 84 = .ok (.getfield 94, 3) := dk_180 0 94 (dk_at dksX0_pairsAll_3 13 rfl rfl)
theorem dX0_pairsAll_87 : decode cX0_pairsAll 87 = .ok (.if_icmp .ge 16, 3) := dk_162 0 16 (dk_at dksX0_pairsAll_3 16 rfl rfl)
theorem dX0_pairsAll_90 : decode cX0_pairsAll 90 = .ok (.aload_n 0, 1) := dk_42 (dk_at dksX0_pairsAll_3 19 rfl rfl)
theorem dX0_pairsAll_91 : decode cX0_pairsAll 91 = .ok (.getfield 44, 3) := dk_180 0 44 (dk_at dksX0_pairsAll_3 20 rfl rfl)
theorem dX0_pairsAll_94 : decode cX0_pairsAll 94 = .ok (.iload_n 3, 1) := dk_29 (dk_at dksX0_pairsAll_3 23 rfl rfl)
theorem dX0_pairsAll_95 : decode cX0_pairsAll 95 = .ok (.iconst (-1), 1) := dk_2 (dk_at dksX0_pairsAll_4 0 rfl rfl)
theorem dX0_pairsAll_96 : decode cX0_pairsAll 96 = .ok (.iastore, 1) := dk_79 (dk_at dksX0_pairsAll_4 1 rfl rfl)
theorem dX0_pairsAll_97 : decode cX0_pairsAll 97 = .ok (.iinc 3 1, 3) := dk_132 3 1 (dk_at dksX0_pairsAll_4 2 rfl rfl)
theorem dX0_pairsAll_100 : decode cX0_pairsAll 100 = .ok (.goto (-21), 3) := dk_167 255 235 (dk_at dksX0_pairsAll_4 5 rfl rfl)
theorem dX0_pairsAll_103 : decode cX0_pairsAll 103 = .ok (.iload_n 1, 1) := dk_27 (dk_at dksX0_pairsAll_4 8 rfl rfl)
theorem dX0_pairsAll_104 : decode cX0_pairsAll 104 = .ok (.istore_n 3, 1) := dk_62 (dk_at dksX0_pairsAll_4 9 rfl rfl)
theorem dX0_pairsAll_105 : decode cX0_pairsAll 105 = .ok (.iload_n 3, 1) := dk_29 (dk_at dksX0_pairsAll_4 10 rfl rfl)
theorem dX0_pairsAll_106 : decode cX0_pairsAll 106 = .ok (.aload_n 0, 1) := dk_42 (dk_at dksX0_pairsAll_4 11 rfl rfl)
theorem dX0_pairsAll_107 : decode cX0_pairsAll 107 = .ok (.getfield 12, 3) := dk_180 0 12 (dk_at dksX0_pairsAll_4 12 rfl rfl)
theorem dX0_pairsAll_110 : decode cX0_pairsAll 110 = .ok (.getfield 94, 3) := dk_180 0 94 (dk_at dksX0_pairsAll_4 15 rfl rfl)
theorem dX0_pairsAll_113 : decode cX0_pairsAll 113 = .ok (.if_icmp .ge 31, 3) := dk_162 0 31 (dk_at dksX0_pairsAll_4 18 rfl rfl)
theorem dX0_pairsAll_116 : decode cX0_pairsAll 116 = .ok (.aload_n 0, 1) := dk_42 (dk_at dksX0_pairsAll_4 21 rfl rfl)
theorem dX0_pairsAll_117 : decode cX0_pairsAll 117 = .ok (.iconst 0, 1) := dk_3 (dk_at dksX0_pairsAll_4 22 rfl rfl)
theorem dX0_pairsAll_118 : decode cX0_pairsAll 118 = .ok (.putfield 259, 3) := dk_181 1 3 (dk_at dksX0_pairsAll_5 0 rfl rfl)
theorem dX0_pairsAll_121 : decode cX0_pairsAll 121 = .ok (.iload_n 2, 1) := dk_28 (dk_at dksX0_pairsAll_5 3 rfl rfl)
theorem dX0_pairsAll_122 : decode cX0_pairsAll 122 = .ok (.aload_n 0, 1) := dk_42 (dk_at dksX0_pairsAll_5 4 rfl rfl)
theorem dX0_pairsAll_123 : decode cX0_pairsAll 123 = .ok (.iload_n 3, 1) := dk_29 (dk_at dksX0_pairsAll_5 5 rfl rfl)
theorem dX0_pairsAll_124 : decode cX0_pairsAll 124 = .ok (.iload_n 1, 1) := dk_27 (dk_at dksX0_pairsAll_5 6 rfl rfl)
theorem dX0_pairsAll_125 : decode cX0_pairsAll 125 = .ok (.invokevirtual 262, 3) := dk_182 1 6 (dk_at dksX0_pairsAll_5 7 rfl rfl)
theorem dX0_pairsAll_128 : decode cX0_pairsAll 128 = .ok (.ifCond .eq 7, 3) := dk_153 0 7 (dk_at dksX0_pairsAll_5 10 rfl rfl)
theorem dX0_pairsAll_131 : decode cX0_pairsAll 131 = .ok (.iconst 1, 1) := dk_4 (dk_at dksX0_pairsAll_5 13 rfl rfl)
theorem dX0_pairsAll_132 : decode cX0_pairsAll 132 = .ok (.goto 4, 3) := dk_167 0 4 (dk_at dksX0_pairsAll_5 14 rfl rfl)
theorem dX0_pairsAll_135 : decode cX0_pairsAll 135 = .ok (.iconst 0, 1) := dk_3 (dk_at dksX0_pairsAll_5 17 rfl rfl)
theorem dX0_pairsAll_136 : decode cX0_pairsAll 136 = .ok (.iadd, 1) := dk_96 (dk_at dksX0_pairsAll_5 18 rfl rfl)
theorem dX0_pairsAll_137 : decode cX0_pairsAll 137 = .ok (.istore_n 2, 1) := dk_61 (dk_at dksX0_pairsAll_5 19 rfl rfl)
theorem dX0_pairsAll_138 : decode cX0_pairsAll 138 = .ok (.iinc 3 1, 3) := dk_132 3 1 (dk_at dksX0_pairsAll_5 20 rfl rfl)
theorem dX0_pairsAll_141 : decode cX0_pairsAll 141 = .ok (.goto (-36), 3) := dk_167 255 220 (dk_at dksX0_pairsAll_6 0 rfl rfl)
theorem dX0_pairsAll_144 : decode cX0_pairsAll 144 = .ok (.iload_n 2, 1) := dk_28 (dk_at dksX0_pairsAll_6 3 rfl rfl)
theorem dX0_pairsAll_145 : decode cX0_pairsAll 145 = .ok (.ireturn, 1) := dk_172 (dk_at dksX0_pairsAll_6 4 rfl rfl)
abbrev cX0_pairs : ByteArray := prog_1_method_57_code
def yX0_pairs : MethodName := ⟨RX0, "pairs", "(II)Z"⟩
def dkwX0_pairs_5 : List UInt8 := [79, 42, 180, 0, 44, 27, 29, 79, 4, 172, 132, 3, 1, 167, 255, 128, 3, 172]
abbrev dktX0_pairs_5 : List UInt8 := dkwX0_pairs_5 ++ []
def dkwX0_pairs_4 : List UInt8 := [42, 180, 0, 41, 21, 4, 46, 28, 182, 1, 6, 154, 0, 6, 167, 0, 20, 42, 180, 0, 41, 21, 4, 27]
abbrev dktX0_pairs_4 : List UInt8 := dkwX0_pairs_4 ++ dktX0_pairs_5
def dkwX0_pairs_3 : List UInt8 := [42, 89, 180, 1, 3, 4, 29, 120, 128, 181, 1, 3, 42, 180, 0, 41, 21, 4, 46, 2, 159, 0, 21, 42]
abbrev dktX0_pairs_3 : List UInt8 := dkwX0_pairs_3 ++ dktX0_pairs_4
def dkwX0_pairs_2 : List UInt8 := [180, 0, 41, 21, 4, 46, 2, 159, 0, 17, 42, 180, 0, 41, 21, 4, 46, 28, 162, 0, 6, 167, 0, 61]
abbrev dktX0_pairs_2 : List UInt8 := dkwX0_pairs_2 ++ dktX0_pairs_3
def dkwX0_pairs_1 : List UInt8 := [180, 0, 24, 27, 46, 104, 29, 96, 54, 4, 42, 180, 1, 3, 29, 184, 0, 114, 154, 0, 86, 42]
abbrev dktX0_pairs_1 : List UInt8 := dkwX0_pairs_1 ++ dktX0_pairs_2
def dkwX0_pairs_0 : List UInt8 := [3, 62, 29, 16, 6, 162, 0, 128, 42, 27, 29, 182, 1, 0, 154, 0, 6, 167, 0, 110, 16, 6, 42]
abbrev dktX0_pairs_0 : List UInt8 := dkwX0_pairs_0 ++ dktX0_pairs_1
theorem dksX0_pairs_0 : cX0_pairs.data.toList.drop 0 = dktX0_pairs_0 := by decide +kernel
theorem dksX0_pairs_1 : cX0_pairs.data.toList.drop 23 = dktX0_pairs_1 := dk_seg dksX0_pairs_0 23 rfl rfl
theorem dksX0_pairs_2 : cX0_pairs.data.toList.drop 45 = dktX0_pairs_2 := dk_seg dksX0_pairs_1 22 rfl rfl
theorem dksX0_pairs_3 : cX0_pairs.data.toList.drop 69 = dktX0_pairs_3 := dk_seg dksX0_pairs_2 24 rfl rfl
theorem dksX0_pairs_4 : cX0_pairs.data.toList.drop 93 = dktX0_pairs_4 := dk_seg dksX0_pairs_3 24 rfl rfl
theorem dksX0_pairs_5 : cX0_pairs.data.toList.drop 117 = dktX0_pairs_5 := dk_seg dksX0_pairs_4 24 rfl rfl
theorem dX0_pairs_0 : decode cX0_pairs 0 = .ok (.iconst 0, 1) := dk_3 (dk_at dksX0_pairs_0 0 rfl rfl)
theorem dX0_pairs_1 : decode cX0_pairs 1 = .ok (.istore_n 3, 1) := dk_62 (dk_at dksX0_pairs_0 1 rfl rfl)
theorem dX0_pairs_2 : decode cX0_pairs 2 = .ok (.iload_n 3, 1) := dk_29 (dk_at dksX0_pairs_0 2 rfl rfl)
theorem dX0_pairs_3 : decode cX0_pairs 3 = .ok (.bipush 6, 2) := dk_16 6 (dk_at dksX0_pairs_0 3 rfl rfl)
theorem dX0_pairs_5 : decode cX0_pairs 5 = .ok (.if_icmp .ge 128, 3) := dk_162 0 128 (dk_at dksX0_pairs_0 5 rfl rfl)
theorem dX0_pairs_8 : decode cX0_pairs 8 = .ok (.aload_n 0, 1) := dk_42 (dk_at dksX0_pairs_0 8 rfl rfl)
theorem dX0_pairs_9 : decode cX0_pairs 9 = .ok (.iload_n 1, 1) := dk_27 (dk_at dksX0_pairs_0 9 rfl rfl)
theorem dX0_pairs_10 : decode cX0_pairs 10 = .ok (.iload_n 3, 1) := dk_29 (dk_at dksX0_pairs_0 10 rfl rfl)
theorem dX0_pairs_11 : decode cX0_pairs 11 = .ok (.invokevirtual 256, 3) := dk_182 1 0 (dk_at dksX0_pairs_0 11 rfl rfl)
theorem dX0_pairs_14 : decode cX0_pairs 14 = .ok (.ifCond .ne 6, 3) := dk_154 0 6 (dk_at dksX0_pairs_0 14 rfl rfl)
theorem dX0_pairs_17 : decode cX0_pairs 17 = .ok (.goto 110, 3) := dk_167 0 110 (dk_at dksX0_pairs_0 17 rfl rfl)
theorem dX0_pairs_20 : decode cX0_pairs 20 = .ok (.bipush 6, 2) := dk_16 6 (dk_at dksX0_pairs_0 20 rfl rfl)
theorem dX0_pairs_22 : decode cX0_pairs 22 = .ok (.aload_n 0, 1) := dk_42 (dk_at dksX0_pairs_0 22 rfl rfl)
theorem dX0_pairs_23 : decode cX0_pairs 23 = .ok (.getfield 24, 3) := dk_180 0 24 (dk_at dksX0_pairs_1 0 rfl rfl)
theorem dX0_pairs_26 : decode cX0_pairs 26 = .ok (.iload_n 1, 1) := dk_27 (dk_at dksX0_pairs_1 3 rfl rfl)
theorem dX0_pairs_27 : decode cX0_pairs 27 = .ok (.iaload, 1) := dk_46 (dk_at dksX0_pairs_1 4 rfl rfl)
theorem dX0_pairs_28 : decode cX0_pairs 28 = .ok (.imul, 1) := dk_104 (dk_at dksX0_pairs_1 5 rfl rfl)
theorem dX0_pairs_29 : decode cX0_pairs 29 = .ok (.iload_n 3, 1) := dk_29 (dk_at dksX0_pairs_1 6 rfl rfl)
theorem dX0_pairs_30 : decode cX0_pairs 30 = .ok (.iadd, 1) := dk_96 (dk_at dksX0_pairs_1 7 rfl rfl)
theorem dX0_pairs_31 : decode cX0_pairs 31 = .ok (.istore 4, 2) := dk_54 4 (dk_at dksX0_pairs_1 8 rfl rfl)
theorem dX0_pairs_33 : decode cX0_pairs 33 = .ok (.aload_n 0, 1) := dk_42 (dk_at dksX0_pairs_1 10 rfl rfl)
theorem dX0_pairs_34 : decode cX0_pairs 34 = .ok (.getfield 259, 3) := dk_180 1 3 (dk_at dksX0_pairs_1 11 rfl rfl)
theorem dX0_pairs_37 : decode cX0_pairs 37 = .ok (.iload_n 3, 1) := dk_29 (dk_at dksX0_pairs_1 14 rfl rfl)
theorem dX0_pairs_38 : decode cX0_pairs 38 = .ok (.invokestatic 114, 3) := dk_184 0 114 (dk_at dksX0_pairs_1 15 rfl rfl)
theorem dX0_pairs_41 : decode cX0_pairs 41 = .ok (.ifCond .ne 86, 3) := dk_154 0 86 (dk_at dksX0_pairs_1 18 rfl rfl)
theorem dX0_pairs_44 : decode cX0_pairs 44 = .ok (.aload_n 0, 1) := dk_42 (dk_at dksX0_pairs_1 21 rfl rfl)
theorem dX0_pairs_45 : decode cX0_pairs 45 = .ok (.getfield 41, 3) := dk_180 0 41 (dk_at dksX0_pairs_2 0 rfl rfl)
theorem dX0_pairs_48 : decode cX0_pairs 48 = .ok (.iload 4, 2) := dk_21 4 (dk_at dksX0_pairs_2 3 rfl rfl)
theorem dX0_pairs_50 : decode cX0_pairs 50 = .ok (.iaload, 1) := dk_46 (dk_at dksX0_pairs_2 5 rfl rfl)
theorem dX0_pairs_51 : decode cX0_pairs 51 = .ok (.iconst (-1), 1) := dk_2 (dk_at dksX0_pairs_2 6 rfl rfl)
theorem dX0_pairs_52 : decode cX0_pairs 52 = .ok (.if_icmp .eq 17, 3) := dk_159 0 17 (dk_at dksX0_pairs_2 7 rfl rfl)
theorem dX0_pairs_55 : decode cX0_pairs 55 = .ok (.aload_n 0, 1) := dk_42 (dk_at dksX0_pairs_2 10 rfl rfl)
theorem dX0_pairs_56 : decode cX0_pairs 56 = .ok (.getfield 41, 3) := dk_180 0 41 (dk_at dksX0_pairs_2 11 rfl rfl)
theorem dX0_pairs_59 : decode cX0_pairs 59 = .ok (.iload 4, 2) := dk_21 4 (dk_at dksX0_pairs_2 14 rfl rfl)
theorem dX0_pairs_61 : decode cX0_pairs 61 = .ok (.iaload, 1) := dk_46 (dk_at dksX0_pairs_2 16 rfl rfl)
theorem dX0_pairs_62 : decode cX0_pairs 62 = .ok (.iload_n 2, 1) := dk_28 (dk_at dksX0_pairs_2 17 rfl rfl)
theorem dX0_pairs_63 : decode cX0_pairs 63 = .ok (.if_icmp .ge 6, 3) := dk_162 0 6 (dk_at dksX0_pairs_2 18 rfl rfl)
theorem dX0_pairs_66 : decode cX0_pairs 66 = .ok (.goto 61, 3) := dk_167 0 61 (dk_at dksX0_pairs_2 21 rfl rfl)
theorem dX0_pairs_69 : decode cX0_pairs 69 = .ok (.aload_n 0, 1) := dk_42 (dk_at dksX0_pairs_3 0 rfl rfl)
theorem dX0_pairs_70 : decode cX0_pairs 70 = .ok (.dup, 1) := dk_89 (dk_at dksX0_pairs_3 1 rfl rfl)
theorem dX0_pairs_71 : decode cX0_pairs 71 = .ok (.getfield 259, 3) := dk_180 1 3 (dk_at dksX0_pairs_3 2 rfl rfl)
theorem dX0_pairs_74 : decode cX0_pairs 74 = .ok (.iconst 1, 1) := dk_4 (dk_at dksX0_pairs_3 5 rfl rfl)
theorem dX0_pairs_75 : decode cX0_pairs 75 = .ok (.iload_n 3, 1) := dk_29 (dk_at dksX0_pairs_3 6 rfl rfl)
theorem dX0_pairs_76 : decode cX0_pairs 76 = .ok (.ishl, 1) := dk_120 (dk_at dksX0_pairs_3 7 rfl rfl)
theorem dX0_pairs_77 : decode cX0_pairs 77 = .ok (.ior, 1) := dk_128 (dk_at dksX0_pairs_3 8 rfl rfl)
theorem dX0_pairs_78 : decode cX0_pairs 78 = .ok (.putfield 259, 3) := dk_181 1 3 (dk_at dksX0_pairs_3 9 rfl rfl)
theorem dX0_pairs_81 : decode cX0_pairs 81 = .ok (.aload_n 0, 1) := dk_42 (dk_at dksX0_pairs_3 12 rfl rfl)
theorem dX0_pairs_82 : decode cX0_pairs 82 = .ok (.getfield 41, 3) := dk_180 0 41 (dk_at dksX0_pairs_3 13 rfl rfl)
theorem dX0_pairs_85 : decode cX0_pairs 85 = .ok (.iload 4, 2) := dk_21 4 (dk_at dksX0_pairs_3 16 rfl rfl)
theorem dX0_pairs_87 : decode cX0_pairs 87 = .ok (.iaload, 1) := dk_46 (dk_at dksX0_pairs_3 18 rfl rfl)
theorem dX0_pairs_88 : decode cX0_pairs 88 = .ok (.iconst (-1), 1) := dk_2 (dk_at dksX0_pairs_3 19 rfl rfl)
theorem dX0_pairs_89 : decode cX0_pairs 89 = .ok (.if_icmp .eq 21, 3) := dk_159 0 21 (dk_at dksX0_pairs_3 20 rfl rfl)
theorem dX0_pairs_92 : decode cX0_pairs 92 = .ok (.aload_n 0, 1) := dk_42 (dk_at dksX0_pairs_3 23 rfl rfl)
theorem dX0_pairs_93 : decode cX0_pairs 93 = .ok (.aload_n 0, 1) := dk_42 (dk_at dksX0_pairs_4 0 rfl rfl)
theorem dX0_pairs_94 : decode cX0_pairs 94 = .ok (.getfield 41, 3) := dk_180 0 41 (dk_at dksX0_pairs_4 1 rfl rfl)
theorem dX0_pairs_97 : decode cX0_pairs 97 = .ok (.iload 4, 2) := dk_21 4 (dk_at dksX0_pairs_4 4 rfl rfl)
theorem dX0_pairs_99 : decode cX0_pairs 99 = .ok (.iaload, 1) := dk_46 (dk_at dksX0_pairs_4 6 rfl rfl)
theorem dX0_pairs_100 : decode cX0_pairs 100 = .ok (.iload_n 2, 1) := dk_28 (dk_at dksX0_pairs_4 7 rfl rfl)
theorem dX0_pairs_101 : decode cX0_pairs 101 = .ok (.invokevirtual 262, 3) := dk_182 1 6 (dk_at dksX0_pairs_4 8 rfl rfl)
theorem dX0_pairs_104 : decode cX0_pairs 104 = .ok (.ifCond .ne 6, 3) := dk_154 0 6 (dk_at dksX0_pairs_4 11 rfl rfl)
theorem dX0_pairs_107 : decode cX0_pairs 107 = .ok (.goto 20, 3) := dk_167 0 20 (dk_at dksX0_pairs_4 14 rfl rfl)
theorem dX0_pairs_110 : decode cX0_pairs 110 = .ok (.aload_n 0, 1) := dk_42 (dk_at dksX0_pairs_4 17 rfl rfl)
theorem dX0_pairs_111 : decode cX0_pairs 111 = .ok (.getfield 41, 3) := dk_180 0 41 (dk_at dksX0_pairs_4 18 rfl rfl)
theorem dX0_pairs_114 : decode cX0_pairs 114 = .ok (.iload 4, 2) := dk_21 4 (dk_at dksX0_pairs_4 21 rfl rfl)
theorem dX0_pairs_116 : decode cX0_pairs 116 = .ok (.iload_n 1, 1) := dk_27 (dk_at dksX0_pairs_4 23 rfl rfl)
theorem dX0_pairs_117 : decode cX0_pairs 117 = .ok (.iastore, 1) := dk_79 (dk_at dksX0_pairs_5 0 rfl rfl)
theorem dX0_pairs_118 : decode cX0_pairs 118 = .ok (.aload_n 0, 1) := dk_42 (dk_at dksX0_pairs_5 1 rfl rfl)
theorem dX0_pairs_119 : decode cX0_pairs 119 = .ok (.getfield 44, 3) := dk_180 0 44 (dk_at dksX0_pairs_5 2 rfl rfl)
theorem dX0_pairs_122 : decode cX0_pairs 122 = .ok (.iload_n 1, 1) := dk_27 (dk_at dksX0_pairs_5 5 rfl rfl)
theorem dX0_pairs_123 : decode cX0_pairs 123 = .ok (.iload_n 3, 1) := dk_29 (dk_at dksX0_pairs_5 6 rfl rfl)
theorem dX0_pairs_124 : decode cX0_pairs 124 = .ok (.iastore, 1) := dk_79 (dk_at dksX0_pairs_5 7 rfl rfl)
theorem dX0_pairs_125 : decode cX0_pairs 125 = .ok (.iconst 1, 1) := dk_4 (dk_at dksX0_pairs_5 8 rfl rfl)
theorem dX0_pairs_126 : decode cX0_pairs 126 = .ok (.ireturn, 1) := dk_172 (dk_at dksX0_pairs_5 9 rfl rfl)
theorem dX0_pairs_127 : decode cX0_pairs 127 = .ok (.iinc 3 1, 3) := dk_132 3 1 (dk_at dksX0_pairs_5 10 rfl rfl)
theorem dX0_pairs_130 : decode cX0_pairs 130 = .ok (.goto (-128), 3) := dk_167 255 128 (dk_at dksX0_pairs_5 13 rfl rfl)
theorem dX0_pairs_133 : decode cX0_pairs 133 = .ok (.iconst 0, 1) := dk_3 (dk_at dksX0_pairs_5 16 rfl rfl)
theorem dX0_pairs_134 : decode cX0_pairs 134 = .ok (.ireturn, 1) := dk_172 (dk_at dksX0_pairs_5 17 rfl rfl)
abbrev cX0_canAsk : ByteArray := prog_1_method_56_code
def yX0_canAsk : MethodName := ⟨RX0, "canAsk", "(II)Z"⟩
def dkwX0_canAsk_2 : List UInt8 := [184, 0, 114, 153, 0, 7, 4, 167, 0, 4, 3, 172]
abbrev dktX0_canAsk_2 : List UInt8 := dkwX0_canAsk_2 ++ []
def dkwX0_canAsk_1 : List UInt8 := [180, 0, 12, 180, 0, 196, 27, 46, 42, 180, 0, 12, 180, 0, 202, 42, 180, 0, 24, 27, 46, 46, 126, 28]
abbrev dktX0_canAsk_1 : List UInt8 := dkwX0_canAsk_1 ++ dktX0_canAsk_2
def dkwX0_canAsk_0 : List UInt8 := [42, 180, 0, 24, 27, 46, 2, 159, 0, 49, 42, 180, 0, 124, 27, 184, 0, 114, 154, 0, 38, 42]
abbrev dktX0_canAsk_0 : List UInt8 := dkwX0_canAsk_0 ++ dktX0_canAsk_1
theorem dksX0_canAsk_0 : cX0_canAsk.data.toList.drop 0 = dktX0_canAsk_0 := by decide +kernel
theorem dksX0_canAsk_1 : cX0_canAsk.data.toList.drop 22 = dktX0_canAsk_1 := dk_seg dksX0_canAsk_0 22 rfl rfl
theorem dksX0_canAsk_2 : cX0_canAsk.data.toList.drop 46 = dktX0_canAsk_2 := dk_seg dksX0_canAsk_1 24 rfl rfl
theorem dX0_canAsk_0 : decode cX0_canAsk 0 = .ok (.aload_n 0, 1) := dk_42 (dk_at dksX0_canAsk_0 0 rfl rfl)
theorem dX0_canAsk_1 : decode cX0_canAsk 1 = .ok (.getfield 24, 3) := dk_180 0 24 (dk_at dksX0_canAsk_0 1 rfl rfl)
theorem dX0_canAsk_4 : decode cX0_canAsk 4 = .ok (.iload_n 1, 1) := dk_27 (dk_at dksX0_canAsk_0 4 rfl rfl)
theorem dX0_canAsk_5 : decode cX0_canAsk 5 = .ok (.iaload, 1) := dk_46 (dk_at dksX0_canAsk_0 5 rfl rfl)
theorem dX0_canAsk_6 : decode cX0_canAsk 6 = .ok (.iconst (-1), 1) := dk_2 (dk_at dksX0_canAsk_0 6 rfl rfl)
theorem dX0_canAsk_7 : decode cX0_canAsk 7 = .ok (.if_icmp .eq 49, 3) := dk_159 0 49 (dk_at dksX0_canAsk_0 7 rfl rfl)
theorem dX0_canAsk_10 : decode cX0_canAsk 10 = .ok (.aload_n 0, 1) := dk_42 (dk_at dksX0_canAsk_0 10 rfl rfl)
theorem dX0_canAsk_11 : decode cX0_canAsk 11 = .ok (.getfield 124, 3) := dk_180 0 124 (dk_at dksX0_canAsk_0 11 rfl rfl)
theorem dX0_canAsk_14 : decode cX0_canAsk 14 = .ok (.iload_n 1, 1) := dk_27 (dk_at dksX0_canAsk_0 14 rfl rfl)
theorem dX0_canAsk_15 : decode cX0_canAsk 15 = .ok (.invokestatic 114, 3) := dk_184 0 114 (dk_at dksX0_canAsk_0 15 rfl rfl)
theorem dX0_canAsk_18 : decode cX0_canAsk 18 = .ok (.ifCond .ne 38, 3) := dk_154 0 38 (dk_at dksX0_canAsk_0 18 rfl rfl)
theorem dX0_canAsk_21 : decode cX0_canAsk 21 = .ok (.aload_n 0, 1) := dk_42 (dk_at dksX0_canAsk_0 21 rfl rfl)
theorem dX0_canAsk_22 : decode cX0_canAsk 22 = .ok (.getfield 12, 3) := dk_180 0 12 (dk_at dksX0_canAsk_1 0 rfl rfl)
theorem dX0_canAsk_25 : decode cX0_canAsk 25 = .ok (.getfield 196, 3) := dk_180 0 196 (dk_at dksX0_canAsk_1 3 rfl rfl)
theorem dX0_canAsk_28 : decode cX0_canAsk 28 = .ok (.iload_n 1, 1) := dk_27 (dk_at dksX0_canAsk_1 6 rfl rfl)
theorem dX0_canAsk_29 : decode cX0_canAsk 29 = .ok (.iaload, 1) := dk_46 (dk_at dksX0_canAsk_1 7 rfl rfl)
theorem dX0_canAsk_30 : decode cX0_canAsk 30 = .ok (.aload_n 0, 1) := dk_42 (dk_at dksX0_canAsk_1 8 rfl rfl)
theorem dX0_canAsk_31 : decode cX0_canAsk 31 = .ok (.getfield 12, 3) := dk_180 0 12 (dk_at dksX0_canAsk_1 9 rfl rfl)
theorem dX0_canAsk_34 : decode cX0_canAsk 34 = .ok (.getfield 202, 3) := dk_180 0 202 (dk_at dksX0_canAsk_1 12 rfl rfl)
theorem dX0_canAsk_37 : decode cX0_canAsk 37 = .ok (.aload_n 0, 1) := dk_42 (dk_at dksX0_canAsk_1 15 rfl rfl)
theorem dX0_canAsk_38 : decode cX0_canAsk 38 = .ok (.getfield 24, 3) := dk_180 0 24 (dk_at dksX0_canAsk_1 16 rfl rfl)
theorem dX0_canAsk_41 : decode cX0_canAsk 41 = .ok (.iload_n 1, 1) := dk_27 (dk_at dksX0_canAsk_1 19 rfl rfl)
theorem dX0_canAsk_42 : decode cX0_canAsk 42 = .ok (.iaload, 1) := dk_46 (dk_at dksX0_canAsk_1 20 rfl rfl)
theorem dX0_canAsk_43 : decode cX0_canAsk 43 = .ok (.iaload, 1) := dk_46 (dk_at dksX0_canAsk_1 21 rfl rfl)
theorem dX0_canAsk_44 : decode cX0_canAsk 44 = .ok (.iand, 1) := dk_126 (dk_at dksX0_canAsk_1 22 rfl rfl)
theorem dX0_canAsk_45 : decode cX0_canAsk 45 = .ok (.iload_n 2, 1) := dk_28 (dk_at dksX0_canAsk_1 23 rfl rfl)
theorem dX0_canAsk_46 : decode cX0_canAsk 46 = .ok (.invokestatic 114, 3) := dk_184 0 114 (dk_at dksX0_canAsk_2 0 rfl rfl)
theorem dX0_canAsk_49 : decode cX0_canAsk 49 = .ok (.ifCond .eq 7, 3) := dk_153 0 7 (dk_at dksX0_canAsk_2 3 rfl rfl)
theorem dX0_canAsk_52 : decode cX0_canAsk 52 = .ok (.iconst 1, 1) := dk_4 (dk_at dksX0_canAsk_2 6 rfl rfl)
theorem dX0_canAsk_53 : decode cX0_canAsk 53 = .ok (.goto 4, 3) := dk_167 0 4 (dk_at dksX0_canAsk_2 7 rfl rfl)
theorem dX0_canAsk_56 : decode cX0_canAsk 56 = .ok (.iconst 0, 1) := dk_3 (dk_at dksX0_canAsk_2 10 rfl rfl)
theorem dX0_canAsk_57 : decode cX0_canAsk 57 = .ok (.ireturn, 1) := dk_172 (dk_at dksX0_canAsk_2 11 rfl rfl)
abbrev cX0_works : ByteArray := prog_1_method_61_code
def yX0_works : MethodName := ⟨RX0, "works", "(I)I"⟩
def dkwX0_works_5 : List UInt8 := [180, 0, 44, 27, 46, 172]
abbrev dktX0_works_5 : List UInt8 := dkwX0_works_5 ++ []
def dkwX0_works_4 : List UInt8 := [54, 4, 132, 5, 1, 167, 255, 190, 42, 180, 0, 44, 29, 21, 4, 79, 132, 3, 1, 167, 255, 165, 42]
abbrev dktX0_works_4 : List UInt8 := dkwX0_works_4 ++ dktX0_works_5
def dkwX0_works_3 : List UInt8 := [180, 0, 44, 29, 21, 5, 79, 42, 29, 4, 96, 182, 1, 9, 28, 160, 0, 8, 21, 5, 167, 0, 4, 2]
abbrev dktX0_works_3 : List UInt8 := dkwX0_works_3 ++ dktX0_works_4
def dkwX0_works_2 : List UInt8 := [42, 29, 21, 5, 182, 1, 0, 153, 0, 43, 42, 29, 21, 5, 182, 1, 12, 154, 0, 6, 167, 0, 30, 42]
abbrev dktX0_works_2 : List UInt8 := dkwX0_works_2 ++ dktX0_works_3
def dkwX0_works_1 : List UInt8 := [29, 27, 163, 0, 92, 2, 54, 4, 3, 54, 5, 21, 5, 16, 6, 162, 0, 65, 21, 4, 2, 160, 0, 59]
abbrev dktX0_works_1 : List UInt8 := dkwX0_works_1 ++ dktX0_works_2
def dkwX0_works_0 : List UInt8 := [42, 27, 133, 182, 0, 186, 154, 0, 6, 16, 254, 172, 42, 182, 0, 190, 42, 3, 182, 1, 9, 61, 3, 62]
abbrev dktX0_works_0 : List UInt8 := dkwX0_works_0 ++ dktX0_works_1
theorem dksX0_works_0 : cX0_works.data.toList.drop 0 = dktX0_works_0 := by decide +kernel
theorem dksX0_works_1 : cX0_works.data.toList.drop 24 = dktX0_works_1 := dk_seg dksX0_works_0 24 rfl rfl
theorem dksX0_works_2 : cX0_works.data.toList.drop 48 = dktX0_works_2 := dk_seg dksX0_works_1 24 rfl rfl
theorem dksX0_works_3 : cX0_works.data.toList.drop 72 = dktX0_works_3 := dk_seg dksX0_works_2 24 rfl rfl
theorem dksX0_works_4 : cX0_works.data.toList.drop 96 = dktX0_works_4 := dk_seg dksX0_works_3 24 rfl rfl
theorem dksX0_works_5 : cX0_works.data.toList.drop 119 = dktX0_works_5 := dk_seg dksX0_works_4 23 rfl rfl
theorem dX0_works_0 : decode cX0_works 0 = .ok (.aload_n 0, 1) := dk_42 (dk_at dksX0_works_0 0 rfl rfl)
theorem dX0_works_1 : decode cX0_works 1 = .ok (.iload_n 1, 1) := dk_27 (dk_at dksX0_works_0 1 rfl rfl)
theorem dX0_works_2 : decode cX0_works 2 = .ok (.i2l, 1) := dk_133 (dk_at dksX0_works_0 2 rfl rfl)
theorem dX0_works_3 : decode cX0_works 3 = .ok (.invokevirtual 186, 3) := dk_182 0 186 (dk_at dksX0_works_0 3 rfl rfl)
theorem dX0_works_6 : decode cX0_works 6 = .ok (.ifCond .ne 6, 3) := dk_154 0 6 (dk_at dksX0_works_0 6 rfl rfl)
theorem dX0_works_9 : decode cX0_works 9 = .ok (.bipush (-2), 2) := dk_16 254 (dk_at dksX0_works_0 9 rfl rfl)
theorem dX0_works_11 : decode cX0_works 11 = .ok (.ireturn, 1) := dk_172 (dk_at dksX0_works_0 11 rfl rfl)
theorem dX0_works_12 : decode cX0_works 12 = .ok (.aload_n 0, 1) := dk_42 (dk_at dksX0_works_0 12 rfl rfl)
theorem dX0_works_13 : decode cX0_works 13 = .ok (.invokevirtual 190, 3) := dk_182 0 190 (dk_at dksX0_works_0 13 rfl rfl)
theorem dX0_works_16 : decode cX0_works 16 = .ok (.aload_n 0, 1) := dk_42 (dk_at dksX0_works_0 16 rfl rfl)
theorem dX0_works_17 : decode cX0_works 17 = .ok (.iconst 0, 1) := dk_3 (dk_at dksX0_works_0 17 rfl rfl)
theorem dX0_works_18 : decode cX0_works 18 = .ok (.invokevirtual 265, 3) := dk_182 1 9 (dk_at dksX0_works_0 18 rfl rfl)
theorem dX0_works_21 : decode cX0_works 21 = .ok (.istore_n 2, 1) := dk_61 (dk_at dksX0_works_0 21 rfl rfl)
theorem dX0_works_22 : decode cX0_works 22 = .ok (.iconst 0, 1) := dk_3 (dk_at dksX0_works_0 22 rfl rfl)
theorem dX0_works_23 : decode cX0_works 23 = .ok (.istore_n 3, 1) := dk_62 (dk_at dksX0_works_0 23 rfl rfl)
theorem dX0_works_24 : decode cX0_works 24 = .ok (.iload_n 3, 1) := dk_29 (dk_at dksX0_works_1 0 rfl rfl)
theorem dX0_works_25 : decode cX0_works 25 = .ok (.iload_n 1, 1) := dk_27 (dk_at dksX0_works_1 1 rfl rfl)
theorem dX0_works_26 : decode cX0_works 26 = .ok (.if_icmp .gt 92, 3) := dk_163 0 92 (dk_at dksX0_works_1 2 rfl rfl)
theorem dX0_works_29 : decode cX0_works 29 = .ok (.iconst (-1), 1) := dk_2 (dk_at dksX0_works_1 5 rfl rfl)
theorem dX0_works_30 : decode cX0_works 30 = .ok (.istore 4, 2) := dk_54 4 (dk_at dksX0_works_1 6 rfl rfl)
theorem dX0_works_32 : decode cX0_works 32 = .ok (.iconst 0, 1) := dk_3 (dk_at dksX0_works_1 8 rfl rfl)
theorem dX0_works_33 : decode cX0_works 33 = .ok (.istore 5, 2) := dk_54 5 (dk_at dksX0_works_1 9 rfl rfl)
theorem dX0_works_35 : decode cX0_works 35 = .ok (.iload 5, 2) := dk_21 5 (dk_at dksX0_works_1 11 rfl rfl)
theorem dX0_works_37 : decode cX0_works 37 = .ok (.bipush 6, 2) := dk_16 6 (dk_at dksX0_works_1 13 rfl rfl)
theorem dX0_works_39 : decode cX0_works 39 = .ok (.if_icmp .ge 65, 3) := dk_162 0 65 (dk_at dksX0_works_1 15 rfl rfl)
theorem dX0_works_42 : decode cX0_works 42 = .ok (.iload 4, 2) := dk_21 4 (dk_at dksX0_works_1 18 rfl rfl)
theorem dX0_works_44 : decode cX0_works 44 = .ok (.iconst (-1), 1) := dk_2 (dk_at dksX0_works_1 20 rfl rfl)
theorem dX0_works_45 : decode cX0_works 45 = .ok (.if_icmp .ne 59, 3) := dk_160 0 59 (dk_at dksX0_works_1 21 rfl rfl)
theorem dX0_works_48 : decode cX0_works 48 = .ok (.aload_n 0, 1) := dk_42 (dk_at dksX0_works_2 0 rfl rfl)
theorem dX0_works_49 : decode cX0_works 49 = .ok (.iload_n 3, 1) := dk_29 (dk_at dksX0_works_2 1 rfl rfl)
theorem dX0_works_50 : decode cX0_works 50 = .ok (.iload 5, 2) := dk_21 5 (dk_at dksX0_works_2 2 rfl rfl)
theorem dX0_works_52 : decode cX0_works 52 = .ok (.invokevirtual 256, 3) := dk_182 1 0 (dk_at dksX0_works_2 4 rfl rfl)
theorem dX0_works_55 : decode cX0_works 55 = .ok (.ifCond .eq 43, 3) := dk_153 0 43 (dk_at dksX0_works_2 7 rfl rfl)
theorem dX0_works_58 : decode cX0_works 58 = .ok (.aload_n 0, 1) := dk_42 (dk_at dksX0_works_2 10 rfl rfl)
theorem dX0_works_59 : decode cX0_works 59 = .ok (.iload_n 3, 1) := dk_29 (dk_at dksX0_works_2 11 rfl rfl)
theorem dX0_works_60 : decode cX0_works 60 = .ok (.iload 5, 2) := dk_21 5 (dk_at dksX0_works_2 12 rfl rfl)
theorem dX0_works_62 : decode cX0_works 62 = .ok (.invokevirtual 268, 3) := dk_182 1 12 (dk_at dksX0_works_2 14 rfl rfl)
theorem dX0_works_65 : decode cX0_works 65 = .ok (.ifCond .ne 6, 3) := dk_154 0 6 (dk_at dksX0_works_2 17 rfl rfl)
theorem dX0_works_68 : decode cX0_works 68 = .ok (.goto 30, 3) := dk_167 0 30 (dk_at dksX0_works_2 20 rfl rfl)
theorem dX0_works_71 : decode cX0_works 71 = .ok (.aload_n 0, 1) := dk_42 (dk_at dksX0_works_2 23 rfl rfl)
theorem dX0_works_72 : decode cX0_works 72 = .ok (.getfield 44, 3) := dk_180 0 44 (dk_at dksX0_works_3 0 rfl rfl)
theorem dX0_works_75 : decode cX0_works 75 = .ok (.iload_n 3, 1) := dk_29 (dk_at dksX0_works_3 3 rfl rfl)
theorem dX0_works_76 : decode cX0_works 76 = .ok (.iload 5, 2) := dk_21 5 (dk_at dksX0_works_3 4 rfl rfl)
theorem dX0_works_78 : decode cX0_works 78 = .ok (.iastore, 1) := dk_79 (dk_at dksX0_works_3 6 rfl rfl)
theorem dX0_works_79 : decode cX0_works 79 = .ok (.aload_n 0, 1) := dk_42 (dk_at dksX0_works_3 7 rfl rfl)
theorem dX0_works_80 : decode cX0_works 80 = .ok (.iload_n 3, 1) := dk_29 (dk_at dksX0_works_3 8 rfl rfl)
theorem dX0_works_81 : decode cX0_works 81 = .ok (.iconst 1, 1) := dk_4 (dk_at dksX0_works_3 9 rfl rfl)
theorem dX0_works_82 : decode cX0_works 82 = .ok (.iadd, 1) := dk_96 (dk_at dksX0_works_3 10 rfl rfl)
theorem dX0_works_83 : decode cX0_works 83 = .ok (.invokevirtual 265, 3) := dk_182 1 9 (dk_at dksX0_works_3 11 rfl rfl)
theorem dX0_works_86 : decode cX0_works 86 = .ok (.iload_n 2, 1) := dk_28 (dk_at dksX0_works_3 14 rfl rfl)
theorem dX0_works_87 : decode cX0_works 87 = .ok (.if_icmp .ne 8, 3) := dk_160 0 8 (dk_at dksX0_works_3 15 rfl rfl)
theorem dX0_works_90 : decode cX0_works 90 = .ok (.iload 5, 2) := dk_21 5 (dk_at dksX0_works_3 18 rfl rfl)
theorem dX0_works_92 : decode cX0_works 92 = .ok (.goto 4, 3) := dk_167 0 4 (dk_at dksX0_works_3 20 rfl rfl)
theorem dX0_works_95 : decode cX0_works 95 = .ok (.iconst (-1), 1) := dk_2 (dk_at dksX0_works_3 23 rfl rfl)
theorem dX0_works_96 : decode cX0_works 96 = .ok (.istore 4, 2) := dk_54 4 (dk_at dksX0_works_4 0 rfl rfl)
theorem dX0_works_98 : decode cX0_works 98 = .ok (.iinc 5 1, 3) := dk_132 5 1 (dk_at dksX0_works_4 2 rfl rfl)
theorem dX0_works_101 : decode cX0_works 101 = .ok (.goto (-66), 3) := dk_167 255 190 (dk_at dksX0_works_4 5 rfl rfl)
theorem dX0_works_104 : decode cX0_works 104 = .ok (.aload_n 0, 1) := dk_42 (dk_at dksX0_works_4 8 rfl rfl)
theorem dX0_works_105 : decode cX0_works 105 = .ok (.getfield 44, 3) := dk_180 0 44 (dk_at dksX0_works_4 9 rfl rfl)
theorem dX0_works_108 : decode cX0_works 108 = .ok (.iload_n 3, 1) := dk_29 (dk_at dksX0_works_4 12 rfl rfl)
theorem dX0_works_109 : decode cX0_works 109 = .ok (.iload 4, 2) := dk_21 4 (dk_at dksX0_works_4 13 rfl rfl)
theorem dX0_works_111 : decode cX0_works 111 = .ok (.iastore, 1) := dk_79 (dk_at dksX0_works_4 15 rfl rfl)
theorem dX0_works_112 : decode cX0_works 112 = .ok (.iinc 3 1, 3) := dk_132 3 1 (dk_at dksX0_works_4 16 rfl rfl)
theorem dX0_works_115 : decode cX0_works 115 = .ok (.goto (-91), 3) := dk_167 255 165 (dk_at dksX0_works_4 19 rfl rfl)
theorem dX0_works_118 : decode cX0_works 118 = .ok (.aload_n 0, 1) := dk_42 (dk_at dksX0_works_4 22 rfl rfl)
theorem dX0_works_119 : decode cX0_works 119 = .ok (.getfield 44, 3) := dk_180 0 44 (dk_at dksX0_works_5 0 rfl rfl)
theorem dX0_works_122 : decode cX0_works 122 = .ok (.iload_n 1, 1) := dk_27 (dk_at dksX0_works_5 3 rfl rfl)
theorem dX0_works_123 : decode cX0_works 123 = .ok (.iaload, 1) := dk_46 (dk_at dksX0_works_5 4 rfl rfl)
theorem dX0_works_124 : decode cX0_works 124 = .ok (.ireturn, 1) := dk_172 (dk_at dksX0_works_5 5 rfl rfl)
abbrev cX0_isFreeWish : ByteArray := prog_1_method_60_code
def yX0_isFreeWish : MethodName := ⟨RX0, "isFreeWish", "(II)Z"⟩
def dkwX0_isFreeWish_1 : List UInt8 := [180, 0, 44, 29, 46, 28, 160, 0, 5, 3, 172, 132, 3, 1, 167, 255, 221, 4, 172]
abbrev dktX0_isFreeWish_1 : List UInt8 := dkwX0_isFreeWish_1 ++ []
def dkwX0_isFreeWish_0 : List UInt8 := [3, 62, 29, 27, 162, 0, 36, 42, 180, 0, 24, 29, 46, 42, 180, 0, 24, 27, 46, 160, 0, 15, 42]
abbrev dktX0_isFreeWish_0 : List UInt8 := dkwX0_isFreeWish_0 ++ dktX0_isFreeWish_1
theorem dksX0_isFreeWish_0 : cX0_isFreeWish.data.toList.drop 0 = dktX0_isFreeWish_0 := by decide +kernel
theorem dksX0_isFreeWish_1 : cX0_isFreeWish.data.toList.drop 23 = dktX0_isFreeWish_1 := dk_seg dksX0_isFreeWish_0 23 rfl rfl
theorem dX0_isFreeWish_0 : decode cX0_isFreeWish 0 = .ok (.iconst 0, 1) := dk_3 (dk_at dksX0_isFreeWish_0 0 rfl rfl)
theorem dX0_isFreeWish_1 : decode cX0_isFreeWish 1 = .ok (.istore_n 3, 1) := dk_62 (dk_at dksX0_isFreeWish_0 1 rfl rfl)
theorem dX0_isFreeWish_2 : decode cX0_isFreeWish 2 = .ok (.iload_n 3, 1) := dk_29 (dk_at dksX0_isFreeWish_0 2 rfl rfl)
theorem dX0_isFreeWish_3 : decode cX0_isFreeWish 3 = .ok (.iload_n 1, 1) := dk_27 (dk_at dksX0_isFreeWish_0 3 rfl rfl)
theorem dX0_isFreeWish_4 : decode cX0_isFreeWish 4 = .ok (.if_icmp .ge 36, 3) := dk_162 0 36 (dk_at dksX0_isFreeWish_0 4 rfl rfl)
theorem dX0_isFreeWish_7 : decode cX0_isFreeWish 7 = .ok (.aload_n 0, 1) := dk_42 (dk_at dksX0_isFreeWish_0 7 rfl rfl)
theorem dX0_isFreeWish_8 : decode cX0_isFreeWish 8 = .ok (.getfield 24, 3) := dk_180 0 24 (dk_at dksX0_isFreeWish_0 8 rfl rfl)
theorem dX0_isFreeWish_11 : decode cX0_isFreeWish 11 = .ok (.iload_n 3, 1) := dk_29 (dk_at dksX0_isFreeWish_0 11 rfl rfl)
theorem dX0_isFreeWish_12 : decode cX0_isFreeWish 12 = .ok (.iaload, 1) := dk_46 (dk_at dksX0_isFreeWish_0 12 rfl rfl)
theorem dX0_isFreeWish_13 : decode cX0_isFreeWish 13 = .ok (.aload_n 0, 1) := dk_42 (dk_at dksX0_isFreeWish_0 13 rfl rfl)
theorem dX0_isFreeWish_14 : decode cX0_isFreeWish 14 = .ok (.getfield 24, 3) := dk_180 0 24 (dk_at dksX0_isFreeWish_0 14 rfl rfl)
theorem dX0_isFreeWish_17 : decode cX0_isFreeWish 17 = .ok (.iload_n 1, 1) := dk_27 (dk_at dksX0_isFreeWish_0 17 rfl rfl)
theorem dX0_isFreeWish_18 : decode cX0_isFreeWish 18 = .ok (.iaload, 1) := dk_46 (dk_at dksX0_isFreeWish_0 18 rfl rfl)
theorem dX0_isFreeWish_19 : decode cX0_isFreeWish 19 = .ok (.if_icmp .ne 15, 3) := dk_160 0 15 (dk_at dksX0_isFreeWish_0 19 rfl rfl)
theorem dX0_isFreeWish_22 : decode cX0_isFreeWish 22 = .ok (.aload_n 0, 1) := dk_42 (dk_at dksX0_isFreeWish_0 22 rfl rfl)
theorem dX0_isFreeWish_23 : decode cX0_isFreeWish 23 = .ok (.getfield 44, 3) := dk_180 0 44 (dk_at dksX0_isFreeWish_1 0 rfl rfl)
theorem dX0_isFreeWish_26 : decode cX0_isFreeWish 26 = .ok (.iload_n 3, 1) := dk_29 (dk_at dksX0_isFreeWish_1 3 rfl rfl)
theorem dX0_isFreeWish_27 : decode cX0_isFreeWish 27 = .ok (.iaload, 1) := dk_46 (dk_at dksX0_isFreeWish_1 4 rfl rfl)
theorem dX0_isFreeWish_28 : decode cX0_isFreeWish 28 = .ok (.iload_n 2, 1) := dk_28 (dk_at dksX0_isFreeWish_1 5 rfl rfl)
theorem dX0_isFreeWish_29 : decode cX0_isFreeWish 29 = .ok (.if_icmp .ne 5, 3) := dk_160 0 5 (dk_at dksX0_isFreeWish_1 6 rfl rfl)
theorem dX0_isFreeWish_32 : decode cX0_isFreeWish 32 = .ok (.iconst 0, 1) := dk_3 (dk_at dksX0_isFreeWish_1 9 rfl rfl)
theorem dX0_isFreeWish_33 : decode cX0_isFreeWish 33 = .ok (.ireturn, 1) := dk_172 (dk_at dksX0_isFreeWish_1 10 rfl rfl)
theorem dX0_isFreeWish_34 : decode cX0_isFreeWish 34 = .ok (.iinc 3 1, 3) := dk_132 3 1 (dk_at dksX0_isFreeWish_1 11 rfl rfl)
theorem dX0_isFreeWish_37 : decode cX0_isFreeWish 37 = .ok (.goto (-35), 3) := dk_167 255 221 (dk_at dksX0_isFreeWish_1 14 rfl rfl)
theorem dX0_isFreeWish_40 : decode cX0_isFreeWish 40 = .ok (.iconst 1, 1) := dk_4 (dk_at dksX0_isFreeWish_1 17 rfl rfl)
theorem dX0_isFreeWish_41 : decode cX0_isFreeWish 41 = .ok (.ireturn, 1) := dk_172 (dk_at dksX0_isFreeWish_1 18 rfl rfl)
abbrev cX0_cover : ByteArray := prog_1_method_66_code
def yX0_cover : MethodName := ⟨RX0, "cover", "(I)I"⟩
def dkwX0_cover_1 : List UInt8 := [2, 160, 0, 7, 2, 167, 0, 7, 28, 184, 1, 17, 172]
abbrev dktX0_cover_1 : List UInt8 := dkwX0_cover_1 ++ []
def dkwX0_cover_0 : List UInt8 := [42, 182, 0, 103, 153, 0, 10, 27, 184, 1, 25, 154, 0, 6, 16, 254, 172, 42, 27, 182, 1, 29, 61, 28]
abbrev dktX0_cover_0 : List UInt8 := dkwX0_cover_0 ++ dktX0_cover_1
theorem dksX0_cover_0 : cX0_cover.data.toList.drop 0 = dktX0_cover_0 := by decide +kernel
theorem dksX0_cover_1 : cX0_cover.data.toList.drop 24 = dktX0_cover_1 := dk_seg dksX0_cover_0 24 rfl rfl
theorem dX0_cover_0 : decode cX0_cover 0 = .ok (.aload_n 0, 1) := dk_42 (dk_at dksX0_cover_0 0 rfl rfl)
theorem dX0_cover_1 : decode cX0_cover 1 = .ok (.invokevirtual 103, 3) := dk_182 0 103 (dk_at dksX0_cover_0 1 rfl rfl)
theorem dX0_cover_4 : decode cX0_cover 4 = .ok (.ifCond .eq 10, 3) := dk_153 0 10 (dk_at dksX0_cover_0 4 rfl rfl)
theorem dX0_cover_7 : decode cX0_cover 7 = .ok (.iload_n 1, 1) := dk_27 (dk_at dksX0_cover_0 7 rfl rfl)
theorem dX0_cover_8 : decode cX0_cover 8 = .ok (.invokestatic 281, 3) := dk_184 1 25 (dk_at dksX0_cover_0 8 rfl rfl)
theorem dX0_cover_11 : decode cX0_cover 11 = .ok (.ifCond .ne 6, 3) := dk_154 0 6 (dk_at dksX0_cover_0 11 rfl rfl)
theorem dX0_cover_14 : decode cX0_cover 14 = .ok (.bipush (-2), 2) := dk_16 254 (dk_at dksX0_cover_0 14 rfl rfl)
theorem dX0_cover_16 : decode cX0_cover 16 = .ok (.ireturn, 1) := dk_172 (dk_at dksX0_cover_0 16 rfl rfl)
theorem dX0_cover_17 : decode cX0_cover 17 = .ok (.aload_n 0, 1) := dk_42 (dk_at dksX0_cover_0 17 rfl rfl)
theorem dX0_cover_18 : decode cX0_cover 18 = .ok (.iload_n 1, 1) := dk_27 (dk_at dksX0_cover_0 18 rfl rfl)
theorem dX0_cover_19 : decode cX0_cover 19 = .ok (.invokevirtual 285, 3) := dk_182 1 29 (dk_at dksX0_cover_0 19 rfl rfl)
theorem dX0_cover_22 : decode cX0_cover 22 = .ok (.istore_n 2, 1) := dk_61 (dk_at dksX0_cover_0 22 rfl rfl)
theorem dX0_cover_23 : decode cX0_cover 23 = .ok (.iload_n 2, 1) := dk_28 (dk_at dksX0_cover_0 23 rfl rfl)
theorem dX0_cover_24 : decode cX0_cover 24 = .ok (.iconst (-1), 1) := dk_2 (dk_at dksX0_cover_1 0 rfl rfl)
theorem dX0_cover_25 : decode cX0_cover 25 = .ok (.if_icmp .ne 7, 3) := dk_160 0 7 (dk_at dksX0_cover_1 1 rfl rfl)
theorem dX0_cover_28 : decode cX0_cover 28 = .ok (.iconst (-1), 1) := dk_2 (dk_at dksX0_cover_1 4 rfl rfl)
theorem dX0_cover_29 : decode cX0_cover 29 = .ok (.goto 7, 3) := dk_167 0 7 (dk_at dksX0_cover_1 5 rfl rfl)
theorem dX0_cover_32 : decode cX0_cover 32 = .ok (.iload_n 2, 1) := dk_28 (dk_at dksX0_cover_1 8 rfl rfl)
theorem dX0_cover_33 : decode cX0_cover 33 = .ok (.invokestatic 273, 3) := dk_184 1 17 (dk_at dksX0_cover_1 9 rfl rfl)
theorem dX0_cover_36 : decode cX0_cover 36 = .ok (.ireturn, 1) := dk_172 (dk_at dksX0_cover_1 12 rfl rfl)
abbrev cX0_areDeeds : ByteArray := prog_1_method_63_code
def yX0_areDeeds : MethodName := ⟨RX0, "areDeeds", "(I)Z"⟩
def dkwX0_areDeeds_0 : List UInt8 := [26, 133, 9, 20, 1, 15, 184, 0, 67, 172]
abbrev dktX0_areDeeds_0 : List UInt8 := dkwX0_areDeeds_0 ++ []
theorem dksX0_areDeeds_0 : cX0_areDeeds.data.toList.drop 0 = dktX0_areDeeds_0 := by decide +kernel
theorem dX0_areDeeds_0 : decode cX0_areDeeds 0 = .ok (.iload_n 0, 1) := dk_26 (dk_at dksX0_areDeeds_0 0 rfl rfl)
theorem dX0_areDeeds_1 : decode cX0_areDeeds 1 = .ok (.i2l, 1) := dk_133 (dk_at dksX0_areDeeds_0 1 rfl rfl)
theorem dX0_areDeeds_2 : decode cX0_areDeeds 2 = .ok (.lconst 0, 1) := dk_9 (dk_at dksX0_areDeeds_0 2 rfl rfl)
theorem dX0_areDeeds_3 : decode cX0_areDeeds 3 = .ok (.ldc2_w 271, 3) := dk_20 1 15 (dk_at dksX0_areDeeds_0 3 rfl rfl)
theorem dX0_areDeeds_6 : decode cX0_areDeeds 6 = .ok (.invokestatic 67, 3) := dk_184 0 67 (dk_at dksX0_areDeeds_0 6 rfl rfl)
theorem dX0_areDeeds_9 : decode cX0_areDeeds 9 = .ok (.ireturn, 1) := dk_172 (dk_at dksX0_areDeeds_0 9 rfl rfl)
abbrev cX0_coverOf : ByteArray := prog_1_method_65_code
def yX0_coverOf : MethodName := ⟨RX0, "coverOf", "(I)I"⟩
def dkwX0_coverOf_2 : List UInt8 := [154, 0, 5, 29, 61, 132, 3, 1, 167, 255, 211, 28, 172]
abbrev dktX0_coverOf_2 : List UInt8 := dkwX0_coverOf_2 ++ []
def dkwX0_coverOf_1 : List UInt8 := [184, 1, 17, 28, 184, 1, 17, 162, 0, 21, 27, 42, 42, 29, 182, 1, 22, 182, 0, 238, 2, 130, 126]
abbrev dktX0_coverOf_1 : List UInt8 := dkwX0_coverOf_1 ++ dktX0_coverOf_2
def dkwX0_coverOf_0 : List UInt8 := [42, 182, 0, 190, 2, 61, 3, 62, 29, 42, 182, 0, 107, 163, 0, 43, 28, 2, 159, 0, 14, 29]
abbrev dktX0_coverOf_0 : List UInt8 := dkwX0_coverOf_0 ++ dktX0_coverOf_1
theorem dksX0_coverOf_0 : cX0_coverOf.data.toList.drop 0 = dktX0_coverOf_0 := by decide +kernel
theorem dksX0_coverOf_1 : cX0_coverOf.data.toList.drop 22 = dktX0_coverOf_1 := dk_seg dksX0_coverOf_0 22 rfl rfl
theorem dksX0_coverOf_2 : cX0_coverOf.data.toList.drop 45 = dktX0_coverOf_2 := dk_seg dksX0_coverOf_1 23 rfl rfl
theorem dX0_coverOf_0 : decode cX0_coverOf 0 = .ok (.aload_n 0, 1) := dk_42 (dk_at dksX0_coverOf_0 0 rfl rfl)
theorem dX0_coverOf_1 : decode cX0_coverOf 1 = .ok (.invokevirtual 190, 3) := dk_182 0 190 (dk_at dksX0_coverOf_0 1 rfl rfl)
theorem dX0_coverOf_4 : decode cX0_coverOf 4 = .ok (.iconst (-1), 1) := dk_2 (dk_at dksX0_coverOf_0 4 rfl rfl)
theorem dX0_coverOf_5 : decode cX0_coverOf 5 = .ok (.istore_n 2, 1) := dk_61 (dk_at dksX0_coverOf_0 5 rfl rfl)
theorem dX0_coverOf_6 : decode cX0_coverOf 6 = .ok (.iconst 0, 1) := dk_3 (dk_at dksX0_coverOf_0 6 rfl rfl)
theorem dX0_coverOf_7 : decode cX0_coverOf 7 = .ok (.istore_n 3, 1) := dk_62 (dk_at dksX0_coverOf_0 7 rfl rfl)
theorem dX0_coverOf_8 : decode cX0_coverOf 8 = .ok (.iload_n 3, 1) := dk_29 (dk_at dksX0_coverOf_0 8 rfl rfl)
theorem dX0_coverOf_9 : decode cX0_coverOf 9 = .ok (.aload_n 0, 1) := dk_42 (dk_at dksX0_coverOf_0 9 rfl rfl)
theorem dX0_coverOf_10 : decode cX0_coverOf 10 = .ok (.invokevirtual 107, 3) := dk_182 0 107 (dk_at dksX0_coverOf_0 10 rfl rfl)
theorem dX0_coverOf_13 : decode cX0_coverOf 13 = .ok (.if_icmp .gt 43, 3) := dk_163 0 43 (dk_at dksX0_coverOf_0 13 rfl rfl)
theorem dX0_coverOf_16 : decode cX0_coverOf 16 = .ok (.iload_n 2, 1) := dk_28 (dk_at dksX0_coverOf_0 16 rfl rfl)
theorem dX0_coverOf_17 : decode cX0_coverOf 17 = .ok (.iconst (-1), 1) := dk_2 (dk_at dksX0_coverOf_0 17 rfl rfl)
theorem dX0_coverOf_18 : decode cX0_coverOf 18 = .ok (.if_icmp .eq 14, 3) := dk_159 0 14 (dk_at dksX0_coverOf_0 18 rfl rfl)
theorem dX0_coverOf_21 : decode cX0_coverOf 21 = .ok (.iload_n 3, 1) := dk_29 (dk_at dksX0_coverOf_0 21 rfl rfl)
theorem dX0_coverOf_22 : decode cX0_coverOf 22 = .ok (.invokestatic 273, 3) := dk_184 1 17 (dk_at dksX0_coverOf_1 0 rfl rfl)
theorem dX0_coverOf_25 : decode cX0_coverOf 25 = .ok (.iload_n 2, 1) := dk_28 (dk_at dksX0_coverOf_1 3 rfl rfl)
theorem dX0_coverOf_26 : decode cX0_coverOf 26 = .ok (.invokestatic 273, 3) := dk_184 1 17 (dk_at dksX0_coverOf_1 4 rfl rfl)
theorem dX0_coverOf_29 : decode cX0_coverOf 29 = .ok (.if_icmp .ge 21, 3) := dk_162 0 21 (dk_at dksX0_coverOf_1 7 rfl rfl)
theorem dX0_coverOf_32 : decode cX0_coverOf 32 = .ok (.iload_n 1, 1) := dk_27 (dk_at dksX0_coverOf_1 10 rfl rfl)
theorem dX0_coverOf_33 : decode cX0_coverOf 33 = .ok (.aload_n 0, 1) := dk_42 (dk_at dksX0_coverOf_1 11 rfl rfl)
theorem dX0_coverOf_34 : decode cX0_coverOf 34 = .ok (.aload_n 0, 1) := dk_42 (dk_at dksX0_coverOf_1 12 rfl rfl)
theorem dX0_coverOf_35 : decode cX0_coverOf 35 = .ok (.iload_n 3, 1) := dk_29 (dk_at dksX0_coverOf_1 13 rfl rfl)
theorem dX0_coverOf_36 : decode cX0_coverOf 36 = .ok (.invokevirtual 278, 3) := dk_182 1 22 (dk_at dksX0_coverOf_1 14 rfl rfl)
theorem dX0_coverOf_39 : decode cX0_coverOf 39 = .ok (.invokevirtual 238, 3) := dk_182 0 238 (dk_at dksX0_coverOf_1 17 rfl rfl)
theorem dX0_coverOf_42 : decode cX0_coverOf 42 = .ok (.iconst (-1), 1) := dk_2 (dk_at dksX0_coverOf_1 20 rfl rfl)
theorem dX0_coverOf_43 : decode cX0_coverOf 43 = .ok (.ixor, 1) := dk_130 (dk_at dksX0_coverOf_1 21 rfl rfl)
theorem dX0_coverOf_44 : decode cX0_coverOf 44 = .ok (.iand, 1) := dk_126 (dk_at dksX0_coverOf_1 22 rfl rfl)
theorem dX0_coverOf_45 : decode cX0_coverOf 45 = .ok (.ifCond .ne 5, 3) := dk_154 0 5 (dk_at dksX0_coverOf_2 0 rfl rfl)
theorem dX0_coverOf_48 : decode cX0_coverOf 48 = .ok (.iload_n 3, 1) := dk_29 (dk_at dksX0_coverOf_2 3 rfl rfl)
theorem dX0_coverOf_49 : decode cX0_coverOf 49 = .ok (.istore_n 2, 1) := dk_61 (dk_at dksX0_coverOf_2 4 rfl rfl)
theorem dX0_coverOf_50 : decode cX0_coverOf 50 = .ok (.iinc 3 1, 3) := dk_132 3 1 (dk_at dksX0_coverOf_2 5 rfl rfl)
theorem dX0_coverOf_53 : decode cX0_coverOf 53 = .ok (.goto (-45), 3) := dk_167 255 211 (dk_at dksX0_coverOf_2 8 rfl rfl)
theorem dX0_coverOf_56 : decode cX0_coverOf 56 = .ok (.iload_n 2, 1) := dk_28 (dk_at dksX0_coverOf_2 11 rfl rfl)
theorem dX0_coverOf_57 : decode cX0_coverOf 57 = .ok (.ireturn, 1) := dk_172 (dk_at dksX0_coverOf_2 12 rfl rfl)
abbrev cX0_all : ByteArray := prog_1_method_14_code
def yX0_all : MethodName := ⟨RX0, "all", "()I"⟩
def dkwX0_all_0 : List UInt8 := [4, 42, 180, 0, 12, 180, 0, 94, 120, 4, 100, 172]
abbrev dktX0_all_0 : List UInt8 := dkwX0_all_0 ++ []
theorem dksX0_all_0 : cX0_all.data.toList.drop 0 = dktX0_all_0 := by decide +kernel
theorem dX0_all_0 : decode cX0_all 0 = .ok (.iconst 1, 1) := dk_4 (dk_at dksX0_all_0 0 rfl rfl)
theorem dX0_all_1 : decode cX0_all 1 = .ok (.aload_n 0, 1) := dk_42 (dk_at dksX0_all_0 1 rfl rfl)
theorem dX0_all_2 : decode cX0_all 2 = .ok (.getfield 12, 3) := dk_180 0 12 (dk_at dksX0_all_0 2 rfl rfl)
theorem dX0_all_5 : decode cX0_all 5 = .ok (.getfield 94, 3) := dk_180 0 94 (dk_at dksX0_all_0 5 rfl rfl)
theorem dX0_all_8 : decode cX0_all 8 = .ok (.ishl, 1) := dk_120 (dk_at dksX0_all_0 8 rfl rfl)
theorem dX0_all_9 : decode cX0_all 9 = .ok (.iconst 1, 1) := dk_4 (dk_at dksX0_all_0 9 rfl rfl)
theorem dX0_all_10 : decode cX0_all 10 = .ok (.isub, 1) := dk_100 (dk_at dksX0_all_0 10 rfl rfl)
theorem dX0_all_11 : decode cX0_all 11 = .ok (.ireturn, 1) := dk_172 (dk_at dksX0_all_0 11 rfl rfl)
abbrev cX0_handsOf : ByteArray := prog_1_method_64_code
def yX0_handsOf : MethodName := ⟨RX0, "handsOf", "(I)I"⟩
def dkwX0_handsOf_1 : List UInt8 := [42, 29, 182, 0, 198, 167, 0, 4, 3, 128, 61, 132, 3, 1, 167, 255, 222, 28, 172]
abbrev dktX0_handsOf_1 : List UInt8 := dkwX0_handsOf_1 ++ []
def dkwX0_handsOf_0 : List UInt8 := [3, 61, 3, 62, 29, 42, 180, 0, 12, 180, 0, 94, 162, 0, 29, 28, 27, 29, 184, 0, 114, 153, 0, 11]
abbrev dktX0_handsOf_0 : List UInt8 := dkwX0_handsOf_0 ++ dktX0_handsOf_1
theorem dksX0_handsOf_0 : cX0_handsOf.data.toList.drop 0 = dktX0_handsOf_0 := by decide +kernel
theorem dksX0_handsOf_1 : cX0_handsOf.data.toList.drop 24 = dktX0_handsOf_1 := dk_seg dksX0_handsOf_0 24 rfl rfl
theorem dX0_handsOf_0 : decode cX0_handsOf 0 = .ok (.iconst 0, 1) := dk_3 (dk_at dksX0_handsOf_0 0 rfl rfl)
theorem dX0_handsOf_1 : decode cX0_handsOf 1 = .ok (.istore_n 2, 1) := dk_61 (dk_at dksX0_handsOf_0 1 rfl rfl)
theorem dX0_handsOf_2 : decode cX0_handsOf 2 = .ok (.iconst 0, 1) := dk_3 (dk_at dksX0_handsOf_0 2 rfl rfl)
theorem dX0_handsOf_3 : decode cX0_handsOf 3 = .ok (.istore_n 3, 1) := dk_62 (dk_at dksX0_handsOf_0 3 rfl rfl)
theorem dX0_handsOf_4 : decode cX0_handsOf 4 = .ok (.iload_n 3, 1) := dk_29 (dk_at dksX0_handsOf_0 4 rfl rfl)
theorem dX0_handsOf_5 : decode cX0_handsOf 5 = .ok (.aload_n 0, 1) := dk_42 (dk_at dksX0_handsOf_0 5 rfl rfl)
theorem dX0_handsOf_6 : decode cX0_handsOf 6 = .ok (.getfield 12, 3) := dk_180 0 12 (dk_at dksX0_handsOf_0 6 rfl rfl)
theorem dX0_handsOf_9 : decode cX0_handsOf 9 = .ok (.getfield 94, 3) := dk_180 0 94 (dk_at dksX0_handsOf_0 9 rfl rfl)
theorem dX0_handsOf_12 : decode cX0_handsOf 12 = .ok (.if_icmp .ge 29, 3) := dk_162 0 29 (dk_at dksX0_handsOf_0 12 rfl rfl)
theorem dX0_handsOf_15 : decode cX0_handsOf 15 = .ok (.iload_n 2, 1) := dk_28 (dk_at dksX0_handsOf_0 15 rfl rfl)
theorem dX0_handsOf_16 : decode cX0_handsOf 16 = .ok (.iload_n 1, 1) := dk_27 (dk_at dksX0_handsOf_0 16 rfl rfl)
theorem dX0_handsOf_17 : decode cX0_handsOf 17 = .ok (.iload_n 3, 1) := dk_29 (dk_at dksX0_handsOf_0 17 rfl rfl)
theorem dX0_handsOf_18 : decode cX0_handsOf 18 = .ok (.invokestatic 114, 3) := dk_184 0 114 (dk_at dksX0_handsOf_0 18 rfl rfl)
theorem dX0_handsOf_21 : decode cX0_handsOf 21 = .ok (.ifCond .eq 11, 3) := dk_153 0 11 (dk_at dksX0_handsOf_0 21 rfl rfl)
theorem dX0_handsOf_24 : decode cX0_handsOf 24 = .ok (.aload_n 0, 1) := dk_42 (dk_at dksX0_handsOf_1 0 rfl rfl)
theorem dX0_handsOf_25 : decode cX0_handsOf 25 = .ok (.iload_n 3, 1) := dk_29 (dk_at dksX0_handsOf_1 1 rfl rfl)
theorem dX0_handsOf_26 : decode cX0_handsOf 26 = .ok (.invokevirtual 198, 3) := dk_182 0 198 (dk_at dksX0_handsOf_1 2 rfl rfl)
theorem dX0_handsOf_29 : decode cX0_handsOf 29 = .ok (.goto 4, 3) := dk_167 0 4 (dk_at dksX0_handsOf_1 5 rfl rfl)
theorem dX0_handsOf_32 : decode cX0_handsOf 32 = .ok (.iconst 0, 1) := dk_3 (dk_at dksX0_handsOf_1 8 rfl rfl)
theorem dX0_handsOf_33 : decode cX0_handsOf 33 = .ok (.ior, 1) := dk_128 (dk_at dksX0_handsOf_1 9 rfl rfl)
theorem dX0_handsOf_34 : decode cX0_handsOf 34 = .ok (.istore_n 2, 1) := dk_61 (dk_at dksX0_handsOf_1 10 rfl rfl)
theorem dX0_handsOf_35 : decode cX0_handsOf 35 = .ok (.iinc 3 1, 3) := dk_132 3 1 (dk_at dksX0_handsOf_1 11 rfl rfl)
theorem dX0_handsOf_38 : decode cX0_handsOf 38 = .ok (.goto (-34), 3) := dk_167 255 222 (dk_at dksX0_handsOf_1 14 rfl rfl)
theorem dX0_handsOf_41 : decode cX0_handsOf 41 = .ok (.iload_n 2, 1) := dk_28 (dk_at dksX0_handsOf_1 17 rfl rfl)
theorem dX0_handsOf_42 : decode cX0_handsOf 42 = .ok (.ireturn, 1) := dk_172 (dk_at dksX0_handsOf_1 18 rfl rfl)
abbrev cX0_covers : ByteArray := prog_1_method_67_code
def yX0_covers : MethodName := ⟨RX0, "covers", "(I)I"⟩
def dkwX0_covers_1 : List UInt8 := [172]
abbrev dktX0_covers_1 : List UInt8 := dkwX0_covers_1 ++ []
def dkwX0_covers_0 : List UInt8 := [42, 182, 0, 103, 153, 0, 18, 27, 184, 1, 25, 153, 0, 11, 42, 27, 182, 1, 29, 167, 0, 5, 16, 254]
abbrev dktX0_covers_0 : List UInt8 := dkwX0_covers_0 ++ dktX0_covers_1
theorem dksX0_covers_0 : cX0_covers.data.toList.drop 0 = dktX0_covers_0 := by decide +kernel
theorem dksX0_covers_1 : cX0_covers.data.toList.drop 24 = dktX0_covers_1 := dk_seg dksX0_covers_0 24 rfl rfl
theorem dX0_covers_0 : decode cX0_covers 0 = .ok (.aload_n 0, 1) := dk_42 (dk_at dksX0_covers_0 0 rfl rfl)
theorem dX0_covers_1 : decode cX0_covers 1 = .ok (.invokevirtual 103, 3) := dk_182 0 103 (dk_at dksX0_covers_0 1 rfl rfl)
theorem dX0_covers_4 : decode cX0_covers 4 = .ok (.ifCond .eq 18, 3) := dk_153 0 18 (dk_at dksX0_covers_0 4 rfl rfl)
theorem dX0_covers_7 : decode cX0_covers 7 = .ok (.iload_n 1, 1) := dk_27 (dk_at dksX0_covers_0 7 rfl rfl)
theorem dX0_covers_8 : decode cX0_covers 8 = .ok (.invokestatic 281, 3) := dk_184 1 25 (dk_at dksX0_covers_0 8 rfl rfl)
theorem dX0_covers_11 : decode cX0_covers 11 = .ok (.ifCond .eq 11, 3) := dk_153 0 11 (dk_at dksX0_covers_0 11 rfl rfl)
theorem dX0_covers_14 : decode cX0_covers 14 = .ok (.aload_n 0, 1) := dk_42 (dk_at dksX0_covers_0 14 rfl rfl)
theorem dX0_covers_15 : decode cX0_covers 15 = .ok (.iload_n 1, 1) := dk_27 (dk_at dksX0_covers_0 15 rfl rfl)
theorem dX0_covers_16 : decode cX0_covers 16 = .ok (.invokevirtual 285, 3) := dk_182 1 29 (dk_at dksX0_covers_0 16 rfl rfl)
theorem dX0_covers_19 : decode cX0_covers 19 = .ok (.goto 5, 3) := dk_167 0 5 (dk_at dksX0_covers_0 19 rfl rfl)
theorem dX0_covers_22 : decode cX0_covers 22 = .ok (.bipush (-2), 2) := dk_16 254 (dk_at dksX0_covers_0 22 rfl rfl)
theorem dX0_covers_24 : decode cX0_covers 24 = .ok (.ireturn, 1) := dk_172 (dk_at dksX0_covers_1 0 rfl rfl)
abbrev cX0_buy : ByteArray := prog_1_method_69_code
def yX0_buy : MethodName := ⟨RX0, "buy", "(I)I"⟩
def dkwX0_buy_1 : List UInt8 := [2, 160, 0, 7, 2, 167, 0, 8, 42, 28, 182, 1, 32, 172]
abbrev dktX0_buy_1 : List UInt8 := dkwX0_buy_1 ++ []
def dkwX0_buy_0 : List UInt8 := [42, 182, 0, 103, 153, 0, 10, 27, 184, 1, 25, 154, 0, 6, 16, 254, 172, 42, 27, 182, 1, 35, 61, 28]
abbrev dktX0_buy_0 : List UInt8 := dkwX0_buy_0 ++ dktX0_buy_1
theorem dksX0_buy_0 : cX0_buy.data.toList.drop 0 = dktX0_buy_0 := by decide +kernel
theorem dksX0_buy_1 : cX0_buy.data.toList.drop 24 = dktX0_buy_1 := dk_seg dksX0_buy_0 24 rfl rfl
theorem dX0_buy_0 : decode cX0_buy 0 = .ok (.aload_n 0, 1) := dk_42 (dk_at dksX0_buy_0 0 rfl rfl)
theorem dX0_buy_1 : decode cX0_buy 1 = .ok (.invokevirtual 103, 3) := dk_182 0 103 (dk_at dksX0_buy_0 1 rfl rfl)
theorem dX0_buy_4 : decode cX0_buy 4 = .ok (.ifCond .eq 10, 3) := dk_153 0 10 (dk_at dksX0_buy_0 4 rfl rfl)
theorem dX0_buy_7 : decode cX0_buy 7 = .ok (.iload_n 1, 1) := dk_27 (dk_at dksX0_buy_0 7 rfl rfl)
theorem dX0_buy_8 : decode cX0_buy 8 = .ok (.invokestatic 281, 3) := dk_184 1 25 (dk_at dksX0_buy_0 8 rfl rfl)
theorem dX0_buy_11 : decode cX0_buy 11 = .ok (.ifCond .ne 6, 3) := dk_154 0 6 (dk_at dksX0_buy_0 11 rfl rfl)
theorem dX0_buy_14 : decode cX0_buy 14 = .ok (.bipush (-2), 2) := dk_16 254 (dk_at dksX0_buy_0 14 rfl rfl)
theorem dX0_buy_16 : decode cX0_buy 16 = .ok (.ireturn, 1) := dk_172 (dk_at dksX0_buy_0 16 rfl rfl)
theorem dX0_buy_17 : decode cX0_buy 17 = .ok (.aload_n 0, 1) := dk_42 (dk_at dksX0_buy_0 17 rfl rfl)
theorem dX0_buy_18 : decode cX0_buy 18 = .ok (.iload_n 1, 1) := dk_27 (dk_at dksX0_buy_0 18 rfl rfl)
theorem dX0_buy_19 : decode cX0_buy 19 = .ok (.invokevirtual 291, 3) := dk_182 1 35 (dk_at dksX0_buy_0 19 rfl rfl)
theorem dX0_buy_22 : decode cX0_buy 22 = .ok (.istore_n 2, 1) := dk_61 (dk_at dksX0_buy_0 22 rfl rfl)
theorem dX0_buy_23 : decode cX0_buy 23 = .ok (.iload_n 2, 1) := dk_28 (dk_at dksX0_buy_0 23 rfl rfl)
theorem dX0_buy_24 : decode cX0_buy 24 = .ok (.iconst (-1), 1) := dk_2 (dk_at dksX0_buy_1 0 rfl rfl)
theorem dX0_buy_25 : decode cX0_buy 25 = .ok (.if_icmp .ne 7, 3) := dk_160 0 7 (dk_at dksX0_buy_1 1 rfl rfl)
theorem dX0_buy_28 : decode cX0_buy 28 = .ok (.iconst (-1), 1) := dk_2 (dk_at dksX0_buy_1 4 rfl rfl)
theorem dX0_buy_29 : decode cX0_buy 29 = .ok (.goto 8, 3) := dk_167 0 8 (dk_at dksX0_buy_1 5 rfl rfl)
theorem dX0_buy_32 : decode cX0_buy 32 = .ok (.aload_n 0, 1) := dk_42 (dk_at dksX0_buy_1 8 rfl rfl)
theorem dX0_buy_33 : decode cX0_buy 33 = .ok (.iload_n 2, 1) := dk_28 (dk_at dksX0_buy_1 9 rfl rfl)
theorem dX0_buy_34 : decode cX0_buy 34 = .ok (.invokevirtual 288, 3) := dk_182 1 32 (dk_at dksX0_buy_1 10 rfl rfl)
theorem dX0_buy_37 : decode cX0_buy 37 = .ok (.ireturn, 1) := dk_172 (dk_at dksX0_buy_1 13 rfl rfl)
abbrev cX0_buyOf : ByteArray := prog_1_method_68_code
def yX0_buyOf : MethodName := ⟨RX0, "buyOf", "(I)I"⟩
def dkwX0_buyOf_2 : List UInt8 := [167, 255, 213, 28, 172]
abbrev dktX0_buyOf_2 : List UInt8 := dkwX0_buyOf_2 ++ []
def dkwX0_buyOf_1 : List UInt8 := [182, 1, 32, 162, 0, 17, 27, 42, 29, 182, 0, 238, 2, 130, 126, 154, 0, 5, 29, 61, 132, 3, 1]
abbrev dktX0_buyOf_1 : List UInt8 := dkwX0_buyOf_1 ++ dktX0_buyOf_2
def dkwX0_buyOf_0 : List UInt8 := [2, 61, 3, 62, 29, 42, 182, 0, 107, 163, 0, 41, 28, 2, 159, 0, 16, 42, 29, 182, 1, 32, 42, 28]
abbrev dktX0_buyOf_0 : List UInt8 := dkwX0_buyOf_0 ++ dktX0_buyOf_1
theorem dksX0_buyOf_0 : cX0_buyOf.data.toList.drop 0 = dktX0_buyOf_0 := by decide +kernel
theorem dksX0_buyOf_1 : cX0_buyOf.data.toList.drop 24 = dktX0_buyOf_1 := dk_seg dksX0_buyOf_0 24 rfl rfl
theorem dksX0_buyOf_2 : cX0_buyOf.data.toList.drop 47 = dktX0_buyOf_2 := dk_seg dksX0_buyOf_1 23 rfl rfl
theorem dX0_buyOf_0 : decode cX0_buyOf 0 = .ok (.iconst (-1), 1) := dk_2 (dk_at dksX0_buyOf_0 0 rfl rfl)
theorem dX0_buyOf_1 : decode cX0_buyOf 1 = .ok (.istore_n 2, 1) := dk_61 (dk_at dksX0_buyOf_0 1 rfl rfl)
theorem dX0_buyOf_2 : decode cX0_buyOf 2 = .ok (.iconst 0, 1) := dk_3 (dk_at dksX0_buyOf_0 2 rfl rfl)
theorem dX0_buyOf_3 : decode cX0_buyOf 3 = .ok (.istore_n 3, 1) := dk_62 (dk_at dksX0_buyOf_0 3 rfl rfl)
theorem dX0_buyOf_4 : decode cX0_buyOf 4 = .ok (.iload_n 3, 1) := dk_29 (dk_at dksX0_buyOf_0 4 rfl rfl)
theorem dX0_buyOf_5 : decode cX0_buyOf 5 = .ok (.aload_n 0, 1) := dk_42 (dk_at dksX0_buyOf_0 5 rfl rfl)
theorem dX0_buyOf_6 : decode cX0_buyOf 6 = .ok (.invokevirtual 107, 3) := dk_182 0 107 (dk_at dksX0_buyOf_0 6 rfl rfl)
theorem dX0_buyOf_9 : decode cX0_buyOf 9 = .ok (.if_icmp .gt 41, 3) := dk_163 0 41 (dk_at dksX0_buyOf_0 9 rfl rfl)
theorem dX0_buyOf_12 : decode cX0_buyOf 12 = .ok (.iload_n 2, 1) := dk_28 (dk_at dksX0_buyOf_0 12 rfl rfl)
theorem dX0_buyOf_13 : decode cX0_buyOf 13 = .ok (.iconst (-1), 1) := dk_2 (dk_at dksX0_buyOf_0 13 rfl rfl)
theorem dX0_buyOf_14 : decode cX0_buyOf 14 = .ok (.if_icmp .eq 16, 3) := dk_159 0 16 (dk_at dksX0_buyOf_0 14 rfl rfl)
theorem dX0_buyOf_17 : decode cX0_buyOf 17 = .ok (.aload_n 0, 1) := dk_42 (dk_at dksX0_buyOf_0 17 rfl rfl)
theorem dX0_buyOf_18 : decode cX0_buyOf 18 = .ok (.iload_n 3, 1) := dk_29 (dk_at dksX0_buyOf_0 18 rfl rfl)
theorem dX0_buyOf_19 : decode cX0_buyOf 19 = .ok (.invokevirtual 288, 3) := dk_182 1 32 (dk_at dksX0_buyOf_0 19 rfl rfl)
theorem dX0_buyOf_22 : decode cX0_buyOf 22 = .ok (.aload_n 0, 1) := dk_42 (dk_at dksX0_buyOf_0 22 rfl rfl)
theorem dX0_buyOf_23 : decode cX0_buyOf 23 = .ok (.iload_n 2, 1) := dk_28 (dk_at dksX0_buyOf_0 23 rfl rfl)
theorem dX0_buyOf_24 : decode cX0_buyOf 24 = .ok (.invokevirtual 288, 3) := dk_182 1 32 (dk_at dksX0_buyOf_1 0 rfl rfl)
theorem dX0_buyOf_27 : decode cX0_buyOf 27 = .ok (.if_icmp .ge 17, 3) := dk_162 0 17 (dk_at dksX0_buyOf_1 3 rfl rfl)
theorem dX0_buyOf_30 : decode cX0_buyOf 30 = .ok (.iload_n 1, 1) := dk_27 (dk_at dksX0_buyOf_1 6 rfl rfl)
theorem dX0_buyOf_31 : decode cX0_buyOf 31 = .ok (.aload_n 0, 1) := dk_42 (dk_at dksX0_buyOf_1 7 rfl rfl)
theorem dX0_buyOf_32 : decode cX0_buyOf 32 = .ok (.iload_n 3, 1) := dk_29 (dk_at dksX0_buyOf_1 8 rfl rfl)
theorem dX0_buyOf_33 : decode cX0_buyOf 33 = .ok (.invokevirtual 238, 3) := dk_182 0 238 (dk_at dksX0_buyOf_1 9 rfl rfl)
theorem dX0_buyOf_36 : decode cX0_buyOf 36 = .ok (.iconst (-1), 1) := dk_2 (dk_at dksX0_buyOf_1 12 rfl rfl)
theorem dX0_buyOf_37 : decode cX0_buyOf 37 = .ok (.ixor, 1) := dk_130 (dk_at dksX0_buyOf_1 13 rfl rfl)
theorem dX0_buyOf_38 : decode cX0_buyOf 38 = .ok (.iand, 1) := dk_126 (dk_at dksX0_buyOf_1 14 rfl rfl)
theorem dX0_buyOf_39 : decode cX0_buyOf 39 = .ok (.ifCond .ne 5, 3) := dk_154 0 5 (dk_at dksX0_buyOf_1 15 rfl rfl)
theorem dX0_buyOf_42 : decode cX0_buyOf 42 = .ok (.iload_n 3, 1) := dk_29 (dk_at dksX0_buyOf_1 18 rfl rfl)
theorem dX0_buyOf_43 : decode cX0_buyOf 43 = .ok (.istore_n 2, 1) := dk_61 (dk_at dksX0_buyOf_1 19 rfl rfl)
theorem dX0_buyOf_44 : decode cX0_buyOf 44 = .ok (.iinc 3 1, 3) := dk_132 3 1 (dk_at dksX0_buyOf_1 20 rfl rfl)
theorem dX0_buyOf_47 : decode cX0_buyOf 47 = .ok (.goto (-43), 3) := dk_167 255 213 (dk_at dksX0_buyOf_2 0 rfl rfl)
theorem dX0_buyOf_50 : decode cX0_buyOf 50 = .ok (.iload_n 2, 1) := dk_28 (dk_at dksX0_buyOf_2 3 rfl rfl)
theorem dX0_buyOf_51 : decode cX0_buyOf 51 = .ok (.ireturn, 1) := dk_172 (dk_at dksX0_buyOf_2 4 rfl rfl)
abbrev cX0_worthOf : ByteArray := prog_1_method_62_code
def yX0_worthOf : MethodName := ⟨RX0, "worthOf", "(I)I"⟩
def dkwX0_worthOf_1 : List UInt8 := [42, 180, 0, 12, 180, 0, 193, 29, 46, 167, 0, 4, 3, 96, 61, 132, 3, 1, 167, 255, 218, 28, 172]
abbrev dktX0_worthOf_1 : List UInt8 := dkwX0_worthOf_1 ++ []
def dkwX0_worthOf_0 : List UInt8 := [3, 61, 3, 62, 29, 42, 180, 0, 12, 180, 0, 94, 162, 0, 33, 28, 27, 29, 184, 0, 114, 153, 0, 15]
abbrev dktX0_worthOf_0 : List UInt8 := dkwX0_worthOf_0 ++ dktX0_worthOf_1
theorem dksX0_worthOf_0 : cX0_worthOf.data.toList.drop 0 = dktX0_worthOf_0 := by decide +kernel
theorem dksX0_worthOf_1 : cX0_worthOf.data.toList.drop 24 = dktX0_worthOf_1 := dk_seg dksX0_worthOf_0 24 rfl rfl
theorem dX0_worthOf_0 : decode cX0_worthOf 0 = .ok (.iconst 0, 1) := dk_3 (dk_at dksX0_worthOf_0 0 rfl rfl)
theorem dX0_worthOf_1 : decode cX0_worthOf 1 = .ok (.istore_n 2, 1) := dk_61 (dk_at dksX0_worthOf_0 1 rfl rfl)
theorem dX0_worthOf_2 : decode cX0_worthOf 2 = .ok (.iconst 0, 1) := dk_3 (dk_at dksX0_worthOf_0 2 rfl rfl)
theorem dX0_worthOf_3 : decode cX0_worthOf 3 = .ok (.istore_n 3, 1) := dk_62 (dk_at dksX0_worthOf_0 3 rfl rfl)
theorem dX0_worthOf_4 : decode cX0_worthOf 4 = .ok (.iload_n 3, 1) := dk_29 (dk_at dksX0_worthOf_0 4 rfl rfl)
theorem dX0_worthOf_5 : decode cX0_worthOf 5 = .ok (.aload_n 0, 1) := dk_42 (dk_at dksX0_worthOf_0 5 rfl rfl)
theorem dX0_worthOf_6 : decode cX0_worthOf 6 = .ok (.getfield 12, 3) := dk_180 0 12 (dk_at dksX0_worthOf_0 6 rfl rfl)
theorem dX0_worthOf_9 : decode cX0_worthOf 9 = .ok (.getfield 94, 3) := dk_180 0 94 (dk_at dksX0_worthOf_0 9 rfl rfl)
theorem dX0_worthOf_12 : decode cX0_worthOf 12 = .ok (.if_icmp .ge 33, 3) := dk_162 0 33 (dk_at dksX0_worthOf_0 12 rfl rfl)
theorem dX0_worthOf_15 : decode cX0_worthOf 15 = .ok (.iload_n 2, 1) := dk_28 (dk_at dksX0_worthOf_0 15 rfl rfl)
theorem dX0_worthOf_16 : decode cX0_worthOf 16 = .ok (.iload_n 1, 1) := dk_27 (dk_at dksX0_worthOf_0 16 rfl rfl)
theorem dX0_worthOf_17 : decode cX0_worthOf 17 = .ok (.iload_n 3, 1) := dk_29 (dk_at dksX0_worthOf_0 17 rfl rfl)
theorem dX0_worthOf_18 : decode cX0_worthOf 18 = .ok (.invokestatic 114, 3) := dk_184 0 114 (dk_at dksX0_worthOf_0 18 rfl rfl)
theorem dX0_worthOf_21 : decode cX0_worthOf 21 = .ok (.ifCond .eq 15, 3) := dk_153 0 15 (dk_at dksX0_worthOf_0 21 rfl rfl)
theorem dX0_worthOf_24 : decode cX0_worthOf 24 = .ok (.aload_n 0, 1) := dk_42 (dk_at dksX0_worthOf_1 0 rfl rfl)
theorem dX0_worthOf_25 : decode cX0_worthOf 25 = .ok (.getfield 12, 3) := dk_180 0 12 (dk_at dksX0_worthOf_1 1 rfl rfl)
theorem dX0_worthOf_28 : decode cX0_worthOf 28 = .ok (.getfield 193, 3) := dk_180 0 193 (dk_at dksX0_worthOf_1 4 rfl rfl)
theorem dX0_worthOf_31 : decode cX0_worthOf 31 = .ok (.iload_n 3, 1) := dk_29 (dk_at dksX0_worthOf_1 7 rfl rfl)
theorem dX0_worthOf_32 : decode cX0_worthOf 32 = .ok (.iaload, 1) := dk_46 (dk_at dksX0_worthOf_1 8 rfl rfl)
theorem dX0_worthOf_33 : decode cX0_worthOf 33 = .ok (.goto 4, 3) := dk_167 0 4 (dk_at dksX0_worthOf_1 9 rfl rfl)
theorem dX0_worthOf_36 : decode cX0_worthOf 36 = .ok (.iconst 0, 1) := dk_3 (dk_at dksX0_worthOf_1 12 rfl rfl)
theorem dX0_worthOf_37 : decode cX0_worthOf 37 = .ok (.iadd, 1) := dk_96 (dk_at dksX0_worthOf_1 13 rfl rfl)
theorem dX0_worthOf_38 : decode cX0_worthOf 38 = .ok (.istore_n 2, 1) := dk_61 (dk_at dksX0_worthOf_1 14 rfl rfl)
theorem dX0_worthOf_39 : decode cX0_worthOf 39 = .ok (.iinc 3 1, 3) := dk_132 3 1 (dk_at dksX0_worthOf_1 15 rfl rfl)
theorem dX0_worthOf_42 : decode cX0_worthOf 42 = .ok (.goto (-38), 3) := dk_167 255 218 (dk_at dksX0_worthOf_1 18 rfl rfl)
theorem dX0_worthOf_45 : decode cX0_worthOf 45 = .ok (.iload_n 2, 1) := dk_28 (dk_at dksX0_worthOf_1 21 rfl rfl)
theorem dX0_worthOf_46 : decode cX0_worthOf 46 = .ok (.ireturn, 1) := dk_172 (dk_at dksX0_worthOf_1 22 rfl rfl)
abbrev cX0_bought : ByteArray := prog_1_method_70_code
def yX0_bought : MethodName := ⟨RX0, "bought", "(I)I"⟩
def dkwX0_bought_1 : List UInt8 := [172]
abbrev dktX0_bought_1 : List UInt8 := dkwX0_bought_1 ++ []
def dkwX0_bought_0 : List UInt8 := [42, 182, 0, 103, 153, 0, 18, 27, 184, 1, 25, 153, 0, 11, 42, 27, 182, 1, 35, 167, 0, 5, 16, 254]
abbrev dktX0_bought_0 : List UInt8 := dkwX0_bought_0 ++ dktX0_bought_1
theorem dksX0_bought_0 : cX0_bought.data.toList.drop 0 = dktX0_bought_0 := by decide +kernel
theorem dksX0_bought_1 : cX0_bought.data.toList.drop 24 = dktX0_bought_1 := dk_seg dksX0_bought_0 24 rfl rfl
theorem dX0_bought_0 : decode cX0_bought 0 = .ok (.aload_n 0, 1) := dk_42 (dk_at dksX0_bought_0 0 rfl rfl)
theorem dX0_bought_1 : decode cX0_bought 1 = .ok (.invokevirtual 103, 3) := dk_182 0 103 (dk_at dksX0_bought_0 1 rfl rfl)
theorem dX0_bought_4 : decode cX0_bought 4 = .ok (.ifCond .eq 18, 3) := dk_153 0 18 (dk_at dksX0_bought_0 4 rfl rfl)
theorem dX0_bought_7 : decode cX0_bought 7 = .ok (.iload_n 1, 1) := dk_27 (dk_at dksX0_bought_0 7 rfl rfl)
theorem dX0_bought_8 : decode cX0_bought 8 = .ok (.invokestatic 281, 3) := dk_184 1 25 (dk_at dksX0_bought_0 8 rfl rfl)
theorem dX0_bought_11 : decode cX0_bought 11 = .ok (.ifCond .eq 11, 3) := dk_153 0 11 (dk_at dksX0_bought_0 11 rfl rfl)
theorem dX0_bought_14 : decode cX0_bought 14 = .ok (.aload_n 0, 1) := dk_42 (dk_at dksX0_bought_0 14 rfl rfl)
theorem dX0_bought_15 : decode cX0_bought 15 = .ok (.iload_n 1, 1) := dk_27 (dk_at dksX0_bought_0 15 rfl rfl)
theorem dX0_bought_16 : decode cX0_bought 16 = .ok (.invokevirtual 291, 3) := dk_182 1 35 (dk_at dksX0_bought_0 16 rfl rfl)
theorem dX0_bought_19 : decode cX0_bought 19 = .ok (.goto 5, 3) := dk_167 0 5 (dk_at dksX0_bought_0 19 rfl rfl)
theorem dX0_bought_22 : decode cX0_bought 22 = .ok (.bipush (-2), 2) := dk_16 254 (dk_at dksX0_bought_0 22 rfl rfl)
theorem dX0_bought_24 : decode cX0_bought 24 = .ok (.ireturn, 1) := dk_172 (dk_at dksX0_bought_1 0 rfl rfl)
abbrev cX0_deeds : ByteArray := prog_1_method_73_code
def yX0_deeds : MethodName := ⟨RX0, "deeds", "(I)I"⟩
def dkwX0_deeds_1 : List UInt8 := [16, 254, 172]
abbrev dktX0_deeds_1 : List UInt8 := dkwX0_deeds_1 ++ []
def dkwX0_deeds_0 : List UInt8 := [42, 27, 182, 1, 40, 153, 0, 18, 42, 42, 27, 182, 1, 43, 182, 0, 238, 184, 1, 17, 167, 0, 5]
abbrev dktX0_deeds_0 : List UInt8 := dkwX0_deeds_0 ++ dktX0_deeds_1
theorem dksX0_deeds_0 : cX0_deeds.data.toList.drop 0 = dktX0_deeds_0 := by decide +kernel
theorem dksX0_deeds_1 : cX0_deeds.data.toList.drop 23 = dktX0_deeds_1 := dk_seg dksX0_deeds_0 23 rfl rfl
theorem dX0_deeds_0 : decode cX0_deeds 0 = .ok (.aload_n 0, 1) := dk_42 (dk_at dksX0_deeds_0 0 rfl rfl)
theorem dX0_deeds_1 : decode cX0_deeds 1 = .ok (.iload_n 1, 1) := dk_27 (dk_at dksX0_deeds_0 1 rfl rfl)
theorem dX0_deeds_2 : decode cX0_deeds 2 = .ok (.invokevirtual 296, 3) := dk_182 1 40 (dk_at dksX0_deeds_0 2 rfl rfl)
theorem dX0_deeds_5 : decode cX0_deeds 5 = .ok (.ifCond .eq 18, 3) := dk_153 0 18 (dk_at dksX0_deeds_0 5 rfl rfl)
theorem dX0_deeds_8 : decode cX0_deeds 8 = .ok (.aload_n 0, 1) := dk_42 (dk_at dksX0_deeds_0 8 rfl rfl)
theorem dX0_deeds_9 : decode cX0_deeds 9 = .ok (.aload_n 0, 1) := dk_42 (dk_at dksX0_deeds_0 9 rfl rfl)
theorem dX0_deeds_10 : decode cX0_deeds 10 = .ok (.iload_n 1, 1) := dk_27 (dk_at dksX0_deeds_0 10 rfl rfl)
theorem dX0_deeds_11 : decode cX0_deeds 11 = .ok (.invokevirtual 299, 3) := dk_182 1 43 (dk_at dksX0_deeds_0 11 rfl rfl)
theorem dX0_deeds_14 : decode cX0_deeds 14 = .ok (.invokevirtual 238, 3) := dk_182 0 238 (dk_at dksX0_deeds_0 14 rfl rfl)
theorem dX0_deeds_17 : decode cX0_deeds 17 = .ok (.invokestatic 273, 3) := dk_184 1 17 (dk_at dksX0_deeds_0 17 rfl rfl)
theorem dX0_deeds_20 : decode cX0_deeds 20 = .ok (.goto 5, 3) := dk_167 0 5 (dk_at dksX0_deeds_0 20 rfl rfl)
theorem dX0_deeds_23 : decode cX0_deeds 23 = .ok (.bipush (-2), 2) := dk_16 254 (dk_at dksX0_deeds_1 0 rfl rfl)
theorem dX0_deeds_25 : decode cX0_deeds 25 = .ok (.ireturn, 1) := dk_172 (dk_at dksX0_deeds_1 2 rfl rfl)
abbrev cX0_isBudget : ByteArray := prog_1_method_72_code
def yX0_isBudget : MethodName := ⟨RX0, "isBudget", "(I)Z"⟩
def dkwX0_isBudget_1 : List UInt8 := [172]
abbrev dktX0_isBudget_1 : List UInt8 := dkwX0_isBudget_1 ++ []
def dkwX0_isBudget_0 : List UInt8 := [42, 182, 0, 103, 153, 0, 19, 27, 133, 9, 20, 1, 38, 184, 0, 67, 153, 0, 7, 4, 167, 0, 4, 3]
abbrev dktX0_isBudget_0 : List UInt8 := dkwX0_isBudget_0 ++ dktX0_isBudget_1
theorem dksX0_isBudget_0 : cX0_isBudget.data.toList.drop 0 = dktX0_isBudget_0 := by decide +kernel
theorem dksX0_isBudget_1 : cX0_isBudget.data.toList.drop 24 = dktX0_isBudget_1 := dk_seg dksX0_isBudget_0 24 rfl rfl
theorem dX0_isBudget_0 : decode cX0_isBudget 0 = .ok (.aload_n 0, 1) := dk_42 (dk_at dksX0_isBudget_0 0 rfl rfl)
theorem dX0_isBudget_1 : decode cX0_isBudget 1 = .ok (.invokevirtual 103, 3) := dk_182 0 103 (dk_at dksX0_isBudget_0 1 rfl rfl)
theorem dX0_isBudget_4 : decode cX0_isBudget 4 = .ok (.ifCond .eq 19, 3) := dk_153 0 19 (dk_at dksX0_isBudget_0 4 rfl rfl)
theorem dX0_isBudget_7 : decode cX0_isBudget 7 = .ok (.iload_n 1, 1) := dk_27 (dk_at dksX0_isBudget_0 7 rfl rfl)
theorem dX0_isBudget_8 : decode cX0_isBudget 8 = .ok (.i2l, 1) := dk_133 (dk_at dksX0_isBudget_0 8 rfl rfl)
theorem dX0_isBudget_9 : decode cX0_isBudget 9 = .ok (.lconst 0, 1) := dk_9 (dk_at dksX0_isBudget_0 9 rfl rfl)
theorem dX0_isBudget_10 : decode cX0_isBudget 10 = .ok (.ldc2_w 294, 3) := dk_20 1 38 (dk_at dksX0_isBudget_0 10 rfl rfl)
theorem dX0_isBudget_13 : decode cX0_isBudget 13 = .ok (.invokestatic 67, 3) := dk_184 0 67 (dk_at dksX0_isBudget_0 13 rfl rfl)
theorem dX0_isBudget_16 : decode cX0_isBudget 16 = .ok (.ifCond .eq 7, 3) := dk_153 0 7 (dk_at dksX0_isBudget_0 16 rfl rfl)
theorem dX0_isBudget_19 : decode cX0_isBudget 19 = .ok (.iconst 1, 1) := dk_4 (dk_at dksX0_isBudget_0 19 rfl rfl)
theorem dX0_isBudget_20 : decode cX0_isBudget 20 = .ok (.goto 4, 3) := dk_167 0 4 (dk_at dksX0_isBudget_0 20 rfl rfl)
theorem dX0_isBudget_23 : decode cX0_isBudget 23 = .ok (.iconst 0, 1) := dk_3 (dk_at dksX0_isBudget_0 23 rfl rfl)
theorem dX0_isBudget_24 : decode cX0_isBudget 24 = .ok (.ireturn, 1) := dk_172 (dk_at dksX0_isBudget_1 0 rfl rfl)
abbrev cX0_hireOf : ByteArray := prog_1_method_71_code
def yX0_hireOf : MethodName := ⟨RX0, "hireOf", "(I)I"⟩
def dkwX0_hireOf_2 : List UInt8 := [167, 255, 215, 28, 172]
abbrev dktX0_hireOf_2 : List UInt8 := dkwX0_hireOf_2 ++ []
def dkwX0_hireOf_1 : List UInt8 := [182, 0, 238, 184, 1, 17, 42, 28, 182, 0, 238, 184, 1, 17, 164, 0, 5, 29, 61, 132, 3, 1]
abbrev dktX0_hireOf_1 : List UInt8 := dkwX0_hireOf_1 ++ dktX0_hireOf_2
def dkwX0_hireOf_0 : List UInt8 := [3, 61, 4, 62, 29, 42, 182, 0, 107, 163, 0, 39, 42, 29, 182, 1, 32, 27, 163, 0, 24, 42, 29]
abbrev dktX0_hireOf_0 : List UInt8 := dkwX0_hireOf_0 ++ dktX0_hireOf_1
theorem dksX0_hireOf_0 : cX0_hireOf.data.toList.drop 0 = dktX0_hireOf_0 := by decide +kernel
theorem dksX0_hireOf_1 : cX0_hireOf.data.toList.drop 23 = dktX0_hireOf_1 := dk_seg dksX0_hireOf_0 23 rfl rfl
theorem dksX0_hireOf_2 : cX0_hireOf.data.toList.drop 45 = dktX0_hireOf_2 := dk_seg dksX0_hireOf_1 22 rfl rfl
theorem dX0_hireOf_0 : decode cX0_hireOf 0 = .ok (.iconst 0, 1) := dk_3 (dk_at dksX0_hireOf_0 0 rfl rfl)
theorem dX0_hireOf_1 : decode cX0_hireOf 1 = .ok (.istore_n 2, 1) := dk_61 (dk_at dksX0_hireOf_0 1 rfl rfl)
theorem dX0_hireOf_2 : decode cX0_hireOf 2 = .ok (.iconst 1, 1) := dk_4 (dk_at dksX0_hireOf_0 2 rfl rfl)
theorem dX0_hireOf_3 : decode cX0_hireOf 3 = .ok (.istore_n 3, 1) := dk_62 (dk_at dksX0_hireOf_0 3 rfl rfl)
theorem dX0_hireOf_4 : decode cX0_hireOf 4 = .ok (.iload_n 3, 1) := dk_29 (dk_at dksX0_hireOf_0 4 rfl rfl)
theorem dX0_hireOf_5 : decode cX0_hireOf 5 = .ok (.aload_n 0, 1) := dk_42 (dk_at dksX0_hireOf_0 5 rfl rfl)
theorem dX0_hireOf_6 : decode cX0_hireOf 6 = .ok (.invokevirtual 107, 3) := dk_182 0 107 (dk_at dksX0_hireOf_0 6 rfl rfl)
theorem dX0_hireOf_9 : decode cX0_hireOf 9 = .ok (.if_icmp .gt 39, 3) := dk_163 0 39 (dk_at dksX0_hireOf_0 9 rfl rfl)
theorem dX0_hireOf_12 : decode cX0_hireOf 12 = .ok (.aload_n 0, 1) := dk_42 (dk_at dksX0_hireOf_0 12 rfl rfl)
theorem dX0_hireOf_13 : decode cX0_hireOf 13 = .ok (.iload_n 3, 1) := dk_29 (dk_at dksX0_hireOf_0 13 rfl rfl)
theorem dX0_hireOf_14 : decode cX0_hireOf 14 = .ok (.invokevirtual 288, 3) := dk_182 1 32 (dk_at dksX0_hireOf_0 14 rfl rfl)
theorem dX0_hireOf_17 : decode cX0_hireOf 17 = .ok (.iload_n 1, 1) := dk_27 (dk_at dksX0_hireOf_0 17 rfl rfl)
theorem dX0_hireOf_18 : decode cX0_hireOf 18 = .ok (.if_icmp .gt 24, 3) := dk_163 0 24 (dk_at dksX0_hireOf_0 18 rfl rfl)
theorem dX0_hireOf_21 : decode cX0_hireOf 21 = .ok (.aload_n 0, 1) := dk_42 (dk_at dksX0_hireOf_0 21 rfl rfl)
theorem dX0_hireOf_22 : decode cX0_hireOf 22 = .ok (.iload_n 3, 1) := dk_29 (dk_at dksX0_hireOf_0 22 rfl rfl)
theorem dX0_hireOf_23 : decode cX0_hireOf 23 = .ok (.invokevirtual 238, 3) := dk_182 0 238 (dk_at dksX0_hireOf_1 0 rfl rfl)
theorem dX0_hireOf_26 : decode cX0_hireOf 26 = .ok (.invokestatic 273, 3) := dk_184 1 17 (dk_at dksX0_hireOf_1 3 rfl rfl)
theorem dX0_hireOf_29 : decode cX0_hireOf 29 = .ok (.aload_n 0, 1) := dk_42 (dk_at dksX0_hireOf_1 6 rfl rfl)
theorem dX0_hireOf_30 : decode cX0_hireOf 30 = .ok (.iload_n 2, 1) := dk_28 (dk_at dksX0_hireOf_1 7 rfl rfl)
theorem dX0_hireOf_31 : decode cX0_hireOf 31 = .ok (.invokevirtual 238, 3) := dk_182 0 238 (dk_at dksX0_hireOf_1 8 rfl rfl)
theorem dX0_hireOf_34 : decode cX0_hireOf 34 = .ok (.invokestatic 273, 3) := dk_184 1 17 (dk_at dksX0_hireOf_1 11 rfl rfl)
theorem dX0_hireOf_37 : decode cX0_hireOf 37 = .ok (.if_icmp .le 5, 3) := dk_164 0 5 (dk_at dksX0_hireOf_1 14 rfl rfl)
theorem dX0_hireOf_40 : decode cX0_hireOf 40 = .ok (.iload_n 3, 1) := dk_29 (dk_at dksX0_hireOf_1 17 rfl rfl)
theorem dX0_hireOf_41 : decode cX0_hireOf 41 = .ok (.istore_n 2, 1) := dk_61 (dk_at dksX0_hireOf_1 18 rfl rfl)
theorem dX0_hireOf_42 : decode cX0_hireOf 42 = .ok (.iinc 3 1, 3) := dk_132 3 1 (dk_at dksX0_hireOf_1 19 rfl rfl)
theorem dX0_hireOf_45 : decode cX0_hireOf 45 = .ok (.goto (-41), 3) := dk_167 255 215 (dk_at dksX0_hireOf_2 0 rfl rfl)
theorem dX0_hireOf_48 : decode cX0_hireOf 48 = .ok (.iload_n 2, 1) := dk_28 (dk_at dksX0_hireOf_2 3 rfl rfl)
theorem dX0_hireOf_49 : decode cX0_hireOf 49 = .ok (.ireturn, 1) := dk_172 (dk_at dksX0_hireOf_2 4 rfl rfl)
abbrev cX0_hired : ByteArray := prog_1_method_74_code
def yX0_hired : MethodName := ⟨RX0, "hired", "(I)I"⟩
def dkwX0_hired_0 : List UInt8 := [42, 27, 182, 1, 40, 153, 0, 11, 42, 27, 182, 1, 43, 167, 0, 5, 16, 254, 172]
abbrev dktX0_hired_0 : List UInt8 := dkwX0_hired_0 ++ []
theorem dksX0_hired_0 : cX0_hired.data.toList.drop 0 = dktX0_hired_0 := by decide +kernel
theorem dX0_hired_0 : decode cX0_hired 0 = .ok (.aload_n 0, 1) := dk_42 (dk_at dksX0_hired_0 0 rfl rfl)
theorem dX0_hired_1 : decode cX0_hired 1 = .ok (.iload_n 1, 1) := dk_27 (dk_at dksX0_hired_0 1 rfl rfl)
theorem dX0_hired_2 : decode cX0_hired 2 = .ok (.invokevirtual 296, 3) := dk_182 1 40 (dk_at dksX0_hired_0 2 rfl rfl)
theorem dX0_hired_5 : decode cX0_hired 5 = .ok (.ifCond .eq 11, 3) := dk_153 0 11 (dk_at dksX0_hired_0 5 rfl rfl)
theorem dX0_hired_8 : decode cX0_hired 8 = .ok (.aload_n 0, 1) := dk_42 (dk_at dksX0_hired_0 8 rfl rfl)
theorem dX0_hired_9 : decode cX0_hired 9 = .ok (.iload_n 1, 1) := dk_27 (dk_at dksX0_hired_0 9 rfl rfl)
theorem dX0_hired_10 : decode cX0_hired 10 = .ok (.invokevirtual 299, 3) := dk_182 1 43 (dk_at dksX0_hired_0 10 rfl rfl)
theorem dX0_hired_13 : decode cX0_hired 13 = .ok (.goto 5, 3) := dk_167 0 5 (dk_at dksX0_hired_0 13 rfl rfl)
theorem dX0_hired_16 : decode cX0_hired 16 = .ok (.bipush (-2), 2) := dk_16 254 (dk_at dksX0_hired_0 16 rfl rfl)
theorem dX0_hired_18 : decode cX0_hired 18 = .ok (.ireturn, 1) := dk_172 (dk_at dksX0_hired_0 18 rfl rfl)
abbrev cX0_suspects : ByteArray := prog_1_method_79_code
def yX0_suspects : MethodName := ⟨RX0, "suspects", "(I)I"⟩
def dkwX0_suspects_0 : List UInt8 := [42, 27, 182, 1, 61, 61, 28, 156, 0, 7, 28, 167, 0, 12, 42, 42, 27, 182, 1, 64, 182, 1, 67, 172]
abbrev dktX0_suspects_0 : List UInt8 := dkwX0_suspects_0 ++ []
theorem dksX0_suspects_0 : cX0_suspects.data.toList.drop 0 = dktX0_suspects_0 := by decide +kernel
theorem dX0_suspects_0 : decode cX0_suspects 0 = .ok (.aload_n 0, 1) := dk_42 (dk_at dksX0_suspects_0 0 rfl rfl)
theorem dX0_suspects_1 : decode cX0_suspects 1 = .ok (.iload_n 1, 1) := dk_27 (dk_at dksX0_suspects_0 1 rfl rfl)
theorem dX0_suspects_2 : decode cX0_suspects 2 = .ok (.invokevirtual 317, 3) := dk_182 1 61 (dk_at dksX0_suspects_0 2 rfl rfl)
theorem dX0_suspects_5 : decode cX0_suspects 5 = .ok (.istore_n 2, 1) := dk_61 (dk_at dksX0_suspects_0 5 rfl rfl)
theorem dX0_suspects_6 : decode cX0_suspects 6 = .ok (.iload_n 2, 1) := dk_28 (dk_at dksX0_suspects_0 6 rfl rfl)
theorem dX0_suspects_7 : decode cX0_suspects 7 = .ok (.ifCond .ge 7, 3) := dk_156 0 7 (dk_at dksX0_suspects_0 7 rfl rfl)
theorem dX0_suspects_10 : decode cX0_suspects 10 = .ok (.iload_n 2, 1) := dk_28 (dk_at dksX0_suspects_0 10 rfl rfl)
theorem dX0_suspects_11 : decode cX0_suspects 11 = .ok (.goto 12, 3) := dk_167 0 12 (dk_at dksX0_suspects_0 11 rfl rfl)
theorem dX0_suspects_14 : decode cX0_suspects 14 = .ok (.aload_n 0, 1) := dk_42 (dk_at dksX0_suspects_0 14 rfl rfl)
theorem dX0_suspects_15 : decode cX0_suspects 15 = .ok (.aload_n 0, 1) := dk_42 (dk_at dksX0_suspects_0 15 rfl rfl)
theorem dX0_suspects_16 : decode cX0_suspects 16 = .ok (.iload_n 1, 1) := dk_27 (dk_at dksX0_suspects_0 16 rfl rfl)
theorem dX0_suspects_17 : decode cX0_suspects 17 = .ok (.invokevirtual 320, 3) := dk_182 1 64 (dk_at dksX0_suspects_0 17 rfl rfl)
theorem dX0_suspects_20 : decode cX0_suspects 20 = .ok (.invokevirtual 323, 3) := dk_182 1 67 (dk_at dksX0_suspects_0 20 rfl rfl)
theorem dX0_suspects_23 : decode cX0_suspects 23 = .ok (.ireturn, 1) := dk_172 (dk_at dksX0_suspects_0 23 rfl rfl)
abbrev cX0_asksDeeds : ByteArray := prog_1_method_76_code
def yX0_asksDeeds : MethodName := ⟨RX0, "asksDeeds", "(I)I"⟩
def dkwX0_asksDeeds_2 : List UInt8 := [154, 0, 6, 16, 254, 172, 132, 3, 1, 167, 255, 229, 3, 172, 77, 16, 250, 172]
abbrev dktX0_asksDeeds_2 : List UInt8 := dkwX0_asksDeeds_2 ++ []
def dkwX0_asksDeeds_1 : List UInt8 := [182, 1, 53, 61, 3, 62, 29, 28, 162, 0, 28, 42, 180, 0, 53, 27, 50, 29, 182, 1, 46, 184, 0, 232]
abbrev dktX0_asksDeeds_1 : List UInt8 := dkwX0_asksDeeds_1 ++ dktX0_asksDeeds_2
def dkwX0_asksDeeds_0 : List UInt8 := [27, 184, 1, 50, 153, 0, 10, 42, 182, 0, 103, 154, 0, 6, 16, 254, 172, 42, 180, 0, 53, 27, 50]
abbrev dktX0_asksDeeds_0 : List UInt8 := dkwX0_asksDeeds_0 ++ dktX0_asksDeeds_1
theorem dksX0_asksDeeds_0 : cX0_asksDeeds.data.toList.drop 0 = dktX0_asksDeeds_0 := by decide +kernel
theorem dksX0_asksDeeds_1 : cX0_asksDeeds.data.toList.drop 23 = dktX0_asksDeeds_1 := dk_seg dksX0_asksDeeds_0 23 rfl rfl
theorem dksX0_asksDeeds_2 : cX0_asksDeeds.data.toList.drop 47 = dktX0_asksDeeds_2 := dk_seg dksX0_asksDeeds_1 24 rfl rfl
theorem dX0_asksDeeds_0 : decode cX0_asksDeeds 0 = .ok (.iload_n 1, 1) := dk_27 (dk_at dksX0_asksDeeds_0 0 rfl rfl)
theorem dX0_asksDeeds_1 : decode cX0_asksDeeds 1 = .ok (.invokestatic 306, 3) := dk_184 1 50 (dk_at dksX0_asksDeeds_0 1 rfl rfl)
theorem dX0_asksDeeds_4 : decode cX0_asksDeeds 4 = .ok (.ifCond .eq 10, 3) := dk_153 0 10 (dk_at dksX0_asksDeeds_0 4 rfl rfl)
theorem dX0_asksDeeds_7 : decode cX0_asksDeeds 7 = .ok (.aload_n 0, 1) := dk_42 (dk_at dksX0_asksDeeds_0 7 rfl rfl)
theorem dX0_asksDeeds_8 : decode cX0_asksDeeds 8 = .ok (.invokevirtual 103, 3) := dk_182 0 103 (dk_at dksX0_asksDeeds_0 8 rfl rfl)
theorem dX0_asksDeeds_11 : decode cX0_asksDeeds 11 = .ok (.ifCond .ne 6, 3) := dk_154 0 6 (dk_at dksX0_asksDeeds_0 11 rfl rfl)
theorem dX0_asksDeeds_14 : decode cX0_asksDeeds 14 = .ok (.bipush (-2), 2) := dk_16 254 (dk_at dksX0_asksDeeds_0 14 rfl rfl)
theorem dX0_asksDeeds_16 : decode cX0_asksDeeds 16 = .ok (.ireturn, 1) := dk_172 (dk_at dksX0_asksDeeds_0 16 rfl rfl)
theorem dX0_asksDeeds_17 : decode cX0_asksDeeds 17 = .ok (.aload_n 0, 1) := dk_42 (dk_at dksX0_asksDeeds_0 17 rfl rfl)
theorem dX0_asksDeeds_18 : decode cX0_asksDeeds 18 = .ok (.getfield 53, 3) := dk_180 0 53 (dk_at dksX0_asksDeeds_0 18 rfl rfl)
theorem dX0_asksDeeds_21 : decode cX0_asksDeeds 21 = .ok (.iload_n 1, 1) := dk_27 (dk_at dksX0_asksDeeds_0 21 rfl rfl)
theorem dX0_asksDeeds_22 : decode cX0_asksDeeds 22 = .ok (.aaload, 1) := dk_50 (dk_at dksX0_asksDeeds_0 22 rfl rfl)
theorem dX0_asksDeeds_23 : decode cX0_asksDeeds 23 = .ok (.invokevirtual 309, 3) := dk_182 1 53 (dk_at dksX0_asksDeeds_1 0 rfl rfl)
theorem dX0_asksDeeds_26 : decode cX0_asksDeeds 26 = .ok (.istore_n 2, 1) := dk_61 (dk_at dksX0_asksDeeds_1 3 rfl rfl)
theorem dX0_asksDeeds_27 : decode cX0_asksDeeds 27 = .ok (.iconst 0, 1) := dk_3 (dk_at dksX0_asksDeeds_1 4 rfl rfl)
theorem dX0_asksDeeds_28 : decode cX0_asksDeeds 28 = .ok (.istore_n 3, 1) := dk_62 (dk_at dksX0_asksDeeds_1 5 rfl rfl)
theorem dX0_asksDeeds_29 : decode cX0_asksDeeds 29 = .ok (.iload_n 3, 1) := dk_29 (dk_at dksX0_asksDeeds_1 6 rfl rfl)
theorem dX0_asksDeeds_30 : decode cX0_asksDeeds 30 = .ok (.iload_n 2, 1) := dk_28 (dk_at dksX0_asksDeeds_1 7 rfl rfl)
theorem dX0_asksDeeds_31 : decode cX0_asksDeeds 31 = .ok (.if_icmp .ge 28, 3) := dk_162 0 28 (dk_at dksX0_asksDeeds_1 8 rfl rfl)
theorem dX0_asksDeeds_34 : decode cX0_asksDeeds 34 = .ok (.aload_n 0, 1) := dk_42 (dk_at dksX0_asksDeeds_1 11 rfl rfl)
theorem dX0_asksDeeds_35 : decode cX0_asksDeeds 35 = .ok (.getfield 53, 3) := dk_180 0 53 (dk_at dksX0_asksDeeds_1 12 rfl rfl)
theorem dX0_asksDeeds_38 : decode cX0_asksDeeds 38 = .ok (.iload_n 1, 1) := dk_27 (dk_at dksX0_asksDeeds_1 15 rfl rfl)
theorem dX0_asksDeeds_39 : decode cX0_asksDeeds 39 = .ok (.aaload, 1) := dk_50 (dk_at dksX0_asksDeeds_1 16 rfl rfl)
theorem dX0_asksDeeds_40 : decode cX0_asksDeeds 40 = .ok (.iload_n 3, 1) := dk_29 (dk_at dksX0_asksDeeds_1 17 rfl rfl)
theorem dX0_asksDeeds_41 : decode cX0_asksDeeds 41 = .ok (.invokevirtual 302, 3) := dk_182 1 46 (dk_at dksX0_asksDeeds_1 18 rfl rfl)
theorem dX0_asksDeeds_44 : decode cX0_asksDeeds 44 = .ok (.invokestatic 232, 3) := dk_184 0 232 (dk_at dksX0_asksDeeds_1 21 rfl rfl)
theorem dX0_asksDeeds_47 : decode cX0_asksDeeds 47 = .ok (.ifCond .ne 6, 3) := dk_154 0 6 (dk_at dksX0_asksDeeds_2 0 rfl rfl)
theorem dX0_asksDeeds_50 : decode cX0_asksDeeds 50 = .ok (.bipush (-2), 2) := dk_16 254 (dk_at dksX0_asksDeeds_2 3 rfl rfl)
theorem dX0_asksDeeds_52 : decode cX0_asksDeeds 52 = .ok (.ireturn, 1) := dk_172 (dk_at dksX0_asksDeeds_2 5 rfl rfl)
theorem dX0_asksDeeds_53 : decode cX0_asksDeeds 53 = .ok (.iinc 3 1, 3) := dk_132 3 1 (dk_at dksX0_asksDeeds_2 6 rfl rfl)
theorem dX0_asksDeeds_56 : decode cX0_asksDeeds 56 = .ok (.goto (-27), 3) := dk_167 255 229 (dk_at dksX0_asksDeeds_2 9 rfl rfl)
theorem dX0_asksDeeds_59 : decode cX0_asksDeeds 59 = .ok (.iconst 0, 1) := dk_3 (dk_at dksX0_asksDeeds_2 12 rfl rfl)
theorem dX0_asksDeeds_60 : decode cX0_asksDeeds 60 = .ok (.ireturn, 1) := dk_172 (dk_at dksX0_asksDeeds_2 13 rfl rfl)
theorem dX0_asksDeeds_61 : decode cX0_asksDeeds 61 = .ok (.astore_n 2, 1) := dk_77 (dk_at dksX0_asksDeeds_2 14 rfl rfl)
theorem dX0_asksDeeds_62 : decode cX0_asksDeeds 62 = .ok (.bipush (-6), 2) := dk_16 250 (dk_at dksX0_asksDeeds_2 15 rfl rfl)
theorem dX0_asksDeeds_64 : decode cX0_asksDeeds 64 = .ok (.ireturn, 1) := dk_172 (dk_at dksX0_asksDeeds_2 17 rfl rfl)
abbrev cX0_isSlot : ByteArray := prog_1_method_117_code
def yX0_isSlot : MethodName := ⟨RX0, "isSlot", "(I)Z"⟩
def dkwX0_isSlot_0 : List UInt8 := [26, 133, 9, 20, 1, 147, 184, 0, 67, 172]
abbrev dktX0_isSlot_0 : List UInt8 := dkwX0_isSlot_0 ++ []
theorem dksX0_isSlot_0 : cX0_isSlot.data.toList.drop 0 = dktX0_isSlot_0 := by decide +kernel
theorem dX0_isSlot_0 : decode cX0_isSlot 0 = .ok (.iload_n 0, 1) := dk_26 (dk_at dksX0_isSlot_0 0 rfl rfl)
theorem dX0_isSlot_1 : decode cX0_isSlot 1 = .ok (.i2l, 1) := dk_133 (dk_at dksX0_isSlot_0 1 rfl rfl)
theorem dX0_isSlot_2 : decode cX0_isSlot 2 = .ok (.lconst 0, 1) := dk_9 (dk_at dksX0_isSlot_0 2 rfl rfl)
theorem dX0_isSlot_3 : decode cX0_isSlot 3 = .ok (.ldc2_w 403, 3) := dk_20 1 147 (dk_at dksX0_isSlot_0 3 rfl rfl)
theorem dX0_isSlot_6 : decode cX0_isSlot 6 = .ok (.invokestatic 67, 3) := dk_184 0 67 (dk_at dksX0_isSlot_0 6 rfl rfl)
theorem dX0_isSlot_9 : decode cX0_isSlot 9 = .ok (.ireturn, 1) := dk_172 (dk_at dksX0_isSlot_0 9 rfl rfl)
abbrev cX0_deedsIn : ByteArray := prog_1_method_78_code
def yX0_deedsIn : MethodName := ⟨RX0, "deedsIn", "(I)I"⟩
def dkwX0_deedsIn_1 : List UInt8 := [182, 1, 58, 120, 128, 61, 132, 3, 1, 167, 255, 229, 28, 172]
abbrev dktX0_deedsIn_1 : List UInt8 := dkwX0_deedsIn_1 ++ []
def dkwX0_deedsIn_0 : List UInt8 := [3, 61, 3, 62, 29, 42, 180, 0, 53, 27, 50, 182, 1, 53, 162, 0, 20, 28, 4, 42, 27, 29]
abbrev dktX0_deedsIn_0 : List UInt8 := dkwX0_deedsIn_0 ++ dktX0_deedsIn_1
theorem dksX0_deedsIn_0 : cX0_deedsIn.data.toList.drop 0 = dktX0_deedsIn_0 := by decide +kernel
theorem dksX0_deedsIn_1 : cX0_deedsIn.data.toList.drop 22 = dktX0_deedsIn_1 := dk_seg dksX0_deedsIn_0 22 rfl rfl
theorem dX0_deedsIn_0 : decode cX0_deedsIn 0 = .ok (.iconst 0, 1) := dk_3 (dk_at dksX0_deedsIn_0 0 rfl rfl)
theorem dX0_deedsIn_1 : decode cX0_deedsIn 1 = .ok (.istore_n 2, 1) := dk_61 (dk_at dksX0_deedsIn_0 1 rfl rfl)
theorem dX0_deedsIn_2 : decode cX0_deedsIn 2 = .ok (.iconst 0, 1) := dk_3 (dk_at dksX0_deedsIn_0 2 rfl rfl)
theorem dX0_deedsIn_3 : decode cX0_deedsIn 3 = .ok (.istore_n 3, 1) := dk_62 (dk_at dksX0_deedsIn_0 3 rfl rfl)
theorem dX0_deedsIn_4 : decode cX0_deedsIn 4 = .ok (.iload_n 3, 1) := dk_29 (dk_at dksX0_deedsIn_0 4 rfl rfl)
theorem dX0_deedsIn_5 : decode cX0_deedsIn 5 = .ok (.aload_n 0, 1) := dk_42 (dk_at dksX0_deedsIn_0 5 rfl rfl)
theorem dX0_deedsIn_6 : decode cX0_deedsIn 6 = .ok (.getfield 53, 3) := dk_180 0 53 (dk_at dksX0_deedsIn_0 6 rfl rfl)
theorem dX0_deedsIn_9 : decode cX0_deedsIn 9 = .ok (.iload_n 1, 1) := dk_27 (dk_at dksX0_deedsIn_0 9 rfl rfl)
theorem dX0_deedsIn_10 : decode cX0_deedsIn 10 = .ok (.aaload, 1) := dk_50 (dk_at dksX0_deedsIn_0 10 rfl rfl)
theorem dX0_deedsIn_11 : decode cX0_deedsIn 11 = .ok (.invokevirtual 309, 3) := dk_182 1 53 (dk_at dksX0_deedsIn_0 11 rfl rfl)
theorem dX0_deedsIn_14 : decode cX0_deedsIn 14 = .ok (.if_icmp .ge 20, 3) := dk_162 0 20 (dk_at dksX0_deedsIn_0 14 rfl rfl)
theorem dX0_deedsIn_17 : decode cX0_deedsIn 17 = .ok (.iload_n 2, 1) := dk_28 (dk_at dksX0_deedsIn_0 17 rfl rfl)
theorem dX0_deedsIn_18 : decode cX0_deedsIn 18 = .ok (.iconst 1, 1) := dk_4 (dk_at dksX0_deedsIn_0 18 rfl rfl)
theorem dX0_deedsIn_19 : decode cX0_deedsIn 19 = .ok (.aload_n 0, 1) := dk_42 (dk_at dksX0_deedsIn_0 19 rfl rfl)
theorem dX0_deedsIn_20 : decode cX0_deedsIn 20 = .ok (.iload_n 1, 1) := dk_27 (dk_at dksX0_deedsIn_0 20 rfl rfl)
theorem dX0_deedsIn_21 : decode cX0_deedsIn 21 = .ok (.iload_n 3, 1) := dk_29 (dk_at dksX0_deedsIn_0 21 rfl rfl)
theorem dX0_deedsIn_22 : decode cX0_deedsIn 22 = .ok (.invokevirtual 314, 3) := dk_182 1 58 (dk_at dksX0_deedsIn_1 0 rfl rfl)
theorem dX0_deedsIn_25 : decode cX0_deedsIn 25 = .ok (.ishl, 1) := dk_120 (dk_at dksX0_deedsIn_1 3 rfl rfl)
theorem dX0_deedsIn_26 : decode cX0_deedsIn 26 = .ok (.ior, 1) := dk_128 (dk_at dksX0_deedsIn_1 4 rfl rfl)
theorem dX0_deedsIn_27 : decode cX0_deedsIn 27 = .ok (.istore_n 2, 1) := dk_61 (dk_at dksX0_deedsIn_1 5 rfl rfl)
theorem dX0_deedsIn_28 : decode cX0_deedsIn 28 = .ok (.iinc 3 1, 3) := dk_132 3 1 (dk_at dksX0_deedsIn_1 6 rfl rfl)
theorem dX0_deedsIn_31 : decode cX0_deedsIn 31 = .ok (.goto (-27), 3) := dk_167 255 229 (dk_at dksX0_deedsIn_1 9 rfl rfl)
theorem dX0_deedsIn_34 : decode cX0_deedsIn 34 = .ok (.iload_n 2, 1) := dk_28 (dk_at dksX0_deedsIn_1 12 rfl rfl)
theorem dX0_deedsIn_35 : decode cX0_deedsIn 35 = .ok (.ireturn, 1) := dk_172 (dk_at dksX0_deedsIn_1 13 rfl rfl)
abbrev cX0_number : ByteArray := prog_1_method_75_code
def yX0_number : MethodName := ⟨RX0, "number", "(II)I"⟩
def dkwX0_number_0 : List UInt8 := [42, 180, 0, 53, 27, 50, 28, 182, 1, 46, 136, 172]
abbrev dktX0_number_0 : List UInt8 := dkwX0_number_0 ++ []
theorem dksX0_number_0 : cX0_number.data.toList.drop 0 = dktX0_number_0 := by decide +kernel
theorem dX0_number_0 : decode cX0_number 0 = .ok (.aload_n 0, 1) := dk_42 (dk_at dksX0_number_0 0 rfl rfl)
theorem dX0_number_1 : decode cX0_number 1 = .ok (.getfield 53, 3) := dk_180 0 53 (dk_at dksX0_number_0 1 rfl rfl)
theorem dX0_number_4 : decode cX0_number 4 = .ok (.iload_n 1, 1) := dk_27 (dk_at dksX0_number_0 4 rfl rfl)
theorem dX0_number_5 : decode cX0_number 5 = .ok (.aaload, 1) := dk_50 (dk_at dksX0_number_0 5 rfl rfl)
theorem dX0_number_6 : decode cX0_number 6 = .ok (.iload_n 2, 1) := dk_28 (dk_at dksX0_number_0 6 rfl rfl)
theorem dX0_number_7 : decode cX0_number 7 = .ok (.invokevirtual 302, 3) := dk_182 1 46 (dk_at dksX0_number_0 7 rfl rfl)
theorem dX0_number_10 : decode cX0_number 10 = .ok (.l2i, 1) := dk_136 (dk_at dksX0_number_0 10 rfl rfl)
theorem dX0_number_11 : decode cX0_number 11 = .ok (.ireturn, 1) := dk_172 (dk_at dksX0_number_0 11 rfl rfl)
abbrev cX0_wishing : ByteArray := prog_1_method_77_code
def yX0_wishing : MethodName := ⟨RX0, "wishing", "(I)I"⟩
def dkwX0_wishing_2 : List UInt8 := [172]
abbrev dktX0_wishing_2 : List UInt8 := dkwX0_wishing_2 ++ []
def dkwX0_wishing_1 : List UInt8 := [29, 46, 2, 130, 126, 154, 0, 9, 4, 29, 120, 167, 0, 4, 3, 128, 61, 132, 3, 1, 167, 255, 216, 28]
abbrev dktX0_wishing_1 : List UInt8 := dkwX0_wishing_1 ++ dktX0_wishing_2
def dkwX0_wishing_0 : List UInt8 := [3, 61, 3, 62, 29, 42, 180, 0, 12, 180, 0, 94, 162, 0, 35, 28, 27, 42, 180, 0, 12, 180, 0, 202]
abbrev dktX0_wishing_0 : List UInt8 := dkwX0_wishing_0 ++ dktX0_wishing_1
theorem dksX0_wishing_0 : cX0_wishing.data.toList.drop 0 = dktX0_wishing_0 := by decide +kernel
theorem dksX0_wishing_1 : cX0_wishing.data.toList.drop 24 = dktX0_wishing_1 := dk_seg dksX0_wishing_0 24 rfl rfl
theorem dksX0_wishing_2 : cX0_wishing.data.toList.drop 48 = dktX0_wishing_2 := dk_seg dksX0_wishing_1 24 rfl rfl
theorem dX0_wishing_0 : decode cX0_wishing 0 = .ok (.iconst 0, 1) := dk_3 (dk_at dksX0_wishing_0 0 rfl rfl)
theorem dX0_wishing_1 : decode cX0_wishing 1 = .ok (.istore_n 2, 1) := dk_61 (dk_at dksX0_wishing_0 1 rfl rfl)
theorem dX0_wishing_2 : decode cX0_wishing 2 = .ok (.iconst 0, 1) := dk_3 (dk_at dksX0_wishing_0 2 rfl rfl)
theorem dX0_wishing_3 : decode cX0_wishing 3 = .ok (.istore_n 3, 1) := dk_62 (dk_at dksX0_wishing_0 3 rfl rfl)
theorem dX0_wishing_4 : decode cX0_wishing 4 = .ok (.iload_n 3, 1) := dk_29 (dk_at dksX0_wishing_0 4 rfl rfl)
theorem dX0_wishing_5 : decode cX0_wishing 5 = .ok (.aload_n 0, 1) := dk_42 (dk_at dksX0_wishing_0 5 rfl rfl)
theorem dX0_wishing_6 : decode cX0_wishing 6 = .ok (.getfield 12, 3) := dk_180 0 12 (dk_at dksX0_wishing_0 6 rfl rfl)
theorem dX0_wishing_9 : decode cX0_wishing 9 = .ok (.getfield 94, 3) := dk_180 0 94 (dk_at dksX0_wishing_0 9 rfl rfl)
theorem dX0_wishing_12 : decode cX0_wishing 12 = .ok (.if_icmp .ge 35, 3) := dk_162 0 35 (dk_at dksX0_wishing_0 12 rfl rfl)
theorem dX0_wishing_15 : decode cX0_wishing 15 = .ok (.iload_n 2, 1) := dk_28 (dk_at dksX0_wishing_0 15 rfl rfl)
theorem dX0_wishing_16 : decode cX0_wishing 16 = .ok (.iload_n 1, 1) := dk_27 (dk_at dksX0_wishing_0 16 rfl rfl)
theorem dX0_wishing_17 : decode cX0_wishing 17 = .ok (.aload_n 0, 1) := dk_42 (dk_at dksX0_wishing_0 17 rfl rfl)
theorem dX0_wishing_18 : decode cX0_wishing 18 = .ok (.getfield 12, 3) := dk_180 0 12 (dk_at dksX0_wishing_0 18 rfl rfl)
theorem dX0_wishing_21 : decode cX0_wishing 21 = .ok (.getfield 202, 3) := dk_180 0 202 (dk_at dksX0_wishing_0 21 rfl rfl)
theorem dX0_wishing_24 : decode cX0_wishing 24 = .ok (.iload_n 3, 1) := dk_29 (dk_at dksX0_wishing_1 0 rfl rfl)
theorem dX0_wishing_25 : decode cX0_wishing 25 = .ok (.iaload, 1) := dk_46 (dk_at dksX0_wishing_1 1 rfl rfl)
theorem dX0_wishing_26 : decode cX0_wishing 26 = .ok (.iconst (-1), 1) := dk_2 (dk_at dksX0_wishing_1 2 rfl rfl)
theorem dX0_wishing_27 : decode cX0_wishing 27 = .ok (.ixor, 1) := dk_130 (dk_at dksX0_wishing_1 3 rfl rfl)
theorem dX0_wishing_28 : decode cX0_wishing 28 = .ok (.iand, 1) := dk_126 (dk_at dksX0_wishing_1 4 rfl rfl)
theorem dX0_wishing_29 : decode cX0_wishing 29 = .ok (.ifCond .ne 9, 3) := dk_154 0 9 (dk_at dksX0_wishing_1 5 rfl rfl)
theorem dX0_wishing_32 : decode cX0_wishing 32 = .ok (.iconst 1, 1) := dk_4 (dk_at dksX0_wishing_1 8 rfl rfl)
theorem dX0_wishing_33 : decode cX0_wishing 33 = .ok (.iload_n 3, 1) := dk_29 (dk_at dksX0_wishing_1 9 rfl rfl)
theorem dX0_wishing_34 : decode cX0_wishing 34 = .ok (.ishl, 1) := dk_120 (dk_at dksX0_wishing_1 10 rfl rfl)
theorem dX0_wishing_35 : decode cX0_wishing 35 = .ok (.goto 4, 3) := dk_167 0 4 (dk_at dksX0_wishing_1 11 rfl rfl)
theorem dX0_wishing_38 : decode cX0_wishing 38 = .ok (.iconst 0, 1) := dk_3 (dk_at dksX0_wishing_1 14 rfl rfl)
theorem dX0_wishing_39 : decode cX0_wishing 39 = .ok (.ior, 1) := dk_128 (dk_at dksX0_wishing_1 15 rfl rfl)
theorem dX0_wishing_40 : decode cX0_wishing 40 = .ok (.istore_n 2, 1) := dk_61 (dk_at dksX0_wishing_1 16 rfl rfl)
theorem dX0_wishing_41 : decode cX0_wishing 41 = .ok (.iinc 3 1, 3) := dk_132 3 1 (dk_at dksX0_wishing_1 17 rfl rfl)
theorem dX0_wishing_44 : decode cX0_wishing 44 = .ok (.goto (-40), 3) := dk_167 255 216 (dk_at dksX0_wishing_1 20 rfl rfl)
theorem dX0_wishing_47 : decode cX0_wishing 47 = .ok (.iload_n 2, 1) := dk_28 (dk_at dksX0_wishing_1 23 rfl rfl)
theorem dX0_wishing_48 : decode cX0_wishing 48 = .ok (.ireturn, 1) := dk_172 (dk_at dksX0_wishing_2 0 rfl rfl)
abbrev cX0_watch : ByteArray := prog_1_method_81_code
def yX0_watch : MethodName := ⟨RX0, "watch", "(I)I"⟩
def dkwX0_watch_0 : List UInt8 := [42, 27, 182, 1, 61, 61, 28, 156, 0, 7, 28, 167, 0, 8, 42, 27, 182, 1, 76, 172]
abbrev dktX0_watch_0 : List UInt8 := dkwX0_watch_0 ++ []
theorem dksX0_watch_0 : cX0_watch.data.toList.drop 0 = dktX0_watch_0 := by decide +kernel
theorem dX0_watch_0 : decode cX0_watch 0 = .ok (.aload_n 0, 1) := dk_42 (dk_at dksX0_watch_0 0 rfl rfl)
theorem dX0_watch_1 : decode cX0_watch 1 = .ok (.iload_n 1, 1) := dk_27 (dk_at dksX0_watch_0 1 rfl rfl)
theorem dX0_watch_2 : decode cX0_watch 2 = .ok (.invokevirtual 317, 3) := dk_182 1 61 (dk_at dksX0_watch_0 2 rfl rfl)
theorem dX0_watch_5 : decode cX0_watch 5 = .ok (.istore_n 2, 1) := dk_61 (dk_at dksX0_watch_0 5 rfl rfl)
theorem dX0_watch_6 : decode cX0_watch 6 = .ok (.iload_n 2, 1) := dk_28 (dk_at dksX0_watch_0 6 rfl rfl)
theorem dX0_watch_7 : decode cX0_watch 7 = .ok (.ifCond .ge 7, 3) := dk_156 0 7 (dk_at dksX0_watch_0 7 rfl rfl)
theorem dX0_watch_10 : decode cX0_watch 10 = .ok (.iload_n 2, 1) := dk_28 (dk_at dksX0_watch_0 10 rfl rfl)
theorem dX0_watch_11 : decode cX0_watch 11 = .ok (.goto 8, 3) := dk_167 0 8 (dk_at dksX0_watch_0 11 rfl rfl)
theorem dX0_watch_14 : decode cX0_watch 14 = .ok (.aload_n 0, 1) := dk_42 (dk_at dksX0_watch_0 14 rfl rfl)
theorem dX0_watch_15 : decode cX0_watch 15 = .ok (.iload_n 1, 1) := dk_27 (dk_at dksX0_watch_0 15 rfl rfl)
theorem dX0_watch_16 : decode cX0_watch 16 = .ok (.invokevirtual 332, 3) := dk_182 1 76 (dk_at dksX0_watch_0 16 rfl rfl)
theorem dX0_watch_19 : decode cX0_watch 19 = .ok (.ireturn, 1) := dk_172 (dk_at dksX0_watch_0 19 rfl rfl)
abbrev cX0_watchOf : ByteArray := prog_1_method_80_code
def yX0_watchOf : MethodName := ⟨RX0, "watchOf", "(I)I"⟩
def dkwX0_watchOf_3 : List UInt8 := [42, 21, 6, 181, 1, 70, 21, 4, 62, 132, 4, 1, 167, 255, 196, 29, 172]
abbrev dktX0_watchOf_3 : List UInt8 := dkwX0_watchOf_3 ++ []
def dkwX0_watchOf_2 : List UInt8 := [28, 184, 1, 17, 21, 5, 100, 184, 1, 73, 54, 6, 21, 6, 42, 180, 1, 70, 161, 0, 6, 167, 0, 12]
abbrev dktX0_watchOf_2 : List UInt8 := dkwX0_watchOf_2 ++ dktX0_watchOf_3
def dkwX0_watchOf_1 : List UInt8 := [21, 4, 16, 6, 162, 0, 59, 28, 42, 4, 21, 4, 120, 182, 1, 67, 126, 184, 1, 17, 54, 5, 21, 5]
abbrev dktX0_watchOf_1 : List UInt8 := dkwX0_watchOf_1 ++ dktX0_watchOf_2
def dkwX0_watchOf_0 : List UInt8 := [42, 42, 27, 182, 1, 64, 182, 1, 67, 61, 42, 28, 184, 1, 17, 181, 1, 70, 2, 62, 3, 54, 4]
abbrev dktX0_watchOf_0 : List UInt8 := dkwX0_watchOf_0 ++ dktX0_watchOf_1
theorem dksX0_watchOf_0 : cX0_watchOf.data.toList.drop 0 = dktX0_watchOf_0 := by decide +kernel
theorem dksX0_watchOf_1 : cX0_watchOf.data.toList.drop 23 = dktX0_watchOf_1 := dk_seg dksX0_watchOf_0 23 rfl rfl
theorem dksX0_watchOf_2 : cX0_watchOf.data.toList.drop 47 = dktX0_watchOf_2 := dk_seg dksX0_watchOf_1 24 rfl rfl
theorem dksX0_watchOf_3 : cX0_watchOf.data.toList.drop 71 = dktX0_watchOf_3 := dk_seg dksX0_watchOf_2 24 rfl rfl
theorem dX0_watchOf_0 : decode cX0_watchOf 0 = .ok (.aload_n 0, 1) := dk_42 (dk_at dksX0_watchOf_0 0 rfl rfl)
theorem dX0_watchOf_1 : decode cX0_watchOf 1 = .ok (.aload_n 0, 1) := dk_42 (dk_at dksX0_watchOf_0 1 rfl rfl)
theorem dX0_watchOf_2 : decode cX0_watchOf 2 = .ok (.iload_n 1, 1) := dk_27 (dk_at dksX0_watchOf_0 2 rfl rfl)
theorem dX0_watchOf_3 : decode cX0_watchOf 3 = .ok (.invokevirtual 320, 3) := dk_182 1 64 (dk_at dksX0_watchOf_0 3 rfl rfl)
theorem dX0_watchOf_6 : decode cX0_watchOf 6 = .ok (.invokevirtual 323, 3) := dk_182 1 67 (dk_at dksX0_watchOf_0 6 rfl rfl)
theorem dX0_watchOf_9 : decode cX0_watchOf 9 = .ok (.istore_n 2, 1) := dk_61 (dk_at dksX0_watchOf_0 9 rfl rfl)
theorem dX0_watchOf_10 : decode cX0_watchOf 10 = .ok (.aload_n 0, 1) := dk_42 (dk_at dksX0_watchOf_0 10 rfl rfl)
theorem dX0_watchOf_11 : decode cX0_watchOf 11 = .ok (.iload_n 2, 1) := dk_28 (dk_at dksX0_watchOf_0 11 rfl rfl)
theorem dX0_watchOf_12 : decode cX0_watchOf 12 = .ok (.invokestatic 273, 3) := dk_184 1 17 (dk_at dksX0_watchOf_0 12 rfl rfl)
theorem dX0_watchOf_15 : decode cX0_watchOf 15 = .ok (.putfield 326, 3) := dk_181 1 70 (dk_at dksX0_watchOf_0 15 rfl rfl)
theorem dX0_watchOf_18 : decode cX0_watchOf 18 = .ok (.iconst (-1), 1) := dk_2 (dk_at dksX0_watchOf_0 18 rfl rfl)
theorem dX0_watchOf_19 : decode cX0_watchOf 19 = .ok (.istore_n 3, 1) := dk_62 (dk_at dksX0_watchOf_0 19 rfl rfl)
theorem dX0_watchOf_20 : decode cX0_watchOf 20 = .ok (.iconst 0, 1) := dk_3 (dk_at dksX0_watchOf_0 20 rfl rfl)
theorem dX0_watchOf_21 : decode cX0_watchOf 21 = .ok (.istore 4, 2) := dk_54 4 (dk_at dksX0_watchOf_0 21 rfl rfl)
theorem dX0_watchOf_23 : decode cX0_watchOf 23 = .ok (.iload 4, 2) := dk_21 4 (dk_at dksX0_watchOf_1 0 rfl rfl)
theorem dX0_watchOf_25 : decode cX0_watchOf 25 = .ok (.bipush 6, 2) := dk_16 6 (dk_at dksX0_watchOf_1 2 rfl rfl)
theorem dX0_watchOf_27 : decode cX0_watchOf 27 = .ok (.if_icmp .ge 59, 3) := dk_162 0 59 (dk_at dksX0_watchOf_1 4 rfl rfl)
theorem dX0_watchOf_30 : decode cX0_watchOf 30 = .ok (.iload_n 2, 1) := dk_28 (dk_at dksX0_watchOf_1 7 rfl rfl)
theorem dX0_watchOf_31 : decode cX0_watchOf 31 = .ok (.aload_n 0, 1) := dk_42 (dk_at dksX0_watchOf_1 8 rfl rfl)
theorem dX0_watchOf_32 : decode cX0_watchOf 32 = .ok (.iconst 1, 1) := dk_4 (dk_at dksX0_watchOf_1 9 rfl rfl)
theorem dX0_watchOf_33 : decode cX0_watchOf 33 = .ok (.iload 4, 2) := dk_21 4 (dk_at dksX0_watchOf_1 10 rfl rfl)
theorem dX0_watchOf_35 : decode cX0_watchOf 35 = .ok (.ishl, 1) := dk_120 (dk_at dksX0_watchOf_1 12 rfl rfl)
theorem dX0_watchOf_36 : decode cX0_watchOf 36 = .ok (.invokevirtual 323, 3) := dk_182 1 67 (dk_at dksX0_watchOf_1 13 rfl rfl)
theorem dX0_watchOf_39 : decode cX0_watchOf 39 = .ok (.iand, 1) := dk_126 (dk_at dksX0_watchOf_1 16 rfl rfl)
theorem dX0_watchOf_40 : decode cX0_watchOf 40 = .ok (.invokestatic 273, 3) := dk_184 1 17 (dk_at dksX0_watchOf_1 17 rfl rfl)
theorem dX0_watchOf_43 : decode cX0_watchOf 43 = .ok (.istore 5, 2) := dk_54 5 (dk_at dksX0_watchOf_1 20 rfl rfl)
theorem dX0_watchOf_45 : decode cX0_watchOf 45 = .ok (.iload 5, 2) := dk_21 5 (dk_at dksX0_watchOf_1 22 rfl rfl)
theorem dX0_watchOf_47 : decode cX0_watchOf 47 = .ok (.iload_n 2, 1) := dk_28 (dk_at dksX0_watchOf_2 0 rfl rfl)
theorem dX0_watchOf_48 : decode cX0_watchOf 48 = .ok (.invokestatic 273, 3) := dk_184 1 17 (dk_at dksX0_watchOf_2 1 rfl rfl)
theorem dX0_watchOf_51 : decode cX0_watchOf 51 = .ok (.iload 5, 2) := dk_21 5 (dk_at dksX0_watchOf_2 4 rfl rfl)
theorem dX0_watchOf_53 : decode cX0_watchOf 53 = .ok (.isub, 1) := dk_100 (dk_at dksX0_watchOf_2 6 rfl rfl)
theorem dX0_watchOf_54 : decode cX0_watchOf 54 = .ok (.invokestatic 329, 3) := dk_184 1 73 (dk_at dksX0_watchOf_2 7 rfl rfl)
theorem dX0_watchOf_57 : decode cX0_watchOf 57 = .ok (.istore 6, 2) := dk_54 6 (dk_at dksX0_watchOf_2 10 rfl rfl)
theorem dX0_watchOf_59 : decode cX0_watchOf 59 = .ok (.iload 6, 2) := dk_21 6 (dk_at dksX0_watchOf_2 12 rfl rfl)
theorem dX0_watchOf_61 : decode cX0_watchOf 61 = .ok (.aload_n 0, 1) := dk_42 (dk_at dksX0_watchOf_2 14 rfl rfl)
theorem dX0_watchOf_62 : decode cX0_watchOf 62 = .ok (.getfield 326, 3) := dk_180 1 70 (dk_at dksX0_watchOf_2 15 rfl rfl)
theorem dX0_watchOf_65 : decode cX0_watchOf 65 = .ok (.if_icmp .lt 6, 3) := dk_161 0 6 (dk_at dksX0_watchOf_2 18 rfl rfl)
theorem dX0_watchOf_68 : decode cX0_watchOf 68 = .ok (.goto 12, 3) := dk_167 0 12 (dk_at dksX0_watchOf_2 21 rfl rfl)
theorem dX0_watchOf_71 : decode cX0_watchOf 71 = .ok (.aload_n 0, 1) := dk_42 (dk_at dksX0_watchOf_3 0 rfl rfl)
theorem dX0_watchOf_72 : decode cX0_watchOf 72 = .ok (.iload 6, 2) := dk_21 6 (dk_at dksX0_watchOf_3 1 rfl rfl)
theorem dX0_watchOf_74 : decode cX0_watchOf 74 = .ok (.putfield 326, 3) := dk_181 1 70 (dk_at dksX0_watchOf_3 3 rfl rfl)
theorem dX0_watchOf_77 : decode cX0_watchOf 77 = .ok (.iload 4, 2) := dk_21 4 (dk_at dksX0_watchOf_3 6 rfl rfl)
theorem dX0_watchOf_79 : decode cX0_watchOf 79 = .ok (.istore_n 3, 1) := dk_62 (dk_at dksX0_watchOf_3 8 rfl rfl)
theorem dX0_watchOf_80 : decode cX0_watchOf 80 = .ok (.iinc 4 1, 3) := dk_132 4 1 (dk_at dksX0_watchOf_3 9 rfl rfl)
theorem dX0_watchOf_83 : decode cX0_watchOf 83 = .ok (.goto (-60), 3) := dk_167 255 196 (dk_at dksX0_watchOf_3 12 rfl rfl)
theorem dX0_watchOf_86 : decode cX0_watchOf 86 = .ok (.iload_n 3, 1) := dk_29 (dk_at dksX0_watchOf_3 15 rfl rfl)
theorem dX0_watchOf_87 : decode cX0_watchOf 87 = .ok (.ireturn, 1) := dk_172 (dk_at dksX0_watchOf_3 16 rfl rfl)
abbrev cX0_leaves : ByteArray := prog_1_method_82_code
def yX0_leaves : MethodName := ⟨RX0, "leaves", "(I)I"⟩
def dkwX0_leaves_0 : List UInt8 := [42, 27, 182, 1, 61, 61, 28, 156, 0, 5, 28, 172, 42, 27, 182, 1, 76, 87, 42, 180, 1, 70, 172]
abbrev dktX0_leaves_0 : List UInt8 := dkwX0_leaves_0 ++ []
theorem dksX0_leaves_0 : cX0_leaves.data.toList.drop 0 = dktX0_leaves_0 := by decide +kernel
theorem dX0_leaves_0 : decode cX0_leaves 0 = .ok (.aload_n 0, 1) := dk_42 (dk_at dksX0_leaves_0 0 rfl rfl)
theorem dX0_leaves_1 : decode cX0_leaves 1 = .ok (.iload_n 1, 1) := dk_27 (dk_at dksX0_leaves_0 1 rfl rfl)
theorem dX0_leaves_2 : decode cX0_leaves 2 = .ok (.invokevirtual 317, 3) := dk_182 1 61 (dk_at dksX0_leaves_0 2 rfl rfl)
theorem dX0_leaves_5 : decode cX0_leaves 5 = .ok (.istore_n 2, 1) := dk_61 (dk_at dksX0_leaves_0 5 rfl rfl)
theorem dX0_leaves_6 : decode cX0_leaves 6 = .ok (.iload_n 2, 1) := dk_28 (dk_at dksX0_leaves_0 6 rfl rfl)
theorem dX0_leaves_7 : decode cX0_leaves 7 = .ok (.ifCond .ge 5, 3) := dk_156 0 5 (dk_at dksX0_leaves_0 7 rfl rfl)
theorem dX0_leaves_10 : decode cX0_leaves 10 = .ok (.iload_n 2, 1) := dk_28 (dk_at dksX0_leaves_0 10 rfl rfl)
theorem dX0_leaves_11 : decode cX0_leaves 11 = .ok (.ireturn, 1) := dk_172 (dk_at dksX0_leaves_0 11 rfl rfl)
theorem dX0_leaves_12 : decode cX0_leaves 12 = .ok (.aload_n 0, 1) := dk_42 (dk_at dksX0_leaves_0 12 rfl rfl)
theorem dX0_leaves_13 : decode cX0_leaves 13 = .ok (.iload_n 1, 1) := dk_27 (dk_at dksX0_leaves_0 13 rfl rfl)
theorem dX0_leaves_14 : decode cX0_leaves 14 = .ok (.invokevirtual 332, 3) := dk_182 1 76 (dk_at dksX0_leaves_0 14 rfl rfl)
theorem dX0_leaves_17 : decode cX0_leaves 17 = .ok (.pop, 1) := dk_87 (dk_at dksX0_leaves_0 17 rfl rfl)
theorem dX0_leaves_18 : decode cX0_leaves 18 = .ok (.aload_n 0, 1) := dk_42 (dk_at dksX0_leaves_0 18 rfl rfl)
theorem dX0_leaves_19 : decode cX0_leaves 19 = .ok (.getfield 326, 3) := dk_180 1 70 (dk_at dksX0_leaves_0 19 rfl rfl)
theorem dX0_leaves_22 : decode cX0_leaves 22 = .ok (.ireturn, 1) := dk_172 (dk_at dksX0_leaves_0 22 rfl rfl)
abbrev cX0_proof : ByteArray := prog_1_method_83_code
def yX0_proof : MethodName := ⟨RX0, "proof", "(I)I"⟩
def dkwX0_proof_3 : List UInt8 := [167, 255, 212, 21, 4, 172]
abbrev dktX0_proof_3 : List UInt8 := dkwX0_proof_3 ++ []
def dkwX0_proof_2 : List UInt8 := [29, 182, 1, 67, 160, 0, 15, 21, 4, 21, 5, 184, 1, 17, 184, 0, 221, 54, 4, 132, 5, 1]
abbrev dktX0_proof_2 : List UInt8 := dkwX0_proof_2 ++ dktX0_proof_3
def dkwX0_proof_1 : List UInt8 := [54, 5, 21, 5, 29, 163, 0, 44, 21, 5, 29, 2, 130, 126, 154, 0, 29, 42, 21, 5, 182, 1, 67, 42]
abbrev dktX0_proof_1 : List UInt8 := dkwX0_proof_1 ++ dktX0_proof_2
def dkwX0_proof_0 : List UInt8 := [42, 27, 182, 1, 61, 61, 28, 156, 0, 5, 28, 172, 42, 27, 182, 1, 64, 62, 16, 6, 54, 4, 3]
abbrev dktX0_proof_0 : List UInt8 := dkwX0_proof_0 ++ dktX0_proof_1
theorem dksX0_proof_0 : cX0_proof.data.toList.drop 0 = dktX0_proof_0 := by decide +kernel
theorem dksX0_proof_1 : cX0_proof.data.toList.drop 23 = dktX0_proof_1 := dk_seg dksX0_proof_0 23 rfl rfl
theorem dksX0_proof_2 : cX0_proof.data.toList.drop 47 = dktX0_proof_2 := dk_seg dksX0_proof_1 24 rfl rfl
theorem dksX0_proof_3 : cX0_proof.data.toList.drop 69 = dktX0_proof_3 := dk_seg dksX0_proof_2 22 rfl rfl
theorem dX0_proof_0 : decode cX0_proof 0 = .ok (.aload_n 0, 1) := dk_42 (dk_at dksX0_proof_0 0 rfl rfl)
theorem dX0_proof_1 : decode cX0_proof 1 = .ok (.iload_n 1, 1) := dk_27 (dk_at dksX0_proof_0 1 rfl rfl)
theorem dX0_proof_2 : decode cX0_proof 2 = .ok (.invokevirtual 317, 3) := dk_182 1 61 (dk_at dksX0_proof_0 2 rfl rfl)
theorem dX0_proof_5 : decode cX0_proof 5 = .ok (.istore_n 2, 1) := dk_61 (dk_at dksX0_proof_0 5 rfl rfl)
theorem dX0_proof_6 : decode cX0_proof 6 = .ok (.iload_n 2, 1) := dk_28 (dk_at dksX0_proof_0 6 rfl rfl)
theorem dX0_proof_7 : decode cX0_proof 7 = .ok (.ifCond .ge 5, 3) := dk_156 0 5 (dk_at dksX0_proof_0 7 rfl rfl)
theorem dX0_proof_10 : decode cX0_proof 10 = .ok (.iload_n 2, 1) := dk_28 (dk_at dksX0_proof_0 10 rfl rfl)
theorem dX0_proof_11 : decode cX0_proof 11 = .ok (.ireturn, 1) := dk_172 (dk_at dksX0_proof_0 11 rfl rfl)
theorem dX0_proof_12 : decode cX0_proof 12 = .ok (.aload_n 0, 1) := dk_42 (dk_at dksX0_proof_0 12 rfl rfl)
theorem dX0_proof_13 : decode cX0_proof 13 = .ok (.iload_n 1, 1) := dk_27 (dk_at dksX0_proof_0 13 rfl rfl)
theorem dX0_proof_14 : decode cX0_proof 14 = .ok (.invokevirtual 320, 3) := dk_182 1 64 (dk_at dksX0_proof_0 14 rfl rfl)
theorem dX0_proof_17 : decode cX0_proof 17 = .ok (.istore_n 3, 1) := dk_62 (dk_at dksX0_proof_0 17 rfl rfl)
theorem dX0_proof_18 : decode cX0_proof 18 = .ok (.bipush 6, 2) := dk_16 6 (dk_at dksX0_proof_0 18 rfl rfl)
theorem dX0_proof_20 : decode cX0_proof 20 = .ok (.istore 4, 2) := dk_54 4 (dk_at dksX0_proof_0 20 rfl rfl)
theorem dX0_proof_22 : decode cX0_proof 22 = .ok (.iconst 0, 1) := dk_3 (dk_at dksX0_proof_0 22 rfl rfl)
theorem dX0_proof_23 : decode cX0_proof 23 = .ok (.istore 5, 2) := dk_54 5 (dk_at dksX0_proof_1 0 rfl rfl)
theorem dX0_proof_25 : decode cX0_proof 25 = .ok (.iload 5, 2) := dk_21 5 (dk_at dksX0_proof_1 2 rfl rfl)
theorem dX0_proof_27 : decode cX0_proof 27 = .ok (.iload_n 3, 1) := dk_29 (dk_at dksX0_proof_1 4 rfl rfl)
theorem dX0_proof_28 : decode cX0_proof 28 = .ok (.if_icmp .gt 44, 3) := dk_163 0 44 (dk_at dksX0_proof_1 5 rfl rfl)
theorem dX0_proof_31 : decode cX0_proof 31 = .ok (.iload 5, 2) := dk_21 5 (dk_at dksX0_proof_1 8 rfl rfl)
theorem dX0_proof_33 : decode cX0_proof 33 = .ok (.iload_n 3, 1) := dk_29 (dk_at dksX0_proof_1 10 rfl rfl)
theorem dX0_proof_34 : decode cX0_proof 34 = .ok (.iconst (-1), 1) := dk_2 (dk_at dksX0_proof_1 11 rfl rfl)
theorem dX0_proof_35 : decode cX0_proof 35 = .ok (.ixor, 1) := dk_130 (dk_at dksX0_proof_1 12 rfl rfl)
theorem dX0_proof_36 : decode cX0_proof 36 = .ok (.iand, 1) := dk_126 (dk_at dksX0_proof_1 13 rfl rfl)
theorem dX0_proof_37 : decode cX0_proof 37 = .ok (.ifCond .ne 29, 3) := dk_154 0 29 (dk_at dksX0_proof_1 14 rfl rfl)
theorem dX0_proof_40 : decode cX0_proof 40 = .ok (.aload_n 0, 1) := dk_42 (dk_at dksX0_proof_1 17 rfl rfl)
theorem dX0_proof_41 : decode cX0_proof 41 = .ok (.iload 5, 2) := dk_21 5 (dk_at dksX0_proof_1 18 rfl rfl)
theorem dX0_proof_43 : decode cX0_proof 43 = .ok (.invokevirtual 323, 3) := dk_182 1 67 (dk_at dksX0_proof_1 20 rfl rfl)
theorem dX0_proof_46 : decode cX0_proof 46 = .ok (.aload_n 0, 1) := dk_42 (dk_at dksX0_proof_1 23 rfl rfl)
theorem dX0_proof_47 : decode cX0_proof 47 = .ok (.iload_n 3, 1) := dk_29 (dk_at dksX0_proof_2 0 rfl rfl)
theorem dX0_proof_48 : decode cX0_proof 48 = .ok (.invokevirtual 323, 3) := dk_182 1 67 (dk_at dksX0_proof_2 1 rfl rfl)
theorem dX0_proof_51 : decode cX0_proof 51 = .ok (.if_icmp .ne 15, 3) := dk_160 0 15 (dk_at dksX0_proof_2 4 rfl rfl)
theorem dX0_proof_54 : decode cX0_proof 54 = .ok (.iload 4, 2) := dk_21 4 (dk_at dksX0_proof_2 7 rfl rfl)
theorem dX0_proof_56 : decode cX0_proof 56 = .ok (.iload 5, 2) := dk_21 5 (dk_at dksX0_proof_2 9 rfl rfl)
theorem dX0_proof_58 : decode cX0_proof 58 = .ok (.invokestatic 273, 3) := dk_184 1 17 (dk_at dksX0_proof_2 11 rfl rfl)
theorem dX0_proof_61 : decode cX0_proof 61 = .ok (.invokestatic 221, 3) := dk_184 0 221 (dk_at dksX0_proof_2 14 rfl rfl)
theorem dX0_proof_64 : decode cX0_proof 64 = .ok (.istore 4, 2) := dk_54 4 (dk_at dksX0_proof_2 17 rfl rfl)
theorem dX0_proof_66 : decode cX0_proof 66 = .ok (.iinc 5 1, 3) := dk_132 5 1 (dk_at dksX0_proof_2 19 rfl rfl)
theorem dX0_proof_69 : decode cX0_proof 69 = .ok (.goto (-44), 3) := dk_167 255 212 (dk_at dksX0_proof_3 0 rfl rfl)
theorem dX0_proof_72 : decode cX0_proof 72 = .ok (.iload 4, 2) := dk_21 4 (dk_at dksX0_proof_3 3 rfl rfl)
theorem dX0_proof_74 : decode cX0_proof 74 = .ok (.ireturn, 1) := dk_172 (dk_at dksX0_proof_3 5 rfl rfl)
abbrev cX0_duel : ByteArray := prog_1_method_86_code
def yX0_duel : MethodName := ⟨RX0, "duel", "(III)I"⟩
def dkwX0_duel_6 : List UInt8 := [154, 0, 8, 21, 4, 167, 0, 5, 21, 5, 21, 4, 21, 5, 184, 1, 82, 108, 172]
abbrev dktX0_duel_6 : List UInt8 := dkwX0_duel_6 ++ []
def dkwX0_duel_5 : List UInt8 := [164, 0, 7, 4, 167, 0, 4, 3, 96, 54, 4, 132, 7, 1, 167, 255, 186, 132, 6, 1, 167, 255, 165, 29]
abbrev dktX0_duel_5 : List UInt8 := dkwX0_duel_5 ++ dktX0_duel_6
def dkwX0_duel_4 : List UInt8 := [160, 0, 30, 42, 180, 0, 12, 180, 0, 193, 21, 6, 46, 42, 180, 0, 12, 180, 0, 193, 21, 7, 46]
abbrev dktX0_duel_4 : List UInt8 := dkwX0_duel_4 ++ dktX0_duel_5
def dkwX0_duel_3 : List UInt8 := [162, 0, 64, 21, 4, 42, 180, 0, 24, 21, 6, 46, 27, 160, 0, 41, 42, 180, 0, 24, 21, 7, 46, 28]
abbrev dktX0_duel_3 : List UInt8 := dkwX0_duel_3 ++ dktX0_duel_4
def dkwX0_duel_2 : List UInt8 := [42, 180, 0, 12, 180, 0, 94, 162, 0, 85, 3, 54, 7, 21, 7, 42, 180, 0, 12, 180, 0, 94]
abbrev dktX0_duel_2 : List UInt8 := dkwX0_duel_2 ++ dktX0_duel_3
def dkwX0_duel_1 : List UInt8 := [42, 27, 182, 0, 198, 184, 1, 17, 42, 28, 182, 0, 198, 184, 1, 17, 104, 54, 5, 3, 54, 6, 21, 6]
abbrev dktX0_duel_1 : List UInt8 := dkwX0_duel_1 ++ dktX0_duel_2
def dkwX0_duel_0 : List UInt8 := [42, 27, 28, 182, 1, 79, 153, 0, 12, 29, 133, 5, 184, 0, 97, 154, 0, 6, 16, 254, 172, 3, 54, 4]
abbrev dktX0_duel_0 : List UInt8 := dkwX0_duel_0 ++ dktX0_duel_1
theorem dksX0_duel_0 : cX0_duel.data.toList.drop 0 = dktX0_duel_0 := by decide +kernel
theorem dksX0_duel_1 : cX0_duel.data.toList.drop 24 = dktX0_duel_1 := dk_seg dksX0_duel_0 24 rfl rfl
theorem dksX0_duel_2 : cX0_duel.data.toList.drop 48 = dktX0_duel_2 := dk_seg dksX0_duel_1 24 rfl rfl
theorem dksX0_duel_3 : cX0_duel.data.toList.drop 70 = dktX0_duel_3 := dk_seg dksX0_duel_2 22 rfl rfl
theorem dksX0_duel_4 : cX0_duel.data.toList.drop 94 = dktX0_duel_4 := dk_seg dksX0_duel_3 24 rfl rfl
theorem dksX0_duel_5 : cX0_duel.data.toList.drop 117 = dktX0_duel_5 := dk_seg dksX0_duel_4 23 rfl rfl
theorem dksX0_duel_6 : cX0_duel.data.toList.drop 141 = dktX0_duel_6 := dk_seg dksX0_duel_5 24 rfl rfl
theorem dX0_duel_0 : decode cX0_duel 0 = .ok (.aload_n 0, 1) := dk_42 (dk_at dksX0_duel_0 0 rfl rfl)
theorem dX0_duel_1 : decode cX0_duel 1 = .ok (.iload_n 1, 1) := dk_27 (dk_at dksX0_duel_0 1 rfl rfl)
theorem dX0_duel_2 : decode cX0_duel 2 = .ok (.iload_n 2, 1) := dk_28 (dk_at dksX0_duel_0 2 rfl rfl)
theorem dX0_duel_3 : decode cX0_duel 3 = .ok (.invokevirtual 335, 3) := dk_182 1 79 (dk_at dksX0_duel_0 3 rfl rfl)
theorem dX0_duel_6 : decode cX0_duel 6 = .ok (.ifCond .eq 12, 3) := dk_153 0 12 (dk_at dksX0_duel_0 6 rfl rfl)
theorem dX0_duel_9 : decode cX0_duel 9 = .ok (.iload_n 3, 1) := dk_29 (dk_at dksX0_duel_0 9 rfl rfl)
theorem dX0_duel_10 : decode cX0_duel 10 = .ok (.i2l, 1) := dk_133 (dk_at dksX0_duel_0 10 rfl rfl)
theorem dX0_duel_11 : decode cX0_duel 11 = .ok (.iconst 2, 1) := dk_5 (dk_at dksX0_duel_0 11 rfl rfl)
theorem dX0_duel_12 : decode cX0_duel 12 = .ok (.invokestatic 97, 3) := dk_184 0 97 (dk_at dksX0_duel_0 12 rfl rfl)
theorem dX0_duel_15 : decode cX0_duel 15 = .ok (.ifCond .ne 6, 3) := dk_154 0 6 (dk_at dksX0_duel_0 15 rfl rfl)
theorem dX0_duel_18 : decode cX0_duel 18 = .ok (.bipush (-2), 2) := dk_16 254 (dk_at dksX0_duel_0 18 rfl rfl)
theorem dX0_duel_20 : decode cX0_duel 20 = .ok (.ireturn, 1) := dk_172 (dk_at dksX0_duel_0 20 rfl rfl)
theorem dX0_duel_21 : decode cX0_duel 21 = .ok (.iconst 0, 1) := dk_3 (dk_at dksX0_duel_0 21 rfl rfl)
theorem dX0_duel_22 : decode cX0_duel 22 = .ok (.istore 4, 2) := dk_54 4 (dk_at dksX0_duel_0 22 rfl rfl)
theorem dX0_duel_24 : decode cX0_duel 24 = .ok (.aload_n 0, 1) := dk_42 (dk_at dksX0_duel_1 0 rfl rfl)
theorem dX0_duel_25 : decode cX0_duel 25 = .ok (.iload_n 1, 1) := dk_27 (dk_at dksX0_duel_1 1 rfl rfl)
theorem dX0_duel_26 : decode cX0_duel 26 = .ok (.invokevirtual 198, 3) := dk_182 0 198 (dk_at dksX0_duel_1 2 rfl rfl)
theorem dX0_duel_29 : decode cX0_duel 29 = .ok (.invokestatic 273, 3) := dk_184 1 17 (dk_at dksX0_duel_1 5 rfl rfl)
theorem dX0_duel_32 : decode cX0_duel 32 = .ok (.aload_n 0, 1) := dk_42 (dk_at dksX0_duel_1 8 rfl rfl)
theorem dX0_duel_33 : decode cX0_duel 33 = .ok (.iload_n 2, 1) := dk_28 (dk_at dksX0_duel_1 9 rfl rfl)
theorem dX0_duel_34 : decode cX0_duel 34 = .ok (.invokevirtual 198, 3) := dk_182 0 198 (dk_at dksX0_duel_1 10 rfl rfl)
theorem dX0_duel_37 : decode cX0_duel 37 = .ok (.invokestatic 273, 3) := dk_184 1 17 (dk_at dksX0_duel_1 13 rfl rfl)
theorem dX0_duel_40 : decode cX0_duel 40 = .ok (.imul, 1) := dk_104 (dk_at dksX0_duel_1 16 rfl rfl)
theorem dX0_duel_41 : decode cX0_duel 41 = .ok (.istore 5, 2) := dk_54 5 (dk_at dksX0_duel_1 17 rfl rfl)
theorem dX0_duel_43 : decode cX0_duel 43 = .ok (.iconst 0, 1) := dk_3 (dk_at dksX0_duel_1 19 rfl rfl)
theorem dX0_duel_44 : decode cX0_duel 44 = .ok (.istore 6, 2) := dk_54 6 (dk_at dksX0_duel_1 20 rfl rfl)
theorem dX0_duel_46 : decode cX0_duel 46 = .ok (.iload 6, 2) := dk_21 6 (dk_at dksX0_duel_1 22 rfl rfl)
theorem dX0_duel_48 : decode cX0_duel 48 = .ok (.aload_n 0, 1) := dk_42 (dk_at dksX0_duel_2 0 rfl rfl)
theorem dX0_duel_49 : decode cX0_duel 49 = .ok (.getfield 12, 3) := dk_180 0 12 (dk_at dksX0_duel_2 1 rfl rfl)
theorem dX0_duel_52 : decode cX0_duel 52 = .ok (.getfield 94, 3) := dk_180 0 94 (dk_at dksX0_duel_2 4 rfl rfl)
theorem dX0_duel_55 : decode cX0_duel 55 = .ok (.if_icmp .ge 85, 3) := dk_162 0 85 (dk_at dksX0_duel_2 7 rfl rfl)
theorem dX0_duel_58 : decode cX0_duel 58 = .ok (.iconst 0, 1) := dk_3 (dk_at dksX0_duel_2 10 rfl rfl)
theorem dX0_duel_59 : decode cX0_duel 59 = .ok (.istore 7, 2) := dk_54 7 (dk_at dksX0_duel_2 11 rfl rfl)
theorem dX0_duel_61 : decode cX0_duel 61 = .ok (.iload 7, 2) := dk_21 7 (dk_at dksX0_duel_2 13 rfl rfl)
theorem dX0_duel_63 : decode cX0_duel 63 = .ok (.aload_n 0, 1) := dk_42 (dk_at dksX0_duel_2 15 rfl rfl)
theorem dX0_duel_64 : decode cX0_duel 64 = .ok (.getfield 12, 3) := dk_180 0 12 (dk_at dksX0_duel_2 16 rfl rfl)
theorem dX0_duel_67 : decode cX0_duel 67 = .ok (.getfield 94, 3) := dk_180 0 94 (dk_at dksX0_duel_2 19 rfl rfl)
theorem dX0_duel_70 : decode cX0_duel 70 = .ok (.if_icmp .ge 64, 3) := dk_162 0 64 (dk_at dksX0_duel_3 0 rfl rfl)
theorem dX0_duel_73 : decode cX0_duel 73 = .ok (.iload 4, 2) := dk_21 4 (dk_at dksX0_duel_3 3 rfl rfl)
theorem dX0_duel_75 : decode cX0_duel 75 = .ok (.aload_n 0, 1) := dk_42 (dk_at dksX0_duel_3 5 rfl rfl)
theorem dX0_duel_76 : decode cX0_duel 76 = .ok (.getfield 24, 3) := dk_180 0 24 (dk_at dksX0_duel_3 6 rfl rfl)
theorem dX0_duel_79 : decode cX0_duel 79 = .ok (.iload 6, 2) := dk_21 6 (dk_at dksX0_duel_3 9 rfl rfl)
theorem dX0_duel_81 : decode cX0_duel 81 = .ok (.iaload, 1) := dk_46 (dk_at dksX0_duel_3 11 rfl rfl)
theorem dX0_duel_82 : decode cX0_duel 82 = .ok (.iload_n 1, 1) := dk_27 (dk_at dksX0_duel_3 12 rfl rfl)
theorem dX0_duel_83 : decode cX0_duel 83 = .ok (.if_icmp .ne 41, 3) := dk_160 0 41 (dk_at dksX0_duel_3 13 rfl rfl)
theorem dX0_duel_86 : decode cX0_duel 86 = .ok (.aload_n 0, 1) := dk_42 (dk_at dksX0_duel_3 16 rfl rfl)
theorem dX0_duel_87 : decode cX0_duel 87 = .ok (.getfield 24, 3) := dk_180 0 24 (dk_at dksX0_duel_3 17 rfl rfl)
theorem dX0_duel_90 : decode cX0_duel 90 = .ok (.iload 7, 2) := dk_21 7 (dk_at dksX0_duel_3 20 rfl rfl)
theorem dX0_duel_92 : decode cX0_duel 92 = .ok (.iaload, 1) := dk_46 (dk_at dksX0_duel_3 22 rfl rfl)
theorem dX0_duel_93 : decode cX0_duel 93 = .ok (.iload_n 2, 1) := dk_28 (dk_at dksX0_duel_3 23 rfl rfl)
theorem dX0_duel_94 : decode cX0_duel 94 = .ok (.if_icmp .ne 30, 3) := dk_160 0 30 (dk_at dksX0_duel_4 0 rfl rfl)
theorem dX0_duel_97 : decode cX0_duel 97 = .ok (.aload_n 0, 1) := dk_42 (dk_at dksX0_duel_4 3 rfl rfl)
theorem dX0_duel_98 : decode cX0_duel 98 = .ok (.getfield 12, 3) := dk_180 0 12 (dk_at dksX0_duel_4 4 rfl rfl)
theorem dX0_duel_101 : decode cX0_duel 101 = .ok (.getfield 193, 3) := dk_180 0 193 (dk_at dksX0_duel_4 7 rfl rfl)
theorem dX0_duel_104 : decode cX0_duel 104 = .ok (.iload 6, 2) := dk_21 6 (dk_at dksX0_duel_4 10 rfl rfl)
theorem dX0_duel_106 : decode cX0_duel 106 = .ok (.iaload, 1) := dk_46 (dk_at dksX0_duel_4 12 rfl rfl)
theorem dX0_duel_107 : decode cX0_duel 107 = .ok (.aload_n 0, 1) := dk_42 (dk_at dksX0_duel_4 13 rfl rfl)
theorem dX0_duel_108 : decode cX0_duel 108 = .ok (.getfield 12, 3) := dk_180 0 12 (dk_at dksX0_duel_4 14 rfl rfl)
theorem dX0_duel_111 : decode cX0_duel 111 = .ok (.getfield 193, 3) := dk_180 0 193 (dk_at dksX0_duel_4 17 rfl rfl)
theorem dX0_duel_114 : decode cX0_duel 114 = .ok (.iload 7, 2) := dk_21 7 (dk_at dksX0_duel_4 20 rfl rfl)
theorem dX0_duel_116 : decode cX0_duel 116 = .ok (.iaload, 1) := dk_46 (dk_at dksX0_duel_4 22 rfl rfl)
theorem dX0_duel_117 : decode cX0_duel 117 = .ok (.if_icmp .le 7, 3) := dk_164 0 7 (dk_at dksX0_duel_5 0 rfl rfl)
theorem dX0_duel_120 : decode cX0_duel 120 = .ok (.iconst 1, 1) := dk_4 (dk_at dksX0_duel_5 3 rfl rfl)
theorem dX0_duel_121 : decode cX0_duel 121 = .ok (.goto 4, 3) := dk_167 0 4 (dk_at dksX0_duel_5 4 rfl rfl)
theorem dX0_duel_124 : decode cX0_duel 124 = .ok (.iconst 0, 1) := dk_3 (dk_at dksX0_duel_5 7 rfl rfl)
theorem dX0_duel_125 : decode cX0_duel 125 = .ok (.iadd, 1) := dk_96 (dk_at dksX0_duel_5 8 rfl rfl)
theorem dX0_duel_126 : decode cX0_duel 126 = .ok (.istore 4, 2) := dk_54 4 (dk_at dksX0_duel_5 9 rfl rfl)
theorem dX0_duel_128 : decode cX0_duel 128 = .ok (.iinc 7 1, 3) := dk_132 7 1 (dk_at dksX0_duel_5 11 rfl rfl)
theorem dX0_duel_131 : decode cX0_duel 131 = .ok (.goto (-70), 3) := dk_167 255 186 (dk_at dksX0_duel_5 14 rfl rfl)
theorem dX0_duel_134 : decode cX0_duel 134 = .ok (.iinc 6 1, 3) := dk_132 6 1 (dk_at dksX0_duel_5 17 rfl rfl)
theorem dX0_duel_137 : decode cX0_duel 137 = .ok (.goto (-91), 3) := dk_167 255 165 (dk_at dksX0_duel_5 20 rfl rfl)
theorem dX0_duel_140 : decode cX0_duel 140 = .ok (.iload_n 3, 1) := dk_29 (dk_at dksX0_duel_5 23 rfl rfl)
theorem dX0_duel_141 : decode cX0_duel 141 = .ok (.ifCond .ne 8, 3) := dk_154 0 8 (dk_at dksX0_duel_6 0 rfl rfl)
theorem dX0_duel_144 : decode cX0_duel 144 = .ok (.iload 4, 2) := dk_21 4 (dk_at dksX0_duel_6 3 rfl rfl)
theorem dX0_duel_146 : decode cX0_duel 146 = .ok (.goto 5, 3) := dk_167 0 5 (dk_at dksX0_duel_6 5 rfl rfl)
theorem dX0_duel_149 : decode cX0_duel 149 = .ok (.iload 5, 2) := dk_21 5 (dk_at dksX0_duel_6 8 rfl rfl)
theorem dX0_duel_151 : decode cX0_duel 151 = .ok (.iload 4, 2) := dk_21 4 (dk_at dksX0_duel_6 10 rfl rfl)
theorem dX0_duel_153 : decode cX0_duel 153 = .ok (.iload 5, 2) := dk_21 5 (dk_at dksX0_duel_6 12 rfl rfl)
theorem dX0_duel_155 : decode cX0_duel 155 = .ok (.invokestatic 338, 3) := dk_184 1 82 (dk_at dksX0_duel_6 14 rfl rfl)
theorem dX0_duel_158 : decode cX0_duel 158 = .ok (.idiv, 1) := dk_108 (dk_at dksX0_duel_6 17 rfl rfl)
theorem dX0_duel_159 : decode cX0_duel 159 = .ok (.ireturn, 1) := dk_172 (dk_at dksX0_duel_6 18 rfl rfl)
abbrev cX0_isDuel : ByteArray := prog_1_method_85_code
def yX0_isDuel : MethodName := ⟨RX0, "isDuel", "(II)Z"⟩
def dkwX0_isDuel_2 : List UInt8 := [167, 0, 4, 3, 172]
abbrev dktX0_isDuel_2 : List UInt8 := dkwX0_isDuel_2 ++ []
def dkwX0_isDuel_1 : List UInt8 := [172, 42, 182, 0, 190, 42, 27, 182, 0, 198, 153, 0, 15, 42, 28, 182, 0, 198, 153, 0, 7, 4]
abbrev dktX0_isDuel_1 : List UInt8 := dkwX0_isDuel_1 ++ dktX0_isDuel_2
def dkwX0_isDuel_0 : List UInt8 := [42, 27, 133, 182, 0, 186, 153, 0, 17, 42, 28, 133, 182, 0, 186, 153, 0, 8, 27, 28, 160, 0, 5, 3]
abbrev dktX0_isDuel_0 : List UInt8 := dkwX0_isDuel_0 ++ dktX0_isDuel_1
theorem dksX0_isDuel_0 : cX0_isDuel.data.toList.drop 0 = dktX0_isDuel_0 := by decide +kernel
theorem dksX0_isDuel_1 : cX0_isDuel.data.toList.drop 24 = dktX0_isDuel_1 := dk_seg dksX0_isDuel_0 24 rfl rfl
theorem dksX0_isDuel_2 : cX0_isDuel.data.toList.drop 46 = dktX0_isDuel_2 := dk_seg dksX0_isDuel_1 22 rfl rfl
theorem dX0_isDuel_0 : decode cX0_isDuel 0 = .ok (.aload_n 0, 1) := dk_42 (dk_at dksX0_isDuel_0 0 rfl rfl)
theorem dX0_isDuel_1 : decode cX0_isDuel 1 = .ok (.iload_n 1, 1) := dk_27 (dk_at dksX0_isDuel_0 1 rfl rfl)
theorem dX0_isDuel_2 : decode cX0_isDuel 2 = .ok (.i2l, 1) := dk_133 (dk_at dksX0_isDuel_0 2 rfl rfl)
theorem dX0_isDuel_3 : decode cX0_isDuel 3 = .ok (.invokevirtual 186, 3) := dk_182 0 186 (dk_at dksX0_isDuel_0 3 rfl rfl)
theorem dX0_isDuel_6 : decode cX0_isDuel 6 = .ok (.ifCond .eq 17, 3) := dk_153 0 17 (dk_at dksX0_isDuel_0 6 rfl rfl)
theorem dX0_isDuel_9 : decode cX0_isDuel 9 = .ok (.aload_n 0, 1) := dk_42 (dk_at dksX0_isDuel_0 9 rfl rfl)
theorem dX0_isDuel_10 : decode cX0_isDuel 10 = .ok (.iload_n 2, 1) := dk_28 (dk_at dksX0_isDuel_0 10 rfl rfl)
theorem dX0_isDuel_11 : decode cX0_isDuel 11 = .ok (.i2l, 1) := dk_133 (dk_at dksX0_isDuel_0 11 rfl rfl)
theorem dX0_isDuel_12 : decode cX0_isDuel 12 = .ok (.invokevirtual 186, 3) := dk_182 0 186 (dk_at dksX0_isDuel_0 12 rfl rfl)
theorem dX0_isDuel_15 : decode cX0_isDuel 15 = .ok (.ifCond .eq 8, 3) := dk_153 0 8 (dk_at dksX0_isDuel_0 15 rfl rfl)
theorem dX0_isDuel_18 : decode cX0_isDuel 18 = .ok (.iload_n 1, 1) := dk_27 (dk_at dksX0_isDuel_0 18 rfl rfl)
theorem dX0_isDuel_19 : decode cX0_isDuel 19 = .ok (.iload_n 2, 1) := dk_28 (dk_at dksX0_isDuel_0 19 rfl rfl)
theorem dX0_isDuel_20 : decode cX0_isDuel 20 = .ok (.if_icmp .ne 5, 3) := dk_160 0 5 (dk_at dksX0_isDuel_0 20 rfl rfl)
theorem dX0_isDuel_23 : decode cX0_isDuel 23 = .ok (.iconst 0, 1) := dk_3 (dk_at dksX0_isDuel_0 23 rfl rfl)
theorem dX0_isDuel_24 : decode cX0_isDuel 24 = .ok (.ireturn, 1) := dk_172 (dk_at dksX0_isDuel_1 0 rfl rfl)
theorem dX0_isDuel_25 : decode cX0_isDuel 25 = .ok (.aload_n 0, 1) := dk_42 (dk_at dksX0_isDuel_1 1 rfl rfl)
theorem dX0_isDuel_26 : decode cX0_isDuel 26 = .ok (.invokevirtual 190, 3) := dk_182 0 190 (dk_at dksX0_isDuel_1 2 rfl rfl)
theorem dX0_isDuel_29 : decode cX0_isDuel 29 = .ok (.aload_n 0, 1) := dk_42 (dk_at dksX0_isDuel_1 5 rfl rfl)
theorem dX0_isDuel_30 : decode cX0_isDuel 30 = .ok (.iload_n 1, 1) := dk_27 (dk_at dksX0_isDuel_1 6 rfl rfl)
theorem dX0_isDuel_31 : decode cX0_isDuel 31 = .ok (.invokevirtual 198, 3) := dk_182 0 198 (dk_at dksX0_isDuel_1 7 rfl rfl)
theorem dX0_isDuel_34 : decode cX0_isDuel 34 = .ok (.ifCond .eq 15, 3) := dk_153 0 15 (dk_at dksX0_isDuel_1 10 rfl rfl)
theorem dX0_isDuel_37 : decode cX0_isDuel 37 = .ok (.aload_n 0, 1) := dk_42 (dk_at dksX0_isDuel_1 13 rfl rfl)
theorem dX0_isDuel_38 : decode cX0_isDuel 38 = .ok (.iload_n 2, 1) := dk_28 (dk_at dksX0_isDuel_1 14 rfl rfl)
theorem dX0_isDuel_39 : decode cX0_isDuel 39 = .ok (.invokevirtual 198, 3) := dk_182 0 198 (dk_at dksX0_isDuel_1 15 rfl rfl)
theorem dX0_isDuel_42 : decode cX0_isDuel 42 = .ok (.ifCond .eq 7, 3) := dk_153 0 7 (dk_at dksX0_isDuel_1 18 rfl rfl)
theorem dX0_isDuel_45 : decode cX0_isDuel 45 = .ok (.iconst 1, 1) := dk_4 (dk_at dksX0_isDuel_1 21 rfl rfl)
theorem dX0_isDuel_46 : decode cX0_isDuel 46 = .ok (.goto 4, 3) := dk_167 0 4 (dk_at dksX0_isDuel_2 0 rfl rfl)
theorem dX0_isDuel_49 : decode cX0_isDuel 49 = .ok (.iconst 0, 1) := dk_3 (dk_at dksX0_isDuel_2 3 rfl rfl)
theorem dX0_isDuel_50 : decode cX0_isDuel 50 = .ok (.ireturn, 1) := dk_172 (dk_at dksX0_isDuel_2 4 rfl rfl)
abbrev cX0_divisor : ByteArray := prog_1_method_84_code
def yX0_divisor : MethodName := ⟨RX0, "divisor", "(II)I"⟩
def dkwX0_divisor_0 : List UInt8 := [26, 61, 27, 62, 29, 153, 0, 16, 28, 29, 112, 54, 4, 29, 61, 21, 4, 62, 167, 255, 242, 28, 172]
abbrev dktX0_divisor_0 : List UInt8 := dkwX0_divisor_0 ++ []
theorem dksX0_divisor_0 : cX0_divisor.data.toList.drop 0 = dktX0_divisor_0 := by decide +kernel
theorem dX0_divisor_0 : decode cX0_divisor 0 = .ok (.iload_n 0, 1) := dk_26 (dk_at dksX0_divisor_0 0 rfl rfl)
theorem dX0_divisor_1 : decode cX0_divisor 1 = .ok (.istore_n 2, 1) := dk_61 (dk_at dksX0_divisor_0 1 rfl rfl)
theorem dX0_divisor_2 : decode cX0_divisor 2 = .ok (.iload_n 1, 1) := dk_27 (dk_at dksX0_divisor_0 2 rfl rfl)
theorem dX0_divisor_3 : decode cX0_divisor 3 = .ok (.istore_n 3, 1) := dk_62 (dk_at dksX0_divisor_0 3 rfl rfl)
theorem dX0_divisor_4 : decode cX0_divisor 4 = .ok (.iload_n 3, 1) := dk_29 (dk_at dksX0_divisor_0 4 rfl rfl)
theorem dX0_divisor_5 : decode cX0_divisor 5 = .ok (.ifCond .eq 16, 3) := dk_153 0 16 (dk_at dksX0_divisor_0 5 rfl rfl)
theorem dX0_divisor_8 : decode cX0_divisor 8 = .ok (.iload_n 2, 1) := dk_28 (dk_at dksX0_divisor_0 8 rfl rfl)
theorem dX0_divisor_9 : decode cX0_divisor 9 = .ok (.iload_n 3, 1) := dk_29 (dk_at dksX0_divisor_0 9 rfl rfl)
theorem dX0_divisor_10 : decode cX0_divisor 10 = .ok (.irem, 1) := dk_112 (dk_at dksX0_divisor_0 10 rfl rfl)
theorem dX0_divisor_11 : decode cX0_divisor 11 = .ok (.istore 4, 2) := dk_54 4 (dk_at dksX0_divisor_0 11 rfl rfl)
theorem dX0_divisor_13 : decode cX0_divisor 13 = .ok (.iload_n 3, 1) := dk_29 (dk_at dksX0_divisor_0 13 rfl rfl)
theorem dX0_divisor_14 : decode cX0_divisor 14 = .ok (.istore_n 2, 1) := dk_61 (dk_at dksX0_divisor_0 14 rfl rfl)
theorem dX0_divisor_15 : decode cX0_divisor 15 = .ok (.iload 4, 2) := dk_21 4 (dk_at dksX0_divisor_0 15 rfl rfl)
theorem dX0_divisor_17 : decode cX0_divisor 17 = .ok (.istore_n 3, 1) := dk_62 (dk_at dksX0_divisor_0 17 rfl rfl)
theorem dX0_divisor_18 : decode cX0_divisor 18 = .ok (.goto (-14), 3) := dk_167 255 242 (dk_at dksX0_divisor_0 18 rfl rfl)
theorem dX0_divisor_21 : decode cX0_divisor 21 = .ok (.iload_n 2, 1) := dk_28 (dk_at dksX0_divisor_0 21 rfl rfl)
theorem dX0_divisor_22 : decode cX0_divisor 22 = .ok (.ireturn, 1) := dk_172 (dk_at dksX0_divisor_0 22 rfl rfl)
abbrev cX0_lay : ByteArray := prog_1_method_89_code
def yX0_lay : MethodName := ⟨RX0, "lay", "(II)I"⟩
def dkwX0_lay_0 : List UInt8 := [42, 27, 28, 182, 1, 79, 154, 0, 7, 17, 252, 24, 172, 42, 27, 28, 182, 1, 98, 42, 180, 1, 86, 172]
abbrev dktX0_lay_0 : List UInt8 := dkwX0_lay_0 ++ []
theorem dksX0_lay_0 : cX0_lay.data.toList.drop 0 = dktX0_lay_0 := by decide +kernel
theorem dX0_lay_0 : decode cX0_lay 0 = .ok (.aload_n 0, 1) := dk_42 (dk_at dksX0_lay_0 0 rfl rfl)
theorem dX0_lay_1 : decode cX0_lay 1 = .ok (.iload_n 1, 1) := dk_27 (dk_at dksX0_lay_0 1 rfl rfl)
theorem dX0_lay_2 : decode cX0_lay 2 = .ok (.iload_n 2, 1) := dk_28 (dk_at dksX0_lay_0 2 rfl rfl)
theorem dX0_lay_3 : decode cX0_lay 3 = .ok (.invokevirtual 335, 3) := dk_182 1 79 (dk_at dksX0_lay_0 3 rfl rfl)
theorem dX0_lay_6 : decode cX0_lay 6 = .ok (.ifCond .ne 7, 3) := dk_154 0 7 (dk_at dksX0_lay_0 6 rfl rfl)
theorem dX0_lay_9 : decode cX0_lay 9 = .ok (.sipush (-1000), 3) := dk_17 252 24 (dk_at dksX0_lay_0 9 rfl rfl)
theorem dX0_lay_12 : decode cX0_lay 12 = .ok (.ireturn, 1) := dk_172 (dk_at dksX0_lay_0 12 rfl rfl)
theorem dX0_lay_13 : decode cX0_lay 13 = .ok (.aload_n 0, 1) := dk_42 (dk_at dksX0_lay_0 13 rfl rfl)
theorem dX0_lay_14 : decode cX0_lay 14 = .ok (.iload_n 1, 1) := dk_27 (dk_at dksX0_lay_0 14 rfl rfl)
theorem dX0_lay_15 : decode cX0_lay 15 = .ok (.iload_n 2, 1) := dk_28 (dk_at dksX0_lay_0 15 rfl rfl)
theorem dX0_lay_16 : decode cX0_lay 16 = .ok (.invokevirtual 354, 3) := dk_182 1 98 (dk_at dksX0_lay_0 16 rfl rfl)
theorem dX0_lay_19 : decode cX0_lay 19 = .ok (.aload_n 0, 1) := dk_42 (dk_at dksX0_lay_0 19 rfl rfl)
theorem dX0_lay_20 : decode cX0_lay 20 = .ok (.getfield 342, 3) := dk_180 1 86 (dk_at dksX0_lay_0 20 rfl rfl)
theorem dX0_lay_23 : decode cX0_lay 23 = .ok (.ireturn, 1) := dk_172 (dk_at dksX0_lay_0 23 rfl rfl)
abbrev cX0_laysOf : ByteArray := prog_1_method_88_code
def yX0_laysOf : MethodName := ⟨RX0, "laysOf", "(II)V"⟩
def dkwX0_laysOf_5 : List UInt8 := [181, 1, 86, 42, 29, 181, 1, 92, 42, 21, 4, 181, 1, 95, 132, 3, 1, 167, 255, 128, 177]
abbrev dktX0_laysOf_5 : List UInt8 := dkwX0_laysOf_5 ++ []
def dkwX0_laysOf_4 : List UInt8 := [29, 21, 4, 182, 1, 89, 42, 180, 1, 86, 163, 0, 6, 167, 0, 25, 42, 42, 29, 21, 4, 182, 1, 89]
abbrev dktX0_laysOf_4 : List UInt8 := dkwX0_laysOf_4 ++ dktX0_laysOf_5
def dkwX0_laysOf_3 : List UInt8 := [182, 1, 89, 42, 29, 21, 4, 182, 1, 89, 162, 0, 7, 21, 5, 54, 4, 132, 5, 1, 167, 255, 203, 42]
abbrev dktX0_laysOf_3 : List UInt8 := dkwX0_laysOf_3 ++ dktX0_laysOf_4
def dkwX0_laysOf_2 : List UInt8 := [162, 0, 47, 42, 180, 0, 24, 21, 5, 46, 28, 160, 0, 30, 21, 4, 2, 159, 0, 20, 42, 29, 21, 5]
abbrev dktX0_laysOf_2 : List UInt8 := dkwX0_laysOf_2 ++ dktX0_laysOf_3
def dkwX0_laysOf_1 : List UInt8 := [29, 46, 27, 159, 0, 6, 167, 0, 104, 2, 54, 4, 3, 54, 5, 21, 5, 42, 180, 0, 12, 180, 0, 94]
abbrev dktX0_laysOf_1 : List UInt8 := dkwX0_laysOf_1 ++ dktX0_laysOf_2
def dkwX0_laysOf_0 : List UInt8 := [42, 19, 1, 85, 181, 1, 86, 3, 62, 29, 42, 180, 0, 12, 180, 0, 94, 162, 0, 123, 42, 180, 0, 24]
abbrev dktX0_laysOf_0 : List UInt8 := dkwX0_laysOf_0 ++ dktX0_laysOf_1
theorem dksX0_laysOf_0 : cX0_laysOf.data.toList.drop 0 = dktX0_laysOf_0 := by decide +kernel
theorem dksX0_laysOf_1 : cX0_laysOf.data.toList.drop 24 = dktX0_laysOf_1 := dk_seg dksX0_laysOf_0 24 rfl rfl
theorem dksX0_laysOf_2 : cX0_laysOf.data.toList.drop 48 = dktX0_laysOf_2 := dk_seg dksX0_laysOf_1 24 rfl rfl
theorem dksX0_laysOf_3 : cX0_laysOf.data.toList.drop 72 = dktX0_laysOf_3 := dk_seg dksX0_laysOf_2 24 rfl rfl
theorem dksX0_laysOf_4 : cX0_laysOf.data.toList.drop 96 = dktX0_laysOf_4 := dk_seg dksX0_laysOf_3 24 rfl rfl
theorem dksX0_laysOf_5 : cX0_laysOf.data.toList.drop 120 = dktX0_laysOf_5 := dk_seg dksX0_laysOf_4 24 rfl rfl
theorem dX0_laysOf_0 : decode cX0_laysOf 0 = .ok (.aload_n 0, 1) := dk_42 (dk_at dksX0_laysOf_0 0 rfl rfl)
theorem dX0_laysOf_1 : decode cX0_laysOf 1 = .ok (.ldc_w 341, 3) := dk_19 1 85 (dk_at dksX0_laysOf_0 1 rfl rfl)
theorem dX0_laysOf_4 : decode cX0_laysOf 4 = .ok (.putfield 342, 3) := dk_181 1 86 (dk_at dksX0_laysOf_0 4 rfl rfl)
theorem dX0_laysOf_7 : decode cX0_laysOf 7 = .ok (.iconst 0, 1) := dk_3 (dk_at dksX0_laysOf_0 7 rfl rfl)
theorem dX0_laysOf_8 : decode cX0_laysOf 8 = .ok (.istore_n 3, 1) := dk_62 (dk_at dksX0_laysOf_0 8 rfl rfl)
theorem dX0_laysOf_9 : decode cX0_laysOf 9 = .ok (.iload_n 3, 1) := dk_29 (dk_at dksX0_laysOf_0 9 rfl rfl)
theorem dX0_laysOf_10 : decode cX0_laysOf 10 = .ok (.aload_n 0, 1) := dk_42 (dk_at dksX0_laysOf_0 10 rfl rfl)
theorem dX0_laysOf_11 : decode cX0_laysOf 11 = .ok (.getfield 12, 3) := dk_180 0 12 (dk_at dksX0_laysOf_0 11 rfl rfl)
theorem dX0_laysOf_14 : decode cX0_laysOf 14 = .ok (.getfield 94, 3) := dk_180 0 94 (dk_at dksX0_laysOf_0 14 rfl rfl)
theorem dX0_laysOf_17 : decode cX0_laysOf 17 = .ok (.if_icmp .ge 123, 3) := dk_162 0 123 (dk_at dksX0_laysOf_0 17 rfl rfl)
theorem dX0_laysOf_20 : decode cX0_laysOf 20 = .ok (.aload_n 0, 1) := dk_42 (dk_at dksX0_laysOf_0 20 rfl rfl)
theorem dX0_laysOf_21 : decode cX0_laysOf 21 = .ok (.getfield 24, 3) := dk_180 0 24 (dk_at dksX0_laysOf_0 21 rfl rfl)
theorem dX0_laysOf_24 : decode cX0_laysOf 24 = .ok (.iload_n 3, 1) := dk_29 (dk_at dksX0_laysOf_1 0 rfl rfl)
theorem dX0_laysOf_25 : decode cX0_laysOf 25 = .ok (.iaload, 1) := dk_46 (dk_at dksX0_laysOf_1 1 rfl rfl)
theorem dX0_laysOf_26 : decode cX0_laysOf 26 = .ok (.iload_n 1, 1) := dk_27 (dk_at dksX0_laysOf_1 2 rfl rfl)
theorem dX0_laysOf_27 : decode cX0_laysOf 27 = .ok (.if_icmp .eq 6, 3) := dk_159 0 6 (dk_at dksX0_laysOf_1 3 rfl rfl)
theorem dX0_laysOf_30 : decode cX0_laysOf 30 = .ok (.goto 104, 3) := dk_167 0 104 (dk_at dksX0_laysOf_1 6 rfl rfl)
theorem dX0_laysOf_33 : decode cX0_laysOf 33 = .ok (.iconst (-1), 1) := dk_2 (dk_at dksX0_laysOf_1 9 rfl rfl)
theorem dX0_laysOf_34 : decode cX0_laysOf 34 = .ok (.istore 4, 2) := dk_54 4 (dk_at dksX0_laysOf_1 10 rfl rfl)
theorem dX0_laysOf_36 : decode cX0_laysOf 36 = .ok (.iconst 0, 1) := dk_3 (dk_at dksX0_laysOf_1 12 rfl rfl)
theorem dX0_laysOf_37 : decode cX0_laysOf 37 = .ok (.istore 5, 2) := dk_54 5 (dk_at dksX0_laysOf_1 13 rfl rfl)
theorem dX0_laysOf_39 : decode cX0_laysOf 39 = .ok (.iload 5, 2) := dk_21 5 (dk_at dksX0_laysOf_1 15 rfl rfl)
theorem dX0_laysOf_41 : decode cX0_laysOf 41 = .ok (.aload_n 0, 1) := dk_42 (dk_at dksX0_laysOf_1 17 rfl rfl)
theorem dX0_laysOf_42 : decode cX0_laysOf 42 = .ok (.getfield 12, 3) := dk_180 0 12 (dk_at dksX0_laysOf_1 18 rfl rfl)
theorem dX0_laysOf_45 : decode cX0_laysOf 45 = .ok (.getfield 94, 3) := dk_180 0 94 (dk_at dksX0_laysOf_1 21 rfl rfl)
theorem dX0_laysOf_48 : decode cX0_laysOf 48 = .ok (.if_icmp .ge 47, 3) := dk_162 0 47 (dk_at dksX0_laysOf_2 0 rfl rfl)
theorem dX0_laysOf_51 : decode cX0_laysOf 51 = .ok (.aload_n 0, 1) := dk_42 (dk_at dksX0_laysOf_2 3 rfl rfl)
theorem dX0_laysOf_52 : decode cX0_laysOf 52 = .ok (.getfield 24, 3) := dk_180 0 24 (dk_at dksX0_laysOf_2 4 rfl rfl)
theorem dX0_laysOf_55 : decode cX0_laysOf 55 = .ok (.iload 5, 2) := dk_21 5 (dk_at dksX0_laysOf_2 7 rfl rfl)
theorem dX0_laysOf_57 : decode cX0_laysOf 57 = .ok (.iaload, 1) := dk_46 (dk_at dksX0_laysOf_2 9 rfl rfl)
theorem dX0_laysOf_58 : decode cX0_laysOf 58 = .ok (.iload_n 2, 1) := dk_28 (dk_at dksX0_laysOf_2 10 rfl rfl)
theorem dX0_laysOf_59 : decode cX0_laysOf 59 = .ok (.if_icmp .ne 30, 3) := dk_160 0 30 (dk_at dksX0_laysOf_2 11 rfl rfl)
theorem dX0_laysOf_62 : decode cX0_laysOf 62 = .ok (.iload 4, 2) := dk_21 4 (dk_at dksX0_laysOf_2 14 rfl rfl)
theorem dX0_laysOf_64 : decode cX0_laysOf 64 = .ok (.iconst (-1), 1) := dk_2 (dk_at dksX0_laysOf_2 16 rfl rfl)
theorem dX0_laysOf_65 : decode cX0_laysOf 65 = .ok (.if_icmp .eq 20, 3) := dk_159 0 20 (dk_at dksX0_laysOf_2 17 rfl rfl)
theorem dX0_laysOf_68 : decode cX0_laysOf 68 = .ok (.aload_n 0, 1) := dk_42 (dk_at dksX0_laysOf_2 20 rfl rfl)
theorem dX0_laysOf_69 : decode cX0_laysOf 69 = .ok (.iload_n 3, 1) := dk_29 (dk_at dksX0_laysOf_2 21 rfl rfl)
theorem dX0_laysOf_70 : decode cX0_laysOf 70 = .ok (.iload 5, 2) := dk_21 5 (dk_at dksX0_laysOf_2 22 rfl rfl)
theorem dX0_laysOf_72 : decode cX0_laysOf 72 = .ok (.invokevirtual 345, 3) := dk_182 1 89 (dk_at dksX0_laysOf_3 0 rfl rfl)
theorem dX0_laysOf_75 : decode cX0_laysOf 75 = .ok (.aload_n 0, 1) := dk_42 (dk_at dksX0_laysOf_3 3 rfl rfl)
theorem dX0_laysOf_76 : decode cX0_laysOf 76 = .ok (.iload_n 3, 1) := dk_29 (dk_at dksX0_laysOf_3 4 rfl rfl)
theorem dX0_laysOf_77 : decode cX0_laysOf 77 = .ok (.iload 4, 2) := dk_21 4 (dk_at dksX0_laysOf_3 5 rfl rfl)
theorem dX0_laysOf_79 : decode cX0_laysOf 79 = .ok (.invokevirtual 345, 3) := dk_182 1 89 (dk_at dksX0_laysOf_3 7 rfl rfl)
theorem dX0_laysOf_82 : decode cX0_laysOf 82 = .ok (.if_icmp .ge 7, 3) := dk_162 0 7 (dk_at dksX0_laysOf_3 10 rfl rfl)
theorem dX0_laysOf_85 : decode cX0_laysOf 85 = .ok (.iload 5, 2) := dk_21 5 (dk_at dksX0_laysOf_3 13 rfl rfl)
theorem dX0_laysOf_87 : decode cX0_laysOf 87 = .ok (.istore 4, 2) := dk_54 4 (dk_at dksX0_laysOf_3 15 rfl rfl)
theorem dX0_laysOf_89 : decode cX0_laysOf 89 = .ok (.iinc 5 1, 3) := dk_132 5 1 (dk_at dksX0_laysOf_3 17 rfl rfl)
theorem dX0_laysOf_92 : decode cX0_laysOf 92 = .ok (.goto (-53), 3) := dk_167 255 203 (dk_at dksX0_laysOf_3 20 rfl rfl)
theorem dX0_laysOf_95 : decode cX0_laysOf 95 = .ok (.aload_n 0, 1) := dk_42 (dk_at dksX0_laysOf_3 23 rfl rfl)
theorem dX0_laysOf_96 : decode cX0_laysOf 96 = .ok (.iload_n 3, 1) := dk_29 (dk_at dksX0_laysOf_4 0 rfl rfl)
theorem dX0_laysOf_97 : decode cX0_laysOf 97 = .ok (.iload 4, 2) := dk_21 4 (dk_at dksX0_laysOf_4 1 rfl rfl)
theorem dX0_laysOf_99 : decode cX0_laysOf 99 = .ok (.invokevirtual 345, 3) := dk_182 1 89 (dk_at dksX0_laysOf_4 3 rfl rfl)
theorem dX0_laysOf_102 : decode cX0_laysOf 102 = .ok (.aload_n 0, 1) := dk_42 (dk_at dksX0_laysOf_4 6 rfl rfl)
theorem dX0_laysOf_103 : decode cX0_laysOf 103 = .ok (.getfield 342, 3) := dk_180 1 86 (dk_at dksX0_laysOf_4 7 rfl rfl)
theorem dX0_laysOf_106 : decode cX0_laysOf 106 = .ok (.if_icmp .gt 6, 3) := dk_163 0 6 (dk_at dksX0_laysOf_4 10 rfl rfl)
theorem dX0_laysOf_109 : decode cX0_laysOf 109 = .ok (.goto 25, 3) := dk_167 0 25 (dk_at dksX0_laysOf_4 13 rfl rfl)
theorem dX0_laysOf_112 : decode cX0_laysOf 112 = .ok (.aload_n 0, 1) := dk_42 (dk_at dksX0_laysOf_4 16 rfl rfl)
theorem dX0_laysOf_113 : decode cX0_laysOf 113 = .ok (.aload_n 0, 1) := dk_42 (dk_at dksX0_laysOf_4 17 rfl rfl)
theorem dX0_laysOf_114 : decode cX0_laysOf 114 = .ok (.iload_n 3, 1) := dk_29 (dk_at dksX0_laysOf_4 18 rfl rfl)
theorem dX0_laysOf_115 : decode cX0_laysOf 115 = .ok (.iload 4, 2) := dk_21 4 (dk_at dksX0_laysOf_4 19 rfl rfl)
theorem dX0_laysOf_117 : decode cX0_laysOf 117 = .ok (.invokevirtual 345, 3) := dk_182 1 89 (dk_at dksX0_laysOf_4 21 rfl rfl)
theorem dX0_laysOf_120 : decode cX0_laysOf 120 = .ok (.putfield 342, 3) := dk_181 1 86 (dk_at dksX0_laysOf_5 0 rfl rfl)
theorem dX0_laysOf_123 : decode cX0_laysOf 123 = .ok (.aload_n 0, 1) := dk_42 (dk_at dksX0_laysOf_5 3 rfl rfl)
theorem dX0_laysOf_124 : decode cX0_laysOf 124 = .ok (.iload_n 3, 1) := dk_29 (dk_at dksX0_laysOf_5 4 rfl rfl)
theorem dX0_laysOf_125 : decode cX0_laysOf 125 = .ok (.putfield 348, 3) := dk_181 1 92 (dk_at dksX0_laysOf_5 5 rfl rfl)
theorem dX0_laysOf_128 : decode cX0_laysOf 128 = .ok (.aload_n 0, 1) := dk_42 (dk_at dksX0_laysOf_5 8 rfl rfl)
theorem dX0_laysOf_129 : decode cX0_laysOf 129 = .ok (.iload 4, 2) := dk_21 4 (dk_at dksX0_laysOf_5 9 rfl rfl)
theorem dX0_laysOf_131 : decode cX0_laysOf 131 = .ok (.putfield 351, 3) := dk_181 1 95 (dk_at dksX0_laysOf_5 11 rfl rfl)
theorem dX0_laysOf_134 : decode cX0_laysOf 134 = .ok (.iinc 3 1, 3) := dk_132 3 1 (dk_at dksX0_laysOf_5 14 rfl rfl)
theorem dX0_laysOf_137 : decode cX0_laysOf 137 = .ok (.goto (-128), 3) := dk_167 255 128 (dk_at dksX0_laysOf_5 17 rfl rfl)
theorem dX0_laysOf_140 : decode cX0_laysOf 140 = .ok (.return_, 1) := dk_177 (dk_at dksX0_laysOf_5 20 rfl rfl)
abbrev cX0_won : ByteArray := prog_1_method_87_code
def yX0_won : MethodName := ⟨RX0, "won", "(II)I"⟩
def dkwX0_won_2 : List UInt8 := [180, 0, 193, 28, 46, 162, 0, 16, 42, 180, 0, 12, 180, 0, 193, 27, 46, 116, 167, 0, 4, 3, 172]
abbrev dktX0_won_2 : List UInt8 := dkwX0_won_2 ++ []
def dkwX0_won_1 : List UInt8 := [180, 0, 12, 180, 0, 193, 28, 46, 167, 0, 38, 42, 180, 0, 12, 180, 0, 193, 27, 46, 42, 180, 0, 12]
abbrev dktX0_won_1 : List UInt8 := dkwX0_won_1 ++ dktX0_won_2
def dkwX0_won_0 : List UInt8 := [42, 180, 0, 12, 180, 0, 193, 27, 46, 42, 180, 0, 12, 180, 0, 193, 28, 46, 164, 0, 15, 42]
abbrev dktX0_won_0 : List UInt8 := dkwX0_won_0 ++ dktX0_won_1
theorem dksX0_won_0 : cX0_won.data.toList.drop 0 = dktX0_won_0 := by decide +kernel
theorem dksX0_won_1 : cX0_won.data.toList.drop 22 = dktX0_won_1 := dk_seg dksX0_won_0 22 rfl rfl
theorem dksX0_won_2 : cX0_won.data.toList.drop 46 = dktX0_won_2 := dk_seg dksX0_won_1 24 rfl rfl
theorem dX0_won_0 : decode cX0_won 0 = .ok (.aload_n 0, 1) := dk_42 (dk_at dksX0_won_0 0 rfl rfl)
theorem dX0_won_1 : decode cX0_won 1 = .ok (.getfield 12, 3) := dk_180 0 12 (dk_at dksX0_won_0 1 rfl rfl)
theorem dX0_won_4 : decode cX0_won 4 = .ok (.getfield 193, 3) := dk_180 0 193 (dk_at dksX0_won_0 4 rfl rfl)
theorem dX0_won_7 : decode cX0_won 7 = .ok (.iload_n 1, 1) := dk_27 (dk_at dksX0_won_0 7 rfl rfl)
theorem dX0_won_8 : decode cX0_won 8 = .ok (.iaload, 1) := dk_46 (dk_at dksX0_won_0 8 rfl rfl)
theorem dX0_won_9 : decode cX0_won 9 = .ok (.aload_n 0, 1) := dk_42 (dk_at dksX0_won_0 9 rfl rfl)
theorem dX0_won_10 : decode cX0_won 10 = .ok (.getfield 12, 3) := dk_180 0 12 (dk_at dksX0_won_0 10 rfl rfl)
theorem dX0_won_13 : decode cX0_won 13 = .ok (.getfield 193, 3) := dk_180 0 193 (dk_at dksX0_won_0 13 rfl rfl)
theorem dX0_won_16 : decode cX0_won 16 = .ok (.iload_n 2, 1) := dk_28 (dk_at dksX0_won_0 16 rfl rfl)
theorem dX0_won_17 : decode cX0_won 17 = .ok (.iaload, 1) := dk_46 (dk_at dksX0_won_0 17 rfl rfl)
theorem dX0_won_18 : decode cX0_won 18 = .ok (.if_icmp .le 15, 3) := dk_164 0 15 (dk_at dksX0_won_0 18 rfl rfl)
theorem dX0_won_21 : decode cX0_won 21 = .ok (.aload_n 0, 1) := dk_42 (dk_at dksX0_won_0 21 rfl rfl)
theorem dX0_won_22 : decode cX0_won 22 = .ok (.getfield 12, 3) := dk_180 0 12 (dk_at dksX0_won_1 0 rfl rfl)
theorem dX0_won_25 : decode cX0_won 25 = .ok (.getfield 193, 3) := dk_180 0 193 (dk_at dksX0_won_1 3 rfl rfl)
theorem dX0_won_28 : decode cX0_won 28 = .ok (.iload_n 2, 1) := dk_28 (dk_at dksX0_won_1 6 rfl rfl)
theorem dX0_won_29 : decode cX0_won 29 = .ok (.iaload, 1) := dk_46 (dk_at dksX0_won_1 7 rfl rfl)
theorem dX0_won_30 : decode cX0_won 30 = .ok (.goto 38, 3) := dk_167 0 38 (dk_at dksX0_won_1 8 rfl rfl)
theorem dX0_won_33 : decode cX0_won 33 = .ok (.aload_n 0, 1) := dk_42 (dk_at dksX0_won_1 11 rfl rfl)
theorem dX0_won_34 : decode cX0_won 34 = .ok (.getfield 12, 3) := dk_180 0 12 (dk_at dksX0_won_1 12 rfl rfl)
theorem dX0_won_37 : decode cX0_won 37 = .ok (.getfield 193, 3) := dk_180 0 193 (dk_at dksX0_won_1 15 rfl rfl)
theorem dX0_won_40 : decode cX0_won 40 = .ok (.iload_n 1, 1) := dk_27 (dk_at dksX0_won_1 18 rfl rfl)
theorem dX0_won_41 : decode cX0_won 41 = .ok (.iaload, 1) := dk_46 (dk_at dksX0_won_1 19 rfl rfl)
theorem dX0_won_42 : decode cX0_won 42 = .ok (.aload_n 0, 1) := dk_42 (dk_at dksX0_won_1 20 rfl rfl)
theorem dX0_won_43 : decode cX0_won 43 = .ok (.getfield 12, 3) := dk_180 0 12 (dk_at dksX0_won_1 21 rfl rfl)
theorem dX0_won_46 : decode cX0_won 46 = .ok (.getfield 193, 3) := dk_180 0 193 (dk_at dksX0_won_2 0 rfl rfl)
theorem dX0_won_49 : decode cX0_won 49 = .ok (.iload_n 2, 1) := dk_28 (dk_at dksX0_won_2 3 rfl rfl)
theorem dX0_won_50 : decode cX0_won 50 = .ok (.iaload, 1) := dk_46 (dk_at dksX0_won_2 4 rfl rfl)
theorem dX0_won_51 : decode cX0_won 51 = .ok (.if_icmp .ge 16, 3) := dk_162 0 16 (dk_at dksX0_won_2 5 rfl rfl)
theorem dX0_won_54 : decode cX0_won 54 = .ok (.aload_n 0, 1) := dk_42 (dk_at dksX0_won_2 8 rfl rfl)
theorem dX0_won_55 : decode cX0_won 55 = .ok (.getfield 12, 3) := dk_180 0 12 (dk_at dksX0_won_2 9 rfl rfl)
theorem dX0_won_58 : decode cX0_won 58 = .ok (.getfield 193, 3) := dk_180 0 193 (dk_at dksX0_won_2 12 rfl rfl)
theorem dX0_won_61 : decode cX0_won 61 = .ok (.iload_n 1, 1) := dk_27 (dk_at dksX0_won_2 15 rfl rfl)
theorem dX0_won_62 : decode cX0_won 62 = .ok (.iaload, 1) := dk_46 (dk_at dksX0_won_2 16 rfl rfl)
theorem dX0_won_63 : decode cX0_won 63 = .ok (.ineg, 1) := dk_116 (dk_at dksX0_won_2 17 rfl rfl)
theorem dX0_won_64 : decode cX0_won 64 = .ok (.goto 4, 3) := dk_167 0 4 (dk_at dksX0_won_2 18 rfl rfl)
theorem dX0_won_67 : decode cX0_won 67 = .ok (.iconst 0, 1) := dk_3 (dk_at dksX0_won_2 21 rfl rfl)
theorem dX0_won_68 : decode cX0_won 68 = .ok (.ireturn, 1) := dk_172 (dk_at dksX0_won_2 22 rfl rfl)
abbrev cX0_lays : ByteArray := prog_1_method_90_code
def yX0_lays : MethodName := ⟨RX0, "lays", "(II)I"⟩
def dkwX0_lays_0 : List UInt8 := [42, 27, 28, 182, 1, 79, 154, 0, 6, 16, 254, 172, 42, 27, 28, 182, 1, 98, 42, 180, 1, 92, 172]
abbrev dktX0_lays_0 : List UInt8 := dkwX0_lays_0 ++ []
theorem dksX0_lays_0 : cX0_lays.data.toList.drop 0 = dktX0_lays_0 := by decide +kernel
theorem dX0_lays_0 : decode cX0_lays 0 = .ok (.aload_n 0, 1) := dk_42 (dk_at dksX0_lays_0 0 rfl rfl)
theorem dX0_lays_1 : decode cX0_lays 1 = .ok (.iload_n 1, 1) := dk_27 (dk_at dksX0_lays_0 1 rfl rfl)
theorem dX0_lays_2 : decode cX0_lays 2 = .ok (.iload_n 2, 1) := dk_28 (dk_at dksX0_lays_0 2 rfl rfl)
theorem dX0_lays_3 : decode cX0_lays 3 = .ok (.invokevirtual 335, 3) := dk_182 1 79 (dk_at dksX0_lays_0 3 rfl rfl)
theorem dX0_lays_6 : decode cX0_lays 6 = .ok (.ifCond .ne 6, 3) := dk_154 0 6 (dk_at dksX0_lays_0 6 rfl rfl)
theorem dX0_lays_9 : decode cX0_lays 9 = .ok (.bipush (-2), 2) := dk_16 254 (dk_at dksX0_lays_0 9 rfl rfl)
theorem dX0_lays_11 : decode cX0_lays 11 = .ok (.ireturn, 1) := dk_172 (dk_at dksX0_lays_0 11 rfl rfl)
theorem dX0_lays_12 : decode cX0_lays 12 = .ok (.aload_n 0, 1) := dk_42 (dk_at dksX0_lays_0 12 rfl rfl)
theorem dX0_lays_13 : decode cX0_lays 13 = .ok (.iload_n 1, 1) := dk_27 (dk_at dksX0_lays_0 13 rfl rfl)
theorem dX0_lays_14 : decode cX0_lays 14 = .ok (.iload_n 2, 1) := dk_28 (dk_at dksX0_lays_0 14 rfl rfl)
theorem dX0_lays_15 : decode cX0_lays 15 = .ok (.invokevirtual 354, 3) := dk_182 1 98 (dk_at dksX0_lays_0 15 rfl rfl)
theorem dX0_lays_18 : decode cX0_lays 18 = .ok (.aload_n 0, 1) := dk_42 (dk_at dksX0_lays_0 18 rfl rfl)
theorem dX0_lays_19 : decode cX0_lays 19 = .ok (.getfield 348, 3) := dk_180 1 92 (dk_at dksX0_lays_0 19 rfl rfl)
theorem dX0_lays_22 : decode cX0_lays 22 = .ok (.ireturn, 1) := dk_172 (dk_at dksX0_lays_0 22 rfl rfl)
abbrev cX0_reply : ByteArray := prog_1_method_91_code
def yX0_reply : MethodName := ⟨RX0, "reply", "(II)I"⟩
def dkwX0_reply_0 : List UInt8 := [42, 27, 28, 182, 1, 79, 154, 0, 6, 16, 254, 172, 42, 27, 28, 182, 1, 98, 42, 180, 1, 95, 172]
abbrev dktX0_reply_0 : List UInt8 := dkwX0_reply_0 ++ []
theorem dksX0_reply_0 : cX0_reply.data.toList.drop 0 = dktX0_reply_0 := by decide +kernel
theorem dX0_reply_0 : decode cX0_reply 0 = .ok (.aload_n 0, 1) := dk_42 (dk_at dksX0_reply_0 0 rfl rfl)
theorem dX0_reply_1 : decode cX0_reply 1 = .ok (.iload_n 1, 1) := dk_27 (dk_at dksX0_reply_0 1 rfl rfl)
theorem dX0_reply_2 : decode cX0_reply 2 = .ok (.iload_n 2, 1) := dk_28 (dk_at dksX0_reply_0 2 rfl rfl)
theorem dX0_reply_3 : decode cX0_reply 3 = .ok (.invokevirtual 335, 3) := dk_182 1 79 (dk_at dksX0_reply_0 3 rfl rfl)
theorem dX0_reply_6 : decode cX0_reply 6 = .ok (.ifCond .ne 6, 3) := dk_154 0 6 (dk_at dksX0_reply_0 6 rfl rfl)
theorem dX0_reply_9 : decode cX0_reply 9 = .ok (.bipush (-2), 2) := dk_16 254 (dk_at dksX0_reply_0 9 rfl rfl)
theorem dX0_reply_11 : decode cX0_reply 11 = .ok (.ireturn, 1) := dk_172 (dk_at dksX0_reply_0 11 rfl rfl)
theorem dX0_reply_12 : decode cX0_reply 12 = .ok (.aload_n 0, 1) := dk_42 (dk_at dksX0_reply_0 12 rfl rfl)
theorem dX0_reply_13 : decode cX0_reply 13 = .ok (.iload_n 1, 1) := dk_27 (dk_at dksX0_reply_0 13 rfl rfl)
theorem dX0_reply_14 : decode cX0_reply 14 = .ok (.iload_n 2, 1) := dk_28 (dk_at dksX0_reply_0 14 rfl rfl)
theorem dX0_reply_15 : decode cX0_reply 15 = .ok (.invokevirtual 354, 3) := dk_182 1 98 (dk_at dksX0_reply_0 15 rfl rfl)
theorem dX0_reply_18 : decode cX0_reply 18 = .ok (.aload_n 0, 1) := dk_42 (dk_at dksX0_reply_0 18 rfl rfl)
theorem dX0_reply_19 : decode cX0_reply 19 = .ok (.getfield 351, 3) := dk_180 1 95 (dk_at dksX0_reply_0 19 rfl rfl)
theorem dX0_reply_22 : decode cX0_reply 22 = .ok (.ireturn, 1) := dk_172 (dk_at dksX0_reply_0 22 rfl rfl)
abbrev cX0_firm : ByteArray := prog_1_method_94_code
def yX0_firm : MethodName := ⟨RX0, "firm", "(I)I"⟩
def dkwX0_firm_1 : List UInt8 := [167, 0, 4, 3, 172]
abbrev dktX0_firm_1 : List UInt8 := dkwX0_firm_1 ++ []
def dkwX0_firm_0 : List UInt8 := [42, 27, 182, 1, 105, 154, 0, 6, 16, 254, 172, 42, 182, 0, 190, 42, 27, 182, 1, 108, 154, 0, 7, 4]
abbrev dktX0_firm_0 : List UInt8 := dkwX0_firm_0 ++ dktX0_firm_1
theorem dksX0_firm_0 : cX0_firm.data.toList.drop 0 = dktX0_firm_0 := by decide +kernel
theorem dksX0_firm_1 : cX0_firm.data.toList.drop 24 = dktX0_firm_1 := dk_seg dksX0_firm_0 24 rfl rfl
theorem dX0_firm_0 : decode cX0_firm 0 = .ok (.aload_n 0, 1) := dk_42 (dk_at dksX0_firm_0 0 rfl rfl)
theorem dX0_firm_1 : decode cX0_firm 1 = .ok (.iload_n 1, 1) := dk_27 (dk_at dksX0_firm_0 1 rfl rfl)
theorem dX0_firm_2 : decode cX0_firm 2 = .ok (.invokevirtual 361, 3) := dk_182 1 105 (dk_at dksX0_firm_0 2 rfl rfl)
theorem dX0_firm_5 : decode cX0_firm 5 = .ok (.ifCond .ne 6, 3) := dk_154 0 6 (dk_at dksX0_firm_0 5 rfl rfl)
theorem dX0_firm_8 : decode cX0_firm 8 = .ok (.bipush (-2), 2) := dk_16 254 (dk_at dksX0_firm_0 8 rfl rfl)
theorem dX0_firm_10 : decode cX0_firm 10 = .ok (.ireturn, 1) := dk_172 (dk_at dksX0_firm_0 10 rfl rfl)
theorem dX0_firm_11 : decode cX0_firm 11 = .ok (.aload_n 0, 1) := dk_42 (dk_at dksX0_firm_0 11 rfl rfl)
theorem dX0_firm_12 : decode cX0_firm 12 = .ok (.invokevirtual 190, 3) := dk_182 0 190 (dk_at dksX0_firm_0 12 rfl rfl)
theorem dX0_firm_15 : decode cX0_firm 15 = .ok (.aload_n 0, 1) := dk_42 (dk_at dksX0_firm_0 15 rfl rfl)
theorem dX0_firm_16 : decode cX0_firm 16 = .ok (.iload_n 1, 1) := dk_27 (dk_at dksX0_firm_0 16 rfl rfl)
theorem dX0_firm_17 : decode cX0_firm 17 = .ok (.invokevirtual 364, 3) := dk_182 1 108 (dk_at dksX0_firm_0 17 rfl rfl)
theorem dX0_firm_20 : decode cX0_firm 20 = .ok (.ifCond .ne 7, 3) := dk_154 0 7 (dk_at dksX0_firm_0 20 rfl rfl)
theorem dX0_firm_23 : decode cX0_firm 23 = .ok (.iconst 1, 1) := dk_4 (dk_at dksX0_firm_0 23 rfl rfl)
theorem dX0_firm_24 : decode cX0_firm 24 = .ok (.goto 4, 3) := dk_167 0 4 (dk_at dksX0_firm_1 0 rfl rfl)
theorem dX0_firm_27 : decode cX0_firm 27 = .ok (.iconst 0, 1) := dk_3 (dk_at dksX0_firm_1 3 rfl rfl)
theorem dX0_firm_28 : decode cX0_firm 28 = .ok (.ireturn, 1) := dk_172 (dk_at dksX0_firm_1 4 rfl rfl)
abbrev cX0_isSet : ByteArray := prog_1_method_15_code
def yX0_isSet : MethodName := ⟨RX0, "isSet", "(I)Z"⟩
def dkwX0_isSet_1 : List UInt8 := [167, 0, 4, 3, 172]
abbrev dktX0_isSet_1 : List UInt8 := dkwX0_isSet_1 ++ []
def dkwX0_isSet_0 : List UInt8 := [42, 182, 0, 103, 153, 0, 21, 27, 133, 9, 42, 182, 0, 107, 133, 184, 0, 67, 153, 0, 7, 4]
abbrev dktX0_isSet_0 : List UInt8 := dkwX0_isSet_0 ++ dktX0_isSet_1
theorem dksX0_isSet_0 : cX0_isSet.data.toList.drop 0 = dktX0_isSet_0 := by decide +kernel
theorem dksX0_isSet_1 : cX0_isSet.data.toList.drop 22 = dktX0_isSet_1 := dk_seg dksX0_isSet_0 22 rfl rfl
theorem dX0_isSet_0 : decode cX0_isSet 0 = .ok (.aload_n 0, 1) := dk_42 (dk_at dksX0_isSet_0 0 rfl rfl)
theorem dX0_isSet_1 : decode cX0_isSet 1 = .ok (.invokevirtual 103, 3) := dk_182 0 103 (dk_at dksX0_isSet_0 1 rfl rfl)
theorem dX0_isSet_4 : decode cX0_isSet 4 = .ok (.ifCond .eq 21, 3) := dk_153 0 21 (dk_at dksX0_isSet_0 4 rfl rfl)
theorem dX0_isSet_7 : decode cX0_isSet 7 = .ok (.iload_n 1, 1) := dk_27 (dk_at dksX0_isSet_0 7 rfl rfl)
theorem dX0_isSet_8 : decode cX0_isSet 8 = .ok (.i2l, 1) := dk_133 (dk_at dksX0_isSet_0 8 rfl rfl)
theorem dX0_isSet_9 : decode cX0_isSet 9 = .ok (.lconst 0, 1) := dk_9 (dk_at dksX0_isSet_0 9 rfl rfl)
theorem dX0_isSet_10 : decode cX0_isSet 10 = .ok (.aload_n 0, 1) := dk_42 (dk_at dksX0_isSet_0 10 rfl rfl)
theorem dX0_isSet_11 : decode cX0_isSet 11 = .ok (.invokevirtual 107, 3) := dk_182 0 107 (dk_at dksX0_isSet_0 11 rfl rfl)
theorem dX0_isSet_14 : decode cX0_isSet 14 = .ok (.i2l, 1) := dk_133 (dk_at dksX0_isSet_0 14 rfl rfl)
theorem dX0_isSet_15 : decode cX0_isSet 15 = .ok (.invokestatic 67, 3) := dk_184 0 67 (dk_at dksX0_isSet_0 15 rfl rfl)
theorem dX0_isSet_18 : decode cX0_isSet 18 = .ok (.ifCond .eq 7, 3) := dk_153 0 7 (dk_at dksX0_isSet_0 18 rfl rfl)
theorem dX0_isSet_21 : decode cX0_isSet 21 = .ok (.iconst 1, 1) := dk_4 (dk_at dksX0_isSet_0 21 rfl rfl)
theorem dX0_isSet_22 : decode cX0_isSet 22 = .ok (.goto 4, 3) := dk_167 0 4 (dk_at dksX0_isSet_1 0 rfl rfl)
theorem dX0_isSet_25 : decode cX0_isSet 25 = .ok (.iconst 0, 1) := dk_3 (dk_at dksX0_isSet_1 3 rfl rfl)
theorem dX0_isSet_26 : decode cX0_isSet 26 = .ok (.ireturn, 1) := dk_172 (dk_at dksX0_isSet_1 4 rfl rfl)
abbrev cX0_leaving : ByteArray := prog_1_method_93_code
def yX0_leaving : MethodName := ⟨RX0, "leaving", "(I)I"⟩
def dkwX0_leaving_2 : List UInt8 := [28, 172]
abbrev dktX0_leaving_2 : List UInt8 := dkwX0_leaving_2 ++ []
def dkwX0_leaving_1 : List UInt8 := [42, 27, 29, 182, 1, 102, 156, 0, 9, 4, 29, 120, 167, 0, 4, 3, 128, 61, 132, 3, 1, 167, 255, 215]
abbrev dktX0_leaving_1 : List UInt8 := dkwX0_leaving_1 ++ dktX0_leaving_2
def dkwX0_leaving_0 : List UInt8 := [3, 61, 3, 62, 29, 42, 180, 0, 12, 180, 0, 94, 162, 0, 36, 28, 27, 29, 184, 0, 114, 153, 0, 18]
abbrev dktX0_leaving_0 : List UInt8 := dkwX0_leaving_0 ++ dktX0_leaving_1
theorem dksX0_leaving_0 : cX0_leaving.data.toList.drop 0 = dktX0_leaving_0 := by decide +kernel
theorem dksX0_leaving_1 : cX0_leaving.data.toList.drop 24 = dktX0_leaving_1 := dk_seg dksX0_leaving_0 24 rfl rfl
theorem dksX0_leaving_2 : cX0_leaving.data.toList.drop 48 = dktX0_leaving_2 := dk_seg dksX0_leaving_1 24 rfl rfl
theorem dX0_leaving_0 : decode cX0_leaving 0 = .ok (.iconst 0, 1) := dk_3 (dk_at dksX0_leaving_0 0 rfl rfl)
theorem dX0_leaving_1 : decode cX0_leaving 1 = .ok (.istore_n 2, 1) := dk_61 (dk_at dksX0_leaving_0 1 rfl rfl)
theorem dX0_leaving_2 : decode cX0_leaving 2 = .ok (.iconst 0, 1) := dk_3 (dk_at dksX0_leaving_0 2 rfl rfl)
theorem dX0_leaving_3 : decode cX0_leaving 3 = .ok (.istore_n 3, 1) := dk_62 (dk_at dksX0_leaving_0 3 rfl rfl)
theorem dX0_leaving_4 : decode cX0_leaving 4 = .ok (.iload_n 3, 1) := dk_29 (dk_at dksX0_leaving_0 4 rfl rfl)
theorem dX0_leaving_5 : decode cX0_leaving 5 = .ok (.aload_n 0, 1) := dk_42 (dk_at dksX0_leaving_0 5 rfl rfl)
theorem dX0_leaving_6 : decode cX0_leaving 6 = .ok (.getfield 12, 3) := dk_180 0 12 (dk_at dksX0_leaving_0 6 rfl rfl)
theorem dX0_leaving_9 : decode cX0_leaving 9 = .ok (.getfield 94, 3) := dk_180 0 94 (dk_at dksX0_leaving_0 9 rfl rfl)
theorem dX0_leaving_12 : decode cX0_leaving 12 = .ok (.if_icmp .ge 36, 3) := dk_162 0 36 (dk_at dksX0_leaving_0 12 rfl rfl)
theorem dX0_leaving_15 : decode cX0_leaving 15 = .ok (.iload_n 2, 1) := dk_28 (dk_at dksX0_leaving_0 15 rfl rfl)
theorem dX0_leaving_16 : decode cX0_leaving 16 = .ok (.iload_n 1, 1) := dk_27 (dk_at dksX0_leaving_0 16 rfl rfl)
theorem dX0_leaving_17 : decode cX0_leaving 17 = .ok (.iload_n 3, 1) := dk_29 (dk_at dksX0_leaving_0 17 rfl rfl)
theorem dX0_leaving_18 : decode cX0_leaving 18 = .ok (.invokestatic 114, 3) := dk_184 0 114 (dk_at dksX0_leaving_0 18 rfl rfl)
theorem dX0_leaving_21 : decode cX0_leaving 21 = .ok (.ifCond .eq 18, 3) := dk_153 0 18 (dk_at dksX0_leaving_0 21 rfl rfl)
theorem dX0_leaving_24 : decode cX0_leaving 24 = .ok (.aload_n 0, 1) := dk_42 (dk_at dksX0_leaving_1 0 rfl rfl)
theorem dX0_leaving_25 : decode cX0_leaving 25 = .ok (.iload_n 1, 1) := dk_27 (dk_at dksX0_leaving_1 1 rfl rfl)
theorem dX0_leaving_26 : decode cX0_leaving 26 = .ok (.iload_n 3, 1) := dk_29 (dk_at dksX0_leaving_1 2 rfl rfl)
theorem dX0_leaving_27 : decode cX0_leaving 27 = .ok (.invokevirtual 358, 3) := dk_182 1 102 (dk_at dksX0_leaving_1 3 rfl rfl)
theorem dX0_leaving_30 : decode cX0_leaving 30 = .ok (.ifCond .ge 9, 3) := dk_156 0 9 (dk_at dksX0_leaving_1 6 rfl rfl)
theorem dX0_leaving_33 : decode cX0_leaving 33 = .ok (.iconst 1, 1) := dk_4 (dk_at dksX0_leaving_1 9 rfl rfl)
theorem dX0_leaving_34 : decode cX0_leaving 34 = .ok (.iload_n 3, 1) := dk_29 (dk_at dksX0_leaving_1 10 rfl rfl)
theorem dX0_leaving_35 : decode cX0_leaving 35 = .ok (.ishl, 1) := dk_120 (dk_at dksX0_leaving_1 11 rfl rfl)
theorem dX0_leaving_36 : decode cX0_leaving 36 = .ok (.goto 4, 3) := dk_167 0 4 (dk_at dksX0_leaving_1 12 rfl rfl)
theorem dX0_leaving_39 : decode cX0_leaving 39 = .ok (.iconst 0, 1) := dk_3 (dk_at dksX0_leaving_1 15 rfl rfl)
theorem dX0_leaving_40 : decode cX0_leaving 40 = .ok (.ior, 1) := dk_128 (dk_at dksX0_leaving_1 16 rfl rfl)
theorem dX0_leaving_41 : decode cX0_leaving 41 = .ok (.istore_n 2, 1) := dk_61 (dk_at dksX0_leaving_1 17 rfl rfl)
theorem dX0_leaving_42 : decode cX0_leaving 42 = .ok (.iinc 3 1, 3) := dk_132 3 1 (dk_at dksX0_leaving_1 18 rfl rfl)
theorem dX0_leaving_45 : decode cX0_leaving 45 = .ok (.goto (-41), 3) := dk_167 255 215 (dk_at dksX0_leaving_1 21 rfl rfl)
theorem dX0_leaving_48 : decode cX0_leaving 48 = .ok (.iload_n 2, 1) := dk_28 (dk_at dksX0_leaving_2 0 rfl rfl)
theorem dX0_leaving_49 : decode cX0_leaving 49 = .ok (.ireturn, 1) := dk_172 (dk_at dksX0_leaving_2 1 rfl rfl)
abbrev cX0_winsBy : ByteArray := prog_1_method_92_code
def yX0_winsBy : MethodName := ⟨RX0, "winsBy", "(II)I"⟩
def dkwX0_winsBy_2 : List UInt8 := [62, 29, 42, 42, 28, 182, 0, 198, 4, 28, 120, 2, 130, 126, 182, 1, 32, 100, 172]
abbrev dktX0_winsBy_2 : List UInt8 := dkwX0_winsBy_2 ++ []
def dkwX0_winsBy_1 : List UInt8 := [180, 0, 24, 28, 46, 184, 0, 114, 153, 0, 15, 42, 180, 0, 12, 180, 0, 193, 28, 46, 167, 0, 4, 3]
abbrev dktX0_winsBy_1 : List UInt8 := dkwX0_winsBy_1 ++ dktX0_winsBy_2
def dkwX0_winsBy_0 : List UInt8 := [42, 180, 0, 24, 28, 46, 2, 159, 0, 38, 42, 180, 0, 24, 28, 46, 28, 159, 0, 28, 27, 42]
abbrev dktX0_winsBy_0 : List UInt8 := dkwX0_winsBy_0 ++ dktX0_winsBy_1
theorem dksX0_winsBy_0 : cX0_winsBy.data.toList.drop 0 = dktX0_winsBy_0 := by decide +kernel
theorem dksX0_winsBy_1 : cX0_winsBy.data.toList.drop 22 = dktX0_winsBy_1 := dk_seg dksX0_winsBy_0 22 rfl rfl
theorem dksX0_winsBy_2 : cX0_winsBy.data.toList.drop 46 = dktX0_winsBy_2 := dk_seg dksX0_winsBy_1 24 rfl rfl
theorem dX0_winsBy_0 : decode cX0_winsBy 0 = .ok (.aload_n 0, 1) := dk_42 (dk_at dksX0_winsBy_0 0 rfl rfl)
theorem dX0_winsBy_1 : decode cX0_winsBy 1 = .ok (.getfield 24, 3) := dk_180 0 24 (dk_at dksX0_winsBy_0 1 rfl rfl)
theorem dX0_winsBy_4 : decode cX0_winsBy 4 = .ok (.iload_n 2, 1) := dk_28 (dk_at dksX0_winsBy_0 4 rfl rfl)
theorem dX0_winsBy_5 : decode cX0_winsBy 5 = .ok (.iaload, 1) := dk_46 (dk_at dksX0_winsBy_0 5 rfl rfl)
theorem dX0_winsBy_6 : decode cX0_winsBy 6 = .ok (.iconst (-1), 1) := dk_2 (dk_at dksX0_winsBy_0 6 rfl rfl)
theorem dX0_winsBy_7 : decode cX0_winsBy 7 = .ok (.if_icmp .eq 38, 3) := dk_159 0 38 (dk_at dksX0_winsBy_0 7 rfl rfl)
theorem dX0_winsBy_10 : decode cX0_winsBy 10 = .ok (.aload_n 0, 1) := dk_42 (dk_at dksX0_winsBy_0 10 rfl rfl)
theorem dX0_winsBy_11 : decode cX0_winsBy 11 = .ok (.getfield 24, 3) := dk_180 0 24 (dk_at dksX0_winsBy_0 11 rfl rfl)
theorem dX0_winsBy_14 : decode cX0_winsBy 14 = .ok (.iload_n 2, 1) := dk_28 (dk_at dksX0_winsBy_0 14 rfl rfl)
theorem dX0_winsBy_15 : decode cX0_winsBy 15 = .ok (.iaload, 1) := dk_46 (dk_at dksX0_winsBy_0 15 rfl rfl)
theorem dX0_winsBy_16 : decode cX0_winsBy 16 = .ok (.iload_n 2, 1) := dk_28 (dk_at dksX0_winsBy_0 16 rfl rfl)
theorem dX0_winsBy_17 : decode cX0_winsBy 17 = .ok (.if_icmp .eq 28, 3) := dk_159 0 28 (dk_at dksX0_winsBy_0 17 rfl rfl)
theorem dX0_winsBy_20 : decode cX0_winsBy 20 = .ok (.iload_n 1, 1) := dk_27 (dk_at dksX0_winsBy_0 20 rfl rfl)
theorem dX0_winsBy_21 : decode cX0_winsBy 21 = .ok (.aload_n 0, 1) := dk_42 (dk_at dksX0_winsBy_0 21 rfl rfl)
theorem dX0_winsBy_22 : decode cX0_winsBy 22 = .ok (.getfield 24, 3) := dk_180 0 24 (dk_at dksX0_winsBy_1 0 rfl rfl)
theorem dX0_winsBy_25 : decode cX0_winsBy 25 = .ok (.iload_n 2, 1) := dk_28 (dk_at dksX0_winsBy_1 3 rfl rfl)
theorem dX0_winsBy_26 : decode cX0_winsBy 26 = .ok (.iaload, 1) := dk_46 (dk_at dksX0_winsBy_1 4 rfl rfl)
theorem dX0_winsBy_27 : decode cX0_winsBy 27 = .ok (.invokestatic 114, 3) := dk_184 0 114 (dk_at dksX0_winsBy_1 5 rfl rfl)
theorem dX0_winsBy_30 : decode cX0_winsBy 30 = .ok (.ifCond .eq 15, 3) := dk_153 0 15 (dk_at dksX0_winsBy_1 8 rfl rfl)
theorem dX0_winsBy_33 : decode cX0_winsBy 33 = .ok (.aload_n 0, 1) := dk_42 (dk_at dksX0_winsBy_1 11 rfl rfl)
theorem dX0_winsBy_34 : decode cX0_winsBy 34 = .ok (.getfield 12, 3) := dk_180 0 12 (dk_at dksX0_winsBy_1 12 rfl rfl)
theorem dX0_winsBy_37 : decode cX0_winsBy 37 = .ok (.getfield 193, 3) := dk_180 0 193 (dk_at dksX0_winsBy_1 15 rfl rfl)
theorem dX0_winsBy_40 : decode cX0_winsBy 40 = .ok (.iload_n 2, 1) := dk_28 (dk_at dksX0_winsBy_1 18 rfl rfl)
theorem dX0_winsBy_41 : decode cX0_winsBy 41 = .ok (.iaload, 1) := dk_46 (dk_at dksX0_winsBy_1 19 rfl rfl)
theorem dX0_winsBy_42 : decode cX0_winsBy 42 = .ok (.goto 4, 3) := dk_167 0 4 (dk_at dksX0_winsBy_1 20 rfl rfl)
theorem dX0_winsBy_45 : decode cX0_winsBy 45 = .ok (.iconst 0, 1) := dk_3 (dk_at dksX0_winsBy_1 23 rfl rfl)
theorem dX0_winsBy_46 : decode cX0_winsBy 46 = .ok (.istore_n 3, 1) := dk_62 (dk_at dksX0_winsBy_2 0 rfl rfl)
theorem dX0_winsBy_47 : decode cX0_winsBy 47 = .ok (.iload_n 3, 1) := dk_29 (dk_at dksX0_winsBy_2 1 rfl rfl)
theorem dX0_winsBy_48 : decode cX0_winsBy 48 = .ok (.aload_n 0, 1) := dk_42 (dk_at dksX0_winsBy_2 2 rfl rfl)
theorem dX0_winsBy_49 : decode cX0_winsBy 49 = .ok (.aload_n 0, 1) := dk_42 (dk_at dksX0_winsBy_2 3 rfl rfl)
theorem dX0_winsBy_50 : decode cX0_winsBy 50 = .ok (.iload_n 2, 1) := dk_28 (dk_at dksX0_winsBy_2 4 rfl rfl)
theorem dX0_winsBy_51 : decode cX0_winsBy 51 = .ok (.invokevirtual 198, 3) := dk_182 0 198 (dk_at dksX0_winsBy_2 5 rfl rfl)
theorem dX0_winsBy_54 : decode cX0_winsBy 54 = .ok (.iconst 1, 1) := dk_4 (dk_at dksX0_winsBy_2 8 rfl rfl)
theorem dX0_winsBy_55 : decode cX0_winsBy 55 = .ok (.iload_n 2, 1) := dk_28 (dk_at dksX0_winsBy_2 9 rfl rfl)
theorem dX0_winsBy_56 : decode cX0_winsBy 56 = .ok (.ishl, 1) := dk_120 (dk_at dksX0_winsBy_2 10 rfl rfl)
theorem dX0_winsBy_57 : decode cX0_winsBy 57 = .ok (.iconst (-1), 1) := dk_2 (dk_at dksX0_winsBy_2 11 rfl rfl)
theorem dX0_winsBy_58 : decode cX0_winsBy 58 = .ok (.ixor, 1) := dk_130 (dk_at dksX0_winsBy_2 12 rfl rfl)
theorem dX0_winsBy_59 : decode cX0_winsBy 59 = .ok (.iand, 1) := dk_126 (dk_at dksX0_winsBy_2 13 rfl rfl)
theorem dX0_winsBy_60 : decode cX0_winsBy 60 = .ok (.invokevirtual 288, 3) := dk_182 1 32 (dk_at dksX0_winsBy_2 14 rfl rfl)
theorem dX0_winsBy_63 : decode cX0_winsBy 63 = .ok (.isub, 1) := dk_100 (dk_at dksX0_winsBy_2 17 rfl rfl)
theorem dX0_winsBy_64 : decode cX0_winsBy 64 = .ok (.ireturn, 1) := dk_172 (dk_at dksX0_winsBy_2 18 rfl rfl)
abbrev cX0_firms : ByteArray := prog_1_method_95_code
def yX0_firms : MethodName := ⟨RX0, "firms", "()I"⟩
def dkwX0_firms_2 : List UInt8 := [167, 255, 229, 27, 172]
abbrev dktX0_firms_2 : List UInt8 := dkwX0_firms_2 ++ []
def dkwX0_firms_1 : List UInt8 := [163, 0, 25, 27, 42, 28, 182, 1, 108, 154, 0, 7, 4, 167, 0, 4, 3, 96, 60, 132, 2, 1]
abbrev dktX0_firms_1 : List UInt8 := dkwX0_firms_1 ++ dktX0_firms_2
def dkwX0_firms_0 : List UInt8 := [42, 182, 0, 103, 154, 0, 6, 16, 254, 172, 42, 182, 0, 190, 3, 60, 3, 61, 28, 42, 182, 0, 107]
abbrev dktX0_firms_0 : List UInt8 := dkwX0_firms_0 ++ dktX0_firms_1
theorem dksX0_firms_0 : cX0_firms.data.toList.drop 0 = dktX0_firms_0 := by decide +kernel
theorem dksX0_firms_1 : cX0_firms.data.toList.drop 23 = dktX0_firms_1 := dk_seg dksX0_firms_0 23 rfl rfl
theorem dksX0_firms_2 : cX0_firms.data.toList.drop 45 = dktX0_firms_2 := dk_seg dksX0_firms_1 22 rfl rfl
theorem dX0_firms_0 : decode cX0_firms 0 = .ok (.aload_n 0, 1) := dk_42 (dk_at dksX0_firms_0 0 rfl rfl)
theorem dX0_firms_1 : decode cX0_firms 1 = .ok (.invokevirtual 103, 3) := dk_182 0 103 (dk_at dksX0_firms_0 1 rfl rfl)
theorem dX0_firms_4 : decode cX0_firms 4 = .ok (.ifCond .ne 6, 3) := dk_154 0 6 (dk_at dksX0_firms_0 4 rfl rfl)
theorem dX0_firms_7 : decode cX0_firms 7 = .ok (.bipush (-2), 2) := dk_16 254 (dk_at dksX0_firms_0 7 rfl rfl)
theorem dX0_firms_9 : decode cX0_firms 9 = .ok (.ireturn, 1) := dk_172 (dk_at dksX0_firms_0 9 rfl rfl)
theorem dX0_firms_10 : decode cX0_firms 10 = .ok (.aload_n 0, 1) := dk_42 (dk_at dksX0_firms_0 10 rfl rfl)
theorem dX0_firms_11 : decode cX0_firms 11 = .ok (.invokevirtual 190, 3) := dk_182 0 190 (dk_at dksX0_firms_0 11 rfl rfl)
theorem dX0_firms_14 : decode cX0_firms 14 = .ok (.iconst 0, 1) := dk_3 (dk_at dksX0_firms_0 14 rfl rfl)
theorem dX0_firms_15 : decode cX0_firms 15 = .ok (.istore_n 1, 1) := dk_60 (dk_at dksX0_firms_0 15 rfl rfl)
theorem dX0_firms_16 : decode cX0_firms 16 = .ok (.iconst 0, 1) := dk_3 (dk_at dksX0_firms_0 16 rfl rfl)
theorem dX0_firms_17 : decode cX0_firms 17 = .ok (.istore_n 2, 1) := dk_61 (dk_at dksX0_firms_0 17 rfl rfl)
theorem dX0_firms_18 : decode cX0_firms 18 = .ok (.iload_n 2, 1) := dk_28 (dk_at dksX0_firms_0 18 rfl rfl)
theorem dX0_firms_19 : decode cX0_firms 19 = .ok (.aload_n 0, 1) := dk_42 (dk_at dksX0_firms_0 19 rfl rfl)
theorem dX0_firms_20 : decode cX0_firms 20 = .ok (.invokevirtual 107, 3) := dk_182 0 107 (dk_at dksX0_firms_0 20 rfl rfl)
theorem dX0_firms_23 : decode cX0_firms 23 = .ok (.if_icmp .gt 25, 3) := dk_163 0 25 (dk_at dksX0_firms_1 0 rfl rfl)
theorem dX0_firms_26 : decode cX0_firms 26 = .ok (.iload_n 1, 1) := dk_27 (dk_at dksX0_firms_1 3 rfl rfl)
theorem dX0_firms_27 : decode cX0_firms 27 = .ok (.aload_n 0, 1) := dk_42 (dk_at dksX0_firms_1 4 rfl rfl)
theorem dX0_firms_28 : decode cX0_firms 28 = .ok (.iload_n 2, 1) := dk_28 (dk_at dksX0_firms_1 5 rfl rfl)
theorem dX0_firms_29 : decode cX0_firms 29 = .ok (.invokevirtual 364, 3) := dk_182 1 108 (dk_at dksX0_firms_1 6 rfl rfl)
theorem dX0_firms_32 : decode cX0_firms 32 = .ok (.ifCond .ne 7, 3) := dk_154 0 7 (dk_at dksX0_firms_1 9 rfl rfl)
theorem dX0_firms_35 : decode cX0_firms 35 = .ok (.iconst 1, 1) := dk_4 (dk_at dksX0_firms_1 12 rfl rfl)
theorem dX0_firms_36 : decode cX0_firms 36 = .ok (.goto 4, 3) := dk_167 0 4 (dk_at dksX0_firms_1 13 rfl rfl)
theorem dX0_firms_39 : decode cX0_firms 39 = .ok (.iconst 0, 1) := dk_3 (dk_at dksX0_firms_1 16 rfl rfl)
theorem dX0_firms_40 : decode cX0_firms 40 = .ok (.iadd, 1) := dk_96 (dk_at dksX0_firms_1 17 rfl rfl)
theorem dX0_firms_41 : decode cX0_firms 41 = .ok (.istore_n 1, 1) := dk_60 (dk_at dksX0_firms_1 18 rfl rfl)
theorem dX0_firms_42 : decode cX0_firms 42 = .ok (.iinc 2 1, 3) := dk_132 2 1 (dk_at dksX0_firms_1 19 rfl rfl)
theorem dX0_firms_45 : decode cX0_firms 45 = .ok (.goto (-27), 3) := dk_167 255 229 (dk_at dksX0_firms_2 0 rfl rfl)
theorem dX0_firms_48 : decode cX0_firms 48 = .ok (.iload_n 1, 1) := dk_27 (dk_at dksX0_firms_2 3 rfl rfl)
theorem dX0_firms_49 : decode cX0_firms 49 = .ok (.ireturn, 1) := dk_172 (dk_at dksX0_firms_2 4 rfl rfl)
abbrev cX0_firmest : ByteArray := prog_1_method_96_code
def yX0_firmest : MethodName := ⟨RX0, "firmest", "()I"⟩
def dkwX0_firmest_2 : List UInt8 := [167, 0, 4, 27, 60, 132, 2, 1, 167, 255, 220, 27, 172]
abbrev dktX0_firmest_2 : List UInt8 := dkwX0_firmest_2 ++ []
def dkwX0_firmest_1 : List UInt8 := [163, 0, 34, 28, 184, 1, 17, 27, 184, 1, 17, 164, 0, 15, 42, 28, 182, 1, 108, 154, 0, 7, 28]
abbrev dktX0_firmest_1 : List UInt8 := dkwX0_firmest_1 ++ dktX0_firmest_2
def dkwX0_firmest_0 : List UInt8 := [42, 182, 0, 103, 154, 0, 6, 16, 254, 172, 42, 182, 0, 190, 3, 60, 4, 61, 28, 42, 182, 0, 107]
abbrev dktX0_firmest_0 : List UInt8 := dkwX0_firmest_0 ++ dktX0_firmest_1
theorem dksX0_firmest_0 : cX0_firmest.data.toList.drop 0 = dktX0_firmest_0 := by decide +kernel
theorem dksX0_firmest_1 : cX0_firmest.data.toList.drop 23 = dktX0_firmest_1 := dk_seg dksX0_firmest_0 23 rfl rfl
theorem dksX0_firmest_2 : cX0_firmest.data.toList.drop 46 = dktX0_firmest_2 := dk_seg dksX0_firmest_1 23 rfl rfl
theorem dX0_firmest_0 : decode cX0_firmest 0 = .ok (.aload_n 0, 1) := dk_42 (dk_at dksX0_firmest_0 0 rfl rfl)
theorem dX0_firmest_1 : decode cX0_firmest 1 = .ok (.invokevirtual 103, 3) := dk_182 0 103 (dk_at dksX0_firmest_0 1 rfl rfl)
theorem dX0_firmest_4 : decode cX0_firmest 4 = .ok (.ifCond .ne 6, 3) := dk_154 0 6 (dk_at dksX0_firmest_0 4 rfl rfl)
theorem dX0_firmest_7 : decode cX0_firmest 7 = .ok (.bipush (-2), 2) := dk_16 254 (dk_at dksX0_firmest_0 7 rfl rfl)
theorem dX0_firmest_9 : decode cX0_firmest 9 = .ok (.ireturn, 1) := dk_172 (dk_at dksX0_firmest_0 9 rfl rfl)
theorem dX0_firmest_10 : decode cX0_firmest 10 = .ok (.aload_n 0, 1) := dk_42 (dk_at dksX0_firmest_0 10 rfl rfl)
theorem dX0_firmest_11 : decode cX0_firmest 11 = .ok (.invokevirtual 190, 3) := dk_182 0 190 (dk_at dksX0_firmest_0 11 rfl rfl)
theorem dX0_firmest_14 : decode cX0_firmest 14 = .ok (.iconst 0, 1) := dk_3 (dk_at dksX0_firmest_0 14 rfl rfl)
theorem dX0_firmest_15 : decode cX0_firmest 15 = .ok (.istore_n 1, 1) := dk_60 (dk_at dksX0_firmest_0 15 rfl rfl)
theorem dX0_firmest_16 : decode cX0_firmest 16 = .ok (.iconst 1, 1) := dk_4 (dk_at dksX0_firmest_0 16 rfl rfl)
theorem dX0_firmest_17 : decode cX0_firmest 17 = .ok (.istore_n 2, 1) := dk_61 (dk_at dksX0_firmest_0 17 rfl rfl)
theorem dX0_firmest_18 : decode cX0_firmest 18 = .ok (.iload_n 2, 1) := dk_28 (dk_at dksX0_firmest_0 18 rfl rfl)
theorem dX0_firmest_19 : decode cX0_firmest 19 = .ok (.aload_n 0, 1) := dk_42 (dk_at dksX0_firmest_0 19 rfl rfl)
theorem dX0_firmest_20 : decode cX0_firmest 20 = .ok (.invokevirtual 107, 3) := dk_182 0 107 (dk_at dksX0_firmest_0 20 rfl rfl)
theorem dX0_firmest_23 : decode cX0_firmest 23 = .ok (.if_icmp .gt 34, 3) := dk_163 0 34 (dk_at dksX0_firmest_1 0 rfl rfl)
theorem dX0_firmest_26 : decode cX0_firmest 26 = .ok (.iload_n 2, 1) := dk_28 (dk_at dksX0_firmest_1 3 rfl rfl)
theorem dX0_firmest_27 : decode cX0_firmest 27 = .ok (.invokestatic 273, 3) := dk_184 1 17 (dk_at dksX0_firmest_1 4 rfl rfl)
theorem dX0_firmest_30 : decode cX0_firmest 30 = .ok (.iload_n 1, 1) := dk_27 (dk_at dksX0_firmest_1 7 rfl rfl)
theorem dX0_firmest_31 : decode cX0_firmest 31 = .ok (.invokestatic 273, 3) := dk_184 1 17 (dk_at dksX0_firmest_1 8 rfl rfl)
theorem dX0_firmest_34 : decode cX0_firmest 34 = .ok (.if_icmp .le 15, 3) := dk_164 0 15 (dk_at dksX0_firmest_1 11 rfl rfl)
theorem dX0_firmest_37 : decode cX0_firmest 37 = .ok (.aload_n 0, 1) := dk_42 (dk_at dksX0_firmest_1 14 rfl rfl)
theorem dX0_firmest_38 : decode cX0_firmest 38 = .ok (.iload_n 2, 1) := dk_28 (dk_at dksX0_firmest_1 15 rfl rfl)
theorem dX0_firmest_39 : decode cX0_firmest 39 = .ok (.invokevirtual 364, 3) := dk_182 1 108 (dk_at dksX0_firmest_1 16 rfl rfl)
theorem dX0_firmest_42 : decode cX0_firmest 42 = .ok (.ifCond .ne 7, 3) := dk_154 0 7 (dk_at dksX0_firmest_1 19 rfl rfl)
theorem dX0_firmest_45 : decode cX0_firmest 45 = .ok (.iload_n 2, 1) := dk_28 (dk_at dksX0_firmest_1 22 rfl rfl)
theorem dX0_firmest_46 : decode cX0_firmest 46 = .ok (.goto 4, 3) := dk_167 0 4 (dk_at dksX0_firmest_2 0 rfl rfl)
theorem dX0_firmest_49 : decode cX0_firmest 49 = .ok (.iload_n 1, 1) := dk_27 (dk_at dksX0_firmest_2 3 rfl rfl)
theorem dX0_firmest_50 : decode cX0_firmest 50 = .ok (.istore_n 1, 1) := dk_60 (dk_at dksX0_firmest_2 4 rfl rfl)
theorem dX0_firmest_51 : decode cX0_firmest 51 = .ok (.iinc 2 1, 3) := dk_132 2 1 (dk_at dksX0_firmest_2 5 rfl rfl)
theorem dX0_firmest_54 : decode cX0_firmest 54 = .ok (.goto (-36), 3) := dk_167 255 220 (dk_at dksX0_firmest_2 8 rfl rfl)
theorem dX0_firmest_57 : decode cX0_firmest 57 = .ok (.iload_n 1, 1) := dk_27 (dk_at dksX0_firmest_2 11 rfl rfl)
theorem dX0_firmest_58 : decode cX0_firmest 58 = .ok (.ireturn, 1) := dk_172 (dk_at dksX0_firmest_2 12 rfl rfl)
abbrev cX0_wins : ByteArray := prog_1_method_97_code
def yX0_wins : MethodName := ⟨RX0, "wins", "(II)I"⟩
def dkwX0_wins_1 : List UInt8 := [154, 0, 7, 17, 216, 240, 172, 42, 182, 0, 190, 42, 27, 28, 182, 1, 102, 172]
abbrev dktX0_wins_1 : List UInt8 := dkwX0_wins_1 ++ []
def dkwX0_wins_0 : List UInt8 := [42, 27, 182, 1, 105, 153, 0, 20, 42, 28, 133, 182, 0, 186, 153, 0, 11, 27, 28, 184, 0, 114]
abbrev dktX0_wins_0 : List UInt8 := dkwX0_wins_0 ++ dktX0_wins_1
theorem dksX0_wins_0 : cX0_wins.data.toList.drop 0 = dktX0_wins_0 := by decide +kernel
theorem dksX0_wins_1 : cX0_wins.data.toList.drop 22 = dktX0_wins_1 := dk_seg dksX0_wins_0 22 rfl rfl
theorem dX0_wins_0 : decode cX0_wins 0 = .ok (.aload_n 0, 1) := dk_42 (dk_at dksX0_wins_0 0 rfl rfl)
theorem dX0_wins_1 : decode cX0_wins 1 = .ok (.iload_n 1, 1) := dk_27 (dk_at dksX0_wins_0 1 rfl rfl)
theorem dX0_wins_2 : decode cX0_wins 2 = .ok (.invokevirtual 361, 3) := dk_182 1 105 (dk_at dksX0_wins_0 2 rfl rfl)
theorem dX0_wins_5 : decode cX0_wins 5 = .ok (.ifCond .eq 20, 3) := dk_153 0 20 (dk_at dksX0_wins_0 5 rfl rfl)
theorem dX0_wins_8 : decode cX0_wins 8 = .ok (.aload_n 0, 1) := dk_42 (dk_at dksX0_wins_0 8 rfl rfl)
theorem dX0_wins_9 : decode cX0_wins 9 = .ok (.iload_n 2, 1) := dk_28 (dk_at dksX0_wins_0 9 rfl rfl)
theorem dX0_wins_10 : decode cX0_wins 10 = .ok (.i2l, 1) := dk_133 (dk_at dksX0_wins_0 10 rfl rfl)
theorem dX0_wins_11 : decode cX0_wins 11 = .ok (.invokevirtual 186, 3) := dk_182 0 186 (dk_at dksX0_wins_0 11 rfl rfl)
theorem dX0_wins_14 : decode cX0_wins 14 = .ok (.ifCond .eq 11, 3) := dk_153 0 11 (dk_at dksX0_wins_0 14 rfl rfl)
theorem dX0_wins_17 : decode cX0_wins 17 = .ok (.iload_n 1, 1) := dk_27 (dk_at dksX0_wins_0 17 rfl rfl)
theorem dX0_wins_18 : decode cX0_wins 18 = .ok (.iload_n 2, 1) := dk_28 (dk_at dksX0_wins_0 18 rfl rfl)
theorem dX0_wins_19 : decode cX0_wins 19 = .ok (.invokestatic 114, 3) := dk_184 0 114 (dk_at dksX0_wins_0 19 rfl rfl)
theorem dX0_wins_22 : decode cX0_wins 22 = .ok (.ifCond .ne 7, 3) := dk_154 0 7 (dk_at dksX0_wins_1 0 rfl rfl)
theorem dX0_wins_25 : decode cX0_wins 25 = .ok (.sipush (-10000), 3) := dk_17 216 240 (dk_at dksX0_wins_1 3 rfl rfl)
theorem dX0_wins_28 : decode cX0_wins 28 = .ok (.ireturn, 1) := dk_172 (dk_at dksX0_wins_1 6 rfl rfl)
theorem dX0_wins_29 : decode cX0_wins 29 = .ok (.aload_n 0, 1) := dk_42 (dk_at dksX0_wins_1 7 rfl rfl)
theorem dX0_wins_30 : decode cX0_wins 30 = .ok (.invokevirtual 190, 3) := dk_182 0 190 (dk_at dksX0_wins_1 8 rfl rfl)
theorem dX0_wins_33 : decode cX0_wins 33 = .ok (.aload_n 0, 1) := dk_42 (dk_at dksX0_wins_1 11 rfl rfl)
theorem dX0_wins_34 : decode cX0_wins 34 = .ok (.iload_n 1, 1) := dk_27 (dk_at dksX0_wins_1 12 rfl rfl)
theorem dX0_wins_35 : decode cX0_wins 35 = .ok (.iload_n 2, 1) := dk_28 (dk_at dksX0_wins_1 13 rfl rfl)
theorem dX0_wins_36 : decode cX0_wins 36 = .ok (.invokevirtual 358, 3) := dk_182 1 102 (dk_at dksX0_wins_1 14 rfl rfl)
theorem dX0_wins_39 : decode cX0_wins 39 = .ok (.ireturn, 1) := dk_172 (dk_at dksX0_wins_1 17 rfl rfl)
abbrev cX0_leave : ByteArray := prog_1_method_98_code
def yX0_leave : MethodName := ⟨RX0, "leave", "(I)I"⟩
def dkwX0_leave_0 : List UInt8 := [42, 27, 182, 1, 105, 154, 0, 6, 16, 254, 172, 42, 182, 0, 190, 42, 27, 182, 1, 108, 172]
abbrev dktX0_leave_0 : List UInt8 := dkwX0_leave_0 ++ []
theorem dksX0_leave_0 : cX0_leave.data.toList.drop 0 = dktX0_leave_0 := by decide +kernel
theorem dX0_leave_0 : decode cX0_leave 0 = .ok (.aload_n 0, 1) := dk_42 (dk_at dksX0_leave_0 0 rfl rfl)
theorem dX0_leave_1 : decode cX0_leave 1 = .ok (.iload_n 1, 1) := dk_27 (dk_at dksX0_leave_0 1 rfl rfl)
theorem dX0_leave_2 : decode cX0_leave 2 = .ok (.invokevirtual 361, 3) := dk_182 1 105 (dk_at dksX0_leave_0 2 rfl rfl)
theorem dX0_leave_5 : decode cX0_leave 5 = .ok (.ifCond .ne 6, 3) := dk_154 0 6 (dk_at dksX0_leave_0 5 rfl rfl)
theorem dX0_leave_8 : decode cX0_leave 8 = .ok (.bipush (-2), 2) := dk_16 254 (dk_at dksX0_leave_0 8 rfl rfl)
theorem dX0_leave_10 : decode cX0_leave 10 = .ok (.ireturn, 1) := dk_172 (dk_at dksX0_leave_0 10 rfl rfl)
theorem dX0_leave_11 : decode cX0_leave 11 = .ok (.aload_n 0, 1) := dk_42 (dk_at dksX0_leave_0 11 rfl rfl)
theorem dX0_leave_12 : decode cX0_leave 12 = .ok (.invokevirtual 190, 3) := dk_182 0 190 (dk_at dksX0_leave_0 12 rfl rfl)
theorem dX0_leave_15 : decode cX0_leave 15 = .ok (.aload_n 0, 1) := dk_42 (dk_at dksX0_leave_0 15 rfl rfl)
theorem dX0_leave_16 : decode cX0_leave 16 = .ok (.iload_n 1, 1) := dk_27 (dk_at dksX0_leave_0 16 rfl rfl)
theorem dX0_leave_17 : decode cX0_leave 17 = .ok (.invokevirtual 364, 3) := dk_182 1 108 (dk_at dksX0_leave_0 17 rfl rfl)
theorem dX0_leave_20 : decode cX0_leave 20 = .ok (.ireturn, 1) := dk_172 (dk_at dksX0_leave_0 20 rfl rfl)
abbrev cX0_ransom : ByteArray := prog_1_method_100_code
def yX0_ransom : MethodName := ⟨RX0, "ransom", "(II)I"⟩
def dkwX0_ransom_2 : List UInt8 := [180, 0, 193, 29, 46, 172]
abbrev dktX0_ransom_2 : List UInt8 := dkwX0_ransom_2 ++ []
def dkwX0_ransom_1 : List UInt8 := [182, 0, 190, 42, 27, 28, 182, 1, 111, 62, 29, 2, 160, 0, 7, 2, 167, 0, 12, 42, 180, 0, 12]
abbrev dktX0_ransom_1 : List UInt8 := dkwX0_ransom_1 ++ dktX0_ransom_2
def dkwX0_ransom_0 : List UInt8 := [42, 27, 133, 182, 0, 186, 153, 0, 12, 42, 28, 133, 182, 0, 186, 154, 0, 6, 16, 254, 172, 42]
abbrev dktX0_ransom_0 : List UInt8 := dkwX0_ransom_0 ++ dktX0_ransom_1
theorem dksX0_ransom_0 : cX0_ransom.data.toList.drop 0 = dktX0_ransom_0 := by decide +kernel
theorem dksX0_ransom_1 : cX0_ransom.data.toList.drop 22 = dktX0_ransom_1 := dk_seg dksX0_ransom_0 22 rfl rfl
theorem dksX0_ransom_2 : cX0_ransom.data.toList.drop 45 = dktX0_ransom_2 := dk_seg dksX0_ransom_1 23 rfl rfl
theorem dX0_ransom_0 : decode cX0_ransom 0 = .ok (.aload_n 0, 1) := dk_42 (dk_at dksX0_ransom_0 0 rfl rfl)
theorem dX0_ransom_1 : decode cX0_ransom 1 = .ok (.iload_n 1, 1) := dk_27 (dk_at dksX0_ransom_0 1 rfl rfl)
theorem dX0_ransom_2 : decode cX0_ransom 2 = .ok (.i2l, 1) := dk_133 (dk_at dksX0_ransom_0 2 rfl rfl)
theorem dX0_ransom_3 : decode cX0_ransom 3 = .ok (.invokevirtual 186, 3) := dk_182 0 186 (dk_at dksX0_ransom_0 3 rfl rfl)
theorem dX0_ransom_6 : decode cX0_ransom 6 = .ok (.ifCond .eq 12, 3) := dk_153 0 12 (dk_at dksX0_ransom_0 6 rfl rfl)
theorem dX0_ransom_9 : decode cX0_ransom 9 = .ok (.aload_n 0, 1) := dk_42 (dk_at dksX0_ransom_0 9 rfl rfl)
theorem dX0_ransom_10 : decode cX0_ransom 10 = .ok (.iload_n 2, 1) := dk_28 (dk_at dksX0_ransom_0 10 rfl rfl)
theorem dX0_ransom_11 : decode cX0_ransom 11 = .ok (.i2l, 1) := dk_133 (dk_at dksX0_ransom_0 11 rfl rfl)
theorem dX0_ransom_12 : decode cX0_ransom 12 = .ok (.invokevirtual 186, 3) := dk_182 0 186 (dk_at dksX0_ransom_0 12 rfl rfl)
theorem dX0_ransom_15 : decode cX0_ransom 15 = .ok (.ifCond .ne 6, 3) := dk_154 0 6 (dk_at dksX0_ransom_0 15 rfl rfl)
theorem dX0_ransom_18 : decode cX0_ransom 18 = .ok (.bipush (-2), 2) := dk_16 254 (dk_at dksX0_ransom_0 18 rfl rfl)
theorem dX0_ransom_20 : decode cX0_ransom 20 = .ok (.ireturn, 1) := dk_172 (dk_at dksX0_ransom_0 20 rfl rfl)
theorem dX0_ransom_21 : decode cX0_ransom 21 = .ok (.aload_n 0, 1) := dk_42 (dk_at dksX0_ransom_0 21 rfl rfl)
theorem dX0_ransom_22 : decode cX0_ransom 22 = .ok (.invokevirtual 190, 3) := dk_182 0 190 (dk_at dksX0_ransom_1 0 rfl rfl)
theorem dX0_ransom_25 : decode cX0_ransom 25 = .ok (.aload_n 0, 1) := dk_42 (dk_at dksX0_ransom_1 3 rfl rfl)
theorem dX0_ransom_26 : decode cX0_ransom 26 = .ok (.iload_n 1, 1) := dk_27 (dk_at dksX0_ransom_1 4 rfl rfl)
theorem dX0_ransom_27 : decode cX0_ransom 27 = .ok (.iload_n 2, 1) := dk_28 (dk_at dksX0_ransom_1 5 rfl rfl)
theorem dX0_ransom_28 : decode cX0_ransom 28 = .ok (.invokevirtual 367, 3) := dk_182 1 111 (dk_at dksX0_ransom_1 6 rfl rfl)
theorem dX0_ransom_31 : decode cX0_ransom 31 = .ok (.istore_n 3, 1) := dk_62 (dk_at dksX0_ransom_1 9 rfl rfl)
theorem dX0_ransom_32 : decode cX0_ransom 32 = .ok (.iload_n 3, 1) := dk_29 (dk_at dksX0_ransom_1 10 rfl rfl)
theorem dX0_ransom_33 : decode cX0_ransom 33 = .ok (.iconst (-1), 1) := dk_2 (dk_at dksX0_ransom_1 11 rfl rfl)
theorem dX0_ransom_34 : decode cX0_ransom 34 = .ok (.if_icmp .ne 7, 3) := dk_160 0 7 (dk_at dksX0_ransom_1 12 rfl rfl)
theorem dX0_ransom_37 : decode cX0_ransom 37 = .ok (.iconst (-1), 1) := dk_2 (dk_at dksX0_ransom_1 15 rfl rfl)
theorem dX0_ransom_38 : decode cX0_ransom 38 = .ok (.goto 12, 3) := dk_167 0 12 (dk_at dksX0_ransom_1 16 rfl rfl)
theorem dX0_ransom_41 : decode cX0_ransom 41 = .ok (.aload_n 0, 1) := dk_42 (dk_at dksX0_ransom_1 19 rfl rfl)
theorem dX0_ransom_42 : decode cX0_ransom 42 = .ok (.getfield 12, 3) := dk_180 0 12 (dk_at dksX0_ransom_1 20 rfl rfl)
theorem dX0_ransom_45 : decode cX0_ransom 45 = .ok (.getfield 193, 3) := dk_180 0 193 (dk_at dksX0_ransom_2 0 rfl rfl)
theorem dX0_ransom_48 : decode cX0_ransom 48 = .ok (.iload_n 3, 1) := dk_29 (dk_at dksX0_ransom_2 3 rfl rfl)
theorem dX0_ransom_49 : decode cX0_ransom 49 = .ok (.iaload, 1) := dk_46 (dk_at dksX0_ransom_2 4 rfl rfl)
theorem dX0_ransom_50 : decode cX0_ransom 50 = .ok (.ireturn, 1) := dk_172 (dk_at dksX0_ransom_2 5 rfl rfl)
abbrev cX0_ransomOf : ByteArray := prog_1_method_99_code
def yX0_ransomOf : MethodName := ⟨RX0, "ransomOf", "(II)I"⟩
def dkwX0_ransomOf_4 : List UInt8 := [29, 172]
abbrev dktX0_ransomOf_4 : List UInt8 := dkwX0_ransomOf_4 ++ []
def dkwX0_ransomOf_3 : List UInt8 := [160, 0, 12, 21, 4, 29, 162, 0, 6, 21, 4, 62, 42, 180, 0, 24, 21, 4, 46, 54, 4, 167, 255, 188]
abbrev dktX0_ransomOf_3 : List UInt8 := dkwX0_ransomOf_3 ++ dktX0_ransomOf_4
def dkwX0_ransomOf_2 : List UInt8 := [161, 0, 31, 42, 180, 0, 12, 180, 0, 193, 21, 4, 46, 42, 180, 0, 12, 180, 0, 193, 29, 46]
abbrev dktX0_ransomOf_2 : List UInt8 := dkwX0_ransomOf_2 ++ dktX0_ransomOf_3
def dkwX0_ransomOf_1 : List UInt8 := [27, 159, 0, 68, 42, 180, 0, 12, 180, 0, 193, 21, 4, 46, 42, 180, 0, 12, 180, 0, 193, 29, 46]
abbrev dktX0_ransomOf_1 : List UInt8 := dkwX0_ransomOf_1 ++ dktX0_ransomOf_2
def dkwX0_ransomOf_0 : List UInt8 := [42, 27, 28, 182, 0, 214, 2, 160, 0, 5, 2, 172, 28, 62, 42, 180, 0, 24, 28, 46, 54, 4, 21, 4]
abbrev dktX0_ransomOf_0 : List UInt8 := dkwX0_ransomOf_0 ++ dktX0_ransomOf_1
theorem dksX0_ransomOf_0 : cX0_ransomOf.data.toList.drop 0 = dktX0_ransomOf_0 := by decide +kernel
theorem dksX0_ransomOf_1 : cX0_ransomOf.data.toList.drop 24 = dktX0_ransomOf_1 := dk_seg dksX0_ransomOf_0 24 rfl rfl
theorem dksX0_ransomOf_2 : cX0_ransomOf.data.toList.drop 47 = dktX0_ransomOf_2 := dk_seg dksX0_ransomOf_1 23 rfl rfl
theorem dksX0_ransomOf_3 : cX0_ransomOf.data.toList.drop 69 = dktX0_ransomOf_3 := dk_seg dksX0_ransomOf_2 22 rfl rfl
theorem dksX0_ransomOf_4 : cX0_ransomOf.data.toList.drop 93 = dktX0_ransomOf_4 := dk_seg dksX0_ransomOf_3 24 rfl rfl
theorem dX0_ransomOf_0 : decode cX0_ransomOf 0 = .ok (.aload_n 0, 1) := dk_42 (dk_at dksX0_ransomOf_0 0 rfl rfl)
theorem dX0_ransomOf_1 : decode cX0_ransomOf 1 = .ok (.iload_n 1, 1) := dk_27 (dk_at dksX0_ransomOf_0 1 rfl rfl)
theorem dX0_ransomOf_2 : decode cX0_ransomOf 2 = .ok (.iload_n 2, 1) := dk_28 (dk_at dksX0_ransomOf_0 2 rfl rfl)
theorem dX0_ransomOf_3 : decode cX0_ransomOf 3 = .ok (.invokevirtual 214, 3) := dk_182 0 214 (dk_at dksX0_ransomOf_0 3 rfl rfl)
theorem dX0_ransomOf_6 : decode cX0_ransomOf 6 = .ok (.iconst (-1), 1) := dk_2 (dk_at dksX0_ransomOf_0 6 rfl rfl)
theorem dX0_ransomOf_7 : decode cX0_ransomOf 7 = .ok (.if_icmp .ne 5, 3) := dk_160 0 5 (dk_at dksX0_ransomOf_0 7 rfl rfl)
theorem dX0_ransomOf_10 : decode cX0_ransomOf 10 = .ok (.iconst (-1), 1) := dk_2 (dk_at dksX0_ransomOf_0 10 rfl rfl)
theorem dX0_ransomOf_11 : decode cX0_ransomOf 11 = .ok (.ireturn, 1) := dk_172 (dk_at dksX0_ransomOf_0 11 rfl rfl)
theorem dX0_ransomOf_12 : decode cX0_ransomOf 12 = .ok (.iload_n 2, 1) := dk_28 (dk_at dksX0_ransomOf_0 12 rfl rfl)
theorem dX0_ransomOf_13 : decode cX0_ransomOf 13 = .ok (.istore_n 3, 1) := dk_62 (dk_at dksX0_ransomOf_0 13 rfl rfl)
theorem dX0_ransomOf_14 : decode cX0_ransomOf 14 = .ok (.aload_n 0, 1) := dk_42 (dk_at dksX0_ransomOf_0 14 rfl rfl)
theorem dX0_ransomOf_15 : decode cX0_ransomOf 15 = .ok (.getfield 24, 3) := dk_180 0 24 (dk_at dksX0_ransomOf_0 15 rfl rfl)
theorem dX0_ransomOf_18 : decode cX0_ransomOf 18 = .ok (.iload_n 2, 1) := dk_28 (dk_at dksX0_ransomOf_0 18 rfl rfl)
theorem dX0_ransomOf_19 : decode cX0_ransomOf 19 = .ok (.iaload, 1) := dk_46 (dk_at dksX0_ransomOf_0 19 rfl rfl)
theorem dX0_ransomOf_20 : decode cX0_ransomOf 20 = .ok (.istore 4, 2) := dk_54 4 (dk_at dksX0_ransomOf_0 20 rfl rfl)
theorem dX0_ransomOf_22 : decode cX0_ransomOf 22 = .ok (.iload 4, 2) := dk_21 4 (dk_at dksX0_ransomOf_0 22 rfl rfl)
theorem dX0_ransomOf_24 : decode cX0_ransomOf 24 = .ok (.iload_n 1, 1) := dk_27 (dk_at dksX0_ransomOf_1 0 rfl rfl)
theorem dX0_ransomOf_25 : decode cX0_ransomOf 25 = .ok (.if_icmp .eq 68, 3) := dk_159 0 68 (dk_at dksX0_ransomOf_1 1 rfl rfl)
theorem dX0_ransomOf_28 : decode cX0_ransomOf 28 = .ok (.aload_n 0, 1) := dk_42 (dk_at dksX0_ransomOf_1 4 rfl rfl)
theorem dX0_ransomOf_29 : decode cX0_ransomOf 29 = .ok (.getfield 12, 3) := dk_180 0 12 (dk_at dksX0_ransomOf_1 5 rfl rfl)
theorem dX0_ransomOf_32 : decode cX0_ransomOf 32 = .ok (.getfield 193, 3) := dk_180 0 193 (dk_at dksX0_ransomOf_1 8 rfl rfl)
theorem dX0_ransomOf_35 : decode cX0_ransomOf 35 = .ok (.iload 4, 2) := dk_21 4 (dk_at dksX0_ransomOf_1 11 rfl rfl)
theorem dX0_ransomOf_37 : decode cX0_ransomOf 37 = .ok (.iaload, 1) := dk_46 (dk_at dksX0_ransomOf_1 13 rfl rfl)
theorem dX0_ransomOf_38 : decode cX0_ransomOf 38 = .ok (.aload_n 0, 1) := dk_42 (dk_at dksX0_ransomOf_1 14 rfl rfl)
theorem dX0_ransomOf_39 : decode cX0_ransomOf 39 = .ok (.getfield 12, 3) := dk_180 0 12 (dk_at dksX0_ransomOf_1 15 rfl rfl)
theorem dX0_ransomOf_42 : decode cX0_ransomOf 42 = .ok (.getfield 193, 3) := dk_180 0 193 (dk_at dksX0_ransomOf_1 18 rfl rfl)
theorem dX0_ransomOf_45 : decode cX0_ransomOf 45 = .ok (.iload_n 3, 1) := dk_29 (dk_at dksX0_ransomOf_1 21 rfl rfl)
theorem dX0_ransomOf_46 : decode cX0_ransomOf 46 = .ok (.iaload, 1) := dk_46 (dk_at dksX0_ransomOf_1 22 rfl rfl)
theorem dX0_ransomOf_47 : decode cX0_ransomOf 47 = .ok (.if_icmp .lt 31, 3) := dk_161 0 31 (dk_at dksX0_ransomOf_2 0 rfl rfl)
theorem dX0_ransomOf_50 : decode cX0_ransomOf 50 = .ok (.aload_n 0, 1) := dk_42 (dk_at dksX0_ransomOf_2 3 rfl rfl)
theorem dX0_ransomOf_51 : decode cX0_ransomOf 51 = .ok (.getfield 12, 3) := dk_180 0 12 (dk_at dksX0_ransomOf_2 4 rfl rfl)
theorem dX0_ransomOf_54 : decode cX0_ransomOf 54 = .ok (.getfield 193, 3) := dk_180 0 193 (dk_at dksX0_ransomOf_2 7 rfl rfl)
theorem dX0_ransomOf_57 : decode cX0_ransomOf 57 = .ok (.iload 4, 2) := dk_21 4 (dk_at dksX0_ransomOf_2 10 rfl rfl)
theorem dX0_ransomOf_59 : decode cX0_ransomOf 59 = .ok (.iaload, 1) := dk_46 (dk_at dksX0_ransomOf_2 12 rfl rfl)
theorem dX0_ransomOf_60 : decode cX0_ransomOf 60 = .ok (.aload_n 0, 1) := dk_42 (dk_at dksX0_ransomOf_2 13 rfl rfl)
theorem dX0_ransomOf_61 : decode cX0_ransomOf 61 = .ok (.getfield 12, 3) := dk_180 0 12 (dk_at dksX0_ransomOf_2 14 rfl rfl)
theorem dX0_ransomOf_64 : decode cX0_ransomOf 64 = .ok (.getfield 193, 3) := dk_180 0 193 (dk_at dksX0_ransomOf_2 17 rfl rfl)
theorem dX0_ransomOf_67 : decode cX0_ransomOf 67 = .ok (.iload_n 3, 1) := dk_29 (dk_at dksX0_ransomOf_2 20 rfl rfl)
theorem dX0_ransomOf_68 : decode cX0_ransomOf 68 = .ok (.iaload, 1) := dk_46 (dk_at dksX0_ransomOf_2 21 rfl rfl)
theorem dX0_ransomOf_69 : decode cX0_ransomOf 69 = .ok (.if_icmp .ne 12, 3) := dk_160 0 12 (dk_at dksX0_ransomOf_3 0 rfl rfl)
theorem dX0_ransomOf_72 : decode cX0_ransomOf 72 = .ok (.iload 4, 2) := dk_21 4 (dk_at dksX0_ransomOf_3 3 rfl rfl)
theorem dX0_ransomOf_74 : decode cX0_ransomOf 74 = .ok (.iload_n 3, 1) := dk_29 (dk_at dksX0_ransomOf_3 5 rfl rfl)
theorem dX0_ransomOf_75 : decode cX0_ransomOf 75 = .ok (.if_icmp .ge 6, 3) := dk_162 0 6 (dk_at dksX0_ransomOf_3 6 rfl rfl)
theorem dX0_ransomOf_78 : decode cX0_ransomOf 78 = .ok (.iload 4, 2) := dk_21 4 (dk_at dksX0_ransomOf_3 9 rfl rfl)
theorem dX0_ransomOf_80 : decode cX0_ransomOf 80 = .ok (.istore_n 3, 1) := dk_62 (dk_at dksX0_ransomOf_3 11 rfl rfl)
theorem dX0_ransomOf_81 : decode cX0_ransomOf 81 = .ok (.aload_n 0, 1) := dk_42 (dk_at dksX0_ransomOf_3 12 rfl rfl)
theorem dX0_ransomOf_82 : decode cX0_ransomOf 82 = .ok (.getfield 24, 3) := dk_180 0 24 (dk_at dksX0_ransomOf_3 13 rfl rfl)
theorem dX0_ransomOf_85 : decode cX0_ransomOf 85 = .ok (.iload 4, 2) := dk_21 4 (dk_at dksX0_ransomOf_3 16 rfl rfl)
theorem dX0_ransomOf_87 : decode cX0_ransomOf 87 = .ok (.iaload, 1) := dk_46 (dk_at dksX0_ransomOf_3 18 rfl rfl)
theorem dX0_ransomOf_88 : decode cX0_ransomOf 88 = .ok (.istore 4, 2) := dk_54 4 (dk_at dksX0_ransomOf_3 19 rfl rfl)
theorem dX0_ransomOf_90 : decode cX0_ransomOf 90 = .ok (.goto (-68), 3) := dk_167 255 188 (dk_at dksX0_ransomOf_3 21 rfl rfl)
theorem dX0_ransomOf_93 : decode cX0_ransomOf 93 = .ok (.iload_n 3, 1) := dk_29 (dk_at dksX0_ransomOf_4 0 rfl rfl)
theorem dX0_ransomOf_94 : decode cX0_ransomOf 94 = .ok (.ireturn, 1) := dk_172 (dk_at dksX0_ransomOf_4 1 rfl rfl)
abbrev cX0_ransomed : ByteArray := prog_1_method_101_code
def yX0_ransomed : MethodName := ⟨RX0, "ransomed", "(II)I"⟩
def dkwX0_ransomed_1 : List UInt8 := [182, 0, 190, 42, 27, 28, 182, 1, 111, 172]
abbrev dktX0_ransomed_1 : List UInt8 := dkwX0_ransomed_1 ++ []
def dkwX0_ransomed_0 : List UInt8 := [42, 27, 133, 182, 0, 186, 153, 0, 12, 42, 28, 133, 182, 0, 186, 154, 0, 6, 16, 254, 172, 42]
abbrev dktX0_ransomed_0 : List UInt8 := dkwX0_ransomed_0 ++ dktX0_ransomed_1
theorem dksX0_ransomed_0 : cX0_ransomed.data.toList.drop 0 = dktX0_ransomed_0 := by decide +kernel
theorem dksX0_ransomed_1 : cX0_ransomed.data.toList.drop 22 = dktX0_ransomed_1 := dk_seg dksX0_ransomed_0 22 rfl rfl
theorem dX0_ransomed_0 : decode cX0_ransomed 0 = .ok (.aload_n 0, 1) := dk_42 (dk_at dksX0_ransomed_0 0 rfl rfl)
theorem dX0_ransomed_1 : decode cX0_ransomed 1 = .ok (.iload_n 1, 1) := dk_27 (dk_at dksX0_ransomed_0 1 rfl rfl)
theorem dX0_ransomed_2 : decode cX0_ransomed 2 = .ok (.i2l, 1) := dk_133 (dk_at dksX0_ransomed_0 2 rfl rfl)
theorem dX0_ransomed_3 : decode cX0_ransomed 3 = .ok (.invokevirtual 186, 3) := dk_182 0 186 (dk_at dksX0_ransomed_0 3 rfl rfl)
theorem dX0_ransomed_6 : decode cX0_ransomed 6 = .ok (.ifCond .eq 12, 3) := dk_153 0 12 (dk_at dksX0_ransomed_0 6 rfl rfl)
theorem dX0_ransomed_9 : decode cX0_ransomed 9 = .ok (.aload_n 0, 1) := dk_42 (dk_at dksX0_ransomed_0 9 rfl rfl)
theorem dX0_ransomed_10 : decode cX0_ransomed 10 = .ok (.iload_n 2, 1) := dk_28 (dk_at dksX0_ransomed_0 10 rfl rfl)
theorem dX0_ransomed_11 : decode cX0_ransomed 11 = .ok (.i2l, 1) := dk_133 (dk_at dksX0_ransomed_0 11 rfl rfl)
theorem dX0_ransomed_12 : decode cX0_ransomed 12 = .ok (.invokevirtual 186, 3) := dk_182 0 186 (dk_at dksX0_ransomed_0 12 rfl rfl)
theorem dX0_ransomed_15 : decode cX0_ransomed 15 = .ok (.ifCond .ne 6, 3) := dk_154 0 6 (dk_at dksX0_ransomed_0 15 rfl rfl)
theorem dX0_ransomed_18 : decode cX0_ransomed 18 = .ok (.bipush (-2), 2) := dk_16 254 (dk_at dksX0_ransomed_0 18 rfl rfl)
theorem dX0_ransomed_20 : decode cX0_ransomed 20 = .ok (.ireturn, 1) := dk_172 (dk_at dksX0_ransomed_0 20 rfl rfl)
theorem dX0_ransomed_21 : decode cX0_ransomed 21 = .ok (.aload_n 0, 1) := dk_42 (dk_at dksX0_ransomed_0 21 rfl rfl)
theorem dX0_ransomed_22 : decode cX0_ransomed 22 = .ok (.invokevirtual 190, 3) := dk_182 0 190 (dk_at dksX0_ransomed_1 0 rfl rfl)
theorem dX0_ransomed_25 : decode cX0_ransomed 25 = .ok (.aload_n 0, 1) := dk_42 (dk_at dksX0_ransomed_1 3 rfl rfl)
theorem dX0_ransomed_26 : decode cX0_ransomed 26 = .ok (.iload_n 1, 1) := dk_27 (dk_at dksX0_ransomed_1 4 rfl rfl)
theorem dX0_ransomed_27 : decode cX0_ransomed 27 = .ok (.iload_n 2, 1) := dk_28 (dk_at dksX0_ransomed_1 5 rfl rfl)
theorem dX0_ransomed_28 : decode cX0_ransomed 28 = .ok (.invokevirtual 367, 3) := dk_182 1 111 (dk_at dksX0_ransomed_1 6 rfl rfl)
theorem dX0_ransomed_31 : decode cX0_ransomed 31 = .ok (.ireturn, 1) := dk_172 (dk_at dksX0_ransomed_1 9 rfl rfl)
abbrev cX0_power : ByteArray := prog_1_method_103_code
def yX0_power : MethodName := ⟨RX0, "power", "(I)I"⟩
def dkwX0_power_0 : List UInt8 := [42, 27, 133, 182, 0, 186, 154, 0, 6, 16, 254, 172, 42, 182, 0, 190, 42, 27, 182, 1, 114, 172]
abbrev dktX0_power_0 : List UInt8 := dkwX0_power_0 ++ []
theorem dksX0_power_0 : cX0_power.data.toList.drop 0 = dktX0_power_0 := by decide +kernel
theorem dX0_power_0 : decode cX0_power 0 = .ok (.aload_n 0, 1) := dk_42 (dk_at dksX0_power_0 0 rfl rfl)
theorem dX0_power_1 : decode cX0_power 1 = .ok (.iload_n 1, 1) := dk_27 (dk_at dksX0_power_0 1 rfl rfl)
theorem dX0_power_2 : decode cX0_power 2 = .ok (.i2l, 1) := dk_133 (dk_at dksX0_power_0 2 rfl rfl)
theorem dX0_power_3 : decode cX0_power 3 = .ok (.invokevirtual 186, 3) := dk_182 0 186 (dk_at dksX0_power_0 3 rfl rfl)
theorem dX0_power_6 : decode cX0_power 6 = .ok (.ifCond .ne 6, 3) := dk_154 0 6 (dk_at dksX0_power_0 6 rfl rfl)
theorem dX0_power_9 : decode cX0_power 9 = .ok (.bipush (-2), 2) := dk_16 254 (dk_at dksX0_power_0 9 rfl rfl)
theorem dX0_power_11 : decode cX0_power 11 = .ok (.ireturn, 1) := dk_172 (dk_at dksX0_power_0 11 rfl rfl)
theorem dX0_power_12 : decode cX0_power 12 = .ok (.aload_n 0, 1) := dk_42 (dk_at dksX0_power_0 12 rfl rfl)
theorem dX0_power_13 : decode cX0_power 13 = .ok (.invokevirtual 190, 3) := dk_182 0 190 (dk_at dksX0_power_0 13 rfl rfl)
theorem dX0_power_16 : decode cX0_power 16 = .ok (.aload_n 0, 1) := dk_42 (dk_at dksX0_power_0 16 rfl rfl)
theorem dX0_power_17 : decode cX0_power 17 = .ok (.iload_n 1, 1) := dk_27 (dk_at dksX0_power_0 17 rfl rfl)
theorem dX0_power_18 : decode cX0_power 18 = .ok (.invokevirtual 370, 3) := dk_182 1 114 (dk_at dksX0_power_0 18 rfl rfl)
theorem dX0_power_21 : decode cX0_power 21 = .ok (.ireturn, 1) := dk_172 (dk_at dksX0_power_0 21 rfl rfl)
abbrev cX0_powerOf : ByteArray := prog_1_method_102_code
def yX0_powerOf : MethodName := ⟨RX0, "powerOf", "(I)I"⟩
def dkwX0_powerOf_0 : List UInt8 := [42, 42, 27, 182, 0, 208, 182, 0, 238, 184, 1, 17, 172]
abbrev dktX0_powerOf_0 : List UInt8 := dkwX0_powerOf_0 ++ []
theorem dksX0_powerOf_0 : cX0_powerOf.data.toList.drop 0 = dktX0_powerOf_0 := by decide +kernel
theorem dX0_powerOf_0 : decode cX0_powerOf 0 = .ok (.aload_n 0, 1) := dk_42 (dk_at dksX0_powerOf_0 0 rfl rfl)
theorem dX0_powerOf_1 : decode cX0_powerOf 1 = .ok (.aload_n 0, 1) := dk_42 (dk_at dksX0_powerOf_0 1 rfl rfl)
theorem dX0_powerOf_2 : decode cX0_powerOf 2 = .ok (.iload_n 1, 1) := dk_27 (dk_at dksX0_powerOf_0 2 rfl rfl)
theorem dX0_powerOf_3 : decode cX0_powerOf 3 = .ok (.invokevirtual 208, 3) := dk_182 0 208 (dk_at dksX0_powerOf_0 3 rfl rfl)
theorem dX0_powerOf_6 : decode cX0_powerOf 6 = .ok (.invokevirtual 238, 3) := dk_182 0 238 (dk_at dksX0_powerOf_0 6 rfl rfl)
theorem dX0_powerOf_9 : decode cX0_powerOf 9 = .ok (.invokestatic 273, 3) := dk_184 1 17 (dk_at dksX0_powerOf_0 9 rfl rfl)
theorem dX0_powerOf_12 : decode cX0_powerOf 12 = .ok (.ireturn, 1) := dk_172 (dk_at dksX0_powerOf_0 12 rfl rfl)
abbrev cX0_mighty : ByteArray := prog_1_method_104_code
def yX0_mighty : MethodName := ⟨RX0, "mighty", "()I"⟩
def dkwX0_mighty_2 : List UInt8 := [28, 167, 0, 4, 27, 60, 132, 2, 1, 167, 255, 218, 27, 172]
abbrev dktX0_mighty_2 : List UInt8 := dkwX0_mighty_2 ++ []
def dkwX0_mighty_1 : List UInt8 := [180, 0, 94, 162, 0, 33, 27, 2, 159, 0, 16, 42, 28, 182, 1, 114, 42, 27, 182, 1, 114, 164, 0, 7]
abbrev dktX0_mighty_1 : List UInt8 := dkwX0_mighty_1 ++ dktX0_mighty_2
def dkwX0_mighty_0 : List UInt8 := [42, 182, 0, 103, 154, 0, 6, 16, 254, 172, 42, 182, 0, 190, 2, 60, 3, 61, 28, 42, 180, 0, 12]
abbrev dktX0_mighty_0 : List UInt8 := dkwX0_mighty_0 ++ dktX0_mighty_1
theorem dksX0_mighty_0 : cX0_mighty.data.toList.drop 0 = dktX0_mighty_0 := by decide +kernel
theorem dksX0_mighty_1 : cX0_mighty.data.toList.drop 23 = dktX0_mighty_1 := dk_seg dksX0_mighty_0 23 rfl rfl
theorem dksX0_mighty_2 : cX0_mighty.data.toList.drop 47 = dktX0_mighty_2 := dk_seg dksX0_mighty_1 24 rfl rfl
theorem dX0_mighty_0 : decode cX0_mighty 0 = .ok (.aload_n 0, 1) := dk_42 (dk_at dksX0_mighty_0 0 rfl rfl)
theorem dX0_mighty_1 : decode cX0_mighty 1 = .ok (.invokevirtual 103, 3) := dk_182 0 103 (dk_at dksX0_mighty_0 1 rfl rfl)
theorem dX0_mighty_4 : decode cX0_mighty 4 = .ok (.ifCond .ne 6, 3) := dk_154 0 6 (dk_at dksX0_mighty_0 4 rfl rfl)
theorem dX0_mighty_7 : decode cX0_mighty 7 = .ok (.bipush (-2), 2) := dk_16 254 (dk_at dksX0_mighty_0 7 rfl rfl)
theorem dX0_mighty_9 : decode cX0_mighty 9 = .ok (.ireturn, 1) := dk_172 (dk_at dksX0_mighty_0 9 rfl rfl)
theorem dX0_mighty_10 : decode cX0_mighty 10 = .ok (.aload_n 0, 1) := dk_42 (dk_at dksX0_mighty_0 10 rfl rfl)
theorem dX0_mighty_11 : decode cX0_mighty 11 = .ok (.invokevirtual 190, 3) := dk_182 0 190 (dk_at dksX0_mighty_0 11 rfl rfl)
theorem dX0_mighty_14 : decode cX0_mighty 14 = .ok (.iconst (-1), 1) := dk_2 (dk_at dksX0_mighty_0 14 rfl rfl)
theorem dX0_mighty_15 : decode cX0_mighty 15 = .ok (.istore_n 1, 1) := dk_60 (dk_at dksX0_mighty_0 15 rfl rfl)
theorem dX0_mighty_16 : decode cX0_mighty 16 = .ok (.iconst 0, 1) := dk_3 (dk_at dksX0_mighty_0 16 rfl rfl)
theorem dX0_mighty_17 : decode cX0_mighty 17 = .ok (.istore_n 2, 1) := dk_61 (dk_at dksX0_mighty_0 17 rfl rfl)
theorem dX0_mighty_18 : decode cX0_mighty 18 = .ok (.iload_n 2, 1) := dk_28 (dk_at dksX0_mighty_0 18 rfl rfl)
theorem dX0_mighty_19 : decode cX0_mighty 19 = .ok (.aload_n 0, 1) := dk_42 (dk_at dksX0_mighty_0 19 rfl rfl)
theorem dX0_mighty_20 : decode cX0_mighty 20 = .ok (.getfield 12, 3) := dk_180 0 12 (dk_at dksX0_mighty_0 20 rfl rfl)
theorem dX0_mighty_23 : decode cX0_mighty 23 = .ok (.getfield 94, 3) := dk_180 0 94 (dk_at dksX0_mighty_1 0 rfl rfl)
theorem dX0_mighty_26 : decode cX0_mighty 26 = .ok (.if_icmp .ge 33, 3) := dk_162 0 33 (dk_at dksX0_mighty_1 3 rfl rfl)
theorem dX0_mighty_29 : decode cX0_mighty 29 = .ok (.iload_n 1, 1) := dk_27 (dk_at dksX0_mighty_1 6 rfl rfl)
theorem dX0_mighty_30 : decode cX0_mighty 30 = .ok (.iconst (-1), 1) := dk_2 (dk_at dksX0_mighty_1 7 rfl rfl)
theorem dX0_mighty_31 : decode cX0_mighty 31 = .ok (.if_icmp .eq 16, 3) := dk_159 0 16 (dk_at dksX0_mighty_1 8 rfl rfl)
theorem dX0_mighty_34 : decode cX0_mighty 34 = .ok (.aload_n 0, 1) := dk_42 (dk_at dksX0_mighty_1 11 rfl rfl)
theorem dX0_mighty_35 : decode cX0_mighty 35 = .ok (.iload_n 2, 1) := dk_28 (dk_at dksX0_mighty_1 12 rfl rfl)
theorem dX0_mighty_36 : decode cX0_mighty 36 = .ok (.invokevirtual 370, 3) := dk_182 1 114 (dk_at dksX0_mighty_1 13 rfl rfl)
theorem dX0_mighty_39 : decode cX0_mighty 39 = .ok (.aload_n 0, 1) := dk_42 (dk_at dksX0_mighty_1 16 rfl rfl)
theorem dX0_mighty_40 : decode cX0_mighty 40 = .ok (.iload_n 1, 1) := dk_27 (dk_at dksX0_mighty_1 17 rfl rfl)
theorem dX0_mighty_41 : decode cX0_mighty 41 = .ok (.invokevirtual 370, 3) := dk_182 1 114 (dk_at dksX0_mighty_1 18 rfl rfl)
theorem dX0_mighty_44 : decode cX0_mighty 44 = .ok (.if_icmp .le 7, 3) := dk_164 0 7 (dk_at dksX0_mighty_1 21 rfl rfl)
theorem dX0_mighty_47 : decode cX0_mighty 47 = .ok (.iload_n 2, 1) := dk_28 (dk_at dksX0_mighty_2 0 rfl rfl)
theorem dX0_mighty_48 : decode cX0_mighty 48 = .ok (.goto 4, 3) := dk_167 0 4 (dk_at dksX0_mighty_2 1 rfl rfl)
theorem dX0_mighty_51 : decode cX0_mighty 51 = .ok (.iload_n 1, 1) := dk_27 (dk_at dksX0_mighty_2 4 rfl rfl)
theorem dX0_mighty_52 : decode cX0_mighty 52 = .ok (.istore_n 1, 1) := dk_60 (dk_at dksX0_mighty_2 5 rfl rfl)
theorem dX0_mighty_53 : decode cX0_mighty 53 = .ok (.iinc 2 1, 3) := dk_132 2 1 (dk_at dksX0_mighty_2 6 rfl rfl)
theorem dX0_mighty_56 : decode cX0_mighty 56 = .ok (.goto (-38), 3) := dk_167 255 218 (dk_at dksX0_mighty_2 9 rfl rfl)
theorem dX0_mighty_59 : decode cX0_mighty 59 = .ok (.iload_n 1, 1) := dk_27 (dk_at dksX0_mighty_2 12 rfl rfl)
theorem dX0_mighty_60 : decode cX0_mighty 60 = .ok (.ireturn, 1) := dk_172 (dk_at dksX0_mighty_2 13 rfl rfl)
abbrev cX0_covet : ByteArray := prog_1_method_105_code
def yX0_covet : MethodName := ⟨RX0, "covet", "(I)I"⟩
def dkwX0_covet_3 : List UInt8 := [21, 6, 28, 163, 0, 6, 167, 0, 9, 21, 6, 61, 21, 4, 62, 132, 4, 1, 167, 255, 193, 29, 172]
abbrev dktX0_covet_3 : List UInt8 := dkwX0_covet_3 ++ []
def dkwX0_covet_2 : List UInt8 := [42, 180, 0, 24, 21, 4, 27, 79, 42, 27, 182, 1, 114, 54, 6, 42, 180, 0, 24, 21, 4, 21, 5, 79]
abbrev dktX0_covet_2 : List UInt8 := dkwX0_covet_2 ++ dktX0_covet_3
def dkwX0_covet_1 : List UInt8 := [3, 54, 4, 21, 4, 42, 180, 0, 12, 180, 0, 94, 162, 0, 57, 42, 180, 0, 24, 21, 4, 46, 54, 5]
abbrev dktX0_covet_1 : List UInt8 := dkwX0_covet_1 ++ dktX0_covet_2
def dkwX0_covet_0 : List UInt8 := [42, 27, 133, 182, 0, 186, 154, 0, 6, 16, 254, 172, 42, 182, 0, 190, 42, 27, 182, 1, 114, 61, 2, 62]
abbrev dktX0_covet_0 : List UInt8 := dkwX0_covet_0 ++ dktX0_covet_1
theorem dksX0_covet_0 : cX0_covet.data.toList.drop 0 = dktX0_covet_0 := by decide +kernel
theorem dksX0_covet_1 : cX0_covet.data.toList.drop 24 = dktX0_covet_1 := dk_seg dksX0_covet_0 24 rfl rfl
theorem dksX0_covet_2 : cX0_covet.data.toList.drop 48 = dktX0_covet_2 := dk_seg dksX0_covet_1 24 rfl rfl
theorem dksX0_covet_3 : cX0_covet.data.toList.drop 72 = dktX0_covet_3 := dk_seg dksX0_covet_2 24 rfl rfl
theorem dX0_covet_0 : decode cX0_covet 0 = .ok (.aload_n 0, 1) := dk_42 (dk_at dksX0_covet_0 0 rfl rfl)
theorem dX0_covet_1 : decode cX0_covet 1 = .ok (.iload_n 1, 1) := dk_27 (dk_at dksX0_covet_0 1 rfl rfl)
theorem dX0_covet_2 : decode cX0_covet 2 = .ok (.i2l, 1) := dk_133 (dk_at dksX0_covet_0 2 rfl rfl)
theorem dX0_covet_3 : decode cX0_covet 3 = .ok (.invokevirtual 186, 3) := dk_182 0 186 (dk_at dksX0_covet_0 3 rfl rfl)
theorem dX0_covet_6 : decode cX0_covet 6 = .ok (.ifCond .ne 6, 3) := dk_154 0 6 (dk_at dksX0_covet_0 6 rfl rfl)
theorem dX0_covet_9 : decode cX0_covet 9 = .ok (.bipush (-2), 2) := dk_16 254 (dk_at dksX0_covet_0 9 rfl rfl)
theorem dX0_covet_11 : decode cX0_covet 11 = .ok (.ireturn, 1) := dk_172 (dk_at dksX0_covet_0 11 rfl rfl)
theorem dX0_covet_12 : decode cX0_covet 12 = .ok (.aload_n 0, 1) := dk_42 (dk_at dksX0_covet_0 12 rfl rfl)
theorem dX0_covet_13 : decode cX0_covet 13 = .ok (.invokevirtual 190, 3) := dk_182 0 190 (dk_at dksX0_covet_0 13 rfl rfl)
theorem dX0_covet_16 : decode cX0_covet 16 = .ok (.aload_n 0, 1) := dk_42 (dk_at dksX0_covet_0 16 rfl rfl)
theorem dX0_covet_17 : decode cX0_covet 17 = .ok (.iload_n 1, 1) := dk_27 (dk_at dksX0_covet_0 17 rfl rfl)
theorem dX0_covet_18 : decode cX0_covet 18 = .ok (.invokevirtual 370, 3) := dk_182 1 114 (dk_at dksX0_covet_0 18 rfl rfl)
theorem dX0_covet_21 : decode cX0_covet 21 = .ok (.istore_n 2, 1) := dk_61 (dk_at dksX0_covet_0 21 rfl rfl)
theorem dX0_covet_22 : decode cX0_covet 22 = .ok (.iconst (-1), 1) := dk_2 (dk_at dksX0_covet_0 22 rfl rfl)
theorem dX0_covet_23 : decode cX0_covet 23 = .ok (.istore_n 3, 1) := dk_62 (dk_at dksX0_covet_0 23 rfl rfl)
theorem dX0_covet_24 : decode cX0_covet 24 = .ok (.iconst 0, 1) := dk_3 (dk_at dksX0_covet_1 0 rfl rfl)
theorem dX0_covet_25 : decode cX0_covet 25 = .ok (.istore 4, 2) := dk_54 4 (dk_at dksX0_covet_1 1 rfl rfl)
theorem dX0_covet_27 : decode cX0_covet 27 = .ok (.iload 4, 2) := dk_21 4 (dk_at dksX0_covet_1 3 rfl rfl)
theorem dX0_covet_29 : decode cX0_covet 29 = .ok (.aload_n 0, 1) := dk_42 (dk_at dksX0_covet_1 5 rfl rfl)
theorem dX0_covet_30 : decode cX0_covet 30 = .ok (.getfield 12, 3) := dk_180 0 12 (dk_at dksX0_covet_1 6 rfl rfl)
theorem dX0_covet_33 : decode cX0_covet 33 = .ok (.getfield 94, 3) := dk_180 0 94 (dk_at dksX0_covet_1 9 rfl rfl)
theorem dX0_covet_36 : decode cX0_covet 36 = .ok (.if_icmp .ge 57, 3) := dk_162 0 57 (dk_at dksX0_covet_1 12 rfl rfl)
theorem dX0_covet_39 : decode cX0_covet 39 = .ok (.aload_n 0, 1) := dk_42 (dk_at dksX0_covet_1 15 rfl rfl)
theorem dX0_covet_40 : decode cX0_covet 40 = .ok (.getfield 24, 3) := dk_180 0 24 (dk_at dksX0_covet_1 16 rfl rfl)
theorem dX0_covet_43 : decode cX0_covet 43 = .ok (.iload 4, 2) := dk_21 4 (dk_at dksX0_covet_1 19 rfl rfl)
theorem dX0_covet_45 : decode cX0_covet 45 = .ok (.iaload, 1) := dk_46 (dk_at dksX0_covet_1 21 rfl rfl)
theorem dX0_covet_46 : decode cX0_covet 46 = .ok (.istore 5, 2) := dk_54 5 (dk_at dksX0_covet_1 22 rfl rfl)
theorem dX0_covet_48 : decode cX0_covet 48 = .ok (.aload_n 0, 1) := dk_42 (dk_at dksX0_covet_2 0 rfl rfl)
theorem dX0_covet_49 : decode cX0_covet 49 = .ok (.getfield 24, 3) := dk_180 0 24 (dk_at dksX0_covet_2 1 rfl rfl)
theorem dX0_covet_52 : decode cX0_covet 52 = .ok (.iload 4, 2) := dk_21 4 (dk_at dksX0_covet_2 4 rfl rfl)
theorem dX0_covet_54 : decode cX0_covet 54 = .ok (.iload_n 1, 1) := dk_27 (dk_at dksX0_covet_2 6 rfl rfl)
theorem dX0_covet_55 : decode cX0_covet 55 = .ok (.iastore, 1) := dk_79 (dk_at dksX0_covet_2 7 rfl rfl)
theorem dX0_covet_56 : decode cX0_covet 56 = .ok (.aload_n 0, 1) := dk_42 (dk_at dksX0_covet_2 8 rfl rfl)
theorem dX0_covet_57 : decode cX0_covet 57 = .ok (.iload_n 1, 1) := dk_27 (dk_at dksX0_covet_2 9 rfl rfl)
theorem dX0_covet_58 : decode cX0_covet 58 = .ok (.invokevirtual 370, 3) := dk_182 1 114 (dk_at dksX0_covet_2 10 rfl rfl)
theorem dX0_covet_61 : decode cX0_covet 61 = .ok (.istore 6, 2) := dk_54 6 (dk_at dksX0_covet_2 13 rfl rfl)
theorem dX0_covet_63 : decode cX0_covet 63 = .ok (.aload_n 0, 1) := dk_42 (dk_at dksX0_covet_2 15 rfl rfl)
theorem dX0_covet_64 : decode cX0_covet 64 = .ok (.getfield 24, 3) := dk_180 0 24 (dk_at dksX0_covet_2 16 rfl rfl)
theorem dX0_covet_67 : decode cX0_covet 67 = .ok (.iload 4, 2) := dk_21 4 (dk_at dksX0_covet_2 19 rfl rfl)
theorem dX0_covet_69 : decode cX0_covet 69 = .ok (.iload 5, 2) := dk_21 5 (dk_at dksX0_covet_2 21 rfl rfl)
theorem dX0_covet_71 : decode cX0_covet 71 = .ok (.iastore, 1) := dk_79 (dk_at dksX0_covet_2 23 rfl rfl)
theorem dX0_covet_72 : decode cX0_covet 72 = .ok (.iload 6, 2) := dk_21 6 (dk_at dksX0_covet_3 0 rfl rfl)
theorem dX0_covet_74 : decode cX0_covet 74 = .ok (.iload_n 2, 1) := dk_28 (dk_at dksX0_covet_3 2 rfl rfl)
theorem dX0_covet_75 : decode cX0_covet 75 = .ok (.if_icmp .gt 6, 3) := dk_163 0 6 (dk_at dksX0_covet_3 3 rfl rfl)
theorem dX0_covet_78 : decode cX0_covet 78 = .ok (.goto 9, 3) := dk_167 0 9 (dk_at dksX0_covet_3 6 rfl rfl)
theorem dX0_covet_81 : decode cX0_covet 81 = .ok (.iload 6, 2) := dk_21 6 (dk_at dksX0_covet_3 9 rfl rfl)
theorem dX0_covet_83 : decode cX0_covet 83 = .ok (.istore_n 2, 1) := dk_61 (dk_at dksX0_covet_3 11 rfl rfl)
theorem dX0_covet_84 : decode cX0_covet 84 = .ok (.iload 4, 2) := dk_21 4 (dk_at dksX0_covet_3 12 rfl rfl)
theorem dX0_covet_86 : decode cX0_covet 86 = .ok (.istore_n 3, 1) := dk_62 (dk_at dksX0_covet_3 14 rfl rfl)
theorem dX0_covet_87 : decode cX0_covet 87 = .ok (.iinc 4 1, 3) := dk_132 4 1 (dk_at dksX0_covet_3 15 rfl rfl)
theorem dX0_covet_90 : decode cX0_covet 90 = .ok (.goto (-63), 3) := dk_167 255 193 (dk_at dksX0_covet_3 18 rfl rfl)
theorem dX0_covet_93 : decode cX0_covet 93 = .ok (.iload_n 3, 1) := dk_29 (dk_at dksX0_covet_3 21 rfl rfl)
theorem dX0_covet_94 : decode cX0_covet 94 = .ok (.ireturn, 1) := dk_172 (dk_at dksX0_covet_3 22 rfl rfl)
abbrev cX0_judge : ByteArray := prog_1_method_109_code
def yX0_judge : MethodName := ⟨RX0, "judge", "(I)I"⟩
def dkwX0_judge_0 : List UInt8 := [42, 27, 182, 1, 122, 61, 28, 156, 0, 7, 28, 167, 0, 8, 42, 27, 182, 1, 125, 172]
abbrev dktX0_judge_0 : List UInt8 := dkwX0_judge_0 ++ []
theorem dksX0_judge_0 : cX0_judge.data.toList.drop 0 = dktX0_judge_0 := by decide +kernel
theorem dX0_judge_0 : decode cX0_judge 0 = .ok (.aload_n 0, 1) := dk_42 (dk_at dksX0_judge_0 0 rfl rfl)
theorem dX0_judge_1 : decode cX0_judge 1 = .ok (.iload_n 1, 1) := dk_27 (dk_at dksX0_judge_0 1 rfl rfl)
theorem dX0_judge_2 : decode cX0_judge 2 = .ok (.invokevirtual 378, 3) := dk_182 1 122 (dk_at dksX0_judge_0 2 rfl rfl)
theorem dX0_judge_5 : decode cX0_judge 5 = .ok (.istore_n 2, 1) := dk_61 (dk_at dksX0_judge_0 5 rfl rfl)
theorem dX0_judge_6 : decode cX0_judge 6 = .ok (.iload_n 2, 1) := dk_28 (dk_at dksX0_judge_0 6 rfl rfl)
theorem dX0_judge_7 : decode cX0_judge 7 = .ok (.ifCond .ge 7, 3) := dk_156 0 7 (dk_at dksX0_judge_0 7 rfl rfl)
theorem dX0_judge_10 : decode cX0_judge 10 = .ok (.iload_n 2, 1) := dk_28 (dk_at dksX0_judge_0 10 rfl rfl)
theorem dX0_judge_11 : decode cX0_judge 11 = .ok (.goto 8, 3) := dk_167 0 8 (dk_at dksX0_judge_0 11 rfl rfl)
theorem dX0_judge_14 : decode cX0_judge 14 = .ok (.aload_n 0, 1) := dk_42 (dk_at dksX0_judge_0 14 rfl rfl)
theorem dX0_judge_15 : decode cX0_judge 15 = .ok (.iload_n 1, 1) := dk_27 (dk_at dksX0_judge_0 15 rfl rfl)
theorem dX0_judge_16 : decode cX0_judge 16 = .ok (.invokevirtual 381, 3) := dk_182 1 125 (dk_at dksX0_judge_0 16 rfl rfl)
theorem dX0_judge_19 : decode cX0_judge 19 = .ok (.ireturn, 1) := dk_172 (dk_at dksX0_judge_0 19 rfl rfl)
abbrev cX0_asksRow : ByteArray := prog_1_method_107_code
def yX0_asksRow : MethodName := ⟨RX0, "asksRow", "(I)I"⟩
def dkwX0_asksRow_5 : List UInt8 := [16, 250, 172]
abbrev dktX0_asksRow_5 : List UInt8 := dkwX0_asksRow_5 ++ []
def dkwX0_asksRow_4 : List UInt8 := [29, 5, 96, 182, 1, 46, 184, 0, 232, 154, 0, 6, 16, 254, 172, 132, 3, 3, 167, 255, 182, 3, 172, 77]
abbrev dktX0_asksRow_4 : List UInt8 := dkwX0_asksRow_4 ++ dktX0_asksRow_5
def dkwX0_asksRow_3 : List UInt8 := [42, 180, 0, 53, 27, 50, 29, 4, 96, 182, 1, 46, 182, 0, 186, 153, 0, 21, 42, 180, 0, 53, 27, 50]
abbrev dktX0_asksRow_3 : List UInt8 := dkwX0_asksRow_3 ++ dktX0_asksRow_4
def dkwX0_asksRow_2 : List UInt8 := [182, 1, 119, 154, 0, 60, 42, 42, 180, 0, 53, 27, 50, 29, 182, 1, 46, 182, 0, 186, 153, 0, 40, 42]
abbrev dktX0_asksRow_2 : List UInt8 := dkwX0_asksRow_2 ++ dktX0_asksRow_3
def dkwX0_asksRow_1 : List UInt8 := [182, 1, 53, 61, 28, 6, 112, 153, 0, 6, 16, 254, 172, 3, 62, 29, 28, 162, 0, 75, 42, 27, 29]
abbrev dktX0_asksRow_1 : List UInt8 := dkwX0_asksRow_1 ++ dktX0_asksRow_2
def dkwX0_asksRow_0 : List UInt8 := [27, 184, 1, 50, 153, 0, 10, 42, 182, 0, 103, 154, 0, 6, 16, 254, 172, 42, 180, 0, 53, 27, 50]
abbrev dktX0_asksRow_0 : List UInt8 := dkwX0_asksRow_0 ++ dktX0_asksRow_1
theorem dksX0_asksRow_0 : cX0_asksRow.data.toList.drop 0 = dktX0_asksRow_0 := by decide +kernel
theorem dksX0_asksRow_1 : cX0_asksRow.data.toList.drop 23 = dktX0_asksRow_1 := dk_seg dksX0_asksRow_0 23 rfl rfl
theorem dksX0_asksRow_2 : cX0_asksRow.data.toList.drop 46 = dktX0_asksRow_2 := dk_seg dksX0_asksRow_1 23 rfl rfl
theorem dksX0_asksRow_3 : cX0_asksRow.data.toList.drop 70 = dktX0_asksRow_3 := dk_seg dksX0_asksRow_2 24 rfl rfl
theorem dksX0_asksRow_4 : cX0_asksRow.data.toList.drop 94 = dktX0_asksRow_4 := dk_seg dksX0_asksRow_3 24 rfl rfl
theorem dksX0_asksRow_5 : cX0_asksRow.data.toList.drop 118 = dktX0_asksRow_5 := dk_seg dksX0_asksRow_4 24 rfl rfl
theorem dX0_asksRow_0 : decode cX0_asksRow 0 = .ok (.iload_n 1, 1) := dk_27 (dk_at dksX0_asksRow_0 0 rfl rfl)
theorem dX0_asksRow_1 : decode cX0_asksRow 1 = .ok (.invokestatic 306, 3) := dk_184 1 50 (dk_at dksX0_asksRow_0 1 rfl rfl)
theorem dX0_asksRow_4 : decode cX0_asksRow 4 = .ok (.ifCond .eq 10, 3) := dk_153 0 10 (dk_at dksX0_asksRow_0 4 rfl rfl)
theorem dX0_asksRow_7 : decode cX0_asksRow 7 = .ok (.aload_n 0, 1) := dk_42 (dk_at dksX0_asksRow_0 7 rfl rfl)
theorem dX0_asksRow_8 : decode cX0_asksRow 8 = .ok (.invokevirtual 103, 3) := dk_182 0 103 (dk_at dksX0_asksRow_0 8 rfl rfl)
theorem dX0_asksRow_11 : decode cX0_asksRow 11 = .ok (.ifCond .ne 6, 3) := dk_154 0 6 (dk_at dksX0_asksRow_0 11 rfl rfl)
theorem dX0_asksRow_14 : decode cX0_asksRow 14 = .ok (.bipush (-2), 2) := dk_16 254 (dk_at dksX0_asksRow_0 14 rfl rfl)
theorem dX0_asksRow_16 : decode cX0_asksRow 16 = .ok (.ireturn, 1) := dk_172 (dk_at dksX0_asksRow_0 16 rfl rfl)
theorem dX0_asksRow_17 : decode cX0_asksRow 17 = .ok (.aload_n 0, 1) := dk_42 (dk_at dksX0_asksRow_0 17 rfl rfl)
theorem dX0_asksRow_18 : decode cX0_asksRow 18 = .ok (.getfield 53, 3) := dk_180 0 53 (dk_at dksX0_asksRow_0 18 rfl rfl)
theorem dX0_asksRow_21 : decode cX0_asksRow 21 = .ok (.iload_n 1, 1) := dk_27 (dk_at dksX0_asksRow_0 21 rfl rfl)
theorem dX0_asksRow_22 : decode cX0_asksRow 22 = .ok (.aaload, 1) := dk_50 (dk_at dksX0_asksRow_0 22 rfl rfl)
theorem dX0_asksRow_23 : decode cX0_asksRow 23 = .ok (.invokevirtual 309, 3) := dk_182 1 53 (dk_at dksX0_asksRow_1 0 rfl rfl)
theorem dX0_asksRow_26 : decode cX0_asksRow 26 = .ok (.istore_n 2, 1) := dk_61 (dk_at dksX0_asksRow_1 3 rfl rfl)
theorem dX0_asksRow_27 : decode cX0_asksRow 27 = .ok (.iload_n 2, 1) := dk_28 (dk_at dksX0_asksRow_1 4 rfl rfl)
theorem dX0_asksRow_28 : decode cX0_asksRow 28 = .ok (.iconst 3, 1) := dk_6 (dk_at dksX0_asksRow_1 5 rfl rfl)
theorem dX0_asksRow_29 : decode cX0_asksRow 29 = .ok (.irem, 1) := dk_112 (dk_at dksX0_asksRow_1 6 rfl rfl)
theorem dX0_asksRow_30 : decode cX0_asksRow 30 = .ok (.ifCond .eq 6, 3) := dk_153 0 6 (dk_at dksX0_asksRow_1 7 rfl rfl)
theorem dX0_asksRow_33 : decode cX0_asksRow 33 = .ok (.bipush (-2), 2) := dk_16 254 (dk_at dksX0_asksRow_1 10 rfl rfl)
theorem dX0_asksRow_35 : decode cX0_asksRow 35 = .ok (.ireturn, 1) := dk_172 (dk_at dksX0_asksRow_1 12 rfl rfl)
theorem dX0_asksRow_36 : decode cX0_asksRow 36 = .ok (.iconst 0, 1) := dk_3 (dk_at dksX0_asksRow_1 13 rfl rfl)
theorem dX0_asksRow_37 : decode cX0_asksRow 37 = .ok (.istore_n 3, 1) := dk_62 (dk_at dksX0_asksRow_1 14 rfl rfl)
theorem dX0_asksRow_38 : decode cX0_asksRow 38 = .ok (.iload_n 3, 1) := dk_29 (dk_at dksX0_asksRow_1 15 rfl rfl)
theorem dX0_asksRow_39 : decode cX0_asksRow 39 = .ok (.iload_n 2, 1) := dk_28 (dk_at dksX0_asksRow_1 16 rfl rfl)
theorem dX0_asksRow_40 : decode cX0_asksRow 40 = .ok (.if_icmp .ge 75, 3) := dk_162 0 75 (dk_at dksX0_asksRow_1 17 rfl rfl)
theorem dX0_asksRow_43 : decode cX0_asksRow 43 = .ok (.aload_n 0, 1) := dk_42 (dk_at dksX0_asksRow_1 20 rfl rfl)
theorem dX0_asksRow_44 : decode cX0_asksRow 44 = .ok (.iload_n 1, 1) := dk_27 (dk_at dksX0_asksRow_1 21 rfl rfl)
theorem dX0_asksRow_45 : decode cX0_asksRow 45 = .ok (.iload_n 3, 1) := dk_29 (dk_at dksX0_asksRow_1 22 rfl rfl)
theorem dX0_asksRow_46 : decode cX0_asksRow 46 = .ok (.invokevirtual 375, 3) := dk_182 1 119 (dk_at dksX0_asksRow_2 0 rfl rfl)
theorem dX0_asksRow_49 : decode cX0_asksRow 49 = .ok (.ifCond .ne 60, 3) := dk_154 0 60 (dk_at dksX0_asksRow_2 3 rfl rfl)
theorem dX0_asksRow_52 : decode cX0_asksRow 52 = .ok (.aload_n 0, 1) := dk_42 (dk_at dksX0_asksRow_2 6 rfl rfl)
theorem dX0_asksRow_53 : decode cX0_asksRow 53 = .ok (.aload_n 0, 1) := dk_42 (dk_at dksX0_asksRow_2 7 rfl rfl)
theorem dX0_asksRow_54 : decode cX0_asksRow 54 = .ok (.getfield 53, 3) := dk_180 0 53 (dk_at dksX0_asksRow_2 8 rfl rfl)
theorem dX0_asksRow_57 : decode cX0_asksRow 57 = .ok (.iload_n 1, 1) := dk_27 (dk_at dksX0_asksRow_2 11 rfl rfl)
theorem dX0_asksRow_58 : decode cX0_asksRow 58 = .ok (.aaload, 1) := dk_50 (dk_at dksX0_asksRow_2 12 rfl rfl)
theorem dX0_asksRow_59 : decode cX0_asksRow 59 = .ok (.iload_n 3, 1) := dk_29 (dk_at dksX0_asksRow_2 13 rfl rfl)
theorem dX0_asksRow_60 : decode cX0_asksRow 60 = .ok (.invokevirtual 302, 3) := dk_182 1 46 (dk_at dksX0_asksRow_2 14 rfl rfl)
theorem dX0_asksRow_63 : decode cX0_asksRow 63 = .ok (.invokevirtual 186, 3) := dk_182 0 186 (dk_at dksX0_asksRow_2 17 rfl rfl)
theorem dX0_asksRow_66 : decode cX0_asksRow 66 = .ok (.ifCond .eq 40, 3) := dk_153 0 40 (dk_at dksX0_asksRow_2 20 rfl rfl)
theorem dX0_asksRow_69 : decode cX0_asksRow 69 = .ok (.aload_n 0, 1) := dk_42 (dk_at dksX0_asksRow_2 23 rfl rfl)
theorem dX0_asksRow_70 : decode cX0_asksRow 70 = .ok (.aload_n 0, 1) := dk_42 (dk_at dksX0_asksRow_3 0 rfl rfl)
theorem dX0_asksRow_71 : decode cX0_asksRow 71 = .ok (.getfield 53, 3) := dk_180 0 53 (dk_at dksX0_asksRow_3 1 rfl rfl)
theorem dX0_asksRow_74 : decode cX0_asksRow 74 = .ok (.iload_n 1, 1) := dk_27 (dk_at dksX0_asksRow_3 4 rfl rfl)
theorem dX0_asksRow_75 : decode cX0_asksRow 75 = .ok (.aaload, 1) := dk_50 (dk_at dksX0_asksRow_3 5 rfl rfl)
theorem dX0_asksRow_76 : decode cX0_asksRow 76 = .ok (.iload_n 3, 1) := dk_29 (dk_at dksX0_asksRow_3 6 rfl rfl)
theorem dX0_asksRow_77 : decode cX0_asksRow 77 = .ok (.iconst 1, 1) := dk_4 (dk_at dksX0_asksRow_3 7 rfl rfl)
theorem dX0_asksRow_78 : decode cX0_asksRow 78 = .ok (.iadd, 1) := dk_96 (dk_at dksX0_asksRow_3 8 rfl rfl)
theorem dX0_asksRow_79 : decode cX0_asksRow 79 = .ok (.invokevirtual 302, 3) := dk_182 1 46 (dk_at dksX0_asksRow_3 9 rfl rfl)
theorem dX0_asksRow_82 : decode cX0_asksRow 82 = .ok (.invokevirtual 186, 3) := dk_182 0 186 (dk_at dksX0_asksRow_3 12 rfl rfl)
theorem dX0_asksRow_85 : decode cX0_asksRow 85 = .ok (.ifCond .eq 21, 3) := dk_153 0 21 (dk_at dksX0_asksRow_3 15 rfl rfl)
theorem dX0_asksRow_88 : decode cX0_asksRow 88 = .ok (.aload_n 0, 1) := dk_42 (dk_at dksX0_asksRow_3 18 rfl rfl)
theorem dX0_asksRow_89 : decode cX0_asksRow 89 = .ok (.getfield 53, 3) := dk_180 0 53 (dk_at dksX0_asksRow_3 19 rfl rfl)
theorem dX0_asksRow_92 : decode cX0_asksRow 92 = .ok (.iload_n 1, 1) := dk_27 (dk_at dksX0_asksRow_3 22 rfl rfl)
theorem dX0_asksRow_93 : decode cX0_asksRow 93 = .ok (.aaload, 1) := dk_50 (dk_at dksX0_asksRow_3 23 rfl rfl)
theorem dX0_asksRow_94 : decode cX0_asksRow 94 = .ok (.iload_n 3, 1) := dk_29 (dk_at dksX0_asksRow_4 0 rfl rfl)
theorem dX0_asksRow_95 : decode cX0_asksRow 95 = .ok (.iconst 2, 1) := dk_5 (dk_at dksX0_asksRow_4 1 rfl rfl)
theorem dX0_asksRow_96 : decode cX0_asksRow 96 = .ok (.iadd, 1) := dk_96 (dk_at dksX0_asksRow_4 2 rfl rfl)
theorem dX0_asksRow_97 : decode cX0_asksRow 97 = .ok (.invokevirtual 302, 3) := dk_182 1 46 (dk_at dksX0_asksRow_4 3 rfl rfl)
theorem dX0_asksRow_100 : decode cX0_asksRow 100 = .ok (.invokestatic 232, 3) := dk_184 0 232 (dk_at dksX0_asksRow_4 6 rfl rfl)
theorem dX0_asksRow_103 : decode cX0_asksRow 103 = .ok (.ifCond .ne 6, 3) := dk_154 0 6 (dk_at dksX0_asksRow_4 9 rfl rfl)
theorem dX0_asksRow_106 : decode cX0_asksRow 106 = .ok (.bipush (-2), 2) := dk_16 254 (dk_at dksX0_asksRow_4 12 rfl rfl)
theorem dX0_asksRow_108 : decode cX0_asksRow 108 = .ok (.ireturn, 1) := dk_172 (dk_at dksX0_asksRow_4 14 rfl rfl)
theorem dX0_asksRow_109 : decode cX0_asksRow 109 = .ok (.iinc 3 3, 3) := dk_132 3 3 (dk_at dksX0_asksRow_4 15 rfl rfl)
theorem dX0_asksRow_112 : decode cX0_asksRow 112 = .ok (.goto (-74), 3) := dk_167 255 182 (dk_at dksX0_asksRow_4 18 rfl rfl)
theorem dX0_asksRow_115 : decode cX0_asksRow 115 = .ok (.iconst 0, 1) := dk_3 (dk_at dksX0_asksRow_4 21 rfl rfl)
theorem dX0_asksRow_116 : decode cX0_asksRow 116 = .ok (.ireturn, 1) := dk_172 (dk_at dksX0_asksRow_4 22 rfl rfl)
theorem dX0_asksRow_117 : decode cX0_asksRow 117 = .ok (.astore_n 2, 1) := dk_77 (dk_at dksX0_asksRow_4 23 rfl rfl)
theorem dX0_asksRow_118 : decode cX0_asksRow 118 = .ok (.bipush (-6), 2) := dk_16 250 (dk_at dksX0_asksRow_5 0 rfl rfl)
theorem dX0_asksRow_120 : decode cX0_asksRow 120 = .ok (.ireturn, 1) := dk_172 (dk_at dksX0_asksRow_5 2 rfl rfl)
abbrev cX0_isDayEnd : ByteArray := prog_1_method_106_code
def yX0_isDayEnd : MethodName := ⟨RX0, "isDayEnd", "(II)Z"⟩
def dkwX0_isDayEnd_2 : List UInt8 := [20, 1, 117, 148, 154, 0, 7, 4, 167, 0, 4, 3, 172]
abbrev dktX0_isDayEnd_2 : List UInt8 := dkwX0_isDayEnd_2 ++ []
def dkwX0_isDayEnd_1 : List UInt8 := [4, 96, 182, 1, 46, 20, 1, 117, 148, 154, 0, 26, 42, 180, 0, 53, 27, 50, 28, 5, 96, 182, 1, 46]
abbrev dktX0_isDayEnd_1 : List UInt8 := dkwX0_isDayEnd_1 ++ dktX0_isDayEnd_2
def dkwX0_isDayEnd_0 : List UInt8 := [42, 180, 0, 53, 27, 50, 28, 182, 1, 46, 20, 1, 117, 148, 154, 0, 45, 42, 180, 0, 53, 27, 50, 28]
abbrev dktX0_isDayEnd_0 : List UInt8 := dkwX0_isDayEnd_0 ++ dktX0_isDayEnd_1
theorem dksX0_isDayEnd_0 : cX0_isDayEnd.data.toList.drop 0 = dktX0_isDayEnd_0 := by decide +kernel
theorem dksX0_isDayEnd_1 : cX0_isDayEnd.data.toList.drop 24 = dktX0_isDayEnd_1 := dk_seg dksX0_isDayEnd_0 24 rfl rfl
theorem dksX0_isDayEnd_2 : cX0_isDayEnd.data.toList.drop 48 = dktX0_isDayEnd_2 := dk_seg dksX0_isDayEnd_1 24 rfl rfl
theorem dX0_isDayEnd_0 : decode cX0_isDayEnd 0 = .ok (.aload_n 0, 1) := dk_42 (dk_at dksX0_isDayEnd_0 0 rfl rfl)
theorem dX0_isDayEnd_1 : decode cX0_isDayEnd 1 = .ok (.getfield 53, 3) := dk_180 0 53 (dk_at dksX0_isDayEnd_0 1 rfl rfl)
theorem dX0_isDayEnd_4 : decode cX0_isDayEnd 4 = .ok (.iload_n 1, 1) := dk_27 (dk_at dksX0_isDayEnd_0 4 rfl rfl)
theorem dX0_isDayEnd_5 : decode cX0_isDayEnd 5 = .ok (.aaload, 1) := dk_50 (dk_at dksX0_isDayEnd_0 5 rfl rfl)
theorem dX0_isDayEnd_6 : decode cX0_isDayEnd 6 = .ok (.iload_n 2, 1) := dk_28 (dk_at dksX0_isDayEnd_0 6 rfl rfl)
theorem dX0_isDayEnd_7 : decode cX0_isDayEnd 7 = .ok (.invokevirtual 302, 3) := dk_182 1 46 (dk_at dksX0_isDayEnd_0 7 rfl rfl)
theorem dX0_isDayEnd_10 : decode cX0_isDayEnd 10 = .ok (.ldc2_w 373, 3) := dk_20 1 117 (dk_at dksX0_isDayEnd_0 10 rfl rfl)
theorem dX0_isDayEnd_13 : decode cX0_isDayEnd 13 = .ok (.lcmp, 1) := dk_148 (dk_at dksX0_isDayEnd_0 13 rfl rfl)
theorem dX0_isDayEnd_14 : decode cX0_isDayEnd 14 = .ok (.ifCond .ne 45, 3) := dk_154 0 45 (dk_at dksX0_isDayEnd_0 14 rfl rfl)
theorem dX0_isDayEnd_17 : decode cX0_isDayEnd 17 = .ok (.aload_n 0, 1) := dk_42 (dk_at dksX0_isDayEnd_0 17 rfl rfl)
theorem dX0_isDayEnd_18 : decode cX0_isDayEnd 18 = .ok (.getfield 53, 3) := dk_180 0 53 (dk_at dksX0_isDayEnd_0 18 rfl rfl)
theorem dX0_isDayEnd_21 : decode cX0_isDayEnd 21 = .ok (.iload_n 1, 1) := dk_27 (dk_at dksX0_isDayEnd_0 21 rfl rfl)
theorem dX0_isDayEnd_22 : decode cX0_isDayEnd 22 = .ok (.aaload, 1) := dk_50 (dk_at dksX0_isDayEnd_0 22 rfl rfl)
theorem dX0_isDayEnd_23 : decode cX0_isDayEnd 23 = .ok (.iload_n 2, 1) := dk_28 (dk_at dksX0_isDayEnd_0 23 rfl rfl)
theorem dX0_isDayEnd_24 : decode cX0_isDayEnd 24 = .ok (.iconst 1, 1) := dk_4 (dk_at dksX0_isDayEnd_1 0 rfl rfl)
theorem dX0_isDayEnd_25 : decode cX0_isDayEnd 25 = .ok (.iadd, 1) := dk_96 (dk_at dksX0_isDayEnd_1 1 rfl rfl)
theorem dX0_isDayEnd_26 : decode cX0_isDayEnd 26 = .ok (.invokevirtual 302, 3) := dk_182 1 46 (dk_at dksX0_isDayEnd_1 2 rfl rfl)
theorem dX0_isDayEnd_29 : decode cX0_isDayEnd 29 = .ok (.ldc2_w 373, 3) := dk_20 1 117 (dk_at dksX0_isDayEnd_1 5 rfl rfl)
theorem dX0_isDayEnd_32 : decode cX0_isDayEnd 32 = .ok (.lcmp, 1) := dk_148 (dk_at dksX0_isDayEnd_1 8 rfl rfl)
theorem dX0_isDayEnd_33 : decode cX0_isDayEnd 33 = .ok (.ifCond .ne 26, 3) := dk_154 0 26 (dk_at dksX0_isDayEnd_1 9 rfl rfl)
theorem dX0_isDayEnd_36 : decode cX0_isDayEnd 36 = .ok (.aload_n 0, 1) := dk_42 (dk_at dksX0_isDayEnd_1 12 rfl rfl)
theorem dX0_isDayEnd_37 : decode cX0_isDayEnd 37 = .ok (.getfield 53, 3) := dk_180 0 53 (dk_at dksX0_isDayEnd_1 13 rfl rfl)
theorem dX0_isDayEnd_40 : decode cX0_isDayEnd 40 = .ok (.iload_n 1, 1) := dk_27 (dk_at dksX0_isDayEnd_1 16 rfl rfl)
theorem dX0_isDayEnd_41 : decode cX0_isDayEnd 41 = .ok (.aaload, 1) := dk_50 (dk_at dksX0_isDayEnd_1 17 rfl rfl)
theorem dX0_isDayEnd_42 : decode cX0_isDayEnd 42 = .ok (.iload_n 2, 1) := dk_28 (dk_at dksX0_isDayEnd_1 18 rfl rfl)
theorem dX0_isDayEnd_43 : decode cX0_isDayEnd 43 = .ok (.iconst 2, 1) := dk_5 (dk_at dksX0_isDayEnd_1 19 rfl rfl)
theorem dX0_isDayEnd_44 : decode cX0_isDayEnd 44 = .ok (.iadd, 1) := dk_96 (dk_at dksX0_isDayEnd_1 20 rfl rfl)
theorem dX0_isDayEnd_45 : decode cX0_isDayEnd 45 = .ok (.invokevirtual 302, 3) := dk_182 1 46 (dk_at dksX0_isDayEnd_1 21 rfl rfl)
theorem dX0_isDayEnd_48 : decode cX0_isDayEnd 48 = .ok (.ldc2_w 373, 3) := dk_20 1 117 (dk_at dksX0_isDayEnd_2 0 rfl rfl)
theorem dX0_isDayEnd_51 : decode cX0_isDayEnd 51 = .ok (.lcmp, 1) := dk_148 (dk_at dksX0_isDayEnd_2 3 rfl rfl)
theorem dX0_isDayEnd_52 : decode cX0_isDayEnd 52 = .ok (.ifCond .ne 7, 3) := dk_154 0 7 (dk_at dksX0_isDayEnd_2 4 rfl rfl)
theorem dX0_isDayEnd_55 : decode cX0_isDayEnd 55 = .ok (.iconst 1, 1) := dk_4 (dk_at dksX0_isDayEnd_2 7 rfl rfl)
theorem dX0_isDayEnd_56 : decode cX0_isDayEnd 56 = .ok (.goto 4, 3) := dk_167 0 4 (dk_at dksX0_isDayEnd_2 8 rfl rfl)
theorem dX0_isDayEnd_59 : decode cX0_isDayEnd 59 = .ok (.iconst 0, 1) := dk_3 (dk_at dksX0_isDayEnd_2 11 rfl rfl)
theorem dX0_isDayEnd_60 : decode cX0_isDayEnd 60 = .ok (.ireturn, 1) := dk_172 (dk_at dksX0_isDayEnd_2 12 rfl rfl)
abbrev cX0_goesBy : ByteArray := prog_1_method_108_code
def yX0_goesBy : MethodName := ⟨RX0, "goesBy", "(I)I"⟩
def dkwX0_goesBy_4 : List UInt8 := [42, 27, 29, 5, 96, 182, 1, 58, 3, 182, 0, 183, 132, 2, 1, 132, 3, 3, 167, 255, 151, 28, 172]
abbrev dktX0_goesBy_4 : List UInt8 := dkwX0_goesBy_4 ++ []
def dkwX0_goesBy_3 : List UInt8 := [153, 0, 5, 28, 172, 42, 3, 182, 0, 180, 42, 27, 29, 182, 1, 58, 42, 27, 29, 4, 96, 182, 1, 58]
abbrev dktX0_goesBy_3 : List UInt8 := dkwX0_goesBy_3 ++ dktX0_goesBy_4
def dkwX0_goesBy_2 : List UInt8 := [29, 182, 1, 58, 42, 27, 29, 4, 96, 182, 1, 58, 42, 27, 29, 5, 96, 182, 1, 58, 182, 0, 245]
abbrev dktX0_goesBy_2 : List UInt8 := dkwX0_goesBy_2 ++ dktX0_goesBy_3
def dkwX0_goesBy_1 : List UInt8 := [182, 1, 119, 153, 0, 18, 42, 7, 182, 0, 180, 3, 3, 3, 3, 182, 0, 183, 167, 0, 65, 42, 42, 27]
abbrev dktX0_goesBy_1 : List UInt8 := dkwX0_goesBy_1 ++ dktX0_goesBy_2
def dkwX0_goesBy_0 : List UInt8 := [42, 182, 0, 140, 3, 61, 3, 62, 29, 42, 180, 0, 53, 27, 50, 182, 1, 53, 162, 0, 98, 42, 27, 29]
abbrev dktX0_goesBy_0 : List UInt8 := dkwX0_goesBy_0 ++ dktX0_goesBy_1
theorem dksX0_goesBy_0 : cX0_goesBy.data.toList.drop 0 = dktX0_goesBy_0 := by decide +kernel
theorem dksX0_goesBy_1 : cX0_goesBy.data.toList.drop 24 = dktX0_goesBy_1 := dk_seg dksX0_goesBy_0 24 rfl rfl
theorem dksX0_goesBy_2 : cX0_goesBy.data.toList.drop 48 = dktX0_goesBy_2 := dk_seg dksX0_goesBy_1 24 rfl rfl
theorem dksX0_goesBy_3 : cX0_goesBy.data.toList.drop 71 = dktX0_goesBy_3 := dk_seg dksX0_goesBy_2 23 rfl rfl
theorem dksX0_goesBy_4 : cX0_goesBy.data.toList.drop 95 = dktX0_goesBy_4 := dk_seg dksX0_goesBy_3 24 rfl rfl
theorem dX0_goesBy_0 : decode cX0_goesBy 0 = .ok (.aload_n 0, 1) := dk_42 (dk_at dksX0_goesBy_0 0 rfl rfl)
theorem dX0_goesBy_1 : decode cX0_goesBy 1 = .ok (.invokevirtual 140, 3) := dk_182 0 140 (dk_at dksX0_goesBy_0 1 rfl rfl)
theorem dX0_goesBy_4 : decode cX0_goesBy 4 = .ok (.iconst 0, 1) := dk_3 (dk_at dksX0_goesBy_0 4 rfl rfl)
theorem dX0_goesBy_5 : decode cX0_goesBy 5 = .ok (.istore_n 2, 1) := dk_61 (dk_at dksX0_goesBy_0 5 rfl rfl)
theorem dX0_goesBy_6 : decode cX0_goesBy 6 = .ok (.iconst 0, 1) := dk_3 (dk_at dksX0_goesBy_0 6 rfl rfl)
theorem dX0_goesBy_7 : decode cX0_goesBy 7 = .ok (.istore_n 3, 1) := dk_62 (dk_at dksX0_goesBy_0 7 rfl rfl)
theorem dX0_goesBy_8 : decode cX0_goesBy 8 = .ok (.iload_n 3, 1) := dk_29 (dk_at dksX0_goesBy_0 8 rfl rfl)
theorem dX0_goesBy_9 : decode cX0_goesBy 9 = .ok (.aload_n 0, 1) := dk_42 (dk_at dksX0_goesBy_0 9 rfl rfl)
theorem dX0_goesBy_10 : decode cX0_goesBy 10 = .ok (.getfield 53, 3) := dk_180 0 53 (dk_at dksX0_goesBy_0 10 rfl rfl)
theorem dX0_goesBy_13 : decode cX0_goesBy 13 = .ok (.iload_n 1, 1) := dk_27 (dk_at dksX0_goesBy_0 13 rfl rfl)
theorem dX0_goesBy_14 : decode cX0_goesBy 14 = .ok (.aaload, 1) := dk_50 (dk_at dksX0_goesBy_0 14 rfl rfl)
theorem dX0_goesBy_15 : decode cX0_goesBy 15 = .ok (.invokevirtual 309, 3) := dk_182 1 53 (dk_at dksX0_goesBy_0 15 rfl rfl)
theorem dX0_goesBy_18 : decode cX0_goesBy 18 = .ok (.if_icmp .ge 98, 3) := dk_162 0 98 (dk_at dksX0_goesBy_0 18 rfl rfl)
theorem dX0_goesBy_21 : decode cX0_goesBy 21 = .ok (.aload_n 0, 1) := dk_42 (dk_at dksX0_goesBy_0 21 rfl rfl)
theorem dX0_goesBy_22 : decode cX0_goesBy 22 = .ok (.iload_n 1, 1) := dk_27 (dk_at dksX0_goesBy_0 22 rfl rfl)
theorem dX0_goesBy_23 : decode cX0_goesBy 23 = .ok (.iload_n 3, 1) := dk_29 (dk_at dksX0_goesBy_0 23 rfl rfl)
theorem dX0_goesBy_24 : decode cX0_goesBy 24 = .ok (.invokevirtual 375, 3) := dk_182 1 119 (dk_at dksX0_goesBy_1 0 rfl rfl)
theorem dX0_goesBy_27 : decode cX0_goesBy 27 = .ok (.ifCond .eq 18, 3) := dk_153 0 18 (dk_at dksX0_goesBy_1 3 rfl rfl)
theorem dX0_goesBy_30 : decode cX0_goesBy 30 = .ok (.aload_n 0, 1) := dk_42 (dk_at dksX0_goesBy_1 6 rfl rfl)
theorem dX0_goesBy_31 : decode cX0_goesBy 31 = .ok (.iconst 4, 1) := dk_7 (dk_at dksX0_goesBy_1 7 rfl rfl)
theorem dX0_goesBy_32 : decode cX0_goesBy 32 = .ok (.invokevirtual 180, 3) := dk_182 0 180 (dk_at dksX0_goesBy_1 8 rfl rfl)
theorem dX0_goesBy_35 : decode cX0_goesBy 35 = .ok (.iconst 0, 1) := dk_3 (dk_at dksX0_goesBy_1 11 rfl rfl)
theorem dX0_goesBy_36 : decode cX0_goesBy 36 = .ok (.iconst 0, 1) := dk_3 (dk_at dksX0_goesBy_1 12 rfl rfl)
theorem dX0_goesBy_37 : decode cX0_goesBy 37 = .ok (.iconst 0, 1) := dk_3 (dk_at dksX0_goesBy_1 13 rfl rfl)
theorem dX0_goesBy_38 : decode cX0_goesBy 38 = .ok (.iconst 0, 1) := dk_3 (dk_at dksX0_goesBy_1 14 rfl rfl)
theorem dX0_goesBy_39 : decode cX0_goesBy 39 = .ok (.invokevirtual 183, 3) := dk_182 0 183 (dk_at dksX0_goesBy_1 15 rfl rfl)
theorem dX0_goesBy_42 : decode cX0_goesBy 42 = .ok (.goto 65, 3) := dk_167 0 65 (dk_at dksX0_goesBy_1 18 rfl rfl)
theorem dX0_goesBy_45 : decode cX0_goesBy 45 = .ok (.aload_n 0, 1) := dk_42 (dk_at dksX0_goesBy_1 21 rfl rfl)
theorem dX0_goesBy_46 : decode cX0_goesBy 46 = .ok (.aload_n 0, 1) := dk_42 (dk_at dksX0_goesBy_1 22 rfl rfl)
theorem dX0_goesBy_47 : decode cX0_goesBy 47 = .ok (.iload_n 1, 1) := dk_27 (dk_at dksX0_goesBy_1 23 rfl rfl)
theorem dX0_goesBy_48 : decode cX0_goesBy 48 = .ok (.iload_n 3, 1) := dk_29 (dk_at dksX0_goesBy_2 0 rfl rfl)
theorem dX0_goesBy_49 : decode cX0_goesBy 49 = .ok (.invokevirtual 314, 3) := dk_182 1 58 (dk_at dksX0_goesBy_2 1 rfl rfl)
theorem dX0_goesBy_52 : decode cX0_goesBy 52 = .ok (.aload_n 0, 1) := dk_42 (dk_at dksX0_goesBy_2 4 rfl rfl)
theorem dX0_goesBy_53 : decode cX0_goesBy 53 = .ok (.iload_n 1, 1) := dk_27 (dk_at dksX0_goesBy_2 5 rfl rfl)
theorem dX0_goesBy_54 : decode cX0_goesBy 54 = .ok (.iload_n 3, 1) := dk_29 (dk_at dksX0_goesBy_2 6 rfl rfl)
theorem dX0_goesBy_55 : decode cX0_goesBy 55 = .ok (.iconst 1, 1) := dk_4 (dk_at dksX0_goesBy_2 7 rfl rfl)
theorem dX0_goesBy_56 : decode cX0_goesBy 56 = .ok (.iadd, 1) := dk_96 (dk_at dksX0_goesBy_2 8 rfl rfl)
theorem dX0_goesBy_57 : decode cX0_goesBy 57 = .ok (.invokevirtual 314, 3) := dk_182 1 58 (dk_at dksX0_goesBy_2 9 rfl rfl)
theorem dX0_goesBy_60 : decode cX0_goesBy 60 = .ok (.aload_n 0, 1) := dk_42 (dk_at dksX0_goesBy_2 12 rfl rfl)
theorem dX0_goesBy_61 : decode cX0_goesBy 61 = .ok (.iload_n 1, 1) := dk_27 (dk_at dksX0_goesBy_2 13 rfl rfl)
theorem dX0_goesBy_62 : decode cX0_goesBy 62 = .ok (.iload_n 3, 1) := dk_29 (dk_at dksX0_goesBy_2 14 rfl rfl)
theorem dX0_goesBy_63 : decode cX0_goesBy 63 = .ok (.iconst 2, 1) := dk_5 (dk_at dksX0_goesBy_2 15 rfl rfl)
theorem dX0_goesBy_64 : decode cX0_goesBy 64 = .ok (.iadd, 1) := dk_96 (dk_at dksX0_goesBy_2 16 rfl rfl)
theorem dX0_goesBy_65 : decode cX0_goesBy 65 = .ok (.invokevirtual 314, 3) := dk_182 1 58 (dk_at dksX0_goesBy_2 17 rfl rfl)
theorem dX0_goesBy_68 : decode cX0_goesBy 68 = .ok (.invokevirtual 245, 3) := dk_182 0 245 (dk_at dksX0_goesBy_2 20 rfl rfl)
theorem dX0_goesBy_71 : decode cX0_goesBy 71 = .ok (.ifCond .eq 5, 3) := dk_153 0 5 (dk_at dksX0_goesBy_3 0 rfl rfl)
theorem dX0_goesBy_74 : decode cX0_goesBy 74 = .ok (.iload_n 2, 1) := dk_28 (dk_at dksX0_goesBy_3 3 rfl rfl)
theorem dX0_goesBy_75 : decode cX0_goesBy 75 = .ok (.ireturn, 1) := dk_172 (dk_at dksX0_goesBy_3 4 rfl rfl)
theorem dX0_goesBy_76 : decode cX0_goesBy 76 = .ok (.aload_n 0, 1) := dk_42 (dk_at dksX0_goesBy_3 5 rfl rfl)
theorem dX0_goesBy_77 : decode cX0_goesBy 77 = .ok (.iconst 0, 1) := dk_3 (dk_at dksX0_goesBy_3 6 rfl rfl)
theorem dX0_goesBy_78 : decode cX0_goesBy 78 = .ok (.invokevirtual 180, 3) := dk_182 0 180 (dk_at dksX0_goesBy_3 7 rfl rfl)
theorem dX0_goesBy_81 : decode cX0_goesBy 81 = .ok (.aload_n 0, 1) := dk_42 (dk_at dksX0_goesBy_3 10 rfl rfl)
theorem dX0_goesBy_82 : decode cX0_goesBy 82 = .ok (.iload_n 1, 1) := dk_27 (dk_at dksX0_goesBy_3 11 rfl rfl)
theorem dX0_goesBy_83 : decode cX0_goesBy 83 = .ok (.iload_n 3, 1) := dk_29 (dk_at dksX0_goesBy_3 12 rfl rfl)
theorem dX0_goesBy_84 : decode cX0_goesBy 84 = .ok (.invokevirtual 314, 3) := dk_182 1 58 (dk_at dksX0_goesBy_3 13 rfl rfl)
theorem dX0_goesBy_87 : decode cX0_goesBy 87 = .ok (.aload_n 0, 1) := dk_42 (dk_at dksX0_goesBy_3 16 rfl rfl)
theorem dX0_goesBy_88 : decode cX0_goesBy 88 = .ok (.iload_n 1, 1) := dk_27 (dk_at dksX0_goesBy_3 17 rfl rfl)
theorem dX0_goesBy_89 : decode cX0_goesBy 89 = .ok (.iload_n 3, 1) := dk_29 (dk_at dksX0_goesBy_3 18 rfl rfl)
theorem dX0_goesBy_90 : decode cX0_goesBy 90 = .ok (.iconst 1, 1) := dk_4 (dk_at dksX0_goesBy_3 19 rfl rfl)
theorem dX0_goesBy_91 : decode cX0_goesBy 91 = .ok (.iadd, 1) := dk_96 (dk_at dksX0_goesBy_3 20 rfl rfl)
theorem dX0_goesBy_92 : decode cX0_goesBy 92 = .ok (.invokevirtual 314, 3) := dk_182 1 58 (dk_at dksX0_goesBy_3 21 rfl rfl)
theorem dX0_goesBy_95 : decode cX0_goesBy 95 = .ok (.aload_n 0, 1) := dk_42 (dk_at dksX0_goesBy_4 0 rfl rfl)
theorem dX0_goesBy_96 : decode cX0_goesBy 96 = .ok (.iload_n 1, 1) := dk_27 (dk_at dksX0_goesBy_4 1 rfl rfl)
theorem dX0_goesBy_97 : decode cX0_goesBy 97 = .ok (.iload_n 3, 1) := dk_29 (dk_at dksX0_goesBy_4 2 rfl rfl)
theorem dX0_goesBy_98 : decode cX0_goesBy 98 = .ok (.iconst 2, 1) := dk_5 (dk_at dksX0_goesBy_4 3 rfl rfl)
theorem dX0_goesBy_99 : decode cX0_goesBy 99 = .ok (.iadd, 1) := dk_96 (dk_at dksX0_goesBy_4 4 rfl rfl)
theorem dX0_goesBy_100 : decode cX0_goesBy 100 = .ok (.invokevirtual 314, 3) := dk_182 1 58 (dk_at dksX0_goesBy_4 5 rfl rfl)
theorem dX0_goesBy_103 : decode cX0_goesBy 103 = .ok (.iconst 0, 1) := dk_3 (dk_at dksX0_goesBy_4 8 rfl rfl)
theorem dX0_goesBy_104 : decode cX0_goesBy 104 = .ok (.invokevirtual 183, 3) := dk_182 0 183 (dk_at dksX0_goesBy_4 9 rfl rfl)
theorem dX0_goesBy_107 : decode cX0_goesBy 107 = .ok (.iinc 2 1, 3) := dk_132 2 1 (dk_at dksX0_goesBy_4 12 rfl rfl)
theorem dX0_goesBy_110 : decode cX0_goesBy 110 = .ok (.iinc 3 3, 3) := dk_132 3 3 (dk_at dksX0_goesBy_4 15 rfl rfl)
theorem dX0_goesBy_113 : decode cX0_goesBy 113 = .ok (.goto (-105), 3) := dk_167 255 151 (dk_at dksX0_goesBy_4 18 rfl rfl)
theorem dX0_goesBy_116 : decode cX0_goesBy 116 = .ok (.iload_n 2, 1) := dk_28 (dk_at dksX0_goesBy_4 21 rfl rfl)
theorem dX0_goesBy_117 : decode cX0_goesBy 117 = .ok (.ireturn, 1) := dk_172 (dk_at dksX0_goesBy_4 22 rfl rfl)
abbrev cX0_freed : ByteArray := prog_1_method_110_code
def yX0_freed : MethodName := ⟨RX0, "freed", "(I)I"⟩
def dkwX0_freed_0 : List UInt8 := [42, 27, 182, 1, 122, 61, 28, 156, 0, 5, 28, 172, 42, 27, 182, 1, 125, 87, 42, 2, 182, 0, 198, 172]
abbrev dktX0_freed_0 : List UInt8 := dkwX0_freed_0 ++ []
theorem dksX0_freed_0 : cX0_freed.data.toList.drop 0 = dktX0_freed_0 := by decide +kernel
theorem dX0_freed_0 : decode cX0_freed 0 = .ok (.aload_n 0, 1) := dk_42 (dk_at dksX0_freed_0 0 rfl rfl)
theorem dX0_freed_1 : decode cX0_freed 1 = .ok (.iload_n 1, 1) := dk_27 (dk_at dksX0_freed_0 1 rfl rfl)
theorem dX0_freed_2 : decode cX0_freed 2 = .ok (.invokevirtual 378, 3) := dk_182 1 122 (dk_at dksX0_freed_0 2 rfl rfl)
theorem dX0_freed_5 : decode cX0_freed 5 = .ok (.istore_n 2, 1) := dk_61 (dk_at dksX0_freed_0 5 rfl rfl)
theorem dX0_freed_6 : decode cX0_freed 6 = .ok (.iload_n 2, 1) := dk_28 (dk_at dksX0_freed_0 6 rfl rfl)
theorem dX0_freed_7 : decode cX0_freed 7 = .ok (.ifCond .ge 5, 3) := dk_156 0 5 (dk_at dksX0_freed_0 7 rfl rfl)
theorem dX0_freed_10 : decode cX0_freed 10 = .ok (.iload_n 2, 1) := dk_28 (dk_at dksX0_freed_0 10 rfl rfl)
theorem dX0_freed_11 : decode cX0_freed 11 = .ok (.ireturn, 1) := dk_172 (dk_at dksX0_freed_0 11 rfl rfl)
theorem dX0_freed_12 : decode cX0_freed 12 = .ok (.aload_n 0, 1) := dk_42 (dk_at dksX0_freed_0 12 rfl rfl)
theorem dX0_freed_13 : decode cX0_freed 13 = .ok (.iload_n 1, 1) := dk_27 (dk_at dksX0_freed_0 13 rfl rfl)
theorem dX0_freed_14 : decode cX0_freed 14 = .ok (.invokevirtual 381, 3) := dk_182 1 125 (dk_at dksX0_freed_0 14 rfl rfl)
theorem dX0_freed_17 : decode cX0_freed 17 = .ok (.pop, 1) := dk_87 (dk_at dksX0_freed_0 17 rfl rfl)
theorem dX0_freed_18 : decode cX0_freed 18 = .ok (.aload_n 0, 1) := dk_42 (dk_at dksX0_freed_0 18 rfl rfl)
theorem dX0_freed_19 : decode cX0_freed 19 = .ok (.iconst (-1), 1) := dk_2 (dk_at dksX0_freed_0 19 rfl rfl)
theorem dX0_freed_20 : decode cX0_freed 20 = .ok (.invokevirtual 198, 3) := dk_182 0 198 (dk_at dksX0_freed_0 20 rfl rfl)
theorem dX0_freed_23 : decode cX0_freed 23 = .ok (.ireturn, 1) := dk_172 (dk_at dksX0_freed_0 23 rfl rfl)
abbrev cX0_drawn : ByteArray := prog_1_method_112_code
def yX0_drawn : MethodName := ⟨RX0, "drawn", "(II)I"⟩
def dkwX0_drawn_1 : List UInt8 := [182, 1, 139, 42, 180, 0, 24, 28, 46, 172]
abbrev dktX0_drawn_1 : List UInt8 := dkwX0_drawn_1 ++ []
def dkwX0_drawn_0 : List UInt8 := [27, 184, 1, 136, 153, 0, 12, 42, 28, 133, 182, 0, 186, 154, 0, 6, 16, 254, 172, 42, 27, 133]
abbrev dktX0_drawn_0 : List UInt8 := dkwX0_drawn_0 ++ dktX0_drawn_1
theorem dksX0_drawn_0 : cX0_drawn.data.toList.drop 0 = dktX0_drawn_0 := by decide +kernel
theorem dksX0_drawn_1 : cX0_drawn.data.toList.drop 22 = dktX0_drawn_1 := dk_seg dksX0_drawn_0 22 rfl rfl
theorem dX0_drawn_0 : decode cX0_drawn 0 = .ok (.iload_n 1, 1) := dk_27 (dk_at dksX0_drawn_0 0 rfl rfl)
theorem dX0_drawn_1 : decode cX0_drawn 1 = .ok (.invokestatic 392, 3) := dk_184 1 136 (dk_at dksX0_drawn_0 1 rfl rfl)
theorem dX0_drawn_4 : decode cX0_drawn 4 = .ok (.ifCond .eq 12, 3) := dk_153 0 12 (dk_at dksX0_drawn_0 4 rfl rfl)
theorem dX0_drawn_7 : decode cX0_drawn 7 = .ok (.aload_n 0, 1) := dk_42 (dk_at dksX0_drawn_0 7 rfl rfl)
theorem dX0_drawn_8 : decode cX0_drawn 8 = .ok (.iload_n 2, 1) := dk_28 (dk_at dksX0_drawn_0 8 rfl rfl)
theorem dX0_drawn_9 : decode cX0_drawn 9 = .ok (.i2l, 1) := dk_133 (dk_at dksX0_drawn_0 9 rfl rfl)
theorem dX0_drawn_10 : decode cX0_drawn 10 = .ok (.invokevirtual 186, 3) := dk_182 0 186 (dk_at dksX0_drawn_0 10 rfl rfl)
theorem dX0_drawn_13 : decode cX0_drawn 13 = .ok (.ifCond .ne 6, 3) := dk_154 0 6 (dk_at dksX0_drawn_0 13 rfl rfl)
theorem dX0_drawn_16 : decode cX0_drawn 16 = .ok (.bipush (-2), 2) := dk_16 254 (dk_at dksX0_drawn_0 16 rfl rfl)
theorem dX0_drawn_18 : decode cX0_drawn 18 = .ok (.ireturn, 1) := dk_172 (dk_at dksX0_drawn_0 18 rfl rfl)
theorem dX0_drawn_19 : decode cX0_drawn 19 = .ok (.aload_n 0, 1) := dk_42 (dk_at dksX0_drawn_0 19 rfl rfl)
theorem dX0_drawn_20 : decode cX0_drawn 20 = .ok (.iload_n 1, 1) := dk_27 (dk_at dksX0_drawn_0 20 rfl rfl)
theorem dX0_drawn_21 : decode cX0_drawn 21 = .ok (.i2l, 1) := dk_133 (dk_at dksX0_drawn_0 21 rfl rfl)
theorem dX0_drawn_22 : decode cX0_drawn 22 = .ok (.invokevirtual 395, 3) := dk_182 1 139 (dk_at dksX0_drawn_1 0 rfl rfl)
theorem dX0_drawn_25 : decode cX0_drawn 25 = .ok (.aload_n 0, 1) := dk_42 (dk_at dksX0_drawn_1 3 rfl rfl)
theorem dX0_drawn_26 : decode cX0_drawn 26 = .ok (.getfield 24, 3) := dk_180 0 24 (dk_at dksX0_drawn_1 4 rfl rfl)
theorem dX0_drawn_29 : decode cX0_drawn 29 = .ok (.iload_n 2, 1) := dk_28 (dk_at dksX0_drawn_1 7 rfl rfl)
theorem dX0_drawn_30 : decode cX0_drawn 30 = .ok (.iaload, 1) := dk_46 (dk_at dksX0_drawn_1 8 rfl rfl)
theorem dX0_drawn_31 : decode cX0_drawn 31 = .ok (.ireturn, 1) := dk_172 (dk_at dksX0_drawn_1 9 rfl rfl)
abbrev cX0_isSeed : ByteArray := prog_1_method_13_code
def yX0_isSeed : MethodName := ⟨RX0, "isSeed", "(I)Z"⟩
def dkwX0_isSeed_0 : List UInt8 := [26, 133, 9, 20, 0, 101, 184, 0, 67, 172]
abbrev dktX0_isSeed_0 : List UInt8 := dkwX0_isSeed_0 ++ []
theorem dksX0_isSeed_0 : cX0_isSeed.data.toList.drop 0 = dktX0_isSeed_0 := by decide +kernel
theorem dX0_isSeed_0 : decode cX0_isSeed 0 = .ok (.iload_n 0, 1) := dk_26 (dk_at dksX0_isSeed_0 0 rfl rfl)
theorem dX0_isSeed_1 : decode cX0_isSeed 1 = .ok (.i2l, 1) := dk_133 (dk_at dksX0_isSeed_0 1 rfl rfl)
theorem dX0_isSeed_2 : decode cX0_isSeed 2 = .ok (.lconst 0, 1) := dk_9 (dk_at dksX0_isSeed_0 2 rfl rfl)
theorem dX0_isSeed_3 : decode cX0_isSeed 3 = .ok (.ldc2_w 101, 3) := dk_20 0 101 (dk_at dksX0_isSeed_0 3 rfl rfl)
theorem dX0_isSeed_6 : decode cX0_isSeed 6 = .ok (.invokestatic 67, 3) := dk_184 0 67 (dk_at dksX0_isSeed_0 6 rfl rfl)
theorem dX0_isSeed_9 : decode cX0_isSeed 9 = .ok (.ireturn, 1) := dk_172 (dk_at dksX0_isSeed_0 9 rfl rfl)
abbrev cX0_deals : ByteArray := prog_1_method_111_code
def yX0_deals : MethodName := ⟨RX0, "deals", "(J)V"⟩
def dkwX0_deals_5 : List UInt8 := [162, 0, 21, 42, 180, 0, 24, 25, 5, 21, 6, 46, 21, 6, 79, 132, 6, 1, 167, 255, 229, 177]
abbrev dktX0_deals_5 : List UInt8 := dkwX0_deals_5 ++ []
def dkwX0_deals_4 : List UInt8 := [21, 7, 21, 8, 79, 132, 6, 255, 167, 255, 196, 3, 54, 6, 21, 6, 42, 180, 0, 12, 180, 0, 94]
abbrev dktX0_deals_4 : List UInt8 := dkwX0_deals_4 ++ dktX0_deals_5
def dkwX0_deals_3 : List UInt8 := [113, 136, 54, 7, 25, 5, 21, 6, 46, 54, 8, 25, 5, 21, 6, 25, 5, 21, 7, 46, 79, 25, 5]
abbrev dktX0_deals_3 : List UInt8 := dkwX0_deals_3 ++ dktX0_deals_4
def dkwX0_deals_2 : List UInt8 := [20, 1, 128, 33, 105, 20, 1, 130, 97, 20, 1, 132, 113, 66, 33, 20, 1, 134, 109, 21, 6, 4, 96, 133]
abbrev dktX0_deals_2 : List UInt8 := dkwX0_deals_2 ++ dktX0_deals_3
def dkwX0_deals_1 : List UInt8 := [79, 132, 6, 1, 167, 255, 239, 42, 180, 0, 12, 180, 0, 94, 4, 100, 54, 6, 21, 6, 158, 0, 61]
abbrev dktX0_deals_1 : List UInt8 := dkwX0_deals_1 ++ dktX0_deals_2
def dkwX0_deals_0 : List UInt8 := [31, 66, 42, 180, 0, 47, 58, 5, 3, 54, 6, 21, 6, 16, 8, 162, 0, 16, 25, 5, 21, 6, 21, 6]
abbrev dktX0_deals_0 : List UInt8 := dkwX0_deals_0 ++ dktX0_deals_1
theorem dksX0_deals_0 : cX0_deals.data.toList.drop 0 = dktX0_deals_0 := by decide +kernel
theorem dksX0_deals_1 : cX0_deals.data.toList.drop 24 = dktX0_deals_1 := dk_seg dksX0_deals_0 24 rfl rfl
theorem dksX0_deals_2 : cX0_deals.data.toList.drop 47 = dktX0_deals_2 := dk_seg dksX0_deals_1 23 rfl rfl
theorem dksX0_deals_3 : cX0_deals.data.toList.drop 71 = dktX0_deals_3 := dk_seg dksX0_deals_2 24 rfl rfl
theorem dksX0_deals_4 : cX0_deals.data.toList.drop 94 = dktX0_deals_4 := dk_seg dksX0_deals_3 23 rfl rfl
theorem dksX0_deals_5 : cX0_deals.data.toList.drop 117 = dktX0_deals_5 := dk_seg dksX0_deals_4 23 rfl rfl
theorem dX0_deals_0 : decode cX0_deals 0 = .ok (.lload_n 1, 1) := dk_31 (dk_at dksX0_deals_0 0 rfl rfl)
theorem dX0_deals_1 : decode cX0_deals 1 = .ok (.lstore_n 3, 1) := dk_66 (dk_at dksX0_deals_0 1 rfl rfl)
theorem dX0_deals_2 : decode cX0_deals 2 = .ok (.aload_n 0, 1) := dk_42 (dk_at dksX0_deals_0 2 rfl rfl)
theorem dX0_deals_3 : decode cX0_deals 3 = .ok (.getfield 47, 3) := dk_180 0 47 (dk_at dksX0_deals_0 3 rfl rfl)
theorem dX0_deals_6 : decode cX0_deals 6 = .ok (.astore 5, 2) := dk_58 5 (dk_at dksX0_deals_0 6 rfl rfl)
theorem dX0_deals_8 : decode cX0_deals 8 = .ok (.iconst 0, 1) := dk_3 (dk_at dksX0_deals_0 8 rfl rfl)
theorem dX0_deals_9 : decode cX0_deals 9 = .ok (.istore 6, 2) := dk_54 6 (dk_at dksX0_deals_0 9 rfl rfl)
theorem dX0_deals_11 : decode cX0_deals 11 = .ok (.iload 6, 2) := dk_21 6 (dk_at dksX0_deals_0 11 rfl rfl)
theorem dX0_deals_13 : decode cX0_deals 13 = .ok (.bipush 8, 2) := dk_16 8 (dk_at dksX0_deals_0 13 rfl rfl)
theorem dX0_deals_15 : decode cX0_deals 15 = .ok (.if_icmp .ge 16, 3) := dk_162 0 16 (dk_at dksX0_deals_0 15 rfl rfl)
theorem dX0_deals_18 : decode cX0_deals 18 = .ok (.aload 5, 2) := dk_25 5 (dk_at dksX0_deals_0 18 rfl rfl)
theorem dX0_deals_20 : decode cX0_deals 20 = .ok (.iload 6, 2) := dk_21 6 (dk_at dksX0_deals_0 20 rfl rfl)
theorem dX0_deals_22 : decode cX0_deals 22 = .ok (.iload 6, 2) := dk_21 6 (dk_at dksX0_deals_0 22 rfl rfl)
theorem dX0_deals_24 : decode cX0_deals 24 = .ok (.iastore, 1) := dk_79 (dk_at dksX0_deals_1 0 rfl rfl)
theorem dX0_deals_25 : decode cX0_deals 25 = .ok (.iinc 6 1, 3) := dk_132 6 1 (dk_at dksX0_deals_1 1 rfl rfl)
theorem dX0_deals_28 : decode cX0_deals 28 = .ok (.goto (-17), 3) := dk_167 255 239 (dk_at dksX0_deals_1 4 rfl rfl)
theorem dX0_deals_31 : decode cX0_deals 31 = .ok (.aload_n 0, 1) := dk_42 (dk_at dksX0_deals_1 7 rfl rfl)
theorem dX0_deals_32 : decode cX0_deals 32 = .ok (.getfield 12, 3) := dk_180 0 12 (dk_at dksX0_deals_1 8 rfl rfl)
theorem dX0_deals_35 : decode cX0_deals 35 = .ok (.getfield 94, 3) := dk_180 0 94 (dk_at dksX0_deals_1 11 rfl rfl)
theorem dX0_deals_38 : decode cX0_deals 38 = .ok (.iconst 1, 1) := dk_4 (dk_at dksX0_deals_1 14 rfl rfl)
theorem dX0_deals_39 : decode cX0_deals 39 = .ok (.isub, 1) := dk_100 (dk_at dksX0_deals_1 15 rfl rfl)
theorem dX0_deals_40 : decode cX0_deals 40 = .ok (.istore 6, 2) := dk_54 6 (dk_at dksX0_deals_1 16 rfl rfl)
theorem dX0_deals_42 : decode cX0_deals 42 = .ok (.iload 6, 2) := dk_21 6 (dk_at dksX0_deals_1 18 rfl rfl)
theorem dX0_deals_44 : decode cX0_deals 44 = .ok (.ifCond .le 61, 3) := dk_158 0 61 (dk_at dksX0_deals_1 20 rfl rfl)
theorem dX0_deals_47 : decode cX0_deals 47 = .ok (.ldc2_w 384, 3) := dk_20 1 128 (dk_at dksX0_deals_2 0 rfl rfl)
theorem dX0_deals_50 : decode cX0_deals 50 = .ok (.lload_n 3, 1) := dk_33 (dk_at dksX0_deals_2 3 rfl rfl)
theorem dX0_deals_51 : decode cX0_deals 51 = .ok (.lmul, 1) := dk_105 (dk_at dksX0_deals_2 4 rfl rfl)
theorem dX0_deals_52 : decode cX0_deals 52 = .ok (.ldc2_w 386, 3) := dk_20 1 130 (dk_at dksX0_deals_2 5 rfl rfl)
theorem dX0_deals_55 : decode cX0_deals 55 = .ok (.ladd, 1) := dk_97 (dk_at dksX0_deals_2 8 rfl rfl)
theorem dX0_deals_56 : decode cX0_deals 56 = .ok (.ldc2_w 388, 3) := dk_20 1 132 (dk_at dksX0_deals_2 9 rfl rfl)
theorem dX0_deals_59 : decode cX0_deals 59 = .ok (.lrem, 1) := dk_113 (dk_at dksX0_deals_2 12 rfl rfl)
theorem dX0_deals_60 : decode cX0_deals 60 = .ok (.lstore_n 3, 1) := dk_66 (dk_at dksX0_deals_2 13 rfl rfl)
theorem dX0_deals_61 : decode cX0_deals 61 = .ok (.lload_n 3, 1) := dk_33 (dk_at dksX0_deals_2 14 rfl rfl)
theorem dX0_deals_62 : decode cX0_deals 62 = .ok (.ldc2_w 390, 3) := dk_20 1 134 (dk_at dksX0_deals_2 15 rfl rfl)
theorem dX0_deals_65 : decode cX0_deals 65 = .ok (.ldiv, 1) := dk_109 (dk_at dksX0_deals_2 18 rfl rfl)
theorem dX0_deals_66 : decode cX0_deals 66 = .ok (.iload 6, 2) := dk_21 6 (dk_at dksX0_deals_2 19 rfl rfl)
theorem dX0_deals_68 : decode cX0_deals 68 = .ok (.iconst 1, 1) := dk_4 (dk_at dksX0_deals_2 21 rfl rfl)
theorem dX0_deals_69 : decode cX0_deals 69 = .ok (.iadd, 1) := dk_96 (dk_at dksX0_deals_2 22 rfl rfl)
theorem dX0_deals_70 : decode cX0_deals 70 = .ok (.i2l, 1) := dk_133 (dk_at dksX0_deals_2 23 rfl rfl)
theorem dX0_deals_71 : decode cX0_deals 71 = .ok (.lrem, 1) := dk_113 (dk_at dksX0_deals_3 0 rfl rfl)
theorem dX0_deals_72 : decode cX0_deals 72 = .ok (.l2i, 1) := dk_136 (dk_at dksX0_deals_3 1 rfl rfl)
theorem dX0_deals_73 : decode cX0_deals 73 = .ok (.istore 7, 2) := dk_54 7 (dk_at dksX0_deals_3 2 rfl rfl)
theorem dX0_deals_75 : decode cX0_deals 75 = .ok (.aload 5, 2) := dk_25 5 (dk_at dksX0_deals_3 4 rfl rfl)
theorem dX0_deals_77 : decode cX0_deals 77 = .ok (.iload 6, 2) := dk_21 6 (dk_at dksX0_deals_3 6 rfl rfl)
theorem dX0_deals_79 : decode cX0_deals 79 = .ok (.iaload, 1) := dk_46 (dk_at dksX0_deals_3 8 rfl rfl)
theorem dX0_deals_80 : decode cX0_deals 80 = .ok (.istore 8, 2) := dk_54 8 (dk_at dksX0_deals_3 9 rfl rfl)
theorem dX0_deals_82 : decode cX0_deals 82 = .ok (.aload 5, 2) := dk_25 5 (dk_at dksX0_deals_3 11 rfl rfl)
theorem dX0_deals_84 : decode cX0_deals 84 = .ok (.iload 6, 2) := dk_21 6 (dk_at dksX0_deals_3 13 rfl rfl)
theorem dX0_deals_86 : decode cX0_deals 86 = .ok (.aload 5, 2) := dk_25 5 (dk_at dksX0_deals_3 15 rfl rfl)
theorem dX0_deals_88 : decode cX0_deals 88 = .ok (.iload 7, 2) := dk_21 7 (dk_at dksX0_deals_3 17 rfl rfl)
theorem dX0_deals_90 : decode cX0_deals 90 = .ok (.iaload, 1) := dk_46 (dk_at dksX0_deals_3 19 rfl rfl)
theorem dX0_deals_91 : decode cX0_deals 91 = .ok (.iastore, 1) := dk_79 (dk_at dksX0_deals_3 20 rfl rfl)
theorem dX0_deals_92 : decode cX0_deals 92 = .ok (.aload 5, 2) := dk_25 5 (dk_at dksX0_deals_3 21 rfl rfl)
theorem dX0_deals_94 : decode cX0_deals 94 = .ok (.iload 7, 2) := dk_21 7 (dk_at dksX0_deals_4 0 rfl rfl)
theorem dX0_deals_96 : decode cX0_deals 96 = .ok (.iload 8, 2) := dk_21 8 (dk_at dksX0_deals_4 2 rfl rfl)
theorem dX0_deals_98 : decode cX0_deals 98 = .ok (.iastore, 1) := dk_79 (dk_at dksX0_deals_4 4 rfl rfl)
theorem dX0_deals_99 : decode cX0_deals 99 = .ok (.iinc 6 (-1), 3) := dk_132 6 255 (dk_at dksX0_deals_4 5 rfl rfl)
theorem dX0_deals_102 : decode cX0_deals 102 = .ok (.goto (-60), 3) := dk_167 255 196 (dk_at dksX0_deals_4 8 rfl rfl)
theorem dX0_deals_105 : decode cX0_deals 105 = .ok (.iconst 0, 1) := dk_3 (dk_at dksX0_deals_4 11 rfl rfl)
theorem dX0_deals_106 : decode cX0_deals 106 = .ok (.istore 6, 2) := dk_54 6 (dk_at dksX0_deals_4 12 rfl rfl)
theorem dX0_deals_108 : decode cX0_deals 108 = .ok (.iload 6, 2) := dk_21 6 (dk_at dksX0_deals_4 14 rfl rfl)
theorem dX0_deals_110 : decode cX0_deals 110 = .ok (.aload_n 0, 1) := dk_42 (dk_at dksX0_deals_4 16 rfl rfl)
theorem dX0_deals_111 : decode cX0_deals 111 = .ok (.getfield 12, 3) := dk_180 0 12 (dk_at dksX0_deals_4 17 rfl rfl)
theorem dX0_deals_114 : decode cX0_deals 114 = .ok (.getfield 94, 3) := dk_180 0 94 (dk_at dksX0_deals_4 20 rfl rfl)
theorem dX0_deals_117 : decode cX0_deals 117 = .ok (.if_icmp .ge 21, 3) := dk_162 0 21 (dk_at dksX0_deals_5 0 rfl rfl)
theorem dX0_deals_120 : decode cX0_deals 120 = .ok (.aload_n 0, 1) := dk_42 (dk_at dksX0_deals_5 3 rfl rfl)
theorem dX0_deals_121 : decode cX0_deals 121 = .ok (.getfield 24, 3) := dk_180 0 24 (dk_at dksX0_deals_5 4 rfl rfl)
theorem dX0_deals_124 : decode cX0_deals 124 = .ok (.aload 5, 2) := dk_25 5 (dk_at dksX0_deals_5 7 rfl rfl)
theorem dX0_deals_126 : decode cX0_deals 126 = .ok (.iload 6, 2) := dk_21 6 (dk_at dksX0_deals_5 9 rfl rfl)
theorem dX0_deals_128 : decode cX0_deals 128 = .ok (.iaload, 1) := dk_46 (dk_at dksX0_deals_5 11 rfl rfl)
theorem dX0_deals_129 : decode cX0_deals 129 = .ok (.iload 6, 2) := dk_21 6 (dk_at dksX0_deals_5 12 rfl rfl)
theorem dX0_deals_131 : decode cX0_deals 131 = .ok (.iastore, 1) := dk_79 (dk_at dksX0_deals_5 14 rfl rfl)
theorem dX0_deals_132 : decode cX0_deals 132 = .ok (.iinc 6 1, 3) := dk_132 6 1 (dk_at dksX0_deals_5 15 rfl rfl)
theorem dX0_deals_135 : decode cX0_deals 135 = .ok (.goto (-27), 3) := dk_167 255 229 (dk_at dksX0_deals_5 18 rfl rfl)
theorem dX0_deals_138 : decode cX0_deals 138 = .ok (.return_, 1) := dk_177 (dk_at dksX0_deals_5 21 rfl rfl)
abbrev cX0_luck : ByteArray := prog_1_method_113_code
def yX0_luck : MethodName := ⟨RX0, "luck", "(III)I"⟩
def dkwX0_luck_3 : List UInt8 := [96, 54, 4, 132, 5, 1, 167, 255, 217, 21, 4, 172]
abbrev dktX0_luck_3 : List UInt8 := dkwX0_luck_3 ++ []
def dkwX0_luck_2 : List UInt8 := [21, 5, 133, 97, 182, 1, 139, 21, 4, 42, 180, 0, 24, 29, 46, 29, 160, 0, 7, 4, 167, 0, 4, 3]
abbrev dktX0_luck_2 : List UInt8 := dkwX0_luck_2 ++ dktX0_luck_3
def dkwX0_luck_1 : List UInt8 := [182, 0, 186, 154, 0, 6, 16, 254, 172, 3, 54, 4, 3, 54, 5, 21, 5, 28, 162, 0, 39, 42, 27, 133]
abbrev dktX0_luck_1 : List UInt8 := dkwX0_luck_1 ++ dktX0_luck_2
def dkwX0_luck_0 : List UInt8 := [27, 184, 1, 136, 153, 0, 24, 28, 133, 10, 20, 1, 143, 184, 0, 67, 153, 0, 12, 42, 29, 133]
abbrev dktX0_luck_0 : List UInt8 := dkwX0_luck_0 ++ dktX0_luck_1
theorem dksX0_luck_0 : cX0_luck.data.toList.drop 0 = dktX0_luck_0 := by decide +kernel
theorem dksX0_luck_1 : cX0_luck.data.toList.drop 22 = dktX0_luck_1 := dk_seg dksX0_luck_0 22 rfl rfl
theorem dksX0_luck_2 : cX0_luck.data.toList.drop 46 = dktX0_luck_2 := dk_seg dksX0_luck_1 24 rfl rfl
theorem dksX0_luck_3 : cX0_luck.data.toList.drop 70 = dktX0_luck_3 := dk_seg dksX0_luck_2 24 rfl rfl
theorem dX0_luck_0 : decode cX0_luck 0 = .ok (.iload_n 1, 1) := dk_27 (dk_at dksX0_luck_0 0 rfl rfl)
theorem dX0_luck_1 : decode cX0_luck 1 = .ok (.invokestatic 392, 3) := dk_184 1 136 (dk_at dksX0_luck_0 1 rfl rfl)
theorem dX0_luck_4 : decode cX0_luck 4 = .ok (.ifCond .eq 24, 3) := dk_153 0 24 (dk_at dksX0_luck_0 4 rfl rfl)
theorem dX0_luck_7 : decode cX0_luck 7 = .ok (.iload_n 2, 1) := dk_28 (dk_at dksX0_luck_0 7 rfl rfl)
theorem dX0_luck_8 : decode cX0_luck 8 = .ok (.i2l, 1) := dk_133 (dk_at dksX0_luck_0 8 rfl rfl)
theorem dX0_luck_9 : decode cX0_luck 9 = .ok (.lconst 1, 1) := dk_10 (dk_at dksX0_luck_0 9 rfl rfl)
theorem dX0_luck_10 : decode cX0_luck 10 = .ok (.ldc2_w 399, 3) := dk_20 1 143 (dk_at dksX0_luck_0 10 rfl rfl)
theorem dX0_luck_13 : decode cX0_luck 13 = .ok (.invokestatic 67, 3) := dk_184 0 67 (dk_at dksX0_luck_0 13 rfl rfl)
theorem dX0_luck_16 : decode cX0_luck 16 = .ok (.ifCond .eq 12, 3) := dk_153 0 12 (dk_at dksX0_luck_0 16 rfl rfl)
theorem dX0_luck_19 : decode cX0_luck 19 = .ok (.aload_n 0, 1) := dk_42 (dk_at dksX0_luck_0 19 rfl rfl)
theorem dX0_luck_20 : decode cX0_luck 20 = .ok (.iload_n 3, 1) := dk_29 (dk_at dksX0_luck_0 20 rfl rfl)
theorem dX0_luck_21 : decode cX0_luck 21 = .ok (.i2l, 1) := dk_133 (dk_at dksX0_luck_0 21 rfl rfl)
theorem dX0_luck_22 : decode cX0_luck 22 = .ok (.invokevirtual 186, 3) := dk_182 0 186 (dk_at dksX0_luck_1 0 rfl rfl)
theorem dX0_luck_25 : decode cX0_luck 25 = .ok (.ifCond .ne 6, 3) := dk_154 0 6 (dk_at dksX0_luck_1 3 rfl rfl)
theorem dX0_luck_28 : decode cX0_luck 28 = .ok (.bipush (-2), 2) := dk_16 254 (dk_at dksX0_luck_1 6 rfl rfl)
theorem dX0_luck_30 : decode cX0_luck 30 = .ok (.ireturn, 1) := dk_172 (dk_at dksX0_luck_1 8 rfl rfl)
theorem dX0_luck_31 : decode cX0_luck 31 = .ok (.iconst 0, 1) := dk_3 (dk_at dksX0_luck_1 9 rfl rfl)
theorem dX0_luck_32 : decode cX0_luck 32 = .ok (.istore 4, 2) := dk_54 4 (dk_at dksX0_luck_1 10 rfl rfl)
theorem dX0_luck_34 : decode cX0_luck 34 = .ok (.iconst 0, 1) := dk_3 (dk_at dksX0_luck_1 12 rfl rfl)
theorem dX0_luck_35 : decode cX0_luck 35 = .ok (.istore 5, 2) := dk_54 5 (dk_at dksX0_luck_1 13 rfl rfl)
theorem dX0_luck_37 : decode cX0_luck 37 = .ok (.iload 5, 2) := dk_21 5 (dk_at dksX0_luck_1 15 rfl rfl)
theorem dX0_luck_39 : decode cX0_luck 39 = .ok (.iload_n 2, 1) := dk_28 (dk_at dksX0_luck_1 17 rfl rfl)
theorem dX0_luck_40 : decode cX0_luck 40 = .ok (.if_icmp .ge 39, 3) := dk_162 0 39 (dk_at dksX0_luck_1 18 rfl rfl)
theorem dX0_luck_43 : decode cX0_luck 43 = .ok (.aload_n 0, 1) := dk_42 (dk_at dksX0_luck_1 21 rfl rfl)
theorem dX0_luck_44 : decode cX0_luck 44 = .ok (.iload_n 1, 1) := dk_27 (dk_at dksX0_luck_1 22 rfl rfl)
theorem dX0_luck_45 : decode cX0_luck 45 = .ok (.i2l, 1) := dk_133 (dk_at dksX0_luck_1 23 rfl rfl)
theorem dX0_luck_46 : decode cX0_luck 46 = .ok (.iload 5, 2) := dk_21 5 (dk_at dksX0_luck_2 0 rfl rfl)
theorem dX0_luck_48 : decode cX0_luck 48 = .ok (.i2l, 1) := dk_133 (dk_at dksX0_luck_2 2 rfl rfl)
theorem dX0_luck_49 : decode cX0_luck 49 = .ok (.ladd, 1) := dk_97 (dk_at dksX0_luck_2 3 rfl rfl)
theorem dX0_luck_50 : decode cX0_luck 50 = .ok (.invokevirtual 395, 3) := dk_182 1 139 (dk_at dksX0_luck_2 4 rfl rfl)
theorem dX0_luck_53 : decode cX0_luck 53 = .ok (.iload 4, 2) := dk_21 4 (dk_at dksX0_luck_2 7 rfl rfl)
theorem dX0_luck_55 : decode cX0_luck 55 = .ok (.aload_n 0, 1) := dk_42 (dk_at dksX0_luck_2 9 rfl rfl)
theorem dX0_luck_56 : decode cX0_luck 56 = .ok (.getfield 24, 3) := dk_180 0 24 (dk_at dksX0_luck_2 10 rfl rfl)
theorem dX0_luck_59 : decode cX0_luck 59 = .ok (.iload_n 3, 1) := dk_29 (dk_at dksX0_luck_2 13 rfl rfl)
theorem dX0_luck_60 : decode cX0_luck 60 = .ok (.iaload, 1) := dk_46 (dk_at dksX0_luck_2 14 rfl rfl)
theorem dX0_luck_61 : decode cX0_luck 61 = .ok (.iload_n 3, 1) := dk_29 (dk_at dksX0_luck_2 15 rfl rfl)
theorem dX0_luck_62 : decode cX0_luck 62 = .ok (.if_icmp .ne 7, 3) := dk_160 0 7 (dk_at dksX0_luck_2 16 rfl rfl)
theorem dX0_luck_65 : decode cX0_luck 65 = .ok (.iconst 1, 1) := dk_4 (dk_at dksX0_luck_2 19 rfl rfl)
theorem dX0_luck_66 : decode cX0_luck 66 = .ok (.goto 4, 3) := dk_167 0 4 (dk_at dksX0_luck_2 20 rfl rfl)
theorem dX0_luck_69 : decode cX0_luck 69 = .ok (.iconst 0, 1) := dk_3 (dk_at dksX0_luck_2 23 rfl rfl)
theorem dX0_luck_70 : decode cX0_luck 70 = .ok (.iadd, 1) := dk_96 (dk_at dksX0_luck_3 0 rfl rfl)
theorem dX0_luck_71 : decode cX0_luck 71 = .ok (.istore 4, 2) := dk_54 4 (dk_at dksX0_luck_3 1 rfl rfl)
theorem dX0_luck_73 : decode cX0_luck 73 = .ok (.iinc 5 1, 3) := dk_132 5 1 (dk_at dksX0_luck_3 3 rfl rfl)
theorem dX0_luck_76 : decode cX0_luck 76 = .ok (.goto (-39), 3) := dk_167 255 217 (dk_at dksX0_luck_3 6 rfl rfl)
theorem dX0_luck_79 : decode cX0_luck 79 = .ok (.iload 4, 2) := dk_21 4 (dk_at dksX0_luck_3 9 rfl rfl)
theorem dX0_luck_81 : decode cX0_luck 81 = .ok (.ireturn, 1) := dk_172 (dk_at dksX0_luck_3 11 rfl rfl)
abbrev cX0_winds : ByteArray := prog_1_method_114_code
def yX0_winds : MethodName := ⟨RX0, "winds", "(II)I"⟩
def dkwX0_winds_2 : List UInt8 := [182, 1, 139, 29, 42, 182, 0, 229, 96, 62, 132, 4, 1, 167, 255, 230, 29, 172]
abbrev dktX0_winds_2 : List UInt8 := dkwX0_winds_2 ++ []
def dkwX0_winds_1 : List UInt8 := [154, 0, 6, 16, 254, 172, 3, 62, 3, 54, 4, 21, 4, 28, 162, 0, 26, 42, 27, 133, 21, 4, 133, 97]
abbrev dktX0_winds_1 : List UInt8 := dkwX0_winds_1 ++ dktX0_winds_2
def dkwX0_winds_0 : List UInt8 := [42, 182, 0, 103, 153, 0, 22, 27, 184, 1, 136, 153, 0, 15, 28, 133, 10, 20, 1, 143, 184, 0, 67]
abbrev dktX0_winds_0 : List UInt8 := dkwX0_winds_0 ++ dktX0_winds_1
theorem dksX0_winds_0 : cX0_winds.data.toList.drop 0 = dktX0_winds_0 := by decide +kernel
theorem dksX0_winds_1 : cX0_winds.data.toList.drop 23 = dktX0_winds_1 := dk_seg dksX0_winds_0 23 rfl rfl
theorem dksX0_winds_2 : cX0_winds.data.toList.drop 47 = dktX0_winds_2 := dk_seg dksX0_winds_1 24 rfl rfl
theorem dX0_winds_0 : decode cX0_winds 0 = .ok (.aload_n 0, 1) := dk_42 (dk_at dksX0_winds_0 0 rfl rfl)
theorem dX0_winds_1 : decode cX0_winds 1 = .ok (.invokevirtual 103, 3) := dk_182 0 103 (dk_at dksX0_winds_0 1 rfl rfl)
theorem dX0_winds_4 : decode cX0_winds 4 = .ok (.ifCond .eq 22, 3) := dk_153 0 22 (dk_at dksX0_winds_0 4 rfl rfl)
theorem dX0_winds_7 : decode cX0_winds 7 = .ok (.iload_n 1, 1) := dk_27 (dk_at dksX0_winds_0 7 rfl rfl)
theorem dX0_winds_8 : decode cX0_winds 8 = .ok (.invokestatic 392, 3) := dk_184 1 136 (dk_at dksX0_winds_0 8 rfl rfl)
theorem dX0_winds_11 : decode cX0_winds 11 = .ok (.ifCond .eq 15, 3) := dk_153 0 15 (dk_at dksX0_winds_0 11 rfl rfl)
theorem dX0_winds_14 : decode cX0_winds 14 = .ok (.iload_n 2, 1) := dk_28 (dk_at dksX0_winds_0 14 rfl rfl)
theorem dX0_winds_15 : decode cX0_winds 15 = .ok (.i2l, 1) := dk_133 (dk_at dksX0_winds_0 15 rfl rfl)
theorem dX0_winds_16 : decode cX0_winds 16 = .ok (.lconst 1, 1) := dk_10 (dk_at dksX0_winds_0 16 rfl rfl)
theorem dX0_winds_17 : decode cX0_winds 17 = .ok (.ldc2_w 399, 3) := dk_20 1 143 (dk_at dksX0_winds_0 17 rfl rfl)
theorem dX0_winds_20 : decode cX0_winds 20 = .ok (.invokestatic 67, 3) := dk_184 0 67 (dk_at dksX0_winds_0 20 rfl rfl)
theorem dX0_winds_23 : decode cX0_winds 23 = .ok (.ifCond .ne 6, 3) := dk_154 0 6 (dk_at dksX0_winds_1 0 rfl rfl)
theorem dX0_winds_26 : decode cX0_winds 26 = .ok (.bipush (-2), 2) := dk_16 254 (dk_at dksX0_winds_1 3 rfl rfl)
theorem dX0_winds_28 : decode cX0_winds 28 = .ok (.ireturn, 1) := dk_172 (dk_at dksX0_winds_1 5 rfl rfl)
theorem dX0_winds_29 : decode cX0_winds 29 = .ok (.iconst 0, 1) := dk_3 (dk_at dksX0_winds_1 6 rfl rfl)
theorem dX0_winds_30 : decode cX0_winds 30 = .ok (.istore_n 3, 1) := dk_62 (dk_at dksX0_winds_1 7 rfl rfl)
theorem dX0_winds_31 : decode cX0_winds 31 = .ok (.iconst 0, 1) := dk_3 (dk_at dksX0_winds_1 8 rfl rfl)
theorem dX0_winds_32 : decode cX0_winds 32 = .ok (.istore 4, 2) := dk_54 4 (dk_at dksX0_winds_1 9 rfl rfl)
theorem dX0_winds_34 : decode cX0_winds 34 = .ok (.iload 4, 2) := dk_21 4 (dk_at dksX0_winds_1 11 rfl rfl)
theorem dX0_winds_36 : decode cX0_winds 36 = .ok (.iload_n 2, 1) := dk_28 (dk_at dksX0_winds_1 13 rfl rfl)
theorem dX0_winds_37 : decode cX0_winds 37 = .ok (.if_icmp .ge 26, 3) := dk_162 0 26 (dk_at dksX0_winds_1 14 rfl rfl)
theorem dX0_winds_40 : decode cX0_winds 40 = .ok (.aload_n 0, 1) := dk_42 (dk_at dksX0_winds_1 17 rfl rfl)
theorem dX0_winds_41 : decode cX0_winds 41 = .ok (.iload_n 1, 1) := dk_27 (dk_at dksX0_winds_1 18 rfl rfl)
theorem dX0_winds_42 : decode cX0_winds 42 = .ok (.i2l, 1) := dk_133 (dk_at dksX0_winds_1 19 rfl rfl)
theorem dX0_winds_43 : decode cX0_winds 43 = .ok (.iload 4, 2) := dk_21 4 (dk_at dksX0_winds_1 20 rfl rfl)
theorem dX0_winds_45 : decode cX0_winds 45 = .ok (.i2l, 1) := dk_133 (dk_at dksX0_winds_1 22 rfl rfl)
theorem dX0_winds_46 : decode cX0_winds 46 = .ok (.ladd, 1) := dk_97 (dk_at dksX0_winds_1 23 rfl rfl)
theorem dX0_winds_47 : decode cX0_winds 47 = .ok (.invokevirtual 395, 3) := dk_182 1 139 (dk_at dksX0_winds_2 0 rfl rfl)
theorem dX0_winds_50 : decode cX0_winds 50 = .ok (.iload_n 3, 1) := dk_29 (dk_at dksX0_winds_2 3 rfl rfl)
theorem dX0_winds_51 : decode cX0_winds 51 = .ok (.aload_n 0, 1) := dk_42 (dk_at dksX0_winds_2 4 rfl rfl)
theorem dX0_winds_52 : decode cX0_winds 52 = .ok (.invokevirtual 229, 3) := dk_182 0 229 (dk_at dksX0_winds_2 5 rfl rfl)
theorem dX0_winds_55 : decode cX0_winds 55 = .ok (.iadd, 1) := dk_96 (dk_at dksX0_winds_2 8 rfl rfl)
theorem dX0_winds_56 : decode cX0_winds 56 = .ok (.istore_n 3, 1) := dk_62 (dk_at dksX0_winds_2 9 rfl rfl)
theorem dX0_winds_57 : decode cX0_winds 57 = .ok (.iinc 4 1, 3) := dk_132 4 1 (dk_at dksX0_winds_2 10 rfl rfl)
theorem dX0_winds_60 : decode cX0_winds 60 = .ok (.goto (-26), 3) := dk_167 255 230 (dk_at dksX0_winds_2 13 rfl rfl)
theorem dX0_winds_63 : decode cX0_winds 63 = .ok (.iload_n 3, 1) := dk_29 (dk_at dksX0_winds_2 16 rfl rfl)
theorem dX0_winds_64 : decode cX0_winds 64 = .ok (.ireturn, 1) := dk_172 (dk_at dksX0_winds_2 17 rfl rfl)
abbrev cX0_rate : ByteArray := prog_1_method_115_code
def yX0_rate : MethodName := ⟨RX0, "rate", "(II)I"⟩
def dkwX0_rate_2 : List UInt8 := [180, 0, 12, 180, 0, 193, 27, 28, 79, 29, 172]
abbrev dktX0_rate_2 : List UInt8 := dkwX0_rate_2 ++ []
def dkwX0_rate_1 : List UInt8 := [42, 180, 0, 12, 180, 0, 143, 158, 0, 6, 16, 251, 172, 42, 180, 0, 12, 180, 0, 193, 27, 46, 62, 42]
abbrev dktX0_rate_1 : List UInt8 := dkwX0_rate_1 ++ dktX0_rate_2
def dkwX0_rate_0 : List UInt8 := [42, 27, 133, 182, 0, 186, 153, 0, 15, 28, 133, 10, 20, 1, 145, 184, 0, 67, 154, 0, 6, 16, 254, 172]
abbrev dktX0_rate_0 : List UInt8 := dkwX0_rate_0 ++ dktX0_rate_1
theorem dksX0_rate_0 : cX0_rate.data.toList.drop 0 = dktX0_rate_0 := by decide +kernel
theorem dksX0_rate_1 : cX0_rate.data.toList.drop 24 = dktX0_rate_1 := dk_seg dksX0_rate_0 24 rfl rfl
theorem dksX0_rate_2 : cX0_rate.data.toList.drop 48 = dktX0_rate_2 := dk_seg dksX0_rate_1 24 rfl rfl
theorem dX0_rate_0 : decode cX0_rate 0 = .ok (.aload_n 0, 1) := dk_42 (dk_at dksX0_rate_0 0 rfl rfl)
theorem dX0_rate_1 : decode cX0_rate 1 = .ok (.iload_n 1, 1) := dk_27 (dk_at dksX0_rate_0 1 rfl rfl)
theorem dX0_rate_2 : decode cX0_rate 2 = .ok (.i2l, 1) := dk_133 (dk_at dksX0_rate_0 2 rfl rfl)
theorem dX0_rate_3 : decode cX0_rate 3 = .ok (.invokevirtual 186, 3) := dk_182 0 186 (dk_at dksX0_rate_0 3 rfl rfl)
theorem dX0_rate_6 : decode cX0_rate 6 = .ok (.ifCond .eq 15, 3) := dk_153 0 15 (dk_at dksX0_rate_0 6 rfl rfl)
theorem dX0_rate_9 : decode cX0_rate 9 = .ok (.iload_n 2, 1) := dk_28 (dk_at dksX0_rate_0 9 rfl rfl)
theorem dX0_rate_10 : decode cX0_rate 10 = .ok (.i2l, 1) := dk_133 (dk_at dksX0_rate_0 10 rfl rfl)
theorem dX0_rate_11 : decode cX0_rate 11 = .ok (.lconst 1, 1) := dk_10 (dk_at dksX0_rate_0 11 rfl rfl)
theorem dX0_rate_12 : decode cX0_rate 12 = .ok (.ldc2_w 401, 3) := dk_20 1 145 (dk_at dksX0_rate_0 12 rfl rfl)
theorem dX0_rate_15 : decode cX0_rate 15 = .ok (.invokestatic 67, 3) := dk_184 0 67 (dk_at dksX0_rate_0 15 rfl rfl)
theorem dX0_rate_18 : decode cX0_rate 18 = .ok (.ifCond .ne 6, 3) := dk_154 0 6 (dk_at dksX0_rate_0 18 rfl rfl)
theorem dX0_rate_21 : decode cX0_rate 21 = .ok (.bipush (-2), 2) := dk_16 254 (dk_at dksX0_rate_0 21 rfl rfl)
theorem dX0_rate_23 : decode cX0_rate 23 = .ok (.ireturn, 1) := dk_172 (dk_at dksX0_rate_0 23 rfl rfl)
theorem dX0_rate_24 : decode cX0_rate 24 = .ok (.aload_n 0, 1) := dk_42 (dk_at dksX0_rate_1 0 rfl rfl)
theorem dX0_rate_25 : decode cX0_rate 25 = .ok (.getfield 12, 3) := dk_180 0 12 (dk_at dksX0_rate_1 1 rfl rfl)
theorem dX0_rate_28 : decode cX0_rate 28 = .ok (.getfield 143, 3) := dk_180 0 143 (dk_at dksX0_rate_1 4 rfl rfl)
theorem dX0_rate_31 : decode cX0_rate 31 = .ok (.ifCond .le 6, 3) := dk_158 0 6 (dk_at dksX0_rate_1 7 rfl rfl)
theorem dX0_rate_34 : decode cX0_rate 34 = .ok (.bipush (-5), 2) := dk_16 251 (dk_at dksX0_rate_1 10 rfl rfl)
theorem dX0_rate_36 : decode cX0_rate 36 = .ok (.ireturn, 1) := dk_172 (dk_at dksX0_rate_1 12 rfl rfl)
theorem dX0_rate_37 : decode cX0_rate 37 = .ok (.aload_n 0, 1) := dk_42 (dk_at dksX0_rate_1 13 rfl rfl)
theorem dX0_rate_38 : decode cX0_rate 38 = .ok (.getfield 12, 3) := dk_180 0 12 (dk_at dksX0_rate_1 14 rfl rfl)
theorem dX0_rate_41 : decode cX0_rate 41 = .ok (.getfield 193, 3) := dk_180 0 193 (dk_at dksX0_rate_1 17 rfl rfl)
theorem dX0_rate_44 : decode cX0_rate 44 = .ok (.iload_n 1, 1) := dk_27 (dk_at dksX0_rate_1 20 rfl rfl)
theorem dX0_rate_45 : decode cX0_rate 45 = .ok (.iaload, 1) := dk_46 (dk_at dksX0_rate_1 21 rfl rfl)
theorem dX0_rate_46 : decode cX0_rate 46 = .ok (.istore_n 3, 1) := dk_62 (dk_at dksX0_rate_1 22 rfl rfl)
theorem dX0_rate_47 : decode cX0_rate 47 = .ok (.aload_n 0, 1) := dk_42 (dk_at dksX0_rate_1 23 rfl rfl)
theorem dX0_rate_48 : decode cX0_rate 48 = .ok (.getfield 12, 3) := dk_180 0 12 (dk_at dksX0_rate_2 0 rfl rfl)
theorem dX0_rate_51 : decode cX0_rate 51 = .ok (.getfield 193, 3) := dk_180 0 193 (dk_at dksX0_rate_2 3 rfl rfl)
theorem dX0_rate_54 : decode cX0_rate 54 = .ok (.iload_n 1, 1) := dk_27 (dk_at dksX0_rate_2 6 rfl rfl)
theorem dX0_rate_55 : decode cX0_rate 55 = .ok (.iload_n 2, 1) := dk_28 (dk_at dksX0_rate_2 7 rfl rfl)
theorem dX0_rate_56 : decode cX0_rate 56 = .ok (.iastore, 1) := dk_79 (dk_at dksX0_rate_2 8 rfl rfl)
theorem dX0_rate_57 : decode cX0_rate 57 = .ok (.iload_n 3, 1) := dk_29 (dk_at dksX0_rate_2 9 rfl rfl)
theorem dX0_rate_58 : decode cX0_rate 58 = .ok (.ireturn, 1) := dk_172 (dk_at dksX0_rate_2 10 rfl rfl)
abbrev cX0_forge : ByteArray := prog_1_method_116_code
def yX0_forge : MethodName := ⟨RX0, "forge", "(II)I"⟩
def dkwX0_forge_3 : List UInt8 := [29, 172]
abbrev dktX0_forge_3 : List UInt8 := dkwX0_forge_3 ++ []
def dkwX0_forge_2 : List UInt8 := [42, 180, 0, 12, 42, 180, 0, 12, 180, 0, 111, 4, 27, 120, 2, 130, 126, 28, 27, 120, 128, 181, 0, 111]
abbrev dktX0_forge_2 : List UInt8 := dkwX0_forge_2 ++ dktX0_forge_3
def dkwX0_forge_1 : List UInt8 := [180, 0, 12, 180, 0, 143, 158, 0, 6, 16, 251, 172, 42, 180, 0, 12, 180, 0, 111, 27, 122, 4, 126, 62]
abbrev dktX0_forge_1 : List UInt8 := dkwX0_forge_1 ++ dktX0_forge_2
def dkwX0_forge_0 : List UInt8 := [42, 27, 133, 182, 0, 186, 153, 0, 12, 28, 133, 5, 184, 0, 97, 154, 0, 6, 16, 254, 172, 42]
abbrev dktX0_forge_0 : List UInt8 := dkwX0_forge_0 ++ dktX0_forge_1
theorem dksX0_forge_0 : cX0_forge.data.toList.drop 0 = dktX0_forge_0 := by decide +kernel
theorem dksX0_forge_1 : cX0_forge.data.toList.drop 22 = dktX0_forge_1 := dk_seg dksX0_forge_0 22 rfl rfl
theorem dksX0_forge_2 : cX0_forge.data.toList.drop 46 = dktX0_forge_2 := dk_seg dksX0_forge_1 24 rfl rfl
theorem dksX0_forge_3 : cX0_forge.data.toList.drop 70 = dktX0_forge_3 := dk_seg dksX0_forge_2 24 rfl rfl
theorem dX0_forge_0 : decode cX0_forge 0 = .ok (.aload_n 0, 1) := dk_42 (dk_at dksX0_forge_0 0 rfl rfl)
theorem dX0_forge_1 : decode cX0_forge 1 = .ok (.iload_n 1, 1) := dk_27 (dk_at dksX0_forge_0 1 rfl rfl)
theorem dX0_forge_2 : decode cX0_forge 2 = .ok (.i2l, 1) := dk_133 (dk_at dksX0_forge_0 2 rfl rfl)
theorem dX0_forge_3 : decode cX0_forge 3 = .ok (.invokevirtual 186, 3) := dk_182 0 186 (dk_at dksX0_forge_0 3 rfl rfl)
theorem dX0_forge_6 : decode cX0_forge 6 = .ok (.ifCond .eq 12, 3) := dk_153 0 12 (dk_at dksX0_forge_0 6 rfl rfl)
theorem dX0_forge_9 : decode cX0_forge 9 = .ok (.iload_n 2, 1) := dk_28 (dk_at dksX0_forge_0 9 rfl rfl)
theorem dX0_forge_10 : decode cX0_forge 10 = .ok (.i2l, 1) := dk_133 (dk_at dksX0_forge_0 10 rfl rfl)
theorem dX0_forge_11 : decode cX0_forge 11 = .ok (.iconst 2, 1) := dk_5 (dk_at dksX0_forge_0 11 rfl rfl)
theorem dX0_forge_12 : decode cX0_forge 12 = .ok (.invokestatic 97, 3) := dk_184 0 97 (dk_at dksX0_forge_0 12 rfl rfl)
theorem dX0_forge_15 : decode cX0_forge 15 = .ok (.ifCond .ne 6, 3) := dk_154 0 6 (dk_at dksX0_forge_0 15 rfl rfl)
theorem dX0_forge_18 : decode cX0_forge 18 = .ok (.bipush (-2), 2) := dk_16 254 (dk_at dksX0_forge_0 18 rfl rfl)
theorem dX0_forge_20 : decode cX0_forge 20 = .ok (.ireturn, 1) := dk_172 (dk_at dksX0_forge_0 20 rfl rfl)
theorem dX0_forge_21 : decode cX0_forge 21 = .ok (.aload_n 0, 1) := dk_42 (dk_at dksX0_forge_0 21 rfl rfl)
theorem dX0_forge_22 : decode cX0_forge 22 = .ok (.getfield 12, 3) := dk_180 0 12 (dk_at dksX0_forge_1 0 rfl rfl)
theorem dX0_forge_25 : decode cX0_forge 25 = .ok (.getfield 143, 3) := dk_180 0 143 (dk_at dksX0_forge_1 3 rfl rfl)
theorem dX0_forge_28 : decode cX0_forge 28 = .ok (.ifCond .le 6, 3) := dk_158 0 6 (dk_at dksX0_forge_1 6 rfl rfl)
theorem dX0_forge_31 : decode cX0_forge 31 = .ok (.bipush (-5), 2) := dk_16 251 (dk_at dksX0_forge_1 9 rfl rfl)
theorem dX0_forge_33 : decode cX0_forge 33 = .ok (.ireturn, 1) := dk_172 (dk_at dksX0_forge_1 11 rfl rfl)
theorem dX0_forge_34 : decode cX0_forge 34 = .ok (.aload_n 0, 1) := dk_42 (dk_at dksX0_forge_1 12 rfl rfl)
theorem dX0_forge_35 : decode cX0_forge 35 = .ok (.getfield 12, 3) := dk_180 0 12 (dk_at dksX0_forge_1 13 rfl rfl)
theorem dX0_forge_38 : decode cX0_forge 38 = .ok (.getfield 111, 3) := dk_180 0 111 (dk_at dksX0_forge_1 16 rfl rfl)
theorem dX0_forge_41 : decode cX0_forge 41 = .ok (.iload_n 1, 1) := dk_27 (dk_at dksX0_forge_1 19 rfl rfl)
theorem dX0_forge_42 : decode cX0_forge 42 = .ok (.ishr, 1) := dk_122 (dk_at dksX0_forge_1 20 rfl rfl)
theorem dX0_forge_43 : decode cX0_forge 43 = .ok (.iconst 1, 1) := dk_4 (dk_at dksX0_forge_1 21 rfl rfl)
theorem dX0_forge_44 : decode cX0_forge 44 = .ok (.iand, 1) := dk_126 (dk_at dksX0_forge_1 22 rfl rfl)
theorem dX0_forge_45 : decode cX0_forge 45 = .ok (.istore_n 3, 1) := dk_62 (dk_at dksX0_forge_1 23 rfl rfl)
theorem dX0_forge_46 : decode cX0_forge 46 = .ok (.aload_n 0, 1) := dk_42 (dk_at dksX0_forge_2 0 rfl rfl)
theorem dX0_forge_47 : decode cX0_forge 47 = .ok (.getfield 12, 3) := dk_180 0 12 (dk_at dksX0_forge_2 1 rfl rfl)
theorem dX0_forge_50 : decode cX0_forge 50 = .ok (.aload_n 0, 1) := dk_42 (dk_at dksX0_forge_2 4 rfl rfl)
theorem dX0_forge_51 : decode cX0_forge 51 = .ok (.getfield 12, 3) := dk_180 0 12 (dk_at dksX0_forge_2 5 rfl rfl)
theorem dX0_forge_54 : decode cX0_forge 54 = .ok (.getfield 111, 3) := dk_180 0 111 (dk_at dksX0_forge_2 8 rfl rfl)
theorem dX0_forge_57 : decode cX0_forge 57 = .ok (.iconst 1, 1) := dk_4 (dk_at dksX0_forge_2 11 rfl rfl)
theorem dX0_forge_58 : decode cX0_forge 58 = .ok (.iload_n 1, 1) := dk_27 (dk_at dksX0_forge_2 12 rfl rfl)
theorem dX0_forge_59 : decode cX0_forge 59 = .ok (.ishl, 1) := dk_120 (dk_at dksX0_forge_2 13 rfl rfl)
theorem dX0_forge_60 : decode cX0_forge 60 = .ok (.iconst (-1), 1) := dk_2 (dk_at dksX0_forge_2 14 rfl rfl)
theorem dX0_forge_61 : decode cX0_forge 61 = .ok (.ixor, 1) := dk_130 (dk_at dksX0_forge_2 15 rfl rfl)
theorem dX0_forge_62 : decode cX0_forge 62 = .ok (.iand, 1) := dk_126 (dk_at dksX0_forge_2 16 rfl rfl)
theorem dX0_forge_63 : decode cX0_forge 63 = .ok (.iload_n 2, 1) := dk_28 (dk_at dksX0_forge_2 17 rfl rfl)
theorem dX0_forge_64 : decode cX0_forge 64 = .ok (.iload_n 1, 1) := dk_27 (dk_at dksX0_forge_2 18 rfl rfl)
theorem dX0_forge_65 : decode cX0_forge 65 = .ok (.ishl, 1) := dk_120 (dk_at dksX0_forge_2 19 rfl rfl)
theorem dX0_forge_66 : decode cX0_forge 66 = .ok (.ior, 1) := dk_128 (dk_at dksX0_forge_2 20 rfl rfl)
theorem dX0_forge_67 : decode cX0_forge 67 = .ok (.putfield 111, 3) := dk_181 0 111 (dk_at dksX0_forge_2 21 rfl rfl)
theorem dX0_forge_70 : decode cX0_forge 70 = .ok (.iload_n 3, 1) := dk_29 (dk_at dksX0_forge_3 0 rfl rfl)
theorem dX0_forge_71 : decode cX0_forge 71 = .ok (.ireturn, 1) := dk_172 (dk_at dksX0_forge_3 1 rfl rfl)
abbrev cX0_count : ByteArray := prog_1_method_118_code
def yX0_count : MethodName := ⟨RX0, "count", "(I)I"⟩
def dkwX0_count_6 : List UInt8 := [132, 3, 1, 167, 255, 228, 28, 172, 2, 172]
abbrev dktX0_count_6 : List UInt8 := dkwX0_count_6 ++ []
def dkwX0_count_5 : List UInt8 := [7, 162, 0, 29, 28, 42, 180, 0, 53, 29, 50, 180, 1, 149, 199, 0, 7, 3, 167, 0, 4, 4, 96, 61]
abbrev dktX0_count_5 : List UInt8 := dkwX0_count_5 ++ dktX0_count_6
def dkwX0_count_4 : List UInt8 := [42, 180, 0, 12, 180, 0, 143, 172, 42, 180, 0, 12, 180, 0, 83, 172, 42, 180, 0, 60, 172, 3, 62, 29]
abbrev dktX0_count_4 : List UInt8 := dkwX0_count_4 ++ dktX0_count_5
def dkwX0_count_3 : List UInt8 := [180, 0, 94, 42, 2, 182, 0, 198, 184, 1, 17, 100, 172, 42, 180, 0, 12, 180, 0, 111, 184, 1, 17, 172]
abbrev dktX0_count_3 : List UInt8 := dkwX0_count_3 ++ dktX0_count_4
def dkwX0_count_2 : List UInt8 := [42, 180, 0, 12, 180, 0, 94, 172, 42, 180, 0, 12, 180, 0, 118, 172, 42, 182, 0, 190, 42, 180, 0, 12]
abbrev dktX0_count_2 : List UInt8 := dkwX0_count_2 ++ dktX0_count_3
def dkwX0_count_1 : List UInt8 := [170, 0, 0, 0, 149, 0, 0, 0, 0, 0, 0, 0, 7, 0, 0, 0, 45, 0, 0, 0, 53, 0, 0, 0, 61, 0, 0, 0, 82, 0, 0, 0, 93, 0, 0, 0, 101, 0, 0, 0, 109, 0, 0, 0, 114]
abbrev dktX0_count_1 : List UInt8 := dkwX0_count_1 ++ dktX0_count_2
def dkwX0_count_0 : List UInt8 := [3, 61, 27]
abbrev dktX0_count_0 : List UInt8 := dkwX0_count_0 ++ dktX0_count_1
theorem dksX0_count_0 : cX0_count.data.toList.drop 0 = dktX0_count_0 := by decide +kernel
theorem dksX0_count_1 : cX0_count.data.toList.drop 3 = dktX0_count_1 := dk_seg dksX0_count_0 3 rfl rfl
theorem dksX0_count_2 : cX0_count.data.toList.drop 48 = dktX0_count_2 := dk_seg dksX0_count_1 45 rfl rfl
theorem dksX0_count_3 : cX0_count.data.toList.drop 72 = dktX0_count_3 := dk_seg dksX0_count_2 24 rfl rfl
theorem dksX0_count_4 : cX0_count.data.toList.drop 96 = dktX0_count_4 := dk_seg dksX0_count_3 24 rfl rfl
theorem dksX0_count_5 : cX0_count.data.toList.drop 120 = dktX0_count_5 := dk_seg dksX0_count_4 24 rfl rfl
theorem dksX0_count_6 : cX0_count.data.toList.drop 144 = dktX0_count_6 := dk_seg dksX0_count_5 24 rfl rfl
theorem dX0_count_0 : decode cX0_count 0 = .ok (.iconst 0, 1) := dk_3 (dk_at dksX0_count_0 0 rfl rfl)
theorem dX0_count_1 : decode cX0_count 1 = .ok (.istore_n 2, 1) := dk_61 (dk_at dksX0_count_0 1 rfl rfl)
theorem dX0_count_2 : decode cX0_count 2 = .ok (.iload_n 1, 1) := dk_27 (dk_at dksX0_count_0 2 rfl rfl)
theorem dX0_count_3 : decode cX0_count 3 = .ok (.tableswitch 149 0 7 #[45, 53, 61, 82, 93, 101, 109, 114], 45) := by decide +kernel
theorem dX0_count_48 : decode cX0_count 48 = .ok (.aload_n 0, 1) := dk_42 (dk_at dksX0_count_2 0 rfl rfl)
theorem dX0_count_49 : decode cX0_count 49 = .ok (.getfield 12, 3) := dk_180 0 12 (dk_at dksX0_count_2 1 rfl rfl)
theorem dX0_count_52 : decode cX0_count 52 = .ok (.getfield 94, 3) := dk_180 0 94 (dk_at dksX0_count_2 4 rfl rfl)
theorem dX0_count_55 : decode cX0_count 55 = .ok (.ireturn, 1) := dk_172 (dk_at dksX0_count_2 7 rfl rfl)
theorem dX0_count_56 : decode cX0_count 56 = .ok (.aload_n 0, 1) := dk_42 (dk_at dksX0_count_2 8 rfl rfl)
theorem dX0_count_57 : decode cX0_count 57 = .ok (.getfield 12, 3) := dk_180 0 12 (dk_at dksX0_count_2 9 rfl rfl)
theorem dX0_count_60 : decode cX0_count 60 = .ok (.getfield 118, 3) := dk_180 0 118 (dk_at dksX0_count_2 12 rfl rfl)
theorem dX0_count_63 : decode cX0_count 63 = .ok (.ireturn, 1) := dk_172 (dk_at dksX0_count_2 15 rfl rfl)
theorem dX0_count_64 : decode cX0_count 64 = .ok (.aload_n 0, 1) := dk_42 (dk_at dksX0_count_2 16 rfl rfl)
theorem dX0_count_65 : decode cX0_count 65 = .ok (.invokevirtual 190, 3) := dk_182 0 190 (dk_at dksX0_count_2 17 rfl rfl)
theorem dX0_count_68 : decode cX0_count 68 = .ok (.aload_n 0, 1) := dk_42 (dk_at dksX0_count_2 20 rfl rfl)
theorem dX0_count_69 : decode cX0_count 69 = .ok (.getfield 12, 3) := dk_180 0 12 (dk_at dksX0_count_2 21 rfl rfl)
theorem dX0_count_72 : decode cX0_count 72 = .ok (.getfield 94, 3) := dk_180 0 94 (dk_at dksX0_count_3 0 rfl rfl)
theorem dX0_count_75 : decode cX0_count 75 = .ok (.aload_n 0, 1) := dk_42 (dk_at dksX0_count_3 3 rfl rfl)
theorem dX0_count_76 : decode cX0_count 76 = .ok (.iconst (-1), 1) := dk_2 (dk_at dksX0_count_3 4 rfl rfl)
theorem dX0_count_77 : decode cX0_count 77 = .ok (.invokevirtual 198, 3) := dk_182 0 198 (dk_at dksX0_count_3 5 rfl rfl)
theorem dX0_count_80 : decode cX0_count 80 = .ok (.invokestatic 273, 3) := dk_184 1 17 (dk_at dksX0_count_3 8 rfl rfl)
theorem dX0_count_83 : decode cX0_count 83 = .ok (.isub, 1) := dk_100 (dk_at dksX0_count_3 11 rfl rfl)
theorem dX0_count_84 : decode cX0_count 84 = .ok (.ireturn, 1) := dk_172 (dk_at dksX0_count_3 12 rfl rfl)
theorem dX0_count_85 : decode cX0_count 85 = .ok (.aload_n 0, 1) := dk_42 (dk_at dksX0_count_3 13 rfl rfl)
theorem dX0_count_86 : decode cX0_count 86 = .ok (.getfield 12, 3) := dk_180 0 12 (dk_at dksX0_count_3 14 rfl rfl)
theorem dX0_count_89 : decode cX0_count 89 = .ok (.getfield 111, 3) := dk_180 0 111 (dk_at dksX0_count_3 17 rfl rfl)
theorem dX0_count_92 : decode cX0_count 92 = .ok (.invokestatic 273, 3) := dk_184 1 17 (dk_at dksX0_count_3 20 rfl rfl)
theorem dX0_count_95 : decode cX0_count 95 = .ok (.ireturn, 1) := dk_172 (dk_at dksX0_count_3 23 rfl rfl)
theorem dX0_count_96 : decode cX0_count 96 = .ok (.aload_n 0, 1) := dk_42 (dk_at dksX0_count_4 0 rfl rfl)
theorem dX0_count_97 : decode cX0_count 97 = .ok (.getfield 12, 3) := dk_180 0 12 (dk_at dksX0_count_4 1 rfl rfl)
theorem dX0_count_100 : decode cX0_count 100 = .ok (.getfield 143, 3) := dk_180 0 143 (dk_at dksX0_count_4 4 rfl rfl)
theorem dX0_count_103 : decode cX0_count 103 = .ok (.ireturn, 1) := dk_172 (dk_at dksX0_count_4 7 rfl rfl)
theorem dX0_count_104 : decode cX0_count 104 = .ok (.aload_n 0, 1) := dk_42 (dk_at dksX0_count_4 8 rfl rfl)
theorem dX0_count_105 : decode cX0_count 105 = .ok (.getfield 12, 3) := dk_180 0 12 (dk_at dksX0_count_4 9 rfl rfl)
theorem dX0_count_108 : decode cX0_count 108 = .ok (.getfield 83, 3) := dk_180 0 83 (dk_at dksX0_count_4 12 rfl rfl)
theorem dX0_count_111 : decode cX0_count 111 = .ok (.ireturn, 1) := dk_172 (dk_at dksX0_count_4 15 rfl rfl)
theorem dX0_count_112 : decode cX0_count 112 = .ok (.aload_n 0, 1) := dk_42 (dk_at dksX0_count_4 16 rfl rfl)
theorem dX0_count_113 : decode cX0_count 113 = .ok (.getfield 60, 3) := dk_180 0 60 (dk_at dksX0_count_4 17 rfl rfl)
theorem dX0_count_116 : decode cX0_count 116 = .ok (.ireturn, 1) := dk_172 (dk_at dksX0_count_4 20 rfl rfl)
theorem dX0_count_117 : decode cX0_count 117 = .ok (.iconst 0, 1) := dk_3 (dk_at dksX0_count_4 21 rfl rfl)
theorem dX0_count_118 : decode cX0_count 118 = .ok (.istore_n 3, 1) := dk_62 (dk_at dksX0_count_4 22 rfl rfl)
theorem dX0_count_119 : decode cX0_count 119 = .ok (.iload_n 3, 1) := dk_29 (dk_at dksX0_count_4 23 rfl rfl)
theorem dX0_count_120 : decode cX0_count 120 = .ok (.iconst 4, 1) := dk_7 (dk_at dksX0_count_5 0 rfl rfl)
theorem dX0_count_121 : decode cX0_count 121 = .ok (.if_icmp .ge 29, 3) := dk_162 0 29 (dk_at dksX0_count_5 1 rfl rfl)
theorem dX0_count_124 : decode cX0_count 124 = .ok (.iload_n 2, 1) := dk_28 (dk_at dksX0_count_5 4 rfl rfl)
theorem dX0_count_125 : decode cX0_count 125 = .ok (.aload_n 0, 1) := dk_42 (dk_at dksX0_count_5 5 rfl rfl)
theorem dX0_count_126 : decode cX0_count 126 = .ok (.getfield 53, 3) := dk_180 0 53 (dk_at dksX0_count_5 6 rfl rfl)
theorem dX0_count_129 : decode cX0_count 129 = .ok (.iload_n 3, 1) := dk_29 (dk_at dksX0_count_5 9 rfl rfl)
theorem dX0_count_130 : decode cX0_count 130 = .ok (.aaload, 1) := dk_50 (dk_at dksX0_count_5 10 rfl rfl)
theorem dX0_count_131 : decode cX0_count 131 = .ok (.getfield 405, 3) := dk_180 1 149 (dk_at dksX0_count_5 11 rfl rfl)
theorem dX0_count_134 : decode cX0_count 134 = .ok (.ifnonnull 7, 3) := dk_199 0 7 (dk_at dksX0_count_5 14 rfl rfl)
theorem dX0_count_137 : decode cX0_count 137 = .ok (.iconst 0, 1) := dk_3 (dk_at dksX0_count_5 17 rfl rfl)
theorem dX0_count_138 : decode cX0_count 138 = .ok (.goto 4, 3) := dk_167 0 4 (dk_at dksX0_count_5 18 rfl rfl)
theorem dX0_count_141 : decode cX0_count 141 = .ok (.iconst 1, 1) := dk_4 (dk_at dksX0_count_5 21 rfl rfl)
theorem dX0_count_142 : decode cX0_count 142 = .ok (.iadd, 1) := dk_96 (dk_at dksX0_count_5 22 rfl rfl)
theorem dX0_count_143 : decode cX0_count 143 = .ok (.istore_n 2, 1) := dk_61 (dk_at dksX0_count_5 23 rfl rfl)
theorem dX0_count_144 : decode cX0_count 144 = .ok (.iinc 3 1, 3) := dk_132 3 1 (dk_at dksX0_count_6 0 rfl rfl)
theorem dX0_count_147 : decode cX0_count 147 = .ok (.goto (-28), 3) := dk_167 255 228 (dk_at dksX0_count_6 3 rfl rfl)
theorem dX0_count_150 : decode cX0_count 150 = .ok (.iload_n 2, 1) := dk_28 (dk_at dksX0_count_6 6 rfl rfl)
theorem dX0_count_151 : decode cX0_count 151 = .ok (.ireturn, 1) := dk_172 (dk_at dksX0_count_6 7 rfl rfl)
theorem dX0_count_152 : decode cX0_count 152 = .ok (.iconst (-1), 1) := dk_2 (dk_at dksX0_count_6 8 rfl rfl)
theorem dX0_count_153 : decode cX0_count 153 = .ok (.ireturn, 1) := dk_172 (dk_at dksX0_count_6 9 rfl rfl)
abbrev cX0_image : ByteArray := prog_1_method_119_code
def yX0_image : MethodName := ⟨RX0, "image", "(I)I"⟩
def dkwX0_image_2 : List UInt8 := [182, 1, 156, 182, 1, 159, 87, 3, 172]
abbrev dktX0_image_2 : List UInt8 := dkwX0_image_2 ++ []
def dkwX0_image_1 : List UInt8 := [162, 0, 15, 42, 180, 0, 57, 1, 182, 0, 158, 87, 167, 255, 236, 42, 180, 0, 57, 27, 42, 180, 0, 12]
abbrev dktX0_image_1 : List UInt8 := dkwX0_image_1 ++ dktX0_image_2
def dkwX0_image_0 : List UInt8 := [27, 133, 9, 20, 1, 153, 184, 0, 67, 154, 0, 6, 16, 254, 172, 42, 180, 0, 57, 182, 1, 155, 6]
abbrev dktX0_image_0 : List UInt8 := dkwX0_image_0 ++ dktX0_image_1
theorem dksX0_image_0 : cX0_image.data.toList.drop 0 = dktX0_image_0 := by decide +kernel
theorem dksX0_image_1 : cX0_image.data.toList.drop 23 = dktX0_image_1 := dk_seg dksX0_image_0 23 rfl rfl
theorem dksX0_image_2 : cX0_image.data.toList.drop 47 = dktX0_image_2 := dk_seg dksX0_image_1 24 rfl rfl
theorem dX0_image_0 : decode cX0_image 0 = .ok (.iload_n 1, 1) := dk_27 (dk_at dksX0_image_0 0 rfl rfl)
theorem dX0_image_1 : decode cX0_image 1 = .ok (.i2l, 1) := dk_133 (dk_at dksX0_image_0 1 rfl rfl)
theorem dX0_image_2 : decode cX0_image 2 = .ok (.lconst 0, 1) := dk_9 (dk_at dksX0_image_0 2 rfl rfl)
theorem dX0_image_3 : decode cX0_image 3 = .ok (.ldc2_w 409, 3) := dk_20 1 153 (dk_at dksX0_image_0 3 rfl rfl)
theorem dX0_image_6 : decode cX0_image 6 = .ok (.invokestatic 67, 3) := dk_184 0 67 (dk_at dksX0_image_0 6 rfl rfl)
theorem dX0_image_9 : decode cX0_image 9 = .ok (.ifCond .ne 6, 3) := dk_154 0 6 (dk_at dksX0_image_0 9 rfl rfl)
theorem dX0_image_12 : decode cX0_image 12 = .ok (.bipush (-2), 2) := dk_16 254 (dk_at dksX0_image_0 12 rfl rfl)
theorem dX0_image_14 : decode cX0_image 14 = .ok (.ireturn, 1) := dk_172 (dk_at dksX0_image_0 14 rfl rfl)
theorem dX0_image_15 : decode cX0_image 15 = .ok (.aload_n 0, 1) := dk_42 (dk_at dksX0_image_0 15 rfl rfl)
theorem dX0_image_16 : decode cX0_image 16 = .ok (.getfield 57, 3) := dk_180 0 57 (dk_at dksX0_image_0 16 rfl rfl)
theorem dX0_image_19 : decode cX0_image 19 = .ok (.invokevirtual 411, 3) := dk_182 1 155 (dk_at dksX0_image_0 19 rfl rfl)
theorem dX0_image_22 : decode cX0_image 22 = .ok (.iconst 3, 1) := dk_6 (dk_at dksX0_image_0 22 rfl rfl)
theorem dX0_image_23 : decode cX0_image 23 = .ok (.if_icmp .ge 15, 3) := dk_162 0 15 (dk_at dksX0_image_1 0 rfl rfl)
theorem dX0_image_26 : decode cX0_image 26 = .ok (.aload_n 0, 1) := dk_42 (dk_at dksX0_image_1 3 rfl rfl)
theorem dX0_image_27 : decode cX0_image 27 = .ok (.getfield 57, 3) := dk_180 0 57 (dk_at dksX0_image_1 4 rfl rfl)
theorem dX0_image_30 : decode cX0_image 30 = .ok (.aconst_null, 1) := dk_1 (dk_at dksX0_image_1 7 rfl rfl)
theorem dX0_image_31 : decode cX0_image 31 = .ok (.invokevirtual 158, 3) := dk_182 0 158 (dk_at dksX0_image_1 8 rfl rfl)
theorem dX0_image_34 : decode cX0_image 34 = .ok (.pop, 1) := dk_87 (dk_at dksX0_image_1 11 rfl rfl)
theorem dX0_image_35 : decode cX0_image 35 = .ok (.goto (-20), 3) := dk_167 255 236 (dk_at dksX0_image_1 12 rfl rfl)
theorem dX0_image_38 : decode cX0_image 38 = .ok (.aload_n 0, 1) := dk_42 (dk_at dksX0_image_1 15 rfl rfl)
theorem dX0_image_39 : decode cX0_image 39 = .ok (.getfield 57, 3) := dk_180 0 57 (dk_at dksX0_image_1 16 rfl rfl)
theorem dX0_image_42 : decode cX0_image 42 = .ok (.iload_n 1, 1) := dk_27 (dk_at dksX0_image_1 19 rfl rfl)
theorem dX0_image_43 : decode cX0_image 43 = .ok (.aload_n 0, 1) := dk_42 (dk_at dksX0_image_1 20 rfl rfl)
theorem dX0_image_44 : decode cX0_image 44 = .ok (.getfield 12, 3) := dk_180 0 12 (dk_at dksX0_image_1 21 rfl rfl)
theorem dX0_image_47 : decode cX0_image 47 = .ok (.invokevirtual 412, 3) := dk_182 1 156 (dk_at dksX0_image_2 0 rfl rfl)
theorem dX0_image_50 : decode cX0_image 50 = .ok (.invokevirtual 415, 3) := dk_182 1 159 (dk_at dksX0_image_2 3 rfl rfl)
theorem dX0_image_53 : decode cX0_image 53 = .ok (.pop, 1) := dk_87 (dk_at dksX0_image_2 6 rfl rfl)
theorem dX0_image_54 : decode cX0_image 54 = .ok (.iconst 0, 1) := dk_3 (dk_at dksX0_image_2 7 rfl rfl)
theorem dX0_image_55 : decode cX0_image 55 = .ok (.ireturn, 1) := dk_172 (dk_at dksX0_image_2 8 rfl rfl)
abbrev cX0_back : ByteArray := prog_1_method_120_code
def yX0_back : MethodName := ⟨RX0, "back", "(I)I"⟩
def dkwX0_back_2 : List UInt8 := [182, 0, 174, 192, 0, 9, 182, 1, 156, 181, 0, 12, 3, 172]
abbrev dktX0_back_2 : List UInt8 := dkwX0_back_2 ++ []
def dkwX0_back_1 : List UInt8 := [154, 0, 14, 42, 180, 0, 57, 27, 182, 0, 174, 199, 0, 6, 16, 250, 172, 42, 42, 180, 0, 57, 27]
abbrev dktX0_back_1 : List UInt8 := dkwX0_back_1 ++ dktX0_back_2
def dkwX0_back_0 : List UInt8 := [27, 133, 9, 20, 1, 153, 184, 0, 67, 154, 0, 6, 16, 254, 172, 42, 180, 0, 57, 182, 0, 152]
abbrev dktX0_back_0 : List UInt8 := dkwX0_back_0 ++ dktX0_back_1
theorem dksX0_back_0 : cX0_back.data.toList.drop 0 = dktX0_back_0 := by decide +kernel
theorem dksX0_back_1 : cX0_back.data.toList.drop 22 = dktX0_back_1 := dk_seg dksX0_back_0 22 rfl rfl
theorem dksX0_back_2 : cX0_back.data.toList.drop 45 = dktX0_back_2 := dk_seg dksX0_back_1 23 rfl rfl
theorem dX0_back_0 : decode cX0_back 0 = .ok (.iload_n 1, 1) := dk_27 (dk_at dksX0_back_0 0 rfl rfl)
theorem dX0_back_1 : decode cX0_back 1 = .ok (.i2l, 1) := dk_133 (dk_at dksX0_back_0 1 rfl rfl)
theorem dX0_back_2 : decode cX0_back 2 = .ok (.lconst 0, 1) := dk_9 (dk_at dksX0_back_0 2 rfl rfl)
theorem dX0_back_3 : decode cX0_back 3 = .ok (.ldc2_w 409, 3) := dk_20 1 153 (dk_at dksX0_back_0 3 rfl rfl)
theorem dX0_back_6 : decode cX0_back 6 = .ok (.invokestatic 67, 3) := dk_184 0 67 (dk_at dksX0_back_0 6 rfl rfl)
theorem dX0_back_9 : decode cX0_back 9 = .ok (.ifCond .ne 6, 3) := dk_154 0 6 (dk_at dksX0_back_0 9 rfl rfl)
theorem dX0_back_12 : decode cX0_back 12 = .ok (.bipush (-2), 2) := dk_16 254 (dk_at dksX0_back_0 12 rfl rfl)
theorem dX0_back_14 : decode cX0_back 14 = .ok (.ireturn, 1) := dk_172 (dk_at dksX0_back_0 14 rfl rfl)
theorem dX0_back_15 : decode cX0_back 15 = .ok (.aload_n 0, 1) := dk_42 (dk_at dksX0_back_0 15 rfl rfl)
theorem dX0_back_16 : decode cX0_back 16 = .ok (.getfield 57, 3) := dk_180 0 57 (dk_at dksX0_back_0 16 rfl rfl)
theorem dX0_back_19 : decode cX0_back 19 = .ok (.invokevirtual 152, 3) := dk_182 0 152 (dk_at dksX0_back_0 19 rfl rfl)
theorem dX0_back_22 : decode cX0_back 22 = .ok (.ifCond .ne 14, 3) := dk_154 0 14 (dk_at dksX0_back_1 0 rfl rfl)
theorem dX0_back_25 : decode cX0_back 25 = .ok (.aload_n 0, 1) := dk_42 (dk_at dksX0_back_1 3 rfl rfl)
theorem dX0_back_26 : decode cX0_back 26 = .ok (.getfield 57, 3) := dk_180 0 57 (dk_at dksX0_back_1 4 rfl rfl)
theorem dX0_back_29 : decode cX0_back 29 = .ok (.iload_n 1, 1) := dk_27 (dk_at dksX0_back_1 7 rfl rfl)
theorem dX0_back_30 : decode cX0_back 30 = .ok (.invokevirtual 174, 3) := dk_182 0 174 (dk_at dksX0_back_1 8 rfl rfl)
theorem dX0_back_33 : decode cX0_back 33 = .ok (.ifnonnull 6, 3) := dk_199 0 6 (dk_at dksX0_back_1 11 rfl rfl)
theorem dX0_back_36 : decode cX0_back 36 = .ok (.bipush (-6), 2) := dk_16 250 (dk_at dksX0_back_1 14 rfl rfl)
theorem dX0_back_38 : decode cX0_back 38 = .ok (.ireturn, 1) := dk_172 (dk_at dksX0_back_1 16 rfl rfl)
theorem dX0_back_39 : decode cX0_back 39 = .ok (.aload_n 0, 1) := dk_42 (dk_at dksX0_back_1 17 rfl rfl)
theorem dX0_back_40 : decode cX0_back 40 = .ok (.aload_n 0, 1) := dk_42 (dk_at dksX0_back_1 18 rfl rfl)
theorem dX0_back_41 : decode cX0_back 41 = .ok (.getfield 57, 3) := dk_180 0 57 (dk_at dksX0_back_1 19 rfl rfl)
theorem dX0_back_44 : decode cX0_back 44 = .ok (.iload_n 1, 1) := dk_27 (dk_at dksX0_back_1 22 rfl rfl)
theorem dX0_back_45 : decode cX0_back 45 = .ok (.invokevirtual 174, 3) := dk_182 0 174 (dk_at dksX0_back_2 0 rfl rfl)
theorem dX0_back_48 : decode cX0_back 48 = .ok (.checkcast 9, 3) := dk_192 0 9 (dk_at dksX0_back_2 3 rfl rfl)
theorem dX0_back_51 : decode cX0_back 51 = .ok (.invokevirtual 412, 3) := dk_182 1 156 (dk_at dksX0_back_2 6 rfl rfl)
theorem dX0_back_54 : decode cX0_back 54 = .ok (.putfield 12, 3) := dk_181 0 12 (dk_at dksX0_back_2 9 rfl rfl)
theorem dX0_back_57 : decode cX0_back 57 = .ok (.iconst 0, 1) := dk_3 (dk_at dksX0_back_2 12 rfl rfl)
theorem dX0_back_58 : decode cX0_back 58 = .ok (.ireturn, 1) := dk_172 (dk_at dksX0_back_2 13 rfl rfl)
abbrev cX0_row : ByteArray := prog_1_method_121_code
def yX0_row : MethodName := ⟨RX0, "row", "(III)I"⟩
def dkwX0_row_1 : List UInt8 := [164, 0, 6, 16, 254, 172, 42, 180, 0, 53, 27, 50, 28, 29, 182, 1, 163, 3, 172, 58, 4, 16, 253, 172]
abbrev dktX0_row_1 : List UInt8 := dkwX0_row_1 ++ []
def dkwX0_row_0 : List UInt8 := [27, 184, 1, 50, 153, 0, 21, 28, 133, 9, 20, 1, 147, 184, 0, 67, 153, 0, 9, 29, 16, 60]
abbrev dktX0_row_0 : List UInt8 := dkwX0_row_0 ++ dktX0_row_1
theorem dksX0_row_0 : cX0_row.data.toList.drop 0 = dktX0_row_0 := by decide +kernel
theorem dksX0_row_1 : cX0_row.data.toList.drop 22 = dktX0_row_1 := dk_seg dksX0_row_0 22 rfl rfl
theorem dX0_row_0 : decode cX0_row 0 = .ok (.iload_n 1, 1) := dk_27 (dk_at dksX0_row_0 0 rfl rfl)
theorem dX0_row_1 : decode cX0_row 1 = .ok (.invokestatic 306, 3) := dk_184 1 50 (dk_at dksX0_row_0 1 rfl rfl)
theorem dX0_row_4 : decode cX0_row 4 = .ok (.ifCond .eq 21, 3) := dk_153 0 21 (dk_at dksX0_row_0 4 rfl rfl)
theorem dX0_row_7 : decode cX0_row 7 = .ok (.iload_n 2, 1) := dk_28 (dk_at dksX0_row_0 7 rfl rfl)
theorem dX0_row_8 : decode cX0_row 8 = .ok (.i2l, 1) := dk_133 (dk_at dksX0_row_0 8 rfl rfl)
theorem dX0_row_9 : decode cX0_row 9 = .ok (.lconst 0, 1) := dk_9 (dk_at dksX0_row_0 9 rfl rfl)
theorem dX0_row_10 : decode cX0_row 10 = .ok (.ldc2_w 403, 3) := dk_20 1 147 (dk_at dksX0_row_0 10 rfl rfl)
theorem dX0_row_13 : decode cX0_row 13 = .ok (.invokestatic 67, 3) := dk_184 0 67 (dk_at dksX0_row_0 13 rfl rfl)
theorem dX0_row_16 : decode cX0_row 16 = .ok (.ifCond .eq 9, 3) := dk_153 0 9 (dk_at dksX0_row_0 16 rfl rfl)
theorem dX0_row_19 : decode cX0_row 19 = .ok (.iload_n 3, 1) := dk_29 (dk_at dksX0_row_0 19 rfl rfl)
theorem dX0_row_20 : decode cX0_row 20 = .ok (.bipush 60, 2) := dk_16 60 (dk_at dksX0_row_0 20 rfl rfl)
theorem dX0_row_22 : decode cX0_row 22 = .ok (.if_icmp .le 6, 3) := dk_164 0 6 (dk_at dksX0_row_1 0 rfl rfl)
theorem dX0_row_25 : decode cX0_row 25 = .ok (.bipush (-2), 2) := dk_16 254 (dk_at dksX0_row_1 3 rfl rfl)
theorem dX0_row_27 : decode cX0_row 27 = .ok (.ireturn, 1) := dk_172 (dk_at dksX0_row_1 5 rfl rfl)
theorem dX0_row_28 : decode cX0_row 28 = .ok (.aload_n 0, 1) := dk_42 (dk_at dksX0_row_1 6 rfl rfl)
theorem dX0_row_29 : decode cX0_row 29 = .ok (.getfield 53, 3) := dk_180 0 53 (dk_at dksX0_row_1 7 rfl rfl)
theorem dX0_row_32 : decode cX0_row 32 = .ok (.iload_n 1, 1) := dk_27 (dk_at dksX0_row_1 10 rfl rfl)
theorem dX0_row_33 : decode cX0_row 33 = .ok (.aaload, 1) := dk_50 (dk_at dksX0_row_1 11 rfl rfl)
theorem dX0_row_34 : decode cX0_row 34 = .ok (.iload_n 2, 1) := dk_28 (dk_at dksX0_row_1 12 rfl rfl)
theorem dX0_row_35 : decode cX0_row 35 = .ok (.iload_n 3, 1) := dk_29 (dk_at dksX0_row_1 13 rfl rfl)
theorem dX0_row_36 : decode cX0_row 36 = .ok (.invokevirtual 419, 3) := dk_182 1 163 (dk_at dksX0_row_1 14 rfl rfl)
theorem dX0_row_39 : decode cX0_row 39 = .ok (.iconst 0, 1) := dk_3 (dk_at dksX0_row_1 17 rfl rfl)
theorem dX0_row_40 : decode cX0_row 40 = .ok (.ireturn, 1) := dk_172 (dk_at dksX0_row_1 18 rfl rfl)
theorem dX0_row_41 : decode cX0_row 41 = .ok (.astore 4, 2) := dk_58 4 (dk_at dksX0_row_1 19 rfl rfl)
theorem dX0_row_43 : decode cX0_row 43 = .ok (.bipush (-3), 2) := dk_16 253 (dk_at dksX0_row_1 21 rfl rfl)
theorem dX0_row_45 : decode cX0_row 45 = .ok (.ireturn, 1) := dk_172 (dk_at dksX0_row_1 23 rfl rfl)
abbrev cX0_write : ByteArray := prog_1_method_122_code
def yX0_write : MethodName := ⟨RX0, "write", "(IIJ)I"⟩
def dkwX0_write_1 : List UInt8 := [58, 5, 16, 250, 172, 58, 5, 16, 249, 172]
abbrev dktX0_write_1 : List UInt8 := dkwX0_write_1 ++ []
def dkwX0_write_0 : List UInt8 := [27, 184, 1, 50, 154, 0, 6, 16, 254, 172, 42, 180, 0, 53, 27, 50, 28, 33, 182, 1, 168, 3, 172]
abbrev dktX0_write_0 : List UInt8 := dkwX0_write_0 ++ dktX0_write_1
theorem dksX0_write_0 : cX0_write.data.toList.drop 0 = dktX0_write_0 := by decide +kernel
theorem dksX0_write_1 : cX0_write.data.toList.drop 23 = dktX0_write_1 := dk_seg dksX0_write_0 23 rfl rfl
theorem dX0_write_0 : decode cX0_write 0 = .ok (.iload_n 1, 1) := dk_27 (dk_at dksX0_write_0 0 rfl rfl)
theorem dX0_write_1 : decode cX0_write 1 = .ok (.invokestatic 306, 3) := dk_184 1 50 (dk_at dksX0_write_0 1 rfl rfl)
theorem dX0_write_4 : decode cX0_write 4 = .ok (.ifCond .ne 6, 3) := dk_154 0 6 (dk_at dksX0_write_0 4 rfl rfl)
theorem dX0_write_7 : decode cX0_write 7 = .ok (.bipush (-2), 2) := dk_16 254 (dk_at dksX0_write_0 7 rfl rfl)
theorem dX0_write_9 : decode cX0_write 9 = .ok (.ireturn, 1) := dk_172 (dk_at dksX0_write_0 9 rfl rfl)
theorem dX0_write_10 : decode cX0_write 10 = .ok (.aload_n 0, 1) := dk_42 (dk_at dksX0_write_0 10 rfl rfl)
theorem dX0_write_11 : decode cX0_write 11 = .ok (.getfield 53, 3) := dk_180 0 53 (dk_at dksX0_write_0 11 rfl rfl)
theorem dX0_write_14 : decode cX0_write 14 = .ok (.iload_n 1, 1) := dk_27 (dk_at dksX0_write_0 14 rfl rfl)
theorem dX0_write_15 : decode cX0_write 15 = .ok (.aaload, 1) := dk_50 (dk_at dksX0_write_0 15 rfl rfl)
theorem dX0_write_16 : decode cX0_write 16 = .ok (.iload_n 2, 1) := dk_28 (dk_at dksX0_write_0 16 rfl rfl)
theorem dX0_write_17 : decode cX0_write 17 = .ok (.lload_n 3, 1) := dk_33 (dk_at dksX0_write_0 17 rfl rfl)
theorem dX0_write_18 : decode cX0_write 18 = .ok (.invokevirtual 424, 3) := dk_182 1 168 (dk_at dksX0_write_0 18 rfl rfl)
theorem dX0_write_21 : decode cX0_write 21 = .ok (.iconst 0, 1) := dk_3 (dk_at dksX0_write_0 21 rfl rfl)
theorem dX0_write_22 : decode cX0_write 22 = .ok (.ireturn, 1) := dk_172 (dk_at dksX0_write_0 22 rfl rfl)
theorem dX0_write_23 : decode cX0_write 23 = .ok (.astore 5, 2) := dk_58 5 (dk_at dksX0_write_1 0 rfl rfl)
theorem dX0_write_25 : decode cX0_write 25 = .ok (.bipush (-6), 2) := dk_16 250 (dk_at dksX0_write_1 2 rfl rfl)
theorem dX0_write_27 : decode cX0_write 27 = .ok (.ireturn, 1) := dk_172 (dk_at dksX0_write_1 4 rfl rfl)
theorem dX0_write_28 : decode cX0_write 28 = .ok (.astore 5, 2) := dk_58 5 (dk_at dksX0_write_1 5 rfl rfl)
theorem dX0_write_30 : decode cX0_write 30 = .ok (.bipush (-7), 2) := dk_16 249 (dk_at dksX0_write_1 7 rfl rfl)
theorem dX0_write_32 : decode cX0_write 32 = .ok (.ireturn, 1) := dk_172 (dk_at dksX0_write_1 9 rfl rfl)
abbrev cX0_paste : ByteArray := prog_1_method_123_code
def yX0_paste : MethodName := ⟨RX0, "paste", "(IIIII)I"⟩
def dkwX0_paste_2 : List UInt8 := [16, 250, 172, 58, 6, 16, 248, 172, 58, 6, 16, 249, 172]
abbrev dktX0_paste_2 : List UInt8 := dkwX0_paste_2 ++ []
def dkwX0_paste_1 : List UInt8 := [180, 1, 149, 28, 42, 180, 0, 53, 29, 50, 180, 1, 149, 21, 4, 21, 5, 184, 0, 134, 3, 172, 58, 6]
abbrev dktX0_paste_1 : List UInt8 := dkwX0_paste_1 ++ dktX0_paste_2
def dkwX0_paste_0 : List UInt8 := [27, 184, 1, 50, 153, 0, 10, 29, 184, 1, 50, 154, 0, 6, 16, 254, 172, 42, 180, 0, 53, 27, 50]
abbrev dktX0_paste_0 : List UInt8 := dkwX0_paste_0 ++ dktX0_paste_1
theorem dksX0_paste_0 : cX0_paste.data.toList.drop 0 = dktX0_paste_0 := by decide +kernel
theorem dksX0_paste_1 : cX0_paste.data.toList.drop 23 = dktX0_paste_1 := dk_seg dksX0_paste_0 23 rfl rfl
theorem dksX0_paste_2 : cX0_paste.data.toList.drop 47 = dktX0_paste_2 := dk_seg dksX0_paste_1 24 rfl rfl
theorem dX0_paste_0 : decode cX0_paste 0 = .ok (.iload_n 1, 1) := dk_27 (dk_at dksX0_paste_0 0 rfl rfl)
theorem dX0_paste_1 : decode cX0_paste 1 = .ok (.invokestatic 306, 3) := dk_184 1 50 (dk_at dksX0_paste_0 1 rfl rfl)
theorem dX0_paste_4 : decode cX0_paste 4 = .ok (.ifCond .eq 10, 3) := dk_153 0 10 (dk_at dksX0_paste_0 4 rfl rfl)
theorem dX0_paste_7 : decode cX0_paste 7 = .ok (.iload_n 3, 1) := dk_29 (dk_at dksX0_paste_0 7 rfl rfl)
theorem dX0_paste_8 : decode cX0_paste 8 = .ok (.invokestatic 306, 3) := dk_184 1 50 (dk_at dksX0_paste_0 8 rfl rfl)
theorem dX0_paste_11 : decode cX0_paste 11 = .ok (.ifCond .ne 6, 3) := dk_154 0 6 (dk_at dksX0_paste_0 11 rfl rfl)
theorem dX0_paste_14 : decode cX0_paste 14 = .ok (.bipush (-2), 2) := dk_16 254 (dk_at dksX0_paste_0 14 rfl rfl)
theorem dX0_paste_16 : decode cX0_paste 16 = .ok (.ireturn, 1) := dk_172 (dk_at dksX0_paste_0 16 rfl rfl)
theorem dX0_paste_17 : decode cX0_paste 17 = .ok (.aload_n 0, 1) := dk_42 (dk_at dksX0_paste_0 17 rfl rfl)
theorem dX0_paste_18 : decode cX0_paste 18 = .ok (.getfield 53, 3) := dk_180 0 53 (dk_at dksX0_paste_0 18 rfl rfl)
theorem dX0_paste_21 : decode cX0_paste 21 = .ok (.iload_n 1, 1) := dk_27 (dk_at dksX0_paste_0 21 rfl rfl)
theorem dX0_paste_22 : decode cX0_paste 22 = .ok (.aaload, 1) := dk_50 (dk_at dksX0_paste_0 22 rfl rfl)
theorem dX0_paste_23 : decode cX0_paste 23 = .ok (.getfield 405, 3) := dk_180 1 149 (dk_at dksX0_paste_1 0 rfl rfl)
theorem dX0_paste_26 : decode cX0_paste 26 = .ok (.iload_n 2, 1) := dk_28 (dk_at dksX0_paste_1 3 rfl rfl)
theorem dX0_paste_27 : decode cX0_paste 27 = .ok (.aload_n 0, 1) := dk_42 (dk_at dksX0_paste_1 4 rfl rfl)
theorem dX0_paste_28 : decode cX0_paste 28 = .ok (.getfield 53, 3) := dk_180 0 53 (dk_at dksX0_paste_1 5 rfl rfl)
theorem dX0_paste_31 : decode cX0_paste 31 = .ok (.iload_n 3, 1) := dk_29 (dk_at dksX0_paste_1 8 rfl rfl)
theorem dX0_paste_32 : decode cX0_paste 32 = .ok (.aaload, 1) := dk_50 (dk_at dksX0_paste_1 9 rfl rfl)
theorem dX0_paste_33 : decode cX0_paste 33 = .ok (.getfield 405, 3) := dk_180 1 149 (dk_at dksX0_paste_1 10 rfl rfl)
theorem dX0_paste_36 : decode cX0_paste 36 = .ok (.iload 4, 2) := dk_21 4 (dk_at dksX0_paste_1 13 rfl rfl)
theorem dX0_paste_38 : decode cX0_paste 38 = .ok (.iload 5, 2) := dk_21 5 (dk_at dksX0_paste_1 15 rfl rfl)
theorem dX0_paste_40 : decode cX0_paste 40 = .ok (.invokestatic 134, 3) := dk_184 0 134 (dk_at dksX0_paste_1 17 rfl rfl)
theorem dX0_paste_43 : decode cX0_paste 43 = .ok (.iconst 0, 1) := dk_3 (dk_at dksX0_paste_1 20 rfl rfl)
theorem dX0_paste_44 : decode cX0_paste 44 = .ok (.ireturn, 1) := dk_172 (dk_at dksX0_paste_1 21 rfl rfl)
theorem dX0_paste_45 : decode cX0_paste 45 = .ok (.astore 6, 2) := dk_58 6 (dk_at dksX0_paste_1 22 rfl rfl)
theorem dX0_paste_47 : decode cX0_paste 47 = .ok (.bipush (-6), 2) := dk_16 250 (dk_at dksX0_paste_2 0 rfl rfl)
theorem dX0_paste_49 : decode cX0_paste 49 = .ok (.ireturn, 1) := dk_172 (dk_at dksX0_paste_2 2 rfl rfl)
theorem dX0_paste_50 : decode cX0_paste 50 = .ok (.astore 6, 2) := dk_58 6 (dk_at dksX0_paste_2 3 rfl rfl)
theorem dX0_paste_52 : decode cX0_paste 52 = .ok (.bipush (-8), 2) := dk_16 248 (dk_at dksX0_paste_2 5 rfl rfl)
theorem dX0_paste_54 : decode cX0_paste 54 = .ok (.ireturn, 1) := dk_172 (dk_at dksX0_paste_2 7 rfl rfl)
theorem dX0_paste_55 : decode cX0_paste 55 = .ok (.astore 6, 2) := dk_58 6 (dk_at dksX0_paste_2 8 rfl rfl)
theorem dX0_paste_57 : decode cX0_paste 57 = .ok (.bipush (-7), 2) := dk_16 249 (dk_at dksX0_paste_2 10 rfl rfl)
theorem dX0_paste_59 : decode cX0_paste 59 = .ok (.ireturn, 1) := dk_172 (dk_at dksX0_paste_2 12 rfl rfl)
theorem q136 : (Jvm.Cond.initialized "CardHolder") ∈ lw_all := lw_g (lw_at lw_m1 1 rfl) rfl
theorem q172 : (Jvm.Cond.instantiable "CardHolder" (23 : Nat)) ∈ lw_all := lw_g (lw_at lw_m1 37 rfl) rfl
theorem q174 : (Jvm.Cond.instanceMethod ({ cls := "CardHolder", name := "<init>", desc := "()V" } : Jvm.MethodName)) ∈ lw_all := lw_g (lw_at lw_m1 39 rfl) rfl
theorem q175 : (Jvm.Cond.code ({ cls := "CardHolder", name := "<init>", desc := "()V" } : Jvm.MethodName) prog_1_method_3_code (1 : Nat) (Option.none : Option Jvm.ClassFile.FieldType)) ∈ lw_all := lw_g (lw_at lw_m1 40 rfl) rfl
theorem q176 : (Jvm.Cond.methodLink "CardHolder" (3 : Nat) ({ cls := "java/lang/Object", name := "<init>", desc := "()V" } : Jvm.MethodName)) ∈ lw_all := lw_g (lw_at lw_m1 41 rfl) rfl
theorem q179 : (Jvm.Cond.classLink "CardHolder" (9 : Nat) "CardHolder$City") ∈ lw_all := lw_g (lw_at lw_m1 44 rfl) rfl
theorem q181 : (Jvm.Cond.methodLinkNest "CardHolder" (11 : Nat) ({ cls := "CardHolder$City", name := "<init>", desc := "()V" } : Jvm.MethodName) "CardHolder") ∈ lw_tbl := lw_at lw_m1 46 rfl
theorem q187 : (Jvm.Cond.fieldLinkNest "CardHolder" (118 : Nat) "CardHolder$City" "wear" "I" "CardHolder") ∈ lw_tbl := lw_at lw_m1 52 rfl
theorem q189 : (Jvm.Cond.fieldLinkNest "CardHolder" (83 : Nat) "CardHolder$City" "lines" "I" "CardHolder") ∈ lw_tbl := lw_at lw_m1 54 rfl
theorem q193 : (Jvm.Cond.fieldLinkNest "CardHolder" (94 : Nat) "CardHolder$City" "persons" "I" "CardHolder") ∈ lw_tbl := lw_at lw_m1 58 rfl
theorem q196 : (Jvm.Cond.fieldLinkNest "CardHolder" (143 : Nat) "CardHolder$City" "acts" "I" "CardHolder") ∈ lw_tbl := lw_at lw_m1 61 rfl
theorem q199 : (Jvm.Cond.fieldLinkNest "CardHolder" (111 : Nat) "CardHolder$City" "forged" "I" "CardHolder") ∈ lw_tbl := lw_at lw_m1 64 rfl
theorem q204 : (Jvm.Cond.fieldLinkNest "CardHolder" (193 : Nat) "CardHolder$City" "worth" "[I" "CardHolder") ∈ lw_tbl := lw_at lw_m1 69 rfl
theorem q207 : (Jvm.Cond.fieldLinkNest "CardHolder" (196 : Nat) "CardHolder$City" "does" "[I" "CardHolder") ∈ lw_tbl := lw_at lw_m1 72 rfl
theorem q210 : (Jvm.Cond.fieldLinkNest "CardHolder" (202 : Nat) "CardHolder$City" "wishes" "[I" "CardHolder") ∈ lw_tbl := lw_at lw_m1 75 rfl
theorem q213 : (Jvm.Cond.fieldLinkNest "CardHolder" (133 : Nat) "CardHolder$City" "holder" "[I" "CardHolder") ∈ lw_tbl := lw_at lw_m1 78 rfl
theorem q215 : (Jvm.Cond.fieldLinkNest "CardHolder" (146 : Nat) "CardHolder$City" "act" "[I" "CardHolder") ∈ lw_tbl := lw_at lw_m1 80 rfl
theorem q240 : (Jvm.Cond.classLink "CardHolder" (34 : Nat) "java/util/ArrayList") ∈ lw_all := lw_g (lw_at lw_m1 105 rfl) rfl
theorem q242 : (Jvm.Cond.methodLink "CardHolder" (36 : Nat) ({ cls := "java/util/ArrayList", name := "<init>", desc := "()V" } : Jvm.MethodName)) ∈ lw_all := lw_g (lw_at lw_m1 107 rfl) rfl
theorem q267 : (Jvm.Cond.classLink "CardHolder" (50 : Nat) "CardHolder$Slot") ∈ lw_all := lw_g (lw_at lw_m1 132 rfl) rfl
theorem q270 : (Jvm.Cond.methodLinkNest "CardHolder" (52 : Nat) ({ cls := "CardHolder$Slot", name := "<init>", desc := "()V" } : Jvm.MethodName) "CardHolder") ∈ lw_tbl := lw_at lw_m1 135 rfl
theorem q275 : (Jvm.Cond.fieldLinkNest "CardHolder" (405 : Nat) "CardHolder$Slot" "row" "Ljava/lang/Object;" "CardHolder") ∈ lw_tbl := lw_at lw_m1 140 rfl
theorem q280 : (Jvm.Cond.fieldLink "CardHolder" (12 : Nat) "CardHolder" "city" "LCardHolder$City;") ∈ lw_all := lw_g (lw_at lw_m1 145 rfl) rfl
theorem q282 : (Jvm.Cond.fieldLink "CardHolder" (16 : Nat) "CardHolder" "tape" "[B") ∈ lw_all := lw_g (lw_at lw_m1 147 rfl) rfl
theorem q284 : (Jvm.Cond.fieldLink "CardHolder" (60 : Nat) "CardHolder" "taped" "I") ∈ lw_all := lw_g (lw_at lw_m1 149 rfl) rfl
theorem q285 : (Jvm.Cond.fieldLink "CardHolder" (80 : Nat) "CardHolder" "faultKind" "I") ∈ lw_all := lw_g (lw_at lw_m1 150 rfl) rfl
theorem q286 : (Jvm.Cond.fieldLink "CardHolder" (20 : Nat) "CardHolder" "faultPlace" "I") ∈ lw_all := lw_g (lw_at lw_m1 151 rfl) rfl
theorem q288 : (Jvm.Cond.fieldLink "CardHolder" (121 : Nat) "CardHolder" "day" "I") ∈ lw_all := lw_g (lw_at lw_m1 153 rfl) rfl
theorem q291 : (Jvm.Cond.fieldLink "CardHolder" (124 : Nat) "CardHolder" "askedToday" "I") ∈ lw_all := lw_g (lw_at lw_m1 156 rfl) rfl
theorem q294 : (Jvm.Cond.fieldLink "CardHolder" (127 : Nat) "CardHolder" "stolen" "I") ∈ lw_all := lw_g (lw_at lw_m1 159 rfl) rfl
theorem q297 : (Jvm.Cond.fieldLink "CardHolder" (130 : Nat) "CardHolder" "deedsDone" "I") ∈ lw_all := lw_g (lw_at lw_m1 162 rfl) rfl
theorem q303 : (Jvm.Cond.fieldLink "CardHolder" (24 : Nat) "CardHolder" "holder" "[I") ∈ lw_all := lw_g (lw_at lw_m1 168 rfl) rfl
theorem q305 : (Jvm.Cond.fieldLink "CardHolder" (28 : Nat) "CardHolder" "worn" "[I") ∈ lw_all := lw_g (lw_at lw_m1 170 rfl) rfl
theorem q308 : (Jvm.Cond.fieldLink "CardHolder" (31 : Nat) "CardHolder" "had" "[I") ∈ lw_all := lw_g (lw_at lw_m1 173 rfl) rfl
theorem q309 : (Jvm.Cond.fieldLink "CardHolder" (37 : Nat) "CardHolder" "kinds" "Ljava/util/ArrayList;") ∈ lw_all := lw_g (lw_at lw_m1 174 rfl) rfl
theorem q310 : (Jvm.Cond.fieldLink "CardHolder" (41 : Nat) "CardHolder" "wished" "[I") ∈ lw_all := lw_g (lw_at lw_m1 175 rfl) rfl
theorem q311 : (Jvm.Cond.fieldLink "CardHolder" (44 : Nat) "CardHolder" "doing" "[I") ∈ lw_all := lw_g (lw_at lw_m1 176 rfl) rfl
theorem q312 : (Jvm.Cond.fieldLink "CardHolder" (259 : Nat) "CardHolder" "tried" "I") ∈ lw_all := lw_g (lw_at lw_m1 177 rfl) rfl
theorem q313 : (Jvm.Cond.fieldLink "CardHolder" (326 : Nat) "CardHolder" "watchWorst" "I") ∈ lw_all := lw_g (lw_at lw_m1 178 rfl) rfl
theorem q314 : (Jvm.Cond.fieldLink "CardHolder" (342 : Nat) "CardHolder" "layMost" "I") ∈ lw_all := lw_g (lw_at lw_m1 179 rfl) rfl
theorem q315 : (Jvm.Cond.fieldLink "CardHolder" (348 : Nat) "CardHolder" "layCard" "I") ∈ lw_all := lw_g (lw_at lw_m1 180 rfl) rfl
theorem q316 : (Jvm.Cond.fieldLink "CardHolder" (351 : Nat) "CardHolder" "layReply" "I") ∈ lw_all := lw_g (lw_at lw_m1 181 rfl) rfl
theorem q317 : (Jvm.Cond.fieldLink "CardHolder" (47 : Nat) "CardHolder" "laid" "[I") ∈ lw_all := lw_g (lw_at lw_m1 182 rfl) rfl
theorem q318 : (Jvm.Cond.fieldLink "CardHolder" (53 : Nat) "CardHolder" "slots" "[LCardHolder$Slot;") ∈ lw_all := lw_g (lw_at lw_m1 183 rfl) rfl
theorem q319 : (Jvm.Cond.fieldLink "CardHolder" (57 : Nat) "CardHolder" "images" "Ljava/util/ArrayList;") ∈ lw_all := lw_g (lw_at lw_m1 184 rfl) rfl
theorem q320 : (Jvm.Cond.lays "CardHolder" "CardHolder" "city" "LCardHolder$City;") ∈ lw_all := lw_g (lw_at lw_m1 185 rfl) rfl
theorem q321 : (Jvm.Cond.soleField "CardHolder" "city") ∈ lw_all := lw_g (lw_at lw_m1 186 rfl) rfl
theorem q322 : (Jvm.Cond.laysFinal "CardHolder" "CardHolder" "tape" "[B") ∈ lw_all := lw_g (lw_at lw_m1 187 rfl) rfl
theorem q323 : (Jvm.Cond.soleField "CardHolder" "tape") ∈ lw_all := lw_g (lw_at lw_m1 188 rfl) rfl
theorem q324 : (Jvm.Cond.lays "CardHolder" "CardHolder" "taped" "I") ∈ lw_all := lw_g (lw_at lw_m1 189 rfl) rfl
theorem q325 : (Jvm.Cond.soleField "CardHolder" "taped") ∈ lw_all := lw_g (lw_at lw_m1 190 rfl) rfl
theorem q326 : (Jvm.Cond.lays "CardHolder" "CardHolder" "faultKind" "I") ∈ lw_all := lw_g (lw_at lw_m1 191 rfl) rfl
theorem q327 : (Jvm.Cond.soleField "CardHolder" "faultKind") ∈ lw_all := lw_g (lw_at lw_m1 192 rfl) rfl
theorem q328 : (Jvm.Cond.lays "CardHolder" "CardHolder" "faultPlace" "I") ∈ lw_all := lw_g (lw_at lw_m1 193 rfl) rfl
theorem q329 : (Jvm.Cond.soleField "CardHolder" "faultPlace") ∈ lw_all := lw_g (lw_at lw_m1 194 rfl) rfl
theorem q330 : (Jvm.Cond.lays "CardHolder" "CardHolder" "day" "I") ∈ lw_all := lw_g (lw_at lw_m1 195 rfl) rfl
theorem q331 : (Jvm.Cond.soleField "CardHolder" "day") ∈ lw_all := lw_g (lw_at lw_m1 196 rfl) rfl
theorem q332 : (Jvm.Cond.lays "CardHolder" "CardHolder" "askedToday" "I") ∈ lw_all := lw_g (lw_at lw_m1 197 rfl) rfl
theorem q333 : (Jvm.Cond.soleField "CardHolder" "askedToday") ∈ lw_all := lw_g (lw_at lw_m1 198 rfl) rfl
theorem q334 : (Jvm.Cond.lays "CardHolder" "CardHolder" "stolen" "I") ∈ lw_all := lw_g (lw_at lw_m1 199 rfl) rfl
theorem q335 : (Jvm.Cond.soleField "CardHolder" "stolen") ∈ lw_all := lw_g (lw_at lw_m1 200 rfl) rfl
theorem q336 : (Jvm.Cond.lays "CardHolder" "CardHolder" "deedsDone" "I") ∈ lw_all := lw_g (lw_at lw_m1 201 rfl) rfl
theorem q337 : (Jvm.Cond.soleField "CardHolder" "deedsDone") ∈ lw_all := lw_g (lw_at lw_m1 202 rfl) rfl
theorem q338 : (Jvm.Cond.laysFinal "CardHolder" "CardHolder" "holder" "[I") ∈ lw_all := lw_g (lw_at lw_m1 203 rfl) rfl
theorem q339 : (Jvm.Cond.soleField "CardHolder" "holder") ∈ lw_all := lw_g (lw_at lw_m1 204 rfl) rfl
theorem q340 : (Jvm.Cond.laysFinal "CardHolder" "CardHolder" "worn" "[I") ∈ lw_all := lw_g (lw_at lw_m1 205 rfl) rfl
theorem q341 : (Jvm.Cond.soleField "CardHolder" "worn") ∈ lw_all := lw_g (lw_at lw_m1 206 rfl) rfl
theorem q342 : (Jvm.Cond.laysFinal "CardHolder" "CardHolder" "had" "[I") ∈ lw_all := lw_g (lw_at lw_m1 207 rfl) rfl
theorem q343 : (Jvm.Cond.soleField "CardHolder" "had") ∈ lw_all := lw_g (lw_at lw_m1 208 rfl) rfl
theorem q344 : (Jvm.Cond.laysFinal "CardHolder" "CardHolder" "kinds" "Ljava/util/ArrayList;") ∈ lw_all := lw_g (lw_at lw_m1 209 rfl) rfl
theorem q345 : (Jvm.Cond.soleField "CardHolder" "kinds") ∈ lw_all := lw_g (lw_at lw_m1 210 rfl) rfl
theorem q346 : (Jvm.Cond.laysFinal "CardHolder" "CardHolder" "wished" "[I") ∈ lw_all := lw_g (lw_at lw_m1 211 rfl) rfl
theorem q347 : (Jvm.Cond.soleField "CardHolder" "wished") ∈ lw_all := lw_g (lw_at lw_m1 212 rfl) rfl
theorem q348 : (Jvm.Cond.laysFinal "CardHolder" "CardHolder" "doing" "[I") ∈ lw_all := lw_g (lw_at lw_m1 213 rfl) rfl
theorem q349 : (Jvm.Cond.soleField "CardHolder" "doing") ∈ lw_all := lw_g (lw_at lw_m1 214 rfl) rfl
theorem q350 : (Jvm.Cond.lays "CardHolder" "CardHolder" "tried" "I") ∈ lw_all := lw_g (lw_at lw_m1 215 rfl) rfl
theorem q351 : (Jvm.Cond.soleField "CardHolder" "tried") ∈ lw_all := lw_g (lw_at lw_m1 216 rfl) rfl
theorem q352 : (Jvm.Cond.lays "CardHolder" "CardHolder" "watchWorst" "I") ∈ lw_all := lw_g (lw_at lw_m1 217 rfl) rfl
theorem q353 : (Jvm.Cond.soleField "CardHolder" "watchWorst") ∈ lw_all := lw_g (lw_at lw_m1 218 rfl) rfl
theorem q354 : (Jvm.Cond.lays "CardHolder" "CardHolder" "layMost" "I") ∈ lw_all := lw_g (lw_at lw_m1 219 rfl) rfl
theorem q355 : (Jvm.Cond.soleField "CardHolder" "layMost") ∈ lw_all := lw_g (lw_at lw_m1 220 rfl) rfl
theorem q356 : (Jvm.Cond.lays "CardHolder" "CardHolder" "layCard" "I") ∈ lw_all := lw_g (lw_at lw_m1 221 rfl) rfl
theorem q357 : (Jvm.Cond.soleField "CardHolder" "layCard") ∈ lw_all := lw_g (lw_at lw_m1 222 rfl) rfl
theorem q358 : (Jvm.Cond.lays "CardHolder" "CardHolder" "layReply" "I") ∈ lw_all := lw_g (lw_at lw_m1 223 rfl) rfl
theorem q359 : (Jvm.Cond.soleField "CardHolder" "layReply") ∈ lw_all := lw_g (lw_at lw_m1 224 rfl) rfl
theorem q360 : (Jvm.Cond.laysFinal "CardHolder" "CardHolder" "laid" "[I") ∈ lw_all := lw_g (lw_at lw_m1 225 rfl) rfl
theorem q361 : (Jvm.Cond.soleField "CardHolder" "laid") ∈ lw_all := lw_g (lw_at lw_m1 226 rfl) rfl
theorem q362 : (Jvm.Cond.laysFinal "CardHolder" "CardHolder" "slots" "[LCardHolder$Slot;") ∈ lw_all := lw_g (lw_at lw_m1 227 rfl) rfl
theorem q363 : (Jvm.Cond.soleField "CardHolder" "slots") ∈ lw_all := lw_g (lw_at lw_m1 228 rfl) rfl
theorem q364 : (Jvm.Cond.laysFinal "CardHolder" "CardHolder" "images" "Ljava/util/ArrayList;") ∈ lw_all := lw_g (lw_at lw_m1 229 rfl) rfl
theorem q365 : (Jvm.Cond.soleField "CardHolder" "images") ∈ lw_all := lw_g (lw_at lw_m1 230 rfl) rfl
theorem q366 : (Jvm.Cond.superclass "CardHolder" "java/lang/Object") ∈ lw_all := lw_g (lw_at lw_m1 231 rfl) rfl
theorem q368 : (Jvm.Cond.instanceMethod ({ cls := "CardHolder", name := "feed", desc := "(IIIII)I" } : Jvm.MethodName)) ∈ lw_all := lw_g (lw_at lw_m1 233 rfl) rfl
theorem q369 : (Jvm.Cond.selects "CardHolder" ({ cls := "CardHolder", name := "feed", desc := "(IIIII)I" } : Jvm.MethodName) ({ cls := "CardHolder", name := "feed", desc := "(IIIII)I" } : Jvm.MethodName)) ∈ lw_all := lw_g (lw_at lw_m1 234 rfl) rfl
theorem q370 : (Jvm.Cond.code ({ cls := "CardHolder", name := "feed", desc := "(IIIII)I" } : Jvm.MethodName) prog_1_method_5_code (6 : Nat) (Option.some Jvm.ClassFile.FieldType.int)) ∈ lw_all := lw_g (lw_at lw_m1 235 rfl) rfl
theorem q371 : (Jvm.Cond.methodLink "CardHolder" (63 : Nat) ({ cls := "CardHolder", name := "puts", desc := "(I)V" } : Jvm.MethodName)) ∈ lw_all := lw_g (lw_at lw_m1 236 rfl) rfl
theorem q372 : (Jvm.Cond.privateMethod ({ cls := "CardHolder", name := "puts", desc := "(I)V" } : Jvm.MethodName)) ∈ lw_tbl := lw_at lw_m1 237 rfl
theorem q373 : (Jvm.Cond.instanceMethod ({ cls := "CardHolder", name := "puts", desc := "(I)V" } : Jvm.MethodName)) ∈ lw_all := lw_g (lw_at lw_m1 238 rfl) rfl
theorem q374 : (Jvm.Cond.code ({ cls := "CardHolder", name := "puts", desc := "(I)V" } : Jvm.MethodName) prog_1_method_4_code (3 : Nat) (Option.none : Option Jvm.ClassFile.FieldType)) ∈ lw_all := lw_g (lw_at lw_m1 239 rfl) rfl
theorem q376 : (Jvm.Cond.instanceMethod ({ cls := "CardHolder", name := "end", desc := "(I)I" } : Jvm.MethodName)) ∈ lw_all := lw_g (lw_at lw_m2 1 rfl) rfl
theorem q377 : (Jvm.Cond.selects "CardHolder" ({ cls := "CardHolder", name := "end", desc := "(I)I" } : Jvm.MethodName) ({ cls := "CardHolder", name := "end", desc := "(I)I" } : Jvm.MethodName)) ∈ lw_all := lw_g (lw_at lw_m2 2 rfl) rfl
theorem q378 : (Jvm.Cond.code ({ cls := "CardHolder", name := "end", desc := "(I)I" } : Jvm.MethodName) prog_1_method_6_code (2 : Nat) (Option.some Jvm.ClassFile.FieldType.int)) ∈ lw_all := lw_g (lw_at lw_m2 3 rfl) rfl
theorem q379 : (Jvm.Cond.methodLink "CardHolder" (67 : Nat) ({ cls := "CardHolder", name := "isIn", desc := "(JJJ)Z" } : Jvm.MethodName)) ∈ lw_all := lw_g (lw_at lw_m2 4 rfl) rfl
theorem q380 : (Jvm.Cond.static ({ cls := "CardHolder", name := "isIn", desc := "(JJJ)Z" } : Jvm.MethodName)) ∈ lw_all := lw_g (lw_at lw_m2 5 rfl) rfl
theorem q381 : (Jvm.Cond.code ({ cls := "CardHolder", name := "isIn", desc := "(JJJ)Z" } : Jvm.MethodName) prog_1_method_1_code (6 : Nat) (Option.some Jvm.ClassFile.FieldType.boolean)) ∈ lw_all := lw_g (lw_at lw_m2 6 rfl) rfl
theorem q383 : (Jvm.Cond.instanceMethod ({ cls := "CardHolder", name := "city", desc := "()I" } : Jvm.MethodName)) ∈ lw_all := lw_g (lw_at lw_m2 8 rfl) rfl
theorem q384 : (Jvm.Cond.selects "CardHolder" ({ cls := "CardHolder", name := "city", desc := "()I" } : Jvm.MethodName) ({ cls := "CardHolder", name := "city", desc := "()I" } : Jvm.MethodName)) ∈ lw_all := lw_g (lw_at lw_m2 9 rfl) rfl
theorem q385 : (Jvm.Cond.codeWith ({ cls := "CardHolder", name := "city", desc := "()I" } : Jvm.MethodName) prog_1_method_7_code (4 : Nat) (Option.some Jvm.ClassFile.FieldType.int) [((0 : Nat), (33 : Nat), (40 : Nat), (86 : Nat)), ((0 : Nat), (33 : Nat), (67 : Nat), (0 : Nat)), ((40 : Nat), (60 : Nat), (67 : Nat), (0 : Nat))]) ∈ lw_all := lw_g (lw_at lw_m2 10 rfl) rfl
theorem q386 : (Jvm.Cond.classLink "CardHolder" (86 : Nat) "CardHolder$Fault") ∈ lw_all := lw_g (lw_at lw_m2 11 rfl) rfl
theorem q387 : (Jvm.Cond.classLink "CardHolder" (71 : Nat) "CardHolder$Reader") ∈ lw_all := lw_g (lw_at lw_m2 12 rfl) rfl
theorem q389 : (Jvm.Cond.methodLink "CardHolder" (73 : Nat) ({ cls := "CardHolder$Reader", name := "<init>", desc := "(LCardHolder;)V" } : Jvm.MethodName)) ∈ lw_all := lw_g (lw_at lw_m2 14 rfl) rfl
theorem q440 : (Jvm.Cond.methodLink "CardHolder" (76 : Nat) ({ cls := "CardHolder$Reader", name := "read", desc := "()LCardHolder$City;" } : Jvm.MethodName)) ∈ lw_all := lw_g (lw_at lw_m2 65 rfl) rfl
theorem q573 : (Jvm.Cond.fieldLinkNest "CardHolder" (88 : Nat) "CardHolder$Fault" "kind" "I" "CardHolder") ∈ lw_tbl := lw_at lw_m2 198 rfl
theorem q575 : (Jvm.Cond.fieldLinkNest "CardHolder" (91 : Nat) "CardHolder$Fault" "place" "I" "CardHolder") ∈ lw_tbl := lw_at lw_m2 200 rfl
theorem q624 : (Jvm.Cond.static ({ cls := "CardHolder", name := "isOf", desc := "(II)Z" } : Jvm.MethodName)) ∈ lw_all := lw_g (lw_at lw_m3 9 rfl) rfl
theorem q625 : (Jvm.Cond.code ({ cls := "CardHolder", name := "isOf", desc := "(II)Z" } : Jvm.MethodName) prog_1_method_2_code (2 : Nat) (Option.some Jvm.ClassFile.FieldType.boolean)) ∈ lw_all := lw_g (lw_at lw_m3 10 rfl) rfl
theorem q629 : (Jvm.Cond.instanceMethod ({ cls := "CardHolder", name := "fault", desc := "(I)I" } : Jvm.MethodName)) ∈ lw_all := lw_g (lw_at lw_m3 14 rfl) rfl
theorem q630 : (Jvm.Cond.selects "CardHolder" ({ cls := "CardHolder", name := "fault", desc := "(I)I" } : Jvm.MethodName) ({ cls := "CardHolder", name := "fault", desc := "(I)I" } : Jvm.MethodName)) ∈ lw_all := lw_g (lw_at lw_m3 15 rfl) rfl
theorem q631 : (Jvm.Cond.code ({ cls := "CardHolder", name := "fault", desc := "(I)I" } : Jvm.MethodName) prog_1_method_8_code (2 : Nat) (Option.some Jvm.ClassFile.FieldType.int)) ∈ lw_all := lw_g (lw_at lw_m3 16 rfl) rfl
theorem q633 : (Jvm.Cond.instanceMethod ({ cls := "CardHolder", name := "person", desc := "(II)I" } : Jvm.MethodName)) ∈ lw_all := lw_g (lw_at lw_m3 18 rfl) rfl
theorem q634 : (Jvm.Cond.selects "CardHolder" ({ cls := "CardHolder", name := "person", desc := "(II)I" } : Jvm.MethodName) ({ cls := "CardHolder", name := "person", desc := "(II)I" } : Jvm.MethodName)) ∈ lw_all := lw_g (lw_at lw_m3 19 rfl) rfl
theorem q635 : (Jvm.Cond.code ({ cls := "CardHolder", name := "person", desc := "(II)I" } : Jvm.MethodName) prog_1_method_23_code (3 : Nat) (Option.some Jvm.ClassFile.FieldType.int)) ∈ lw_all := lw_g (lw_at lw_m3 20 rfl) rfl
theorem q636 : (Jvm.Cond.methodLink "CardHolder" (186 : Nat) ({ cls := "CardHolder", name := "isPerson", desc := "(J)Z" } : Jvm.MethodName)) ∈ lw_all := lw_g (lw_at lw_m3 21 rfl) rfl
theorem q637 : (Jvm.Cond.privateMethod ({ cls := "CardHolder", name := "isPerson", desc := "(J)Z" } : Jvm.MethodName)) ∈ lw_tbl := lw_at lw_m3 22 rfl
theorem q638 : (Jvm.Cond.instanceMethod ({ cls := "CardHolder", name := "isPerson", desc := "(J)Z" } : Jvm.MethodName)) ∈ lw_all := lw_g (lw_at lw_m3 23 rfl) rfl
theorem q639 : (Jvm.Cond.code ({ cls := "CardHolder", name := "isPerson", desc := "(J)Z" } : Jvm.MethodName) prog_1_method_10_code (3 : Nat) (Option.some Jvm.ClassFile.FieldType.boolean)) ∈ lw_all := lw_g (lw_at lw_m3 24 rfl) rfl
theorem q640 : (Jvm.Cond.methodLink "CardHolder" (97 : Nat) ({ cls := "CardHolder", name := "isOneOf", desc := "(JI)Z" } : Jvm.MethodName)) ∈ lw_all := lw_g (lw_at lw_m3 25 rfl) rfl
theorem q641 : (Jvm.Cond.static ({ cls := "CardHolder", name := "isOneOf", desc := "(JI)Z" } : Jvm.MethodName)) ∈ lw_all := lw_g (lw_at lw_m3 26 rfl) rfl
theorem q642 : (Jvm.Cond.code ({ cls := "CardHolder", name := "isOneOf", desc := "(JI)Z" } : Jvm.MethodName) prog_1_method_11_code (3 : Nat) (Option.some Jvm.ClassFile.FieldType.boolean)) ∈ lw_all := lw_g (lw_at lw_m3 27 rfl) rfl
theorem q643 : (Jvm.Cond.methodLink "CardHolder" (190 : Nat) ({ cls := "CardHolder", name := "asItIs", desc := "()V" } : Jvm.MethodName)) ∈ lw_all := lw_g (lw_at lw_m3 28 rfl) rfl
theorem q644 : (Jvm.Cond.privateMethod ({ cls := "CardHolder", name := "asItIs", desc := "()V" } : Jvm.MethodName)) ∈ lw_tbl := lw_at lw_m3 29 rfl
theorem q645 : (Jvm.Cond.instanceMethod ({ cls := "CardHolder", name := "asItIs", desc := "()V" } : Jvm.MethodName)) ∈ lw_all := lw_g (lw_at lw_m3 30 rfl) rfl
theorem q646 : (Jvm.Cond.code ({ cls := "CardHolder", name := "asItIs", desc := "()V" } : Jvm.MethodName) prog_1_method_18_code (2 : Nat) (Option.none : Option Jvm.ClassFile.FieldType)) ∈ lw_all := lw_g (lw_at lw_m3 31 rfl) rfl
theorem q647 : (Jvm.Cond.methodLink "CardHolder" (140 : Nat) ({ cls := "CardHolder", name := "asAtFirst", desc := "()V" } : Jvm.MethodName)) ∈ lw_all := lw_g (lw_at lw_m3 32 rfl) rfl
theorem q648 : (Jvm.Cond.privateMethod ({ cls := "CardHolder", name := "asAtFirst", desc := "()V" } : Jvm.MethodName)) ∈ lw_tbl := lw_at lw_m3 33 rfl
theorem q649 : (Jvm.Cond.instanceMethod ({ cls := "CardHolder", name := "asAtFirst", desc := "()V" } : Jvm.MethodName)) ∈ lw_all := lw_g (lw_at lw_m3 34 rfl) rfl
theorem q650 : (Jvm.Cond.code ({ cls := "CardHolder", name := "asAtFirst", desc := "()V" } : Jvm.MethodName) prog_1_method_17_code (2 : Nat) (Option.none : Option Jvm.ClassFile.FieldType)) ∈ lw_all := lw_g (lw_at lw_m3 35 rfl) rfl
theorem q651 : (Jvm.Cond.methodLink "CardHolder" (134 : Nat) ({ cls := "java/lang/System", name := "arraycopy", desc := "(Ljava/lang/Object;ILjava/lang/Object;II)V" } : Jvm.MethodName)) ∈ lw_all := lw_g (lw_at lw_m3 36 rfl) rfl
theorem q654 : (Jvm.Cond.methodLink "CardHolder" (149 : Nat) ({ cls := "CardHolder", name := "does", desc := "(I)V" } : Jvm.MethodName)) ∈ lw_all := lw_g (lw_at lw_m3 39 rfl) rfl
theorem q655 : (Jvm.Cond.privateMethod ({ cls := "CardHolder", name := "does", desc := "(I)V" } : Jvm.MethodName)) ∈ lw_tbl := lw_at lw_m3 40 rfl
theorem q656 : (Jvm.Cond.instanceMethod ({ cls := "CardHolder", name := "does", desc := "(I)V" } : Jvm.MethodName)) ∈ lw_all := lw_g (lw_at lw_m3 41 rfl) rfl
theorem q657 : (Jvm.Cond.code ({ cls := "CardHolder", name := "does", desc := "(I)V" } : Jvm.MethodName) prog_1_method_21_code (2 : Nat) (Option.none : Option Jvm.ClassFile.FieldType)) ∈ lw_all := lw_g (lw_at lw_m3 42 rfl) rfl
theorem q658 : (Jvm.Cond.methodLink "CardHolder" (180 : Nat) ({ cls := "CardHolder", name := "kind", desc := "(I)LCardHolder$Act;" } : Jvm.MethodName)) ∈ lw_all := lw_g (lw_at lw_m3 43 rfl) rfl
theorem q659 : (Jvm.Cond.privateMethod ({ cls := "CardHolder", name := "kind", desc := "(I)LCardHolder$Act;" } : Jvm.MethodName)) ∈ lw_tbl := lw_at lw_m3 44 rfl
theorem q660 : (Jvm.Cond.instanceMethod ({ cls := "CardHolder", name := "kind", desc := "(I)LCardHolder$Act;" } : Jvm.MethodName)) ∈ lw_all := lw_g (lw_at lw_m3 45 rfl) rfl
theorem q661 : (Jvm.Cond.code ({ cls := "CardHolder", name := "kind", desc := "(I)LCardHolder$Act;" } : Jvm.MethodName) prog_1_method_20_code (2 : Nat) (Option.some (Jvm.ClassFile.FieldType.object "CardHolder$Act"))) ∈ lw_all := lw_g (lw_at lw_m3 46 rfl) rfl
theorem q662 : (Jvm.Cond.methodLink "CardHolder" (152 : Nat) ({ cls := "java/util/ArrayList", name := "isEmpty", desc := "()Z" } : Jvm.MethodName)) ∈ lw_all := lw_g (lw_at lw_m3 47 rfl) rfl
theorem q666 : (Jvm.Cond.classLink "CardHolder" (155 : Nat) "CardHolder$Ask") ∈ lw_all := lw_g (lw_at lw_m3 51 rfl) rfl
theorem q668 : (Jvm.Cond.methodLinkNest "CardHolder" (157 : Nat) ({ cls := "CardHolder$Ask", name := "<init>", desc := "(LCardHolder;)V" } : Jvm.MethodName) "CardHolder") ∈ lw_tbl := lw_at lw_m3 53 rfl
theorem q679 : (Jvm.Cond.methodLink "CardHolder" (158 : Nat) ({ cls := "java/util/ArrayList", name := "add", desc := "(Ljava/lang/Object;)Z" } : Jvm.MethodName)) ∈ lw_all := lw_g (lw_at lw_m3 64 rfl) rfl
theorem q711 : (Jvm.Cond.selects "CardHolder" ({ cls := "java/lang/Object", name := "getClass", desc := "()Ljava/lang/Class;" } : Jvm.MethodName) ({ cls := "java/lang/Object", name := "getClass", desc := "()Ljava/lang/Class;" } : Jvm.MethodName)) ∈ lw_all := lw_g (lw_at lw_m3 96 rfl) rfl
theorem q739 : (Jvm.Cond.classLink "CardHolder" (162 : Nat) "CardHolder$Give") ∈ lw_all := lw_g (lw_at lw_m3 124 rfl) rfl
theorem q741 : (Jvm.Cond.methodLinkNest "CardHolder" (164 : Nat) ({ cls := "CardHolder$Give", name := "<init>", desc := "(LCardHolder;)V" } : Jvm.MethodName) "CardHolder") ∈ lw_tbl := lw_at lw_m3 126 rfl
theorem q750 : (Jvm.Cond.classLink "CardHolder" (165 : Nat) "CardHolder$Swap") ∈ lw_all := lw_g (lw_at lw_m3 135 rfl) rfl
theorem q752 : (Jvm.Cond.methodLinkNest "CardHolder" (167 : Nat) ({ cls := "CardHolder$Swap", name := "<init>", desc := "(LCardHolder;)V" } : Jvm.MethodName) "CardHolder") ∈ lw_tbl := lw_at lw_m3 137 rfl
theorem q760 : (Jvm.Cond.classLink "CardHolder" (168 : Nat) "CardHolder$Steal") ∈ lw_all := lw_g (lw_at lw_m3 145 rfl) rfl
theorem q762 : (Jvm.Cond.methodLinkNest "CardHolder" (170 : Nat) ({ cls := "CardHolder$Steal", name := "<init>", desc := "(LCardHolder;)V" } : Jvm.MethodName) "CardHolder") ∈ lw_tbl := lw_at lw_m3 147 rfl
theorem q770 : (Jvm.Cond.classLink "CardHolder" (171 : Nat) "CardHolder$Day") ∈ lw_all := lw_g (lw_at lw_m3 155 rfl) rfl
theorem q772 : (Jvm.Cond.methodLinkNest "CardHolder" (173 : Nat) ({ cls := "CardHolder$Day", name := "<init>", desc := "(LCardHolder;)V" } : Jvm.MethodName) "CardHolder") ∈ lw_tbl := lw_at lw_m3 157 rfl
theorem q780 : (Jvm.Cond.methodLink "CardHolder" (174 : Nat) ({ cls := "java/util/ArrayList", name := "get", desc := "(I)Ljava/lang/Object;" } : Jvm.MethodName)) ∈ lw_all := lw_g (lw_at lw_m3 165 rfl) rfl
theorem q792 : (Jvm.Cond.classLink "CardHolder" (178 : Nat) "CardHolder$Act") ∈ lw_all := lw_g (lw_at lw_m3 177 rfl) rfl
theorem q793 : (Jvm.Cond.methodLink "CardHolder" (183 : Nat) ({ cls := "CardHolder$Act", name := "does", desc := "(IIII)V" } : Jvm.MethodName)) ∈ lw_all := lw_g (lw_at lw_m3 178 rfl) rfl
theorem q800 : (Jvm.Cond.privateMethod ({ cls := "CardHolder", name := "limit", desc := "(I)I" } : Jvm.MethodName)) ∈ lw_tbl := lw_at lw_m3 185 rfl
theorem q801 : (Jvm.Cond.instanceMethod ({ cls := "CardHolder", name := "limit", desc := "(I)I" } : Jvm.MethodName)) ∈ lw_all := lw_g (lw_at lw_m3 186 rfl) rfl
theorem q802 : (Jvm.Cond.code ({ cls := "CardHolder", name := "limit", desc := "(I)I" } : Jvm.MethodName) prog_1_method_16_code (2 : Nat) (Option.some Jvm.ClassFile.FieldType.int)) ∈ lw_all := lw_g (lw_at lw_m3 187 rfl) rfl
theorem q803 : (Jvm.Cond.methodLink "CardHolder" (114 : Nat) ({ cls := "CardHolder", name := "isOf", desc := "(II)Z" } : Jvm.MethodName)) ∈ lw_all := lw_g (lw_at lw_m3 188 rfl) rfl
theorem q818 : (Jvm.Cond.methodLink "CardHolder" (198 : Nat) ({ cls := "CardHolder", name := "handOf", desc := "(I)I" } : Jvm.MethodName)) ∈ lw_all := lw_g (lw_at lw_m3 203 rfl) rfl
theorem q819 : (Jvm.Cond.privateMethod ({ cls := "CardHolder", name := "handOf", desc := "(I)I" } : Jvm.MethodName)) ∈ lw_tbl := lw_at lw_m3 204 rfl
theorem q820 : (Jvm.Cond.instanceMethod ({ cls := "CardHolder", name := "handOf", desc := "(I)I" } : Jvm.MethodName)) ∈ lw_all := lw_g (lw_at lw_m3 205 rfl) rfl
theorem q821 : (Jvm.Cond.code ({ cls := "CardHolder", name := "handOf", desc := "(I)I" } : Jvm.MethodName) prog_1_method_19_code (4 : Nat) (Option.some Jvm.ClassFile.FieldType.int)) ∈ lw_all := lw_g (lw_at lw_m3 206 rfl) rfl
theorem q822 : (Jvm.Cond.methodLink "CardHolder" (205 : Nat) ({ cls := "CardHolder", name := "limit", desc := "(I)I" } : Jvm.MethodName)) ∈ lw_all := lw_g (lw_at lw_m3 207 rfl) rfl
theorem q824 : (Jvm.Cond.instanceMethod ({ cls := "CardHolder", name := "free", desc := "()I" } : Jvm.MethodName)) ∈ lw_all := lw_g (lw_at lw_m3 209 rfl) rfl
theorem q825 : (Jvm.Cond.selects "CardHolder" ({ cls := "CardHolder", name := "free", desc := "()I" } : Jvm.MethodName) ({ cls := "CardHolder", name := "free", desc := "()I" } : Jvm.MethodName)) ∈ lw_all := lw_g (lw_at lw_m3 210 rfl) rfl
theorem q826 : (Jvm.Cond.code ({ cls := "CardHolder", name := "free", desc := "()I" } : Jvm.MethodName) prog_1_method_24_code (1 : Nat) (Option.some Jvm.ClassFile.FieldType.int)) ∈ lw_all := lw_g (lw_at lw_m3 211 rfl) rfl
theorem q827 : (Jvm.Cond.methodLink "CardHolder" (103 : Nat) ({ cls := "CardHolder", name := "isCity", desc := "()Z" } : Jvm.MethodName)) ∈ lw_all := lw_g (lw_at lw_m3 212 rfl) rfl
theorem q828 : (Jvm.Cond.privateMethod ({ cls := "CardHolder", name := "isCity", desc := "()Z" } : Jvm.MethodName)) ∈ lw_tbl := lw_at lw_m3 213 rfl
theorem q829 : (Jvm.Cond.instanceMethod ({ cls := "CardHolder", name := "isCity", desc := "()Z" } : Jvm.MethodName)) ∈ lw_all := lw_g (lw_at lw_m3 214 rfl) rfl
theorem q830 : (Jvm.Cond.code ({ cls := "CardHolder", name := "isCity", desc := "()Z" } : Jvm.MethodName) prog_1_method_9_code (1 : Nat) (Option.some Jvm.ClassFile.FieldType.boolean)) ∈ lw_all := lw_g (lw_at lw_m3 215 rfl) rfl
theorem q832 : (Jvm.Cond.instanceMethod ({ cls := "CardHolder", name := "under", desc := "(I)I" } : Jvm.MethodName)) ∈ lw_all := lw_g (lw_at lw_m3 217 rfl) rfl
theorem q833 : (Jvm.Cond.selects "CardHolder" ({ cls := "CardHolder", name := "under", desc := "(I)I" } : Jvm.MethodName) ({ cls := "CardHolder", name := "under", desc := "(I)I" } : Jvm.MethodName)) ∈ lw_all := lw_g (lw_at lw_m3 218 rfl) rfl
theorem q834 : (Jvm.Cond.code ({ cls := "CardHolder", name := "under", desc := "(I)I" } : Jvm.MethodName) prog_1_method_26_code (2 : Nat) (Option.some Jvm.ClassFile.FieldType.int)) ∈ lw_all := lw_g (lw_at lw_m3 219 rfl) rfl
theorem q835 : (Jvm.Cond.methodLink "CardHolder" (208 : Nat) ({ cls := "CardHolder", name := "underOf", desc := "(I)I" } : Jvm.MethodName)) ∈ lw_all := lw_g (lw_at lw_m3 220 rfl) rfl
theorem q836 : (Jvm.Cond.privateMethod ({ cls := "CardHolder", name := "underOf", desc := "(I)I" } : Jvm.MethodName)) ∈ lw_tbl := lw_at lw_m3 221 rfl
theorem q837 : (Jvm.Cond.instanceMethod ({ cls := "CardHolder", name := "underOf", desc := "(I)I" } : Jvm.MethodName)) ∈ lw_all := lw_g (lw_at lw_m3 222 rfl) rfl
theorem q838 : (Jvm.Cond.code ({ cls := "CardHolder", name := "underOf", desc := "(I)I" } : Jvm.MethodName) prog_1_method_25_code (5 : Nat) (Option.some Jvm.ClassFile.FieldType.int)) ∈ lw_all := lw_g (lw_at lw_m3 223 rfl) rfl
theorem q840 : (Jvm.Cond.instanceMethod ({ cls := "CardHolder", name := "time", desc := "(II)I" } : Jvm.MethodName)) ∈ lw_all := lw_g (lw_at lw_m3 225 rfl) rfl
theorem q841 : (Jvm.Cond.selects "CardHolder" ({ cls := "CardHolder", name := "time", desc := "(II)I" } : Jvm.MethodName) ({ cls := "CardHolder", name := "time", desc := "(II)I" } : Jvm.MethodName)) ∈ lw_all := lw_g (lw_at lw_m3 226 rfl) rfl
theorem q842 : (Jvm.Cond.code ({ cls := "CardHolder", name := "time", desc := "(II)I" } : Jvm.MethodName) prog_1_method_29_code (3 : Nat) (Option.some Jvm.ClassFile.FieldType.int)) ∈ lw_all := lw_g (lw_at lw_m3 227 rfl) rfl
theorem q843 : (Jvm.Cond.methodLink "CardHolder" (214 : Nat) ({ cls := "CardHolder", name := "timeOf", desc := "(II)I" } : Jvm.MethodName)) ∈ lw_all := lw_g (lw_at lw_m3 228 rfl) rfl
theorem q844 : (Jvm.Cond.privateMethod ({ cls := "CardHolder", name := "timeOf", desc := "(II)I" } : Jvm.MethodName)) ∈ lw_tbl := lw_at lw_m3 229 rfl
theorem q845 : (Jvm.Cond.instanceMethod ({ cls := "CardHolder", name := "timeOf", desc := "(II)I" } : Jvm.MethodName)) ∈ lw_all := lw_g (lw_at lw_m3 230 rfl) rfl
theorem q846 : (Jvm.Cond.code ({ cls := "CardHolder", name := "timeOf", desc := "(II)I" } : Jvm.MethodName) prog_1_method_28_code (6 : Nat) (Option.some Jvm.ClassFile.FieldType.int)) ∈ lw_all := lw_g (lw_at lw_m3 231 rfl) rfl
theorem q847 : (Jvm.Cond.methodLink "CardHolder" (211 : Nat) ({ cls := "CardHolder", name := "cost", desc := "(I)I" } : Jvm.MethodName)) ∈ lw_all := lw_g (lw_at lw_m3 232 rfl) rfl
theorem q848 : (Jvm.Cond.privateMethod ({ cls := "CardHolder", name := "cost", desc := "(I)I" } : Jvm.MethodName)) ∈ lw_tbl := lw_at lw_m3 233 rfl
theorem q849 : (Jvm.Cond.instanceMethod ({ cls := "CardHolder", name := "cost", desc := "(I)I" } : Jvm.MethodName)) ∈ lw_all := lw_g (lw_at lw_m3 234 rfl) rfl
theorem q850 : (Jvm.Cond.code ({ cls := "CardHolder", name := "cost", desc := "(I)I" } : Jvm.MethodName) prog_1_method_27_code (2 : Nat) (Option.some Jvm.ClassFile.FieldType.int)) ∈ lw_all := lw_g (lw_at lw_m3 235 rfl) rfl
theorem q852 : (Jvm.Cond.instanceMethod ({ cls := "CardHolder", name := "top", desc := "(I)I" } : Jvm.MethodName)) ∈ lw_all := lw_g (lw_at lw_m3 237 rfl) rfl
theorem q853 : (Jvm.Cond.selects "CardHolder" ({ cls := "CardHolder", name := "top", desc := "(I)I" } : Jvm.MethodName) ({ cls := "CardHolder", name := "top", desc := "(I)I" } : Jvm.MethodName)) ∈ lw_all := lw_g (lw_at lw_m3 238 rfl) rfl
theorem q854 : (Jvm.Cond.code ({ cls := "CardHolder", name := "top", desc := "(I)I" } : Jvm.MethodName) prog_1_method_30_code (4 : Nat) (Option.some Jvm.ClassFile.FieldType.int)) ∈ lw_all := lw_g (lw_at lw_m3 239 rfl) rfl
theorem q856 : (Jvm.Cond.instanceMethod ({ cls := "CardHolder", name := "ring", desc := "(I)I" } : Jvm.MethodName)) ∈ lw_all := lw_g (lw_at lw_m4 1 rfl) rfl
theorem q857 : (Jvm.Cond.selects "CardHolder" ({ cls := "CardHolder", name := "ring", desc := "(I)I" } : Jvm.MethodName) ({ cls := "CardHolder", name := "ring", desc := "(I)I" } : Jvm.MethodName)) ∈ lw_all := lw_g (lw_at lw_m4 2 rfl) rfl
theorem q858 : (Jvm.Cond.code ({ cls := "CardHolder", name := "ring", desc := "(I)I" } : Jvm.MethodName) prog_1_method_32_code (2 : Nat) (Option.some Jvm.ClassFile.FieldType.int)) ∈ lw_all := lw_g (lw_at lw_m4 3 rfl) rfl
theorem q859 : (Jvm.Cond.methodLink "CardHolder" (218 : Nat) ({ cls := "CardHolder", name := "ringOf", desc := "(I)I" } : Jvm.MethodName)) ∈ lw_all := lw_g (lw_at lw_m4 4 rfl) rfl
theorem q860 : (Jvm.Cond.privateMethod ({ cls := "CardHolder", name := "ringOf", desc := "(I)I" } : Jvm.MethodName)) ∈ lw_tbl := lw_at lw_m4 5 rfl
theorem q861 : (Jvm.Cond.instanceMethod ({ cls := "CardHolder", name := "ringOf", desc := "(I)I" } : Jvm.MethodName)) ∈ lw_all := lw_g (lw_at lw_m4 6 rfl) rfl
theorem q862 : (Jvm.Cond.code ({ cls := "CardHolder", name := "ringOf", desc := "(I)I" } : Jvm.MethodName) prog_1_method_31_code (4 : Nat) (Option.some Jvm.ClassFile.FieldType.int)) ∈ lw_all := lw_g (lw_at lw_m4 7 rfl) rfl
theorem q864 : (Jvm.Cond.instanceMethod ({ cls := "CardHolder", name := "rings", desc := "()I" } : Jvm.MethodName)) ∈ lw_all := lw_g (lw_at lw_m4 9 rfl) rfl
theorem q865 : (Jvm.Cond.selects "CardHolder" ({ cls := "CardHolder", name := "rings", desc := "()I" } : Jvm.MethodName) ({ cls := "CardHolder", name := "rings", desc := "()I" } : Jvm.MethodName)) ∈ lw_all := lw_g (lw_at lw_m4 10 rfl) rfl
theorem q866 : (Jvm.Cond.code ({ cls := "CardHolder", name := "rings", desc := "()I" } : Jvm.MethodName) prog_1_method_35_code (1 : Nat) (Option.some Jvm.ClassFile.FieldType.int)) ∈ lw_all := lw_g (lw_at lw_m4 11 rfl) rfl
theorem q867 : (Jvm.Cond.methodLink "CardHolder" (229 : Nat) ({ cls := "CardHolder", name := "ringMany", desc := "()I" } : Jvm.MethodName)) ∈ lw_all := lw_g (lw_at lw_m4 12 rfl) rfl
theorem q868 : (Jvm.Cond.privateMethod ({ cls := "CardHolder", name := "ringMany", desc := "()I" } : Jvm.MethodName)) ∈ lw_tbl := lw_at lw_m4 13 rfl
theorem q869 : (Jvm.Cond.instanceMethod ({ cls := "CardHolder", name := "ringMany", desc := "()I" } : Jvm.MethodName)) ∈ lw_all := lw_g (lw_at lw_m4 14 rfl) rfl
theorem q870 : (Jvm.Cond.code ({ cls := "CardHolder", name := "ringMany", desc := "()I" } : Jvm.MethodName) prog_1_method_34_code (3 : Nat) (Option.some Jvm.ClassFile.FieldType.int)) ∈ lw_all := lw_g (lw_at lw_m4 15 rfl) rfl
theorem q871 : (Jvm.Cond.methodLink "CardHolder" (226 : Nat) ({ cls := "CardHolder", name := "leastOf", desc := "(I)I" } : Jvm.MethodName)) ∈ lw_all := lw_g (lw_at lw_m4 16 rfl) rfl
theorem q872 : (Jvm.Cond.privateMethod ({ cls := "CardHolder", name := "leastOf", desc := "(I)I" } : Jvm.MethodName)) ∈ lw_tbl := lw_at lw_m4 17 rfl
theorem q873 : (Jvm.Cond.instanceMethod ({ cls := "CardHolder", name := "leastOf", desc := "(I)I" } : Jvm.MethodName)) ∈ lw_all := lw_g (lw_at lw_m4 18 rfl) rfl
theorem q874 : (Jvm.Cond.code ({ cls := "CardHolder", name := "leastOf", desc := "(I)I" } : Jvm.MethodName) prog_1_method_33_code (4 : Nat) (Option.some Jvm.ClassFile.FieldType.int)) ∈ lw_all := lw_g (lw_at lw_m4 19 rfl) rfl
theorem q875 : (Jvm.Cond.methodLink "CardHolder" (221 : Nat) ({ cls := "java/lang/Math", name := "min", desc := "(II)I" } : Jvm.MethodName)) ∈ lw_all := lw_g (lw_at lw_m4 20 rfl) rfl
theorem q877 : (Jvm.Cond.instanceMethod ({ cls := "CardHolder", name := "chain", desc := "(II)I" } : Jvm.MethodName)) ∈ lw_all := lw_g (lw_at lw_m4 22 rfl) rfl
theorem q878 : (Jvm.Cond.selects "CardHolder" ({ cls := "CardHolder", name := "chain", desc := "(II)I" } : Jvm.MethodName) ({ cls := "CardHolder", name := "chain", desc := "(II)I" } : Jvm.MethodName)) ∈ lw_all := lw_g (lw_at lw_m4 23 rfl) rfl
theorem q879 : (Jvm.Cond.code ({ cls := "CardHolder", name := "chain", desc := "(II)I" } : Jvm.MethodName) prog_1_method_37_code (4 : Nat) (Option.some Jvm.ClassFile.FieldType.int)) ∈ lw_all := lw_g (lw_at lw_m4 24 rfl) rfl
theorem q880 : (Jvm.Cond.methodLink "CardHolder" (232 : Nat) ({ cls := "CardHolder", name := "isDeed", desc := "(J)Z" } : Jvm.MethodName)) ∈ lw_all := lw_g (lw_at lw_m4 25 rfl) rfl
theorem q881 : (Jvm.Cond.static ({ cls := "CardHolder", name := "isDeed", desc := "(J)Z" } : Jvm.MethodName)) ∈ lw_all := lw_g (lw_at lw_m4 26 rfl) rfl
theorem q882 : (Jvm.Cond.code ({ cls := "CardHolder", name := "isDeed", desc := "(J)Z" } : Jvm.MethodName) prog_1_method_12_code (2 : Nat) (Option.some Jvm.ClassFile.FieldType.boolean)) ∈ lw_all := lw_g (lw_at lw_m4 27 rfl) rfl
theorem q883 : (Jvm.Cond.methodLink "CardHolder" (235 : Nat) ({ cls := "CardHolder", name := "doerOf", desc := "(II)I" } : Jvm.MethodName)) ∈ lw_all := lw_g (lw_at lw_m4 28 rfl) rfl
theorem q884 : (Jvm.Cond.privateMethod ({ cls := "CardHolder", name := "doerOf", desc := "(II)I" } : Jvm.MethodName)) ∈ lw_tbl := lw_at lw_m4 29 rfl
theorem q885 : (Jvm.Cond.instanceMethod ({ cls := "CardHolder", name := "doerOf", desc := "(II)I" } : Jvm.MethodName)) ∈ lw_all := lw_g (lw_at lw_m4 30 rfl) rfl
theorem q886 : (Jvm.Cond.code ({ cls := "CardHolder", name := "doerOf", desc := "(II)I" } : Jvm.MethodName) prog_1_method_36_code (5 : Nat) (Option.some Jvm.ClassFile.FieldType.int)) ∈ lw_all := lw_g (lw_at lw_m4 31 rfl) rfl
theorem q888 : (Jvm.Cond.instanceMethod ({ cls := "CardHolder", name := "doer", desc := "(II)I" } : Jvm.MethodName)) ∈ lw_all := lw_g (lw_at lw_m4 33 rfl) rfl
theorem q889 : (Jvm.Cond.selects "CardHolder" ({ cls := "CardHolder", name := "doer", desc := "(II)I" } : Jvm.MethodName) ({ cls := "CardHolder", name := "doer", desc := "(II)I" } : Jvm.MethodName)) ∈ lw_all := lw_g (lw_at lw_m4 34 rfl) rfl
theorem q890 : (Jvm.Cond.code ({ cls := "CardHolder", name := "doer", desc := "(II)I" } : Jvm.MethodName) prog_1_method_38_code (3 : Nat) (Option.some Jvm.ClassFile.FieldType.int)) ∈ lw_all := lw_g (lw_at lw_m4 35 rfl) rfl
theorem q892 : (Jvm.Cond.instanceMethod ({ cls := "CardHolder", name := "asked", desc := "(III)I" } : Jvm.MethodName)) ∈ lw_all := lw_g (lw_at lw_m4 37 rfl) rfl
theorem q893 : (Jvm.Cond.selects "CardHolder" ({ cls := "CardHolder", name := "asked", desc := "(III)I" } : Jvm.MethodName) ({ cls := "CardHolder", name := "asked", desc := "(III)I" } : Jvm.MethodName)) ∈ lw_all := lw_g (lw_at lw_m4 38 rfl) rfl
theorem q894 : (Jvm.Cond.code ({ cls := "CardHolder", name := "asked", desc := "(III)I" } : Jvm.MethodName) prog_1_method_39_code (8 : Nat) (Option.some Jvm.ClassFile.FieldType.int)) ∈ lw_all := lw_g (lw_at lw_m4 39 rfl) rfl
theorem q896 : (Jvm.Cond.instanceMethod ({ cls := "CardHolder", name := "can", desc := "(I)I" } : Jvm.MethodName)) ∈ lw_all := lw_g (lw_at lw_m4 41 rfl) rfl
theorem q897 : (Jvm.Cond.selects "CardHolder" ({ cls := "CardHolder", name := "can", desc := "(I)I" } : Jvm.MethodName) ({ cls := "CardHolder", name := "can", desc := "(I)I" } : Jvm.MethodName)) ∈ lw_all := lw_g (lw_at lw_m4 42 rfl) rfl
theorem q898 : (Jvm.Cond.code ({ cls := "CardHolder", name := "can", desc := "(I)I" } : Jvm.MethodName) prog_1_method_41_code (2 : Nat) (Option.some Jvm.ClassFile.FieldType.int)) ∈ lw_all := lw_g (lw_at lw_m4 43 rfl) rfl
theorem q899 : (Jvm.Cond.methodLink "CardHolder" (238 : Nat) ({ cls := "CardHolder", name := "deedsOf", desc := "(I)I" } : Jvm.MethodName)) ∈ lw_all := lw_g (lw_at lw_m4 44 rfl) rfl
theorem q900 : (Jvm.Cond.privateMethod ({ cls := "CardHolder", name := "deedsOf", desc := "(I)I" } : Jvm.MethodName)) ∈ lw_tbl := lw_at lw_m4 45 rfl
theorem q901 : (Jvm.Cond.instanceMethod ({ cls := "CardHolder", name := "deedsOf", desc := "(I)I" } : Jvm.MethodName)) ∈ lw_all := lw_g (lw_at lw_m4 46 rfl) rfl
theorem q902 : (Jvm.Cond.code ({ cls := "CardHolder", name := "deedsOf", desc := "(I)I" } : Jvm.MethodName) prog_1_method_40_code (4 : Nat) (Option.some Jvm.ClassFile.FieldType.int)) ∈ lw_all := lw_g (lw_at lw_m4 47 rfl) rfl
theorem q904 : (Jvm.Cond.instanceMethod ({ cls := "CardHolder", name := "why", desc := "(III)I" } : Jvm.MethodName)) ∈ lw_all := lw_g (lw_at lw_m4 49 rfl) rfl
theorem q905 : (Jvm.Cond.selects "CardHolder" ({ cls := "CardHolder", name := "why", desc := "(III)I" } : Jvm.MethodName) ({ cls := "CardHolder", name := "why", desc := "(III)I" } : Jvm.MethodName)) ∈ lw_all := lw_g (lw_at lw_m4 50 rfl) rfl
theorem q906 : (Jvm.Cond.code ({ cls := "CardHolder", name := "why", desc := "(III)I" } : Jvm.MethodName) prog_1_method_44_code (4 : Nat) (Option.some Jvm.ClassFile.FieldType.int)) ∈ lw_all := lw_g (lw_at lw_m4 51 rfl) rfl
theorem q907 : (Jvm.Cond.methodLink "CardHolder" (241 : Nat) ({ cls := "CardHolder", name := "isAsking", desc := "(III)Z" } : Jvm.MethodName)) ∈ lw_all := lw_g (lw_at lw_m4 52 rfl) rfl
theorem q908 : (Jvm.Cond.privateMethod ({ cls := "CardHolder", name := "isAsking", desc := "(III)Z" } : Jvm.MethodName)) ∈ lw_tbl := lw_at lw_m4 53 rfl
theorem q909 : (Jvm.Cond.instanceMethod ({ cls := "CardHolder", name := "isAsking", desc := "(III)Z" } : Jvm.MethodName)) ∈ lw_all := lw_g (lw_at lw_m4 54 rfl) rfl
theorem q910 : (Jvm.Cond.code ({ cls := "CardHolder", name := "isAsking", desc := "(III)Z" } : Jvm.MethodName) prog_1_method_43_code (4 : Nat) (Option.some Jvm.ClassFile.FieldType.boolean)) ∈ lw_all := lw_g (lw_at lw_m4 55 rfl) rfl
theorem q911 : (Jvm.Cond.methodLink "CardHolder" (245 : Nat) ({ cls := "CardHolder", name := "whyNot", desc := "(III)I" } : Jvm.MethodName)) ∈ lw_all := lw_g (lw_at lw_m4 56 rfl) rfl
theorem q912 : (Jvm.Cond.privateMethod ({ cls := "CardHolder", name := "whyNot", desc := "(III)I" } : Jvm.MethodName)) ∈ lw_tbl := lw_at lw_m4 57 rfl
theorem q913 : (Jvm.Cond.instanceMethod ({ cls := "CardHolder", name := "whyNot", desc := "(III)I" } : Jvm.MethodName)) ∈ lw_all := lw_g (lw_at lw_m4 58 rfl) rfl
theorem q914 : (Jvm.Cond.code ({ cls := "CardHolder", name := "whyNot", desc := "(III)I" } : Jvm.MethodName) prog_1_method_42_code (4 : Nat) (Option.some Jvm.ClassFile.FieldType.int)) ∈ lw_all := lw_g (lw_at lw_m4 59 rfl) rfl
theorem q916 : (Jvm.Cond.instanceMethod ({ cls := "CardHolder", name := "ask", desc := "(III)I" } : Jvm.MethodName)) ∈ lw_all := lw_g (lw_at lw_m4 61 rfl) rfl
theorem q917 : (Jvm.Cond.selects "CardHolder" ({ cls := "CardHolder", name := "ask", desc := "(III)I" } : Jvm.MethodName) ({ cls := "CardHolder", name := "ask", desc := "(III)I" } : Jvm.MethodName)) ∈ lw_all := lw_g (lw_at lw_m4 62 rfl) rfl
theorem q918 : (Jvm.Cond.code ({ cls := "CardHolder", name := "ask", desc := "(III)I" } : Jvm.MethodName) prog_1_method_45_code (4 : Nat) (Option.some Jvm.ClassFile.FieldType.int)) ∈ lw_all := lw_g (lw_at lw_m4 63 rfl) rfl
theorem q919 : (Jvm.Cond.methodLink "CardHolder" (249 : Nat) ({ cls := "CardHolder", name := "keeps", desc := "(IIIII)V" } : Jvm.MethodName)) ∈ lw_all := lw_g (lw_at lw_m4 64 rfl) rfl
theorem q920 : (Jvm.Cond.privateMethod ({ cls := "CardHolder", name := "keeps", desc := "(IIIII)V" } : Jvm.MethodName)) ∈ lw_tbl := lw_at lw_m4 65 rfl
theorem q921 : (Jvm.Cond.instanceMethod ({ cls := "CardHolder", name := "keeps", desc := "(IIIII)V" } : Jvm.MethodName)) ∈ lw_all := lw_g (lw_at lw_m4 66 rfl) rfl
theorem q922 : (Jvm.Cond.code ({ cls := "CardHolder", name := "keeps", desc := "(IIIII)V" } : Jvm.MethodName) prog_1_method_22_code (7 : Nat) (Option.none : Option Jvm.ClassFile.FieldType)) ∈ lw_all := lw_g (lw_at lw_m4 67 rfl) rfl
theorem q924 : (Jvm.Cond.instanceMethod ({ cls := "CardHolder", name := "give", desc := "(IIII)I" } : Jvm.MethodName)) ∈ lw_all := lw_g (lw_at lw_m4 69 rfl) rfl
theorem q925 : (Jvm.Cond.selects "CardHolder" ({ cls := "CardHolder", name := "give", desc := "(IIII)I" } : Jvm.MethodName) ({ cls := "CardHolder", name := "give", desc := "(IIII)I" } : Jvm.MethodName)) ∈ lw_all := lw_g (lw_at lw_m4 70 rfl) rfl
theorem q926 : (Jvm.Cond.code ({ cls := "CardHolder", name := "give", desc := "(IIII)I" } : Jvm.MethodName) prog_1_method_46_code (5 : Nat) (Option.some Jvm.ClassFile.FieldType.int)) ∈ lw_all := lw_g (lw_at lw_m4 71 rfl) rfl
theorem q928 : (Jvm.Cond.instanceMethod ({ cls := "CardHolder", name := "swap", desc := "(II)I" } : Jvm.MethodName)) ∈ lw_all := lw_g (lw_at lw_m4 73 rfl) rfl
theorem q929 : (Jvm.Cond.selects "CardHolder" ({ cls := "CardHolder", name := "swap", desc := "(II)I" } : Jvm.MethodName) ({ cls := "CardHolder", name := "swap", desc := "(II)I" } : Jvm.MethodName)) ∈ lw_all := lw_g (lw_at lw_m4 74 rfl) rfl
theorem q930 : (Jvm.Cond.code ({ cls := "CardHolder", name := "swap", desc := "(II)I" } : Jvm.MethodName) prog_1_method_47_code (3 : Nat) (Option.some Jvm.ClassFile.FieldType.int)) ∈ lw_all := lw_g (lw_at lw_m4 75 rfl) rfl
theorem q932 : (Jvm.Cond.instanceMethod ({ cls := "CardHolder", name := "steal", desc := "(II)I" } : Jvm.MethodName)) ∈ lw_all := lw_g (lw_at lw_m4 77 rfl) rfl
theorem q933 : (Jvm.Cond.selects "CardHolder" ({ cls := "CardHolder", name := "steal", desc := "(II)I" } : Jvm.MethodName) ({ cls := "CardHolder", name := "steal", desc := "(II)I" } : Jvm.MethodName)) ∈ lw_all := lw_g (lw_at lw_m4 78 rfl) rfl
theorem q934 : (Jvm.Cond.code ({ cls := "CardHolder", name := "steal", desc := "(II)I" } : Jvm.MethodName) prog_1_method_48_code (4 : Nat) (Option.some Jvm.ClassFile.FieldType.int)) ∈ lw_all := lw_g (lw_at lw_m4 79 rfl) rfl
theorem q936 : (Jvm.Cond.instanceMethod ({ cls := "CardHolder", name := "day", desc := "()I" } : Jvm.MethodName)) ∈ lw_all := lw_g (lw_at lw_m4 81 rfl) rfl
theorem q937 : (Jvm.Cond.selects "CardHolder" ({ cls := "CardHolder", name := "day", desc := "()I" } : Jvm.MethodName) ({ cls := "CardHolder", name := "day", desc := "()I" } : Jvm.MethodName)) ∈ lw_all := lw_g (lw_at lw_m4 82 rfl) rfl
theorem q938 : (Jvm.Cond.code ({ cls := "CardHolder", name := "day", desc := "()I" } : Jvm.MethodName) prog_1_method_49_code (1 : Nat) (Option.some Jvm.ClassFile.FieldType.int)) ∈ lw_all := lw_g (lw_at lw_m4 83 rfl) rfl
theorem q940 : (Jvm.Cond.instanceMethod ({ cls := "CardHolder", name := "undo", desc := "()I" } : Jvm.MethodName)) ∈ lw_all := lw_g (lw_at lw_m4 85 rfl) rfl
theorem q941 : (Jvm.Cond.selects "CardHolder" ({ cls := "CardHolder", name := "undo", desc := "()I" } : Jvm.MethodName) ({ cls := "CardHolder", name := "undo", desc := "()I" } : Jvm.MethodName)) ∈ lw_all := lw_g (lw_at lw_m4 86 rfl) rfl
theorem q942 : (Jvm.Cond.code ({ cls := "CardHolder", name := "undo", desc := "()I" } : Jvm.MethodName) prog_1_method_50_code (1 : Nat) (Option.some Jvm.ClassFile.FieldType.int)) ∈ lw_all := lw_g (lw_at lw_m4 87 rfl) rfl
theorem q944 : (Jvm.Cond.instanceMethod ({ cls := "CardHolder", name := "anew", desc := "()I" } : Jvm.MethodName)) ∈ lw_all := lw_g (lw_at lw_m4 89 rfl) rfl
theorem q945 : (Jvm.Cond.selects "CardHolder" ({ cls := "CardHolder", name := "anew", desc := "()I" } : Jvm.MethodName) ({ cls := "CardHolder", name := "anew", desc := "()I" } : Jvm.MethodName)) ∈ lw_all := lw_g (lw_at lw_m4 90 rfl) rfl
theorem q946 : (Jvm.Cond.code ({ cls := "CardHolder", name := "anew", desc := "()I" } : Jvm.MethodName) prog_1_method_51_code (2 : Nat) (Option.some Jvm.ClassFile.FieldType.int)) ∈ lw_all := lw_g (lw_at lw_m4 91 rfl) rfl
theorem q948 : (Jvm.Cond.instanceMethod ({ cls := "CardHolder", name := "now", desc := "(I)I" } : Jvm.MethodName)) ∈ lw_all := lw_g (lw_at lw_m4 93 rfl) rfl
theorem q949 : (Jvm.Cond.selects "CardHolder" ({ cls := "CardHolder", name := "now", desc := "(I)I" } : Jvm.MethodName) ({ cls := "CardHolder", name := "now", desc := "(I)I" } : Jvm.MethodName)) ∈ lw_all := lw_g (lw_at lw_m4 94 rfl) rfl
theorem q950 : (Jvm.Cond.code ({ cls := "CardHolder", name := "now", desc := "(I)I" } : Jvm.MethodName) prog_1_method_52_code (2 : Nat) (Option.some Jvm.ClassFile.FieldType.int)) ∈ lw_all := lw_g (lw_at lw_m4 95 rfl) rfl
theorem q952 : (Jvm.Cond.instanceMethod ({ cls := "CardHolder", name := "own", desc := "()I" } : Jvm.MethodName)) ∈ lw_all := lw_g (lw_at lw_m4 97 rfl) rfl
theorem q953 : (Jvm.Cond.selects "CardHolder" ({ cls := "CardHolder", name := "own", desc := "()I" } : Jvm.MethodName) ({ cls := "CardHolder", name := "own", desc := "()I" } : Jvm.MethodName)) ∈ lw_all := lw_g (lw_at lw_m4 98 rfl) rfl
theorem q954 : (Jvm.Cond.code ({ cls := "CardHolder", name := "own", desc := "()I" } : Jvm.MethodName) prog_1_method_54_code (1 : Nat) (Option.some Jvm.ClassFile.FieldType.int)) ∈ lw_all := lw_g (lw_at lw_m4 99 rfl) rfl
theorem q955 : (Jvm.Cond.methodLink "CardHolder" (253 : Nat) ({ cls := "CardHolder", name := "isDealt", desc := "()Z" } : Jvm.MethodName)) ∈ lw_all := lw_g (lw_at lw_m4 100 rfl) rfl
theorem q956 : (Jvm.Cond.privateMethod ({ cls := "CardHolder", name := "isDealt", desc := "()Z" } : Jvm.MethodName)) ∈ lw_tbl := lw_at lw_m4 101 rfl
theorem q957 : (Jvm.Cond.instanceMethod ({ cls := "CardHolder", name := "isDealt", desc := "()Z" } : Jvm.MethodName)) ∈ lw_all := lw_g (lw_at lw_m4 102 rfl) rfl
theorem q958 : (Jvm.Cond.code ({ cls := "CardHolder", name := "isDealt", desc := "()Z" } : Jvm.MethodName) prog_1_method_53_code (2 : Nat) (Option.some Jvm.ClassFile.FieldType.boolean)) ∈ lw_all := lw_g (lw_at lw_m4 103 rfl) rfl
theorem q960 : (Jvm.Cond.instanceMethod ({ cls := "CardHolder", name := "first", desc := "(I)I" } : Jvm.MethodName)) ∈ lw_all := lw_g (lw_at lw_m4 105 rfl) rfl
theorem q961 : (Jvm.Cond.selects "CardHolder" ({ cls := "CardHolder", name := "first", desc := "(I)I" } : Jvm.MethodName) ({ cls := "CardHolder", name := "first", desc := "(I)I" } : Jvm.MethodName)) ∈ lw_all := lw_g (lw_at lw_m4 106 rfl) rfl
theorem q962 : (Jvm.Cond.code ({ cls := "CardHolder", name := "first", desc := "(I)I" } : Jvm.MethodName) prog_1_method_55_code (4 : Nat) (Option.some Jvm.ClassFile.FieldType.int)) ∈ lw_all := lw_g (lw_at lw_m4 107 rfl) rfl
theorem q964 : (Jvm.Cond.instanceMethod ({ cls := "CardHolder", name := "work", desc := "()I" } : Jvm.MethodName)) ∈ lw_all := lw_g (lw_at lw_m4 109 rfl) rfl
theorem q965 : (Jvm.Cond.selects "CardHolder" ({ cls := "CardHolder", name := "work", desc := "()I" } : Jvm.MethodName) ({ cls := "CardHolder", name := "work", desc := "()I" } : Jvm.MethodName)) ∈ lw_all := lw_g (lw_at lw_m4 110 rfl) rfl
theorem q966 : (Jvm.Cond.code ({ cls := "CardHolder", name := "work", desc := "()I" } : Jvm.MethodName) prog_1_method_59_code (1 : Nat) (Option.some Jvm.ClassFile.FieldType.int)) ∈ lw_all := lw_g (lw_at lw_m4 111 rfl) rfl
theorem q967 : (Jvm.Cond.methodLink "CardHolder" (265 : Nat) ({ cls := "CardHolder", name := "pairsAll", desc := "(I)I" } : Jvm.MethodName)) ∈ lw_all := lw_g (lw_at lw_m4 112 rfl) rfl
theorem q968 : (Jvm.Cond.privateMethod ({ cls := "CardHolder", name := "pairsAll", desc := "(I)I" } : Jvm.MethodName)) ∈ lw_tbl := lw_at lw_m4 113 rfl
theorem q969 : (Jvm.Cond.instanceMethod ({ cls := "CardHolder", name := "pairsAll", desc := "(I)I" } : Jvm.MethodName)) ∈ lw_all := lw_g (lw_at lw_m4 114 rfl) rfl
theorem q970 : (Jvm.Cond.code ({ cls := "CardHolder", name := "pairsAll", desc := "(I)I" } : Jvm.MethodName) prog_1_method_58_code (4 : Nat) (Option.some Jvm.ClassFile.FieldType.int)) ∈ lw_all := lw_g (lw_at lw_m4 115 rfl) rfl
theorem q971 : (Jvm.Cond.methodLink "CardHolder" (262 : Nat) ({ cls := "CardHolder", name := "pairs", desc := "(II)Z" } : Jvm.MethodName)) ∈ lw_all := lw_g (lw_at lw_m4 116 rfl) rfl
theorem q972 : (Jvm.Cond.privateMethod ({ cls := "CardHolder", name := "pairs", desc := "(II)Z" } : Jvm.MethodName)) ∈ lw_tbl := lw_at lw_m4 117 rfl
theorem q973 : (Jvm.Cond.instanceMethod ({ cls := "CardHolder", name := "pairs", desc := "(II)Z" } : Jvm.MethodName)) ∈ lw_all := lw_g (lw_at lw_m4 118 rfl) rfl
theorem q974 : (Jvm.Cond.code ({ cls := "CardHolder", name := "pairs", desc := "(II)Z" } : Jvm.MethodName) prog_1_method_57_code (5 : Nat) (Option.some Jvm.ClassFile.FieldType.boolean)) ∈ lw_all := lw_g (lw_at lw_m4 119 rfl) rfl
theorem q975 : (Jvm.Cond.methodLink "CardHolder" (256 : Nat) ({ cls := "CardHolder", name := "canAsk", desc := "(II)Z" } : Jvm.MethodName)) ∈ lw_all := lw_g (lw_at lw_m4 120 rfl) rfl
theorem q976 : (Jvm.Cond.privateMethod ({ cls := "CardHolder", name := "canAsk", desc := "(II)Z" } : Jvm.MethodName)) ∈ lw_tbl := lw_at lw_m4 121 rfl
theorem q977 : (Jvm.Cond.instanceMethod ({ cls := "CardHolder", name := "canAsk", desc := "(II)Z" } : Jvm.MethodName)) ∈ lw_all := lw_g (lw_at lw_m4 122 rfl) rfl
theorem q978 : (Jvm.Cond.code ({ cls := "CardHolder", name := "canAsk", desc := "(II)Z" } : Jvm.MethodName) prog_1_method_56_code (3 : Nat) (Option.some Jvm.ClassFile.FieldType.boolean)) ∈ lw_all := lw_g (lw_at lw_m4 123 rfl) rfl
theorem q980 : (Jvm.Cond.instanceMethod ({ cls := "CardHolder", name := "works", desc := "(I)I" } : Jvm.MethodName)) ∈ lw_all := lw_g (lw_at lw_m4 125 rfl) rfl
theorem q981 : (Jvm.Cond.selects "CardHolder" ({ cls := "CardHolder", name := "works", desc := "(I)I" } : Jvm.MethodName) ({ cls := "CardHolder", name := "works", desc := "(I)I" } : Jvm.MethodName)) ∈ lw_all := lw_g (lw_at lw_m4 126 rfl) rfl
theorem q982 : (Jvm.Cond.code ({ cls := "CardHolder", name := "works", desc := "(I)I" } : Jvm.MethodName) prog_1_method_61_code (6 : Nat) (Option.some Jvm.ClassFile.FieldType.int)) ∈ lw_all := lw_g (lw_at lw_m4 127 rfl) rfl
theorem q983 : (Jvm.Cond.methodLink "CardHolder" (268 : Nat) ({ cls := "CardHolder", name := "isFreeWish", desc := "(II)Z" } : Jvm.MethodName)) ∈ lw_all := lw_g (lw_at lw_m4 128 rfl) rfl
theorem q984 : (Jvm.Cond.privateMethod ({ cls := "CardHolder", name := "isFreeWish", desc := "(II)Z" } : Jvm.MethodName)) ∈ lw_tbl := lw_at lw_m4 129 rfl
theorem q985 : (Jvm.Cond.instanceMethod ({ cls := "CardHolder", name := "isFreeWish", desc := "(II)Z" } : Jvm.MethodName)) ∈ lw_all := lw_g (lw_at lw_m4 130 rfl) rfl
theorem q986 : (Jvm.Cond.code ({ cls := "CardHolder", name := "isFreeWish", desc := "(II)Z" } : Jvm.MethodName) prog_1_method_60_code (4 : Nat) (Option.some Jvm.ClassFile.FieldType.boolean)) ∈ lw_all := lw_g (lw_at lw_m4 131 rfl) rfl
theorem q988 : (Jvm.Cond.instanceMethod ({ cls := "CardHolder", name := "cover", desc := "(I)I" } : Jvm.MethodName)) ∈ lw_all := lw_g (lw_at lw_m4 133 rfl) rfl
theorem q989 : (Jvm.Cond.selects "CardHolder" ({ cls := "CardHolder", name := "cover", desc := "(I)I" } : Jvm.MethodName) ({ cls := "CardHolder", name := "cover", desc := "(I)I" } : Jvm.MethodName)) ∈ lw_all := lw_g (lw_at lw_m4 134 rfl) rfl
theorem q990 : (Jvm.Cond.code ({ cls := "CardHolder", name := "cover", desc := "(I)I" } : Jvm.MethodName) prog_1_method_66_code (3 : Nat) (Option.some Jvm.ClassFile.FieldType.int)) ∈ lw_all := lw_g (lw_at lw_m4 135 rfl) rfl
theorem q991 : (Jvm.Cond.methodLink "CardHolder" (281 : Nat) ({ cls := "CardHolder", name := "areDeeds", desc := "(I)Z" } : Jvm.MethodName)) ∈ lw_all := lw_g (lw_at lw_m4 136 rfl) rfl
theorem q992 : (Jvm.Cond.static ({ cls := "CardHolder", name := "areDeeds", desc := "(I)Z" } : Jvm.MethodName)) ∈ lw_all := lw_g (lw_at lw_m4 137 rfl) rfl
theorem q993 : (Jvm.Cond.code ({ cls := "CardHolder", name := "areDeeds", desc := "(I)Z" } : Jvm.MethodName) prog_1_method_63_code (1 : Nat) (Option.some Jvm.ClassFile.FieldType.boolean)) ∈ lw_all := lw_g (lw_at lw_m4 138 rfl) rfl
theorem q994 : (Jvm.Cond.constantLong "CardHolder" (271 : Nat) (63 : Int64)) ∈ lw_all := lw_g (lw_at lw_m4 139 rfl) rfl
theorem q995 : (Jvm.Cond.methodLink "CardHolder" (285 : Nat) ({ cls := "CardHolder", name := "coverOf", desc := "(I)I" } : Jvm.MethodName)) ∈ lw_all := lw_g (lw_at lw_m4 140 rfl) rfl
theorem q996 : (Jvm.Cond.privateMethod ({ cls := "CardHolder", name := "coverOf", desc := "(I)I" } : Jvm.MethodName)) ∈ lw_tbl := lw_at lw_m4 141 rfl
theorem q997 : (Jvm.Cond.instanceMethod ({ cls := "CardHolder", name := "coverOf", desc := "(I)I" } : Jvm.MethodName)) ∈ lw_all := lw_g (lw_at lw_m4 142 rfl) rfl
theorem q998 : (Jvm.Cond.code ({ cls := "CardHolder", name := "coverOf", desc := "(I)I" } : Jvm.MethodName) prog_1_method_65_code (4 : Nat) (Option.some Jvm.ClassFile.FieldType.int)) ∈ lw_all := lw_g (lw_at lw_m4 143 rfl) rfl
theorem q999 : (Jvm.Cond.methodLink "CardHolder" (107 : Nat) ({ cls := "CardHolder", name := "all", desc := "()I" } : Jvm.MethodName)) ∈ lw_all := lw_g (lw_at lw_m4 144 rfl) rfl
theorem q1000 : (Jvm.Cond.privateMethod ({ cls := "CardHolder", name := "all", desc := "()I" } : Jvm.MethodName)) ∈ lw_tbl := lw_at lw_m4 145 rfl
theorem q1001 : (Jvm.Cond.instanceMethod ({ cls := "CardHolder", name := "all", desc := "()I" } : Jvm.MethodName)) ∈ lw_all := lw_g (lw_at lw_m4 146 rfl) rfl
theorem q1002 : (Jvm.Cond.code ({ cls := "CardHolder", name := "all", desc := "()I" } : Jvm.MethodName) prog_1_method_14_code (1 : Nat) (Option.some Jvm.ClassFile.FieldType.int)) ∈ lw_all := lw_g (lw_at lw_m4 147 rfl) rfl
theorem q1003 : (Jvm.Cond.methodLink "CardHolder" (273 : Nat) ({ cls := "java/lang/Integer", name := "bitCount", desc := "(I)I" } : Jvm.MethodName)) ∈ lw_all := lw_g (lw_at lw_m4 148 rfl) rfl
theorem q1009 : (Jvm.Cond.methodLink "CardHolder" (278 : Nat) ({ cls := "CardHolder", name := "handsOf", desc := "(I)I" } : Jvm.MethodName)) ∈ lw_all := lw_g (lw_at lw_m4 154 rfl) rfl
theorem q1010 : (Jvm.Cond.privateMethod ({ cls := "CardHolder", name := "handsOf", desc := "(I)I" } : Jvm.MethodName)) ∈ lw_tbl := lw_at lw_m4 155 rfl
theorem q1011 : (Jvm.Cond.instanceMethod ({ cls := "CardHolder", name := "handsOf", desc := "(I)I" } : Jvm.MethodName)) ∈ lw_all := lw_g (lw_at lw_m4 156 rfl) rfl
theorem q1012 : (Jvm.Cond.code ({ cls := "CardHolder", name := "handsOf", desc := "(I)I" } : Jvm.MethodName) prog_1_method_64_code (4 : Nat) (Option.some Jvm.ClassFile.FieldType.int)) ∈ lw_all := lw_g (lw_at lw_m4 157 rfl) rfl
theorem q1014 : (Jvm.Cond.instanceMethod ({ cls := "CardHolder", name := "covers", desc := "(I)I" } : Jvm.MethodName)) ∈ lw_all := lw_g (lw_at lw_m4 159 rfl) rfl
theorem q1015 : (Jvm.Cond.selects "CardHolder" ({ cls := "CardHolder", name := "covers", desc := "(I)I" } : Jvm.MethodName) ({ cls := "CardHolder", name := "covers", desc := "(I)I" } : Jvm.MethodName)) ∈ lw_all := lw_g (lw_at lw_m4 160 rfl) rfl
theorem q1016 : (Jvm.Cond.code ({ cls := "CardHolder", name := "covers", desc := "(I)I" } : Jvm.MethodName) prog_1_method_67_code (2 : Nat) (Option.some Jvm.ClassFile.FieldType.int)) ∈ lw_all := lw_g (lw_at lw_m4 161 rfl) rfl
theorem q1018 : (Jvm.Cond.instanceMethod ({ cls := "CardHolder", name := "buy", desc := "(I)I" } : Jvm.MethodName)) ∈ lw_all := lw_g (lw_at lw_m4 163 rfl) rfl
theorem q1019 : (Jvm.Cond.selects "CardHolder" ({ cls := "CardHolder", name := "buy", desc := "(I)I" } : Jvm.MethodName) ({ cls := "CardHolder", name := "buy", desc := "(I)I" } : Jvm.MethodName)) ∈ lw_all := lw_g (lw_at lw_m4 164 rfl) rfl
theorem q1020 : (Jvm.Cond.code ({ cls := "CardHolder", name := "buy", desc := "(I)I" } : Jvm.MethodName) prog_1_method_69_code (3 : Nat) (Option.some Jvm.ClassFile.FieldType.int)) ∈ lw_all := lw_g (lw_at lw_m4 165 rfl) rfl
theorem q1021 : (Jvm.Cond.methodLink "CardHolder" (291 : Nat) ({ cls := "CardHolder", name := "buyOf", desc := "(I)I" } : Jvm.MethodName)) ∈ lw_all := lw_g (lw_at lw_m4 166 rfl) rfl
theorem q1022 : (Jvm.Cond.privateMethod ({ cls := "CardHolder", name := "buyOf", desc := "(I)I" } : Jvm.MethodName)) ∈ lw_tbl := lw_at lw_m4 167 rfl
theorem q1023 : (Jvm.Cond.instanceMethod ({ cls := "CardHolder", name := "buyOf", desc := "(I)I" } : Jvm.MethodName)) ∈ lw_all := lw_g (lw_at lw_m4 168 rfl) rfl
theorem q1024 : (Jvm.Cond.code ({ cls := "CardHolder", name := "buyOf", desc := "(I)I" } : Jvm.MethodName) prog_1_method_68_code (4 : Nat) (Option.some Jvm.ClassFile.FieldType.int)) ∈ lw_all := lw_g (lw_at lw_m4 169 rfl) rfl
theorem q1025 : (Jvm.Cond.methodLink "CardHolder" (288 : Nat) ({ cls := "CardHolder", name := "worthOf", desc := "(I)I" } : Jvm.MethodName)) ∈ lw_all := lw_g (lw_at lw_m4 170 rfl) rfl
theorem q1026 : (Jvm.Cond.privateMethod ({ cls := "CardHolder", name := "worthOf", desc := "(I)I" } : Jvm.MethodName)) ∈ lw_tbl := lw_at lw_m4 171 rfl
theorem q1027 : (Jvm.Cond.instanceMethod ({ cls := "CardHolder", name := "worthOf", desc := "(I)I" } : Jvm.MethodName)) ∈ lw_all := lw_g (lw_at lw_m4 172 rfl) rfl
theorem q1028 : (Jvm.Cond.code ({ cls := "CardHolder", name := "worthOf", desc := "(I)I" } : Jvm.MethodName) prog_1_method_62_code (4 : Nat) (Option.some Jvm.ClassFile.FieldType.int)) ∈ lw_all := lw_g (lw_at lw_m4 173 rfl) rfl
theorem q1030 : (Jvm.Cond.instanceMethod ({ cls := "CardHolder", name := "bought", desc := "(I)I" } : Jvm.MethodName)) ∈ lw_all := lw_g (lw_at lw_m4 175 rfl) rfl
theorem q1031 : (Jvm.Cond.selects "CardHolder" ({ cls := "CardHolder", name := "bought", desc := "(I)I" } : Jvm.MethodName) ({ cls := "CardHolder", name := "bought", desc := "(I)I" } : Jvm.MethodName)) ∈ lw_all := lw_g (lw_at lw_m4 176 rfl) rfl
theorem q1032 : (Jvm.Cond.code ({ cls := "CardHolder", name := "bought", desc := "(I)I" } : Jvm.MethodName) prog_1_method_70_code (2 : Nat) (Option.some Jvm.ClassFile.FieldType.int)) ∈ lw_all := lw_g (lw_at lw_m4 177 rfl) rfl
theorem q1034 : (Jvm.Cond.instanceMethod ({ cls := "CardHolder", name := "deeds", desc := "(I)I" } : Jvm.MethodName)) ∈ lw_all := lw_g (lw_at lw_m4 179 rfl) rfl
theorem q1035 : (Jvm.Cond.selects "CardHolder" ({ cls := "CardHolder", name := "deeds", desc := "(I)I" } : Jvm.MethodName) ({ cls := "CardHolder", name := "deeds", desc := "(I)I" } : Jvm.MethodName)) ∈ lw_all := lw_g (lw_at lw_m4 180 rfl) rfl
theorem q1036 : (Jvm.Cond.code ({ cls := "CardHolder", name := "deeds", desc := "(I)I" } : Jvm.MethodName) prog_1_method_73_code (2 : Nat) (Option.some Jvm.ClassFile.FieldType.int)) ∈ lw_all := lw_g (lw_at lw_m4 181 rfl) rfl
theorem q1037 : (Jvm.Cond.methodLink "CardHolder" (296 : Nat) ({ cls := "CardHolder", name := "isBudget", desc := "(I)Z" } : Jvm.MethodName)) ∈ lw_all := lw_g (lw_at lw_m4 182 rfl) rfl
theorem q1038 : (Jvm.Cond.privateMethod ({ cls := "CardHolder", name := "isBudget", desc := "(I)Z" } : Jvm.MethodName)) ∈ lw_tbl := lw_at lw_m4 183 rfl
theorem q1039 : (Jvm.Cond.instanceMethod ({ cls := "CardHolder", name := "isBudget", desc := "(I)Z" } : Jvm.MethodName)) ∈ lw_all := lw_g (lw_at lw_m4 184 rfl) rfl
theorem q1040 : (Jvm.Cond.code ({ cls := "CardHolder", name := "isBudget", desc := "(I)Z" } : Jvm.MethodName) prog_1_method_72_code (2 : Nat) (Option.some Jvm.ClassFile.FieldType.boolean)) ∈ lw_all := lw_g (lw_at lw_m4 185 rfl) rfl
theorem q1041 : (Jvm.Cond.constantLong "CardHolder" (294 : Nat) (2000 : Int64)) ∈ lw_all := lw_g (lw_at lw_m4 186 rfl) rfl
theorem q1042 : (Jvm.Cond.methodLink "CardHolder" (299 : Nat) ({ cls := "CardHolder", name := "hireOf", desc := "(I)I" } : Jvm.MethodName)) ∈ lw_all := lw_g (lw_at lw_m4 187 rfl) rfl
theorem q1043 : (Jvm.Cond.privateMethod ({ cls := "CardHolder", name := "hireOf", desc := "(I)I" } : Jvm.MethodName)) ∈ lw_tbl := lw_at lw_m4 188 rfl
theorem q1044 : (Jvm.Cond.instanceMethod ({ cls := "CardHolder", name := "hireOf", desc := "(I)I" } : Jvm.MethodName)) ∈ lw_all := lw_g (lw_at lw_m4 189 rfl) rfl
theorem q1045 : (Jvm.Cond.code ({ cls := "CardHolder", name := "hireOf", desc := "(I)I" } : Jvm.MethodName) prog_1_method_71_code (4 : Nat) (Option.some Jvm.ClassFile.FieldType.int)) ∈ lw_all := lw_g (lw_at lw_m4 190 rfl) rfl
theorem q1047 : (Jvm.Cond.instanceMethod ({ cls := "CardHolder", name := "hired", desc := "(I)I" } : Jvm.MethodName)) ∈ lw_all := lw_g (lw_at lw_m4 192 rfl) rfl
theorem q1048 : (Jvm.Cond.selects "CardHolder" ({ cls := "CardHolder", name := "hired", desc := "(I)I" } : Jvm.MethodName) ({ cls := "CardHolder", name := "hired", desc := "(I)I" } : Jvm.MethodName)) ∈ lw_all := lw_g (lw_at lw_m4 193 rfl) rfl
theorem q1049 : (Jvm.Cond.code ({ cls := "CardHolder", name := "hired", desc := "(I)I" } : Jvm.MethodName) prog_1_method_74_code (2 : Nat) (Option.some Jvm.ClassFile.FieldType.int)) ∈ lw_all := lw_g (lw_at lw_m4 194 rfl) rfl
theorem q1051 : (Jvm.Cond.instanceMethod ({ cls := "CardHolder", name := "suspects", desc := "(I)I" } : Jvm.MethodName)) ∈ lw_all := lw_g (lw_at lw_m4 196 rfl) rfl
theorem q1052 : (Jvm.Cond.selects "CardHolder" ({ cls := "CardHolder", name := "suspects", desc := "(I)I" } : Jvm.MethodName) ({ cls := "CardHolder", name := "suspects", desc := "(I)I" } : Jvm.MethodName)) ∈ lw_all := lw_g (lw_at lw_m4 197 rfl) rfl
theorem q1053 : (Jvm.Cond.code ({ cls := "CardHolder", name := "suspects", desc := "(I)I" } : Jvm.MethodName) prog_1_method_79_code (3 : Nat) (Option.some Jvm.ClassFile.FieldType.int)) ∈ lw_all := lw_g (lw_at lw_m4 198 rfl) rfl
theorem q1054 : (Jvm.Cond.methodLink "CardHolder" (317 : Nat) ({ cls := "CardHolder", name := "asksDeeds", desc := "(I)I" } : Jvm.MethodName)) ∈ lw_all := lw_g (lw_at lw_m4 199 rfl) rfl
theorem q1055 : (Jvm.Cond.privateMethod ({ cls := "CardHolder", name := "asksDeeds", desc := "(I)I" } : Jvm.MethodName)) ∈ lw_tbl := lw_at lw_m4 200 rfl
theorem q1056 : (Jvm.Cond.instanceMethod ({ cls := "CardHolder", name := "asksDeeds", desc := "(I)I" } : Jvm.MethodName)) ∈ lw_all := lw_g (lw_at lw_m4 201 rfl) rfl
theorem q1057 : (Jvm.Cond.codeWith ({ cls := "CardHolder", name := "asksDeeds", desc := "(I)I" } : Jvm.MethodName) prog_1_method_76_code (4 : Nat) (Option.some Jvm.ClassFile.FieldType.int) [((17 : Nat), (52 : Nat), (61 : Nat), (312 : Nat)), ((53 : Nat), (60 : Nat), (61 : Nat), (312 : Nat))]) ∈ lw_all := lw_g (lw_at lw_m4 202 rfl) rfl
theorem q1058 : (Jvm.Cond.classLink "CardHolder" (312 : Nat) "java/lang/NullPointerException") ∈ lw_all := lw_g (lw_at lw_m4 203 rfl) rfl
theorem q1085 : (Jvm.Cond.methodLink "CardHolder" (306 : Nat) ({ cls := "CardHolder", name := "isSlot", desc := "(I)Z" } : Jvm.MethodName)) ∈ lw_all := lw_g (lw_at lw_m4 230 rfl) rfl
theorem q1086 : (Jvm.Cond.static ({ cls := "CardHolder", name := "isSlot", desc := "(I)Z" } : Jvm.MethodName)) ∈ lw_all := lw_g (lw_at lw_m4 231 rfl) rfl
theorem q1087 : (Jvm.Cond.code ({ cls := "CardHolder", name := "isSlot", desc := "(I)Z" } : Jvm.MethodName) prog_1_method_117_code (1 : Nat) (Option.some Jvm.ClassFile.FieldType.boolean)) ∈ lw_all := lw_g (lw_at lw_m4 232 rfl) rfl
theorem q1088 : (Jvm.Cond.constantLong "CardHolder" (403 : Nat) (3 : Int64)) ∈ lw_all := lw_g (lw_at lw_m4 233 rfl) rfl
theorem q1089 : (Jvm.Cond.methodLink "CardHolder" (309 : Nat) ({ cls := "CardHolder$Slot", name := "size", desc := "()I" } : Jvm.MethodName)) ∈ lw_all := lw_g (lw_at lw_m4 234 rfl) rfl
theorem q1097 : (Jvm.Cond.methodLink "CardHolder" (302 : Nat) ({ cls := "CardHolder$Slot", name := "at", desc := "(I)J" } : Jvm.MethodName)) ∈ lw_all := lw_g (lw_at lw_m5 2 rfl) rfl
theorem q1101 : (Jvm.Cond.methodLink "CardHolder" (320 : Nat) ({ cls := "CardHolder", name := "deedsIn", desc := "(I)I" } : Jvm.MethodName)) ∈ lw_all := lw_g (lw_at lw_m5 6 rfl) rfl
theorem q1102 : (Jvm.Cond.privateMethod ({ cls := "CardHolder", name := "deedsIn", desc := "(I)I" } : Jvm.MethodName)) ∈ lw_tbl := lw_at lw_m5 7 rfl
theorem q1103 : (Jvm.Cond.instanceMethod ({ cls := "CardHolder", name := "deedsIn", desc := "(I)I" } : Jvm.MethodName)) ∈ lw_all := lw_g (lw_at lw_m5 8 rfl) rfl
theorem q1104 : (Jvm.Cond.code ({ cls := "CardHolder", name := "deedsIn", desc := "(I)I" } : Jvm.MethodName) prog_1_method_78_code (4 : Nat) (Option.some Jvm.ClassFile.FieldType.int)) ∈ lw_all := lw_g (lw_at lw_m5 9 rfl) rfl
theorem q1105 : (Jvm.Cond.methodLink "CardHolder" (314 : Nat) ({ cls := "CardHolder", name := "number", desc := "(II)I" } : Jvm.MethodName)) ∈ lw_all := lw_g (lw_at lw_m5 10 rfl) rfl
theorem q1106 : (Jvm.Cond.privateMethod ({ cls := "CardHolder", name := "number", desc := "(II)I" } : Jvm.MethodName)) ∈ lw_tbl := lw_at lw_m5 11 rfl
theorem q1107 : (Jvm.Cond.instanceMethod ({ cls := "CardHolder", name := "number", desc := "(II)I" } : Jvm.MethodName)) ∈ lw_all := lw_g (lw_at lw_m5 12 rfl) rfl
theorem q1108 : (Jvm.Cond.code ({ cls := "CardHolder", name := "number", desc := "(II)I" } : Jvm.MethodName) prog_1_method_75_code (3 : Nat) (Option.some Jvm.ClassFile.FieldType.int)) ∈ lw_all := lw_g (lw_at lw_m5 13 rfl) rfl
theorem q1109 : (Jvm.Cond.methodLink "CardHolder" (323 : Nat) ({ cls := "CardHolder", name := "wishing", desc := "(I)I" } : Jvm.MethodName)) ∈ lw_all := lw_g (lw_at lw_m5 14 rfl) rfl
theorem q1110 : (Jvm.Cond.privateMethod ({ cls := "CardHolder", name := "wishing", desc := "(I)I" } : Jvm.MethodName)) ∈ lw_tbl := lw_at lw_m5 15 rfl
theorem q1111 : (Jvm.Cond.instanceMethod ({ cls := "CardHolder", name := "wishing", desc := "(I)I" } : Jvm.MethodName)) ∈ lw_all := lw_g (lw_at lw_m5 16 rfl) rfl
theorem q1112 : (Jvm.Cond.code ({ cls := "CardHolder", name := "wishing", desc := "(I)I" } : Jvm.MethodName) prog_1_method_77_code (4 : Nat) (Option.some Jvm.ClassFile.FieldType.int)) ∈ lw_all := lw_g (lw_at lw_m5 17 rfl) rfl
theorem q1114 : (Jvm.Cond.instanceMethod ({ cls := "CardHolder", name := "watch", desc := "(I)I" } : Jvm.MethodName)) ∈ lw_all := lw_g (lw_at lw_m5 19 rfl) rfl
theorem q1115 : (Jvm.Cond.selects "CardHolder" ({ cls := "CardHolder", name := "watch", desc := "(I)I" } : Jvm.MethodName) ({ cls := "CardHolder", name := "watch", desc := "(I)I" } : Jvm.MethodName)) ∈ lw_all := lw_g (lw_at lw_m5 20 rfl) rfl
theorem q1116 : (Jvm.Cond.code ({ cls := "CardHolder", name := "watch", desc := "(I)I" } : Jvm.MethodName) prog_1_method_81_code (3 : Nat) (Option.some Jvm.ClassFile.FieldType.int)) ∈ lw_all := lw_g (lw_at lw_m5 21 rfl) rfl
theorem q1117 : (Jvm.Cond.methodLink "CardHolder" (332 : Nat) ({ cls := "CardHolder", name := "watchOf", desc := "(I)I" } : Jvm.MethodName)) ∈ lw_all := lw_g (lw_at lw_m5 22 rfl) rfl
theorem q1118 : (Jvm.Cond.privateMethod ({ cls := "CardHolder", name := "watchOf", desc := "(I)I" } : Jvm.MethodName)) ∈ lw_tbl := lw_at lw_m5 23 rfl
theorem q1119 : (Jvm.Cond.instanceMethod ({ cls := "CardHolder", name := "watchOf", desc := "(I)I" } : Jvm.MethodName)) ∈ lw_all := lw_g (lw_at lw_m5 24 rfl) rfl
theorem q1120 : (Jvm.Cond.code ({ cls := "CardHolder", name := "watchOf", desc := "(I)I" } : Jvm.MethodName) prog_1_method_80_code (7 : Nat) (Option.some Jvm.ClassFile.FieldType.int)) ∈ lw_all := lw_g (lw_at lw_m5 25 rfl) rfl
theorem q1121 : (Jvm.Cond.methodLink "CardHolder" (329 : Nat) ({ cls := "java/lang/Math", name := "max", desc := "(II)I" } : Jvm.MethodName)) ∈ lw_all := lw_g (lw_at lw_m5 26 rfl) rfl
theorem q1123 : (Jvm.Cond.instanceMethod ({ cls := "CardHolder", name := "leaves", desc := "(I)I" } : Jvm.MethodName)) ∈ lw_all := lw_g (lw_at lw_m5 28 rfl) rfl
theorem q1124 : (Jvm.Cond.selects "CardHolder" ({ cls := "CardHolder", name := "leaves", desc := "(I)I" } : Jvm.MethodName) ({ cls := "CardHolder", name := "leaves", desc := "(I)I" } : Jvm.MethodName)) ∈ lw_all := lw_g (lw_at lw_m5 29 rfl) rfl
theorem q1125 : (Jvm.Cond.code ({ cls := "CardHolder", name := "leaves", desc := "(I)I" } : Jvm.MethodName) prog_1_method_82_code (3 : Nat) (Option.some Jvm.ClassFile.FieldType.int)) ∈ lw_all := lw_g (lw_at lw_m5 30 rfl) rfl
theorem q1127 : (Jvm.Cond.instanceMethod ({ cls := "CardHolder", name := "proof", desc := "(I)I" } : Jvm.MethodName)) ∈ lw_all := lw_g (lw_at lw_m5 32 rfl) rfl
theorem q1128 : (Jvm.Cond.selects "CardHolder" ({ cls := "CardHolder", name := "proof", desc := "(I)I" } : Jvm.MethodName) ({ cls := "CardHolder", name := "proof", desc := "(I)I" } : Jvm.MethodName)) ∈ lw_all := lw_g (lw_at lw_m5 33 rfl) rfl
theorem q1129 : (Jvm.Cond.code ({ cls := "CardHolder", name := "proof", desc := "(I)I" } : Jvm.MethodName) prog_1_method_83_code (6 : Nat) (Option.some Jvm.ClassFile.FieldType.int)) ∈ lw_all := lw_g (lw_at lw_m5 34 rfl) rfl
theorem q1131 : (Jvm.Cond.instanceMethod ({ cls := "CardHolder", name := "duel", desc := "(III)I" } : Jvm.MethodName)) ∈ lw_all := lw_g (lw_at lw_m5 36 rfl) rfl
theorem q1132 : (Jvm.Cond.selects "CardHolder" ({ cls := "CardHolder", name := "duel", desc := "(III)I" } : Jvm.MethodName) ({ cls := "CardHolder", name := "duel", desc := "(III)I" } : Jvm.MethodName)) ∈ lw_all := lw_g (lw_at lw_m5 37 rfl) rfl
theorem q1133 : (Jvm.Cond.code ({ cls := "CardHolder", name := "duel", desc := "(III)I" } : Jvm.MethodName) prog_1_method_86_code (8 : Nat) (Option.some Jvm.ClassFile.FieldType.int)) ∈ lw_all := lw_g (lw_at lw_m5 38 rfl) rfl
theorem q1134 : (Jvm.Cond.methodLink "CardHolder" (335 : Nat) ({ cls := "CardHolder", name := "isDuel", desc := "(II)Z" } : Jvm.MethodName)) ∈ lw_all := lw_g (lw_at lw_m5 39 rfl) rfl
theorem q1135 : (Jvm.Cond.privateMethod ({ cls := "CardHolder", name := "isDuel", desc := "(II)Z" } : Jvm.MethodName)) ∈ lw_tbl := lw_at lw_m5 40 rfl
theorem q1136 : (Jvm.Cond.instanceMethod ({ cls := "CardHolder", name := "isDuel", desc := "(II)Z" } : Jvm.MethodName)) ∈ lw_all := lw_g (lw_at lw_m5 41 rfl) rfl
theorem q1137 : (Jvm.Cond.code ({ cls := "CardHolder", name := "isDuel", desc := "(II)Z" } : Jvm.MethodName) prog_1_method_85_code (3 : Nat) (Option.some Jvm.ClassFile.FieldType.boolean)) ∈ lw_all := lw_g (lw_at lw_m5 42 rfl) rfl
theorem q1138 : (Jvm.Cond.methodLink "CardHolder" (338 : Nat) ({ cls := "CardHolder", name := "divisor", desc := "(II)I" } : Jvm.MethodName)) ∈ lw_all := lw_g (lw_at lw_m5 43 rfl) rfl
theorem q1139 : (Jvm.Cond.static ({ cls := "CardHolder", name := "divisor", desc := "(II)I" } : Jvm.MethodName)) ∈ lw_all := lw_g (lw_at lw_m5 44 rfl) rfl
theorem q1140 : (Jvm.Cond.code ({ cls := "CardHolder", name := "divisor", desc := "(II)I" } : Jvm.MethodName) prog_1_method_84_code (5 : Nat) (Option.some Jvm.ClassFile.FieldType.int)) ∈ lw_all := lw_g (lw_at lw_m5 45 rfl) rfl
theorem q1142 : (Jvm.Cond.instanceMethod ({ cls := "CardHolder", name := "lay", desc := "(II)I" } : Jvm.MethodName)) ∈ lw_all := lw_g (lw_at lw_m5 47 rfl) rfl
theorem q1143 : (Jvm.Cond.selects "CardHolder" ({ cls := "CardHolder", name := "lay", desc := "(II)I" } : Jvm.MethodName) ({ cls := "CardHolder", name := "lay", desc := "(II)I" } : Jvm.MethodName)) ∈ lw_all := lw_g (lw_at lw_m5 48 rfl) rfl
theorem q1144 : (Jvm.Cond.code ({ cls := "CardHolder", name := "lay", desc := "(II)I" } : Jvm.MethodName) prog_1_method_89_code (3 : Nat) (Option.some Jvm.ClassFile.FieldType.int)) ∈ lw_all := lw_g (lw_at lw_m5 49 rfl) rfl
theorem q1145 : (Jvm.Cond.methodLink "CardHolder" (354 : Nat) ({ cls := "CardHolder", name := "laysOf", desc := "(II)V" } : Jvm.MethodName)) ∈ lw_all := lw_g (lw_at lw_m5 50 rfl) rfl
theorem q1146 : (Jvm.Cond.privateMethod ({ cls := "CardHolder", name := "laysOf", desc := "(II)V" } : Jvm.MethodName)) ∈ lw_tbl := lw_at lw_m5 51 rfl
theorem q1147 : (Jvm.Cond.instanceMethod ({ cls := "CardHolder", name := "laysOf", desc := "(II)V" } : Jvm.MethodName)) ∈ lw_all := lw_g (lw_at lw_m5 52 rfl) rfl
theorem q1148 : (Jvm.Cond.code ({ cls := "CardHolder", name := "laysOf", desc := "(II)V" } : Jvm.MethodName) prog_1_method_88_code (6 : Nat) (Option.none : Option Jvm.ClassFile.FieldType)) ∈ lw_all := lw_g (lw_at lw_m5 53 rfl) rfl
theorem q1149 : (Jvm.Cond.constant "CardHolder" (341 : Nat) (-1000000000 : Int32)) ∈ lw_all := lw_g (lw_at lw_m5 54 rfl) rfl
theorem q1150 : (Jvm.Cond.methodLink "CardHolder" (345 : Nat) ({ cls := "CardHolder", name := "won", desc := "(II)I" } : Jvm.MethodName)) ∈ lw_all := lw_g (lw_at lw_m5 55 rfl) rfl
theorem q1151 : (Jvm.Cond.privateMethod ({ cls := "CardHolder", name := "won", desc := "(II)I" } : Jvm.MethodName)) ∈ lw_tbl := lw_at lw_m5 56 rfl
theorem q1152 : (Jvm.Cond.instanceMethod ({ cls := "CardHolder", name := "won", desc := "(II)I" } : Jvm.MethodName)) ∈ lw_all := lw_g (lw_at lw_m5 57 rfl) rfl
theorem q1153 : (Jvm.Cond.code ({ cls := "CardHolder", name := "won", desc := "(II)I" } : Jvm.MethodName) prog_1_method_87_code (3 : Nat) (Option.some Jvm.ClassFile.FieldType.int)) ∈ lw_all := lw_g (lw_at lw_m5 58 rfl) rfl
theorem q1155 : (Jvm.Cond.instanceMethod ({ cls := "CardHolder", name := "lays", desc := "(II)I" } : Jvm.MethodName)) ∈ lw_all := lw_g (lw_at lw_m5 60 rfl) rfl
theorem q1156 : (Jvm.Cond.selects "CardHolder" ({ cls := "CardHolder", name := "lays", desc := "(II)I" } : Jvm.MethodName) ({ cls := "CardHolder", name := "lays", desc := "(II)I" } : Jvm.MethodName)) ∈ lw_all := lw_g (lw_at lw_m5 61 rfl) rfl
theorem q1157 : (Jvm.Cond.code ({ cls := "CardHolder", name := "lays", desc := "(II)I" } : Jvm.MethodName) prog_1_method_90_code (3 : Nat) (Option.some Jvm.ClassFile.FieldType.int)) ∈ lw_all := lw_g (lw_at lw_m5 62 rfl) rfl
theorem q1159 : (Jvm.Cond.instanceMethod ({ cls := "CardHolder", name := "reply", desc := "(II)I" } : Jvm.MethodName)) ∈ lw_all := lw_g (lw_at lw_m5 64 rfl) rfl
theorem q1160 : (Jvm.Cond.selects "CardHolder" ({ cls := "CardHolder", name := "reply", desc := "(II)I" } : Jvm.MethodName) ({ cls := "CardHolder", name := "reply", desc := "(II)I" } : Jvm.MethodName)) ∈ lw_all := lw_g (lw_at lw_m5 65 rfl) rfl
theorem q1161 : (Jvm.Cond.code ({ cls := "CardHolder", name := "reply", desc := "(II)I" } : Jvm.MethodName) prog_1_method_91_code (3 : Nat) (Option.some Jvm.ClassFile.FieldType.int)) ∈ lw_all := lw_g (lw_at lw_m5 66 rfl) rfl
theorem q1163 : (Jvm.Cond.instanceMethod ({ cls := "CardHolder", name := "firm", desc := "(I)I" } : Jvm.MethodName)) ∈ lw_all := lw_g (lw_at lw_m5 68 rfl) rfl
theorem q1164 : (Jvm.Cond.selects "CardHolder" ({ cls := "CardHolder", name := "firm", desc := "(I)I" } : Jvm.MethodName) ({ cls := "CardHolder", name := "firm", desc := "(I)I" } : Jvm.MethodName)) ∈ lw_all := lw_g (lw_at lw_m5 69 rfl) rfl
theorem q1165 : (Jvm.Cond.code ({ cls := "CardHolder", name := "firm", desc := "(I)I" } : Jvm.MethodName) prog_1_method_94_code (2 : Nat) (Option.some Jvm.ClassFile.FieldType.int)) ∈ lw_all := lw_g (lw_at lw_m5 70 rfl) rfl
theorem q1166 : (Jvm.Cond.methodLink "CardHolder" (361 : Nat) ({ cls := "CardHolder", name := "isSet", desc := "(I)Z" } : Jvm.MethodName)) ∈ lw_all := lw_g (lw_at lw_m5 71 rfl) rfl
theorem q1167 : (Jvm.Cond.privateMethod ({ cls := "CardHolder", name := "isSet", desc := "(I)Z" } : Jvm.MethodName)) ∈ lw_tbl := lw_at lw_m5 72 rfl
theorem q1168 : (Jvm.Cond.instanceMethod ({ cls := "CardHolder", name := "isSet", desc := "(I)Z" } : Jvm.MethodName)) ∈ lw_all := lw_g (lw_at lw_m5 73 rfl) rfl
theorem q1169 : (Jvm.Cond.code ({ cls := "CardHolder", name := "isSet", desc := "(I)Z" } : Jvm.MethodName) prog_1_method_15_code (2 : Nat) (Option.some Jvm.ClassFile.FieldType.boolean)) ∈ lw_all := lw_g (lw_at lw_m5 74 rfl) rfl
theorem q1170 : (Jvm.Cond.methodLink "CardHolder" (364 : Nat) ({ cls := "CardHolder", name := "leaving", desc := "(I)I" } : Jvm.MethodName)) ∈ lw_all := lw_g (lw_at lw_m5 75 rfl) rfl
theorem q1171 : (Jvm.Cond.privateMethod ({ cls := "CardHolder", name := "leaving", desc := "(I)I" } : Jvm.MethodName)) ∈ lw_tbl := lw_at lw_m5 76 rfl
theorem q1172 : (Jvm.Cond.instanceMethod ({ cls := "CardHolder", name := "leaving", desc := "(I)I" } : Jvm.MethodName)) ∈ lw_all := lw_g (lw_at lw_m5 77 rfl) rfl
theorem q1173 : (Jvm.Cond.code ({ cls := "CardHolder", name := "leaving", desc := "(I)I" } : Jvm.MethodName) prog_1_method_93_code (4 : Nat) (Option.some Jvm.ClassFile.FieldType.int)) ∈ lw_all := lw_g (lw_at lw_m5 78 rfl) rfl
theorem q1174 : (Jvm.Cond.methodLink "CardHolder" (358 : Nat) ({ cls := "CardHolder", name := "winsBy", desc := "(II)I" } : Jvm.MethodName)) ∈ lw_all := lw_g (lw_at lw_m5 79 rfl) rfl
theorem q1175 : (Jvm.Cond.privateMethod ({ cls := "CardHolder", name := "winsBy", desc := "(II)I" } : Jvm.MethodName)) ∈ lw_tbl := lw_at lw_m5 80 rfl
theorem q1176 : (Jvm.Cond.instanceMethod ({ cls := "CardHolder", name := "winsBy", desc := "(II)I" } : Jvm.MethodName)) ∈ lw_all := lw_g (lw_at lw_m5 81 rfl) rfl
theorem q1177 : (Jvm.Cond.code ({ cls := "CardHolder", name := "winsBy", desc := "(II)I" } : Jvm.MethodName) prog_1_method_92_code (4 : Nat) (Option.some Jvm.ClassFile.FieldType.int)) ∈ lw_all := lw_g (lw_at lw_m5 82 rfl) rfl
theorem q1179 : (Jvm.Cond.instanceMethod ({ cls := "CardHolder", name := "firms", desc := "()I" } : Jvm.MethodName)) ∈ lw_all := lw_g (lw_at lw_m5 84 rfl) rfl
theorem q1180 : (Jvm.Cond.selects "CardHolder" ({ cls := "CardHolder", name := "firms", desc := "()I" } : Jvm.MethodName) ({ cls := "CardHolder", name := "firms", desc := "()I" } : Jvm.MethodName)) ∈ lw_all := lw_g (lw_at lw_m5 85 rfl) rfl
theorem q1181 : (Jvm.Cond.code ({ cls := "CardHolder", name := "firms", desc := "()I" } : Jvm.MethodName) prog_1_method_95_code (3 : Nat) (Option.some Jvm.ClassFile.FieldType.int)) ∈ lw_all := lw_g (lw_at lw_m5 86 rfl) rfl
theorem q1183 : (Jvm.Cond.instanceMethod ({ cls := "CardHolder", name := "firmest", desc := "()I" } : Jvm.MethodName)) ∈ lw_all := lw_g (lw_at lw_m5 88 rfl) rfl
theorem q1184 : (Jvm.Cond.selects "CardHolder" ({ cls := "CardHolder", name := "firmest", desc := "()I" } : Jvm.MethodName) ({ cls := "CardHolder", name := "firmest", desc := "()I" } : Jvm.MethodName)) ∈ lw_all := lw_g (lw_at lw_m5 89 rfl) rfl
theorem q1185 : (Jvm.Cond.code ({ cls := "CardHolder", name := "firmest", desc := "()I" } : Jvm.MethodName) prog_1_method_96_code (3 : Nat) (Option.some Jvm.ClassFile.FieldType.int)) ∈ lw_all := lw_g (lw_at lw_m5 90 rfl) rfl
theorem q1187 : (Jvm.Cond.instanceMethod ({ cls := "CardHolder", name := "wins", desc := "(II)I" } : Jvm.MethodName)) ∈ lw_all := lw_g (lw_at lw_m5 92 rfl) rfl
theorem q1188 : (Jvm.Cond.selects "CardHolder" ({ cls := "CardHolder", name := "wins", desc := "(II)I" } : Jvm.MethodName) ({ cls := "CardHolder", name := "wins", desc := "(II)I" } : Jvm.MethodName)) ∈ lw_all := lw_g (lw_at lw_m5 93 rfl) rfl
theorem q1189 : (Jvm.Cond.code ({ cls := "CardHolder", name := "wins", desc := "(II)I" } : Jvm.MethodName) prog_1_method_97_code (3 : Nat) (Option.some Jvm.ClassFile.FieldType.int)) ∈ lw_all := lw_g (lw_at lw_m5 94 rfl) rfl
theorem q1191 : (Jvm.Cond.instanceMethod ({ cls := "CardHolder", name := "leave", desc := "(I)I" } : Jvm.MethodName)) ∈ lw_all := lw_g (lw_at lw_m5 96 rfl) rfl
theorem q1192 : (Jvm.Cond.selects "CardHolder" ({ cls := "CardHolder", name := "leave", desc := "(I)I" } : Jvm.MethodName) ({ cls := "CardHolder", name := "leave", desc := "(I)I" } : Jvm.MethodName)) ∈ lw_all := lw_g (lw_at lw_m5 97 rfl) rfl
theorem q1193 : (Jvm.Cond.code ({ cls := "CardHolder", name := "leave", desc := "(I)I" } : Jvm.MethodName) prog_1_method_98_code (2 : Nat) (Option.some Jvm.ClassFile.FieldType.int)) ∈ lw_all := lw_g (lw_at lw_m5 98 rfl) rfl
theorem q1195 : (Jvm.Cond.instanceMethod ({ cls := "CardHolder", name := "ransom", desc := "(II)I" } : Jvm.MethodName)) ∈ lw_all := lw_g (lw_at lw_m5 100 rfl) rfl
theorem q1196 : (Jvm.Cond.selects "CardHolder" ({ cls := "CardHolder", name := "ransom", desc := "(II)I" } : Jvm.MethodName) ({ cls := "CardHolder", name := "ransom", desc := "(II)I" } : Jvm.MethodName)) ∈ lw_all := lw_g (lw_at lw_m5 101 rfl) rfl
theorem q1197 : (Jvm.Cond.code ({ cls := "CardHolder", name := "ransom", desc := "(II)I" } : Jvm.MethodName) prog_1_method_100_code (4 : Nat) (Option.some Jvm.ClassFile.FieldType.int)) ∈ lw_all := lw_g (lw_at lw_m5 102 rfl) rfl
theorem q1198 : (Jvm.Cond.methodLink "CardHolder" (367 : Nat) ({ cls := "CardHolder", name := "ransomOf", desc := "(II)I" } : Jvm.MethodName)) ∈ lw_all := lw_g (lw_at lw_m5 103 rfl) rfl
theorem q1199 : (Jvm.Cond.privateMethod ({ cls := "CardHolder", name := "ransomOf", desc := "(II)I" } : Jvm.MethodName)) ∈ lw_tbl := lw_at lw_m5 104 rfl
theorem q1200 : (Jvm.Cond.instanceMethod ({ cls := "CardHolder", name := "ransomOf", desc := "(II)I" } : Jvm.MethodName)) ∈ lw_all := lw_g (lw_at lw_m5 105 rfl) rfl
theorem q1201 : (Jvm.Cond.code ({ cls := "CardHolder", name := "ransomOf", desc := "(II)I" } : Jvm.MethodName) prog_1_method_99_code (5 : Nat) (Option.some Jvm.ClassFile.FieldType.int)) ∈ lw_all := lw_g (lw_at lw_m5 106 rfl) rfl
theorem q1203 : (Jvm.Cond.instanceMethod ({ cls := "CardHolder", name := "ransomed", desc := "(II)I" } : Jvm.MethodName)) ∈ lw_all := lw_g (lw_at lw_m5 108 rfl) rfl
theorem q1204 : (Jvm.Cond.selects "CardHolder" ({ cls := "CardHolder", name := "ransomed", desc := "(II)I" } : Jvm.MethodName) ({ cls := "CardHolder", name := "ransomed", desc := "(II)I" } : Jvm.MethodName)) ∈ lw_all := lw_g (lw_at lw_m5 109 rfl) rfl
theorem q1205 : (Jvm.Cond.code ({ cls := "CardHolder", name := "ransomed", desc := "(II)I" } : Jvm.MethodName) prog_1_method_101_code (3 : Nat) (Option.some Jvm.ClassFile.FieldType.int)) ∈ lw_all := lw_g (lw_at lw_m5 110 rfl) rfl
theorem q1207 : (Jvm.Cond.instanceMethod ({ cls := "CardHolder", name := "power", desc := "(I)I" } : Jvm.MethodName)) ∈ lw_all := lw_g (lw_at lw_m5 112 rfl) rfl
theorem q1208 : (Jvm.Cond.selects "CardHolder" ({ cls := "CardHolder", name := "power", desc := "(I)I" } : Jvm.MethodName) ({ cls := "CardHolder", name := "power", desc := "(I)I" } : Jvm.MethodName)) ∈ lw_all := lw_g (lw_at lw_m5 113 rfl) rfl
theorem q1209 : (Jvm.Cond.code ({ cls := "CardHolder", name := "power", desc := "(I)I" } : Jvm.MethodName) prog_1_method_103_code (2 : Nat) (Option.some Jvm.ClassFile.FieldType.int)) ∈ lw_all := lw_g (lw_at lw_m5 114 rfl) rfl
theorem q1210 : (Jvm.Cond.methodLink "CardHolder" (370 : Nat) ({ cls := "CardHolder", name := "powerOf", desc := "(I)I" } : Jvm.MethodName)) ∈ lw_all := lw_g (lw_at lw_m5 115 rfl) rfl
theorem q1211 : (Jvm.Cond.privateMethod ({ cls := "CardHolder", name := "powerOf", desc := "(I)I" } : Jvm.MethodName)) ∈ lw_tbl := lw_at lw_m5 116 rfl
theorem q1212 : (Jvm.Cond.instanceMethod ({ cls := "CardHolder", name := "powerOf", desc := "(I)I" } : Jvm.MethodName)) ∈ lw_all := lw_g (lw_at lw_m5 117 rfl) rfl
theorem q1213 : (Jvm.Cond.code ({ cls := "CardHolder", name := "powerOf", desc := "(I)I" } : Jvm.MethodName) prog_1_method_102_code (2 : Nat) (Option.some Jvm.ClassFile.FieldType.int)) ∈ lw_all := lw_g (lw_at lw_m5 118 rfl) rfl
theorem q1215 : (Jvm.Cond.instanceMethod ({ cls := "CardHolder", name := "mighty", desc := "()I" } : Jvm.MethodName)) ∈ lw_all := lw_g (lw_at lw_m5 120 rfl) rfl
theorem q1216 : (Jvm.Cond.selects "CardHolder" ({ cls := "CardHolder", name := "mighty", desc := "()I" } : Jvm.MethodName) ({ cls := "CardHolder", name := "mighty", desc := "()I" } : Jvm.MethodName)) ∈ lw_all := lw_g (lw_at lw_m5 121 rfl) rfl
theorem q1217 : (Jvm.Cond.code ({ cls := "CardHolder", name := "mighty", desc := "()I" } : Jvm.MethodName) prog_1_method_104_code (3 : Nat) (Option.some Jvm.ClassFile.FieldType.int)) ∈ lw_all := lw_g (lw_at lw_m5 122 rfl) rfl
theorem q1219 : (Jvm.Cond.instanceMethod ({ cls := "CardHolder", name := "covet", desc := "(I)I" } : Jvm.MethodName)) ∈ lw_all := lw_g (lw_at lw_m5 124 rfl) rfl
theorem q1220 : (Jvm.Cond.selects "CardHolder" ({ cls := "CardHolder", name := "covet", desc := "(I)I" } : Jvm.MethodName) ({ cls := "CardHolder", name := "covet", desc := "(I)I" } : Jvm.MethodName)) ∈ lw_all := lw_g (lw_at lw_m5 125 rfl) rfl
theorem q1221 : (Jvm.Cond.code ({ cls := "CardHolder", name := "covet", desc := "(I)I" } : Jvm.MethodName) prog_1_method_105_code (7 : Nat) (Option.some Jvm.ClassFile.FieldType.int)) ∈ lw_all := lw_g (lw_at lw_m5 126 rfl) rfl
theorem q1223 : (Jvm.Cond.instanceMethod ({ cls := "CardHolder", name := "judge", desc := "(I)I" } : Jvm.MethodName)) ∈ lw_all := lw_g (lw_at lw_m5 128 rfl) rfl
theorem q1224 : (Jvm.Cond.selects "CardHolder" ({ cls := "CardHolder", name := "judge", desc := "(I)I" } : Jvm.MethodName) ({ cls := "CardHolder", name := "judge", desc := "(I)I" } : Jvm.MethodName)) ∈ lw_all := lw_g (lw_at lw_m5 129 rfl) rfl
theorem q1225 : (Jvm.Cond.code ({ cls := "CardHolder", name := "judge", desc := "(I)I" } : Jvm.MethodName) prog_1_method_109_code (3 : Nat) (Option.some Jvm.ClassFile.FieldType.int)) ∈ lw_all := lw_g (lw_at lw_m5 130 rfl) rfl
theorem q1226 : (Jvm.Cond.methodLink "CardHolder" (378 : Nat) ({ cls := "CardHolder", name := "asksRow", desc := "(I)I" } : Jvm.MethodName)) ∈ lw_all := lw_g (lw_at lw_m5 131 rfl) rfl
theorem q1227 : (Jvm.Cond.privateMethod ({ cls := "CardHolder", name := "asksRow", desc := "(I)I" } : Jvm.MethodName)) ∈ lw_tbl := lw_at lw_m5 132 rfl
theorem q1228 : (Jvm.Cond.instanceMethod ({ cls := "CardHolder", name := "asksRow", desc := "(I)I" } : Jvm.MethodName)) ∈ lw_all := lw_g (lw_at lw_m5 133 rfl) rfl
theorem q1229 : (Jvm.Cond.codeWith ({ cls := "CardHolder", name := "asksRow", desc := "(I)I" } : Jvm.MethodName) prog_1_method_107_code (4 : Nat) (Option.some Jvm.ClassFile.FieldType.int) [((17 : Nat), (35 : Nat), (117 : Nat), (312 : Nat)), ((36 : Nat), (108 : Nat), (117 : Nat), (312 : Nat)), ((109 : Nat), (116 : Nat), (117 : Nat), (312 : Nat))]) ∈ lw_all := lw_g (lw_at lw_m5 134 rfl) rfl
theorem q1230 : (Jvm.Cond.methodLink "CardHolder" (375 : Nat) ({ cls := "CardHolder", name := "isDayEnd", desc := "(II)Z" } : Jvm.MethodName)) ∈ lw_all := lw_g (lw_at lw_m5 135 rfl) rfl
theorem q1231 : (Jvm.Cond.privateMethod ({ cls := "CardHolder", name := "isDayEnd", desc := "(II)Z" } : Jvm.MethodName)) ∈ lw_tbl := lw_at lw_m5 136 rfl
theorem q1232 : (Jvm.Cond.instanceMethod ({ cls := "CardHolder", name := "isDayEnd", desc := "(II)Z" } : Jvm.MethodName)) ∈ lw_all := lw_g (lw_at lw_m5 137 rfl) rfl
theorem q1233 : (Jvm.Cond.code ({ cls := "CardHolder", name := "isDayEnd", desc := "(II)Z" } : Jvm.MethodName) prog_1_method_106_code (3 : Nat) (Option.some Jvm.ClassFile.FieldType.boolean)) ∈ lw_all := lw_g (lw_at lw_m5 138 rfl) rfl
theorem q1234 : (Jvm.Cond.constantLong "CardHolder" (373 : Nat) (-1 : Int64)) ∈ lw_all := lw_g (lw_at lw_m5 139 rfl) rfl
theorem q1235 : (Jvm.Cond.methodLink "CardHolder" (381 : Nat) ({ cls := "CardHolder", name := "goesBy", desc := "(I)I" } : Jvm.MethodName)) ∈ lw_all := lw_g (lw_at lw_m5 140 rfl) rfl
theorem q1236 : (Jvm.Cond.privateMethod ({ cls := "CardHolder", name := "goesBy", desc := "(I)I" } : Jvm.MethodName)) ∈ lw_tbl := lw_at lw_m5 141 rfl
theorem q1237 : (Jvm.Cond.instanceMethod ({ cls := "CardHolder", name := "goesBy", desc := "(I)I" } : Jvm.MethodName)) ∈ lw_all := lw_g (lw_at lw_m5 142 rfl) rfl
theorem q1238 : (Jvm.Cond.code ({ cls := "CardHolder", name := "goesBy", desc := "(I)I" } : Jvm.MethodName) prog_1_method_108_code (4 : Nat) (Option.some Jvm.ClassFile.FieldType.int)) ∈ lw_all := lw_g (lw_at lw_m5 143 rfl) rfl
theorem q1240 : (Jvm.Cond.instanceMethod ({ cls := "CardHolder", name := "freed", desc := "(I)I" } : Jvm.MethodName)) ∈ lw_all := lw_g (lw_at lw_m5 145 rfl) rfl
theorem q1241 : (Jvm.Cond.selects "CardHolder" ({ cls := "CardHolder", name := "freed", desc := "(I)I" } : Jvm.MethodName) ({ cls := "CardHolder", name := "freed", desc := "(I)I" } : Jvm.MethodName)) ∈ lw_all := lw_g (lw_at lw_m5 146 rfl) rfl
theorem q1242 : (Jvm.Cond.code ({ cls := "CardHolder", name := "freed", desc := "(I)I" } : Jvm.MethodName) prog_1_method_110_code (3 : Nat) (Option.some Jvm.ClassFile.FieldType.int)) ∈ lw_all := lw_g (lw_at lw_m5 147 rfl) rfl
theorem q1244 : (Jvm.Cond.instanceMethod ({ cls := "CardHolder", name := "drawn", desc := "(II)I" } : Jvm.MethodName)) ∈ lw_all := lw_g (lw_at lw_m5 149 rfl) rfl
theorem q1245 : (Jvm.Cond.selects "CardHolder" ({ cls := "CardHolder", name := "drawn", desc := "(II)I" } : Jvm.MethodName) ({ cls := "CardHolder", name := "drawn", desc := "(II)I" } : Jvm.MethodName)) ∈ lw_all := lw_g (lw_at lw_m5 150 rfl) rfl
theorem q1246 : (Jvm.Cond.code ({ cls := "CardHolder", name := "drawn", desc := "(II)I" } : Jvm.MethodName) prog_1_method_112_code (3 : Nat) (Option.some Jvm.ClassFile.FieldType.int)) ∈ lw_all := lw_g (lw_at lw_m5 151 rfl) rfl
theorem q1247 : (Jvm.Cond.methodLink "CardHolder" (392 : Nat) ({ cls := "CardHolder", name := "isSeed", desc := "(I)Z" } : Jvm.MethodName)) ∈ lw_all := lw_g (lw_at lw_m5 152 rfl) rfl
theorem q1248 : (Jvm.Cond.static ({ cls := "CardHolder", name := "isSeed", desc := "(I)Z" } : Jvm.MethodName)) ∈ lw_all := lw_g (lw_at lw_m5 153 rfl) rfl
theorem q1249 : (Jvm.Cond.code ({ cls := "CardHolder", name := "isSeed", desc := "(I)Z" } : Jvm.MethodName) prog_1_method_13_code (1 : Nat) (Option.some Jvm.ClassFile.FieldType.boolean)) ∈ lw_all := lw_g (lw_at lw_m5 154 rfl) rfl
theorem q1250 : (Jvm.Cond.constantLong "CardHolder" (101 : Nat) (2000000000 : Int64)) ∈ lw_all := lw_g (lw_at lw_m5 155 rfl) rfl
theorem q1251 : (Jvm.Cond.methodLink "CardHolder" (395 : Nat) ({ cls := "CardHolder", name := "deals", desc := "(J)V" } : Jvm.MethodName)) ∈ lw_all := lw_g (lw_at lw_m5 156 rfl) rfl
theorem q1252 : (Jvm.Cond.privateMethod ({ cls := "CardHolder", name := "deals", desc := "(J)V" } : Jvm.MethodName)) ∈ lw_tbl := lw_at lw_m5 157 rfl
theorem q1253 : (Jvm.Cond.instanceMethod ({ cls := "CardHolder", name := "deals", desc := "(J)V" } : Jvm.MethodName)) ∈ lw_all := lw_g (lw_at lw_m5 158 rfl) rfl
theorem q1254 : (Jvm.Cond.code ({ cls := "CardHolder", name := "deals", desc := "(J)V" } : Jvm.MethodName) prog_1_method_111_code (9 : Nat) (Option.none : Option Jvm.ClassFile.FieldType)) ∈ lw_all := lw_g (lw_at lw_m5 159 rfl) rfl
theorem q1255 : (Jvm.Cond.constantLong "CardHolder" (384 : Nat) (1103515245 : Int64)) ∈ lw_all := lw_g (lw_at lw_m5 160 rfl) rfl
theorem q1256 : (Jvm.Cond.constantLong "CardHolder" (386 : Nat) (12345 : Int64)) ∈ lw_all := lw_g (lw_at lw_m5 161 rfl) rfl
theorem q1257 : (Jvm.Cond.constantLong "CardHolder" (388 : Nat) (2147483648 : Int64)) ∈ lw_all := lw_g (lw_at lw_m5 162 rfl) rfl
theorem q1258 : (Jvm.Cond.constantLong "CardHolder" (390 : Nat) (65536 : Int64)) ∈ lw_all := lw_g (lw_at lw_m5 163 rfl) rfl
theorem q1260 : (Jvm.Cond.instanceMethod ({ cls := "CardHolder", name := "luck", desc := "(III)I" } : Jvm.MethodName)) ∈ lw_all := lw_g (lw_at lw_m5 165 rfl) rfl
theorem q1261 : (Jvm.Cond.selects "CardHolder" ({ cls := "CardHolder", name := "luck", desc := "(III)I" } : Jvm.MethodName) ({ cls := "CardHolder", name := "luck", desc := "(III)I" } : Jvm.MethodName)) ∈ lw_all := lw_g (lw_at lw_m5 166 rfl) rfl
theorem q1262 : (Jvm.Cond.code ({ cls := "CardHolder", name := "luck", desc := "(III)I" } : Jvm.MethodName) prog_1_method_113_code (6 : Nat) (Option.some Jvm.ClassFile.FieldType.int)) ∈ lw_all := lw_g (lw_at lw_m5 167 rfl) rfl
theorem q1263 : (Jvm.Cond.constantLong "CardHolder" (399 : Nat) (20 : Int64)) ∈ lw_all := lw_g (lw_at lw_m5 168 rfl) rfl
theorem q1265 : (Jvm.Cond.instanceMethod ({ cls := "CardHolder", name := "winds", desc := "(II)I" } : Jvm.MethodName)) ∈ lw_all := lw_g (lw_at lw_m5 170 rfl) rfl
theorem q1266 : (Jvm.Cond.selects "CardHolder" ({ cls := "CardHolder", name := "winds", desc := "(II)I" } : Jvm.MethodName) ({ cls := "CardHolder", name := "winds", desc := "(II)I" } : Jvm.MethodName)) ∈ lw_all := lw_g (lw_at lw_m5 171 rfl) rfl
theorem q1267 : (Jvm.Cond.code ({ cls := "CardHolder", name := "winds", desc := "(II)I" } : Jvm.MethodName) prog_1_method_114_code (5 : Nat) (Option.some Jvm.ClassFile.FieldType.int)) ∈ lw_all := lw_g (lw_at lw_m5 172 rfl) rfl
theorem q1269 : (Jvm.Cond.instanceMethod ({ cls := "CardHolder", name := "rate", desc := "(II)I" } : Jvm.MethodName)) ∈ lw_all := lw_g (lw_at lw_m5 174 rfl) rfl
theorem q1270 : (Jvm.Cond.selects "CardHolder" ({ cls := "CardHolder", name := "rate", desc := "(II)I" } : Jvm.MethodName) ({ cls := "CardHolder", name := "rate", desc := "(II)I" } : Jvm.MethodName)) ∈ lw_all := lw_g (lw_at lw_m5 175 rfl) rfl
theorem q1271 : (Jvm.Cond.code ({ cls := "CardHolder", name := "rate", desc := "(II)I" } : Jvm.MethodName) prog_1_method_115_code (4 : Nat) (Option.some Jvm.ClassFile.FieldType.int)) ∈ lw_all := lw_g (lw_at lw_m5 176 rfl) rfl
theorem q1272 : (Jvm.Cond.constantLong "CardHolder" (401 : Nat) (999 : Int64)) ∈ lw_all := lw_g (lw_at lw_m5 177 rfl) rfl
theorem q1274 : (Jvm.Cond.instanceMethod ({ cls := "CardHolder", name := "forge", desc := "(II)I" } : Jvm.MethodName)) ∈ lw_all := lw_g (lw_at lw_m5 179 rfl) rfl
theorem q1275 : (Jvm.Cond.selects "CardHolder" ({ cls := "CardHolder", name := "forge", desc := "(II)I" } : Jvm.MethodName) ({ cls := "CardHolder", name := "forge", desc := "(II)I" } : Jvm.MethodName)) ∈ lw_all := lw_g (lw_at lw_m5 180 rfl) rfl
theorem q1276 : (Jvm.Cond.code ({ cls := "CardHolder", name := "forge", desc := "(II)I" } : Jvm.MethodName) prog_1_method_116_code (4 : Nat) (Option.some Jvm.ClassFile.FieldType.int)) ∈ lw_all := lw_g (lw_at lw_m5 181 rfl) rfl
theorem q1278 : (Jvm.Cond.instanceMethod ({ cls := "CardHolder", name := "count", desc := "(I)I" } : Jvm.MethodName)) ∈ lw_all := lw_g (lw_at lw_m5 183 rfl) rfl
theorem q1279 : (Jvm.Cond.selects "CardHolder" ({ cls := "CardHolder", name := "count", desc := "(I)I" } : Jvm.MethodName) ({ cls := "CardHolder", name := "count", desc := "(I)I" } : Jvm.MethodName)) ∈ lw_all := lw_g (lw_at lw_m5 184 rfl) rfl
theorem q1280 : (Jvm.Cond.code ({ cls := "CardHolder", name := "count", desc := "(I)I" } : Jvm.MethodName) prog_1_method_118_code (4 : Nat) (Option.some Jvm.ClassFile.FieldType.int)) ∈ lw_all := lw_g (lw_at lw_m5 185 rfl) rfl
theorem q1282 : (Jvm.Cond.instanceMethod ({ cls := "CardHolder", name := "image", desc := "(I)I" } : Jvm.MethodName)) ∈ lw_all := lw_g (lw_at lw_m5 187 rfl) rfl
theorem q1283 : (Jvm.Cond.selects "CardHolder" ({ cls := "CardHolder", name := "image", desc := "(I)I" } : Jvm.MethodName) ({ cls := "CardHolder", name := "image", desc := "(I)I" } : Jvm.MethodName)) ∈ lw_all := lw_g (lw_at lw_m5 188 rfl) rfl
theorem q1284 : (Jvm.Cond.code ({ cls := "CardHolder", name := "image", desc := "(I)I" } : Jvm.MethodName) prog_1_method_119_code (2 : Nat) (Option.some Jvm.ClassFile.FieldType.int)) ∈ lw_all := lw_g (lw_at lw_m5 189 rfl) rfl
theorem q1285 : (Jvm.Cond.constantLong "CardHolder" (409 : Nat) (2 : Int64)) ∈ lw_all := lw_g (lw_at lw_m5 190 rfl) rfl
theorem q1286 : (Jvm.Cond.methodLink "CardHolder" (411 : Nat) ({ cls := "java/util/ArrayList", name := "size", desc := "()I" } : Jvm.MethodName)) ∈ lw_all := lw_g (lw_at lw_m5 191 rfl) rfl
theorem q1290 : (Jvm.Cond.methodLink "CardHolder" (412 : Nat) ({ cls := "CardHolder$City", name := "copy", desc := "()LCardHolder$City;" } : Jvm.MethodName)) ∈ lw_all := lw_g (lw_at lw_m5 195 rfl) rfl
theorem q1297 : (Jvm.Cond.methodLink "CardHolder" (415 : Nat) ({ cls := "java/util/ArrayList", name := "set", desc := "(ILjava/lang/Object;)Ljava/lang/Object;" } : Jvm.MethodName)) ∈ lw_all := lw_g (lw_at lw_m5 202 rfl) rfl
theorem q1302 : (Jvm.Cond.instanceMethod ({ cls := "CardHolder", name := "back", desc := "(I)I" } : Jvm.MethodName)) ∈ lw_all := lw_g (lw_at lw_m5 207 rfl) rfl
theorem q1303 : (Jvm.Cond.selects "CardHolder" ({ cls := "CardHolder", name := "back", desc := "(I)I" } : Jvm.MethodName) ({ cls := "CardHolder", name := "back", desc := "(I)I" } : Jvm.MethodName)) ∈ lw_all := lw_g (lw_at lw_m5 208 rfl) rfl
theorem q1304 : (Jvm.Cond.code ({ cls := "CardHolder", name := "back", desc := "(I)I" } : Jvm.MethodName) prog_1_method_120_code (2 : Nat) (Option.some Jvm.ClassFile.FieldType.int)) ∈ lw_all := lw_g (lw_at lw_m5 209 rfl) rfl
theorem q1306 : (Jvm.Cond.instanceMethod ({ cls := "CardHolder", name := "row", desc := "(III)I" } : Jvm.MethodName)) ∈ lw_all := lw_g (lw_at lw_m5 211 rfl) rfl
theorem q1307 : (Jvm.Cond.selects "CardHolder" ({ cls := "CardHolder", name := "row", desc := "(III)I" } : Jvm.MethodName) ({ cls := "CardHolder", name := "row", desc := "(III)I" } : Jvm.MethodName)) ∈ lw_all := lw_g (lw_at lw_m5 212 rfl) rfl
theorem q1308 : (Jvm.Cond.codeWith ({ cls := "CardHolder", name := "row", desc := "(III)I" } : Jvm.MethodName) prog_1_method_121_code (5 : Nat) (Option.some Jvm.ClassFile.FieldType.int) [((28 : Nat), (40 : Nat), (41 : Nat), (422 : Nat))]) ∈ lw_all := lw_g (lw_at lw_m5 213 rfl) rfl
theorem q1309 : (Jvm.Cond.classLink "CardHolder" (422 : Nat) "java/lang/NegativeArraySizeException") ∈ lw_all := lw_g (lw_at lw_m5 214 rfl) rfl
theorem q1336 : (Jvm.Cond.methodLink "CardHolder" (419 : Nat) ({ cls := "CardHolder$Slot", name := "make", desc := "(II)V" } : Jvm.MethodName)) ∈ lw_all := lw_g (lw_at lw_m6 1 rfl) rfl
theorem q1343 : (Jvm.Cond.instanceMethod ({ cls := "CardHolder", name := "write", desc := "(IIJ)I" } : Jvm.MethodName)) ∈ lw_all := lw_g (lw_at lw_m6 8 rfl) rfl
theorem q1344 : (Jvm.Cond.selects "CardHolder" ({ cls := "CardHolder", name := "write", desc := "(IIJ)I" } : Jvm.MethodName) ({ cls := "CardHolder", name := "write", desc := "(IIJ)I" } : Jvm.MethodName)) ∈ lw_all := lw_g (lw_at lw_m6 9 rfl) rfl
theorem q1345 : (Jvm.Cond.codeWith ({ cls := "CardHolder", name := "write", desc := "(IIJ)I" } : Jvm.MethodName) prog_1_method_122_code (6 : Nat) (Option.some Jvm.ClassFile.FieldType.int) [((10 : Nat), (22 : Nat), (23 : Nat), (312 : Nat)), ((10 : Nat), (22 : Nat), (28 : Nat), (428 : Nat))]) ∈ lw_all := lw_g (lw_at lw_m6 10 rfl) rfl
theorem q1346 : (Jvm.Cond.classLink "CardHolder" (428 : Nat) "java/lang/ArrayIndexOutOfBoundsException") ∈ lw_all := lw_g (lw_at lw_m6 11 rfl) rfl
theorem q1365 : (Jvm.Cond.methodLink "CardHolder" (424 : Nat) ({ cls := "CardHolder$Slot", name := "put", desc := "(IJ)V" } : Jvm.MethodName)) ∈ lw_all := lw_g (lw_at lw_m6 30 rfl) rfl
theorem q1370 : (Jvm.Cond.instanceMethod ({ cls := "CardHolder", name := "paste", desc := "(IIIII)I" } : Jvm.MethodName)) ∈ lw_all := lw_g (lw_at lw_m6 35 rfl) rfl
theorem q1371 : (Jvm.Cond.selects "CardHolder" ({ cls := "CardHolder", name := "paste", desc := "(IIIII)I" } : Jvm.MethodName) ({ cls := "CardHolder", name := "paste", desc := "(IIIII)I" } : Jvm.MethodName)) ∈ lw_all := lw_g (lw_at lw_m6 36 rfl) rfl
theorem q1372 : (Jvm.Cond.codeWith ({ cls := "CardHolder", name := "paste", desc := "(IIIII)I" } : Jvm.MethodName) prog_1_method_123_code (7 : Nat) (Option.some Jvm.ClassFile.FieldType.int) [((17 : Nat), (44 : Nat), (45 : Nat), (312 : Nat)), ((17 : Nat), (44 : Nat), (50 : Nat), (430 : Nat)), ((17 : Nat), (44 : Nat), (55 : Nat), (432 : Nat))]) ∈ lw_all := lw_g (lw_at lw_m6 37 rfl) rfl
theorem q1373 : (Jvm.Cond.classLink "CardHolder" (430 : Nat) "java/lang/ArrayStoreException") ∈ lw_all := lw_g (lw_at lw_m6 38 rfl) rfl
theorem q1387 : (Jvm.Cond.classLink "CardHolder" (432 : Nat) "java/lang/IndexOutOfBoundsException") ∈ lw_all := lw_g (lw_at lw_m6 52 rfl) rfl
theorem q2090 : (Jvm.Cond.castable "CardHolder" "java/lang/Object") ∈ lw_tbl := lw_at lw_m9 35 rfl
theorem in_X0 : ∀ w ∈ wsX00, w ∈ lw_all := lw_in wsX00 [320, 322, 324, 326, 328, 330, 332, 334, 336, 338, 340, 342, 344, 346, 348, 350, 352, 354, 356, 358, 360, 362, 364] (by decide +kernel) (by decide +kernel)
