/-! CardHolderModel -/
set_option maxRecDepth 100000
def RX3 : String := "CardHolderModel"
def TX3 : u_T := fun k => match k with
  | 0 => ("CardHolderModel", "thrown", "I", false)
  | 1 => ("CardHolderModel", "width", "[I", true)
  | 2 => ("CardHolderModel", "many", "[I", true)
  | 3 => ("CardHolderModel", "cells", "[J", true)
  | 4 => ("CardHolderModel", "moved", "[J", true)
  | 5 => ("CardHolderModel", "tape", "[B", true)
  | 6 => ("CardHolderModel", "taped", "I", false)
  | 7 => ("CardHolderModel", "at", "I", false)
  | 8 => ("CardHolderModel", "token", "I", false)
  | 9 => ("CardHolderModel", "place", "I", false)
  | 10 => ("CardHolderModel", "value", "I", false)
  | 11 => ("CardHolderModel", "word", "J", false)
  | 12 => ("CardHolderModel", "bad", "I", false)
  | 13 => ("CardHolderModel", "badPlace", "I", false)
  | 14 => ("CardHolderModel", "fault", "I", false)
  | 15 => ("CardHolderModel", "faultPlace", "I", false)
  | 16 => ("CardHolderModel", "lines", "[I", true)
  | 17 => ("CardHolderModel", "has", "[I", true)
  | 18 => ("CardHolderModel", "person", "[I", true)
  | 19 => ("CardHolderModel", "act", "[I", true)
  | 20 => ("CardHolderModel", "isKept", "[Z", true)
  | 21 => ("CardHolderModel", "holder", "[I", true)
  | 22 => ("CardHolderModel", "worn", "[I", true)
  | 23 => ("CardHolderModel", "had", "[I", true)
  | 24 => ("CardHolderModel", "asked", "I", false)
  | 25 => ("CardHolderModel", "stolen", "I", false)
  | 26 => ("CardHolderModel", "dayNow", "I", false)
  | 27 => ("CardHolderModel", "done", "I", false)
  | 28 => ("CardHolderModel", "most", "[I", true)
  | 29 => ("CardHolderModel", "watchBest", "I", false)
  | _ => ("CardHolderModel", "watchLeaves", "I", false)
def tyX3 : Nat → FieldType := fun k => match k with
  | 0 => .int
  | 1 => .array .int
  | 2 => .array .int
  | 3 => .array .long
  | 4 => .array .long
  | 5 => .array .byte
  | 6 => .int
  | 7 => .int
  | 8 => .int
  | 9 => .int
  | 10 => .int
  | 11 => .long
  | 12 => .int
  | 13 => .int
  | 14 => .int
  | 15 => .int
  | 16 => .array .int
  | 17 => .array .int
  | 18 => .array .int
  | 19 => .array .int
  | 20 => .array .boolean
  | 21 => .array .int
  | 22 => .array .int
  | 23 => .array .int
  | 24 => .int
  | 25 => .int
  | 26 => .int
  | 27 => .int
  | 28 => .array .int
  | 29 => .int
  | _ => .int
abbrev wsX30 : List Cond := u_ws RX3 TX3 31
set_option maxRecDepth 100000 in
theorem nmX3 : ∀ a, a < 31 → ∀ b, b < 31 → a ≠ b → (TX3 a).2.1 ≠ (TX3 b).2.1 := by decide +kernel
set_option maxRecDepth 100000 in
theorem tyX3_ok : ∀ k, k < 31 → parseFieldDescriptor (TX3 k).2.2.1 = some (tyX3 k) := by decide +kernel
abbrev cX3_init : ByteArray := prog_14_method_1_code
def yX3_init : MethodName := ⟨RX3, "<init>", "()V"⟩
def dkwX3_init_6 : List UInt8 := [167, 255, 241, 177]
abbrev dktX3_init_6 : List UInt8 := dkwX3_init_6 ++ []
def dkwX3_init_5 : List UInt8 := [188, 10, 181, 0, 56, 3, 60, 27, 7, 162, 0, 16, 42, 180, 0, 7, 27, 2, 79, 132, 1, 1]
abbrev dktX3_init_5 : List UInt8 := dkwX3_init_5 ++ dktX3_init_6
def dkwX3_init_4 : List UInt8 := [181, 0, 47, 42, 16, 8, 188, 10, 181, 0, 50, 42, 16, 8, 188, 10, 181, 0, 53, 42, 17, 2, 64]
abbrev dktX3_init_4 : List UInt8 := dkwX3_init_4 ++ dktX3_init_5
def dkwX3_init_3 : List UInt8 := [181, 0, 37, 42, 17, 3, 232, 188, 10, 181, 0, 40, 42, 6, 188, 4, 181, 0, 43, 42, 16, 8, 188, 10]
abbrev dktX3_init_3 : List UInt8 := dkwX3_init_3 ++ dktX3_init_4
def dkwX3_init_2 : List UInt8 := [181, 0, 27, 42, 8, 188, 10, 181, 0, 31, 42, 16, 15, 188, 10, 181, 0, 34, 42, 17, 0, 200, 188, 10]
abbrev dktX3_init_2 : List UInt8 := dkwX3_init_2 ++ dktX3_init_3
def dkwX3_init_1 : List UInt8 := [181, 0, 16, 42, 16, 60, 188, 11, 181, 0, 20, 42, 17, 3, 132, 188, 8, 181, 0, 23, 42, 2]
abbrev dktX3_init_1 : List UInt8 := dkwX3_init_1 ++ dktX3_init_2
def dkwX3_init_0 : List UInt8 := [42, 183, 0, 1, 42, 7, 188, 10, 181, 0, 7, 42, 7, 188, 10, 181, 0, 13, 42, 17, 0, 240, 188, 11]
abbrev dktX3_init_0 : List UInt8 := dkwX3_init_0 ++ dktX3_init_1
theorem dksX3_init_0 : cX3_init.data.toList.drop 0 = dktX3_init_0 := by decide +kernel
theorem dksX3_init_1 : cX3_init.data.toList.drop 24 = dktX3_init_1 := dk_seg dksX3_init_0 24 rfl rfl
theorem dksX3_init_2 : cX3_init.data.toList.drop 46 = dktX3_init_2 := dk_seg dksX3_init_1 22 rfl rfl
theorem dksX3_init_3 : cX3_init.data.toList.drop 70 = dktX3_init_3 := dk_seg dksX3_init_2 24 rfl rfl
theorem dksX3_init_4 : cX3_init.data.toList.drop 94 = dktX3_init_4 := dk_seg dksX3_init_3 24 rfl rfl
theorem dksX3_init_5 : cX3_init.data.toList.drop 117 = dktX3_init_5 := dk_seg dksX3_init_4 23 rfl rfl
theorem dksX3_init_6 : cX3_init.data.toList.drop 139 = dktX3_init_6 := dk_seg dksX3_init_5 22 rfl rfl
theorem dX3_init_0 : decode cX3_init 0 = .ok (.aload_n 0, 1) := dk_42 (dk_at dksX3_init_0 0 rfl rfl)
theorem dX3_init_1 : decode cX3_init 1 = .ok (.invokespecial 1, 3) := dk_183 0 1 (dk_at dksX3_init_0 1 rfl rfl)
theorem dX3_init_4 : decode cX3_init 4 = .ok (.aload_n 0, 1) := dk_42 (dk_at dksX3_init_0 4 rfl rfl)
theorem dX3_init_5 : decode cX3_init 5 = .ok (.iconst 4, 1) := dk_7 (dk_at dksX3_init_0 5 rfl rfl)
theorem dX3_init_6 : decode cX3_init 6 = .ok (.newarray .int, 2) := dk_188_10 (dk_at dksX3_init_0 6 rfl rfl)
theorem dX3_init_8 : decode cX3_init 8 = .ok (.putfield 7, 3) := dk_181 0 7 (dk_at dksX3_init_0 8 rfl rfl)
theorem dX3_init_11 : decode cX3_init 11 = .ok (.aload_n 0, 1) := dk_42 (dk_at dksX3_init_0 11 rfl rfl)
theorem dX3_init_12 : decode cX3_init 12 = .ok (.iconst 4, 1) := dk_7 (dk_at dksX3_init_0 12 rfl rfl)
theorem dX3_init_13 : decode cX3_init 13 = .ok (.newarray .int, 2) := dk_188_10 (dk_at dksX3_init_0 13 rfl rfl)
theorem dX3_init_15 : decode cX3_init 15 = .ok (.putfield 13, 3) := dk_181 0 13 (dk_at dksX3_init_0 15 rfl rfl)
theorem dX3_init_18 : decode cX3_init 18 = .ok (.aload_n 0, 1) := dk_42 (dk_at dksX3_init_0 18 rfl rfl)
theorem dX3_init_19 : decode cX3_init 19 = .ok (.sipush 240, 3) := dk_17 0 240 (dk_at dksX3_init_0 19 rfl rfl)
theorem dX3_init_22 : decode cX3_init 22 = .ok (.newarray .long, 2) := dk_188_11 (dk_at dksX3_init_0 22 rfl rfl)
theorem dX3_init_24 : decode cX3_init 24 = .ok (.putfield 16, 3) := dk_181 0 16 (dk_at dksX3_init_1 0 rfl rfl)
theorem dX3_init_27 : decode cX3_init 27 = .ok (.aload_n 0, 1) := dk_42 (dk_at dksX3_init_1 3 rfl rfl)
theorem dX3_init_28 : decode cX3_init 28 = .ok (.bipush 60, 2) := dk_16 60 (dk_at dksX3_init_1 4 rfl rfl)
theorem dX3_init_30 : decode cX3_init 30 = .ok (.newarray .long, 2) := dk_188_11 (dk_at dksX3_init_1 6 rfl rfl)
theorem dX3_init_32 : decode cX3_init 32 = .ok (.putfield 20, 3) := dk_181 0 20 (dk_at dksX3_init_1 8 rfl rfl)
theorem dX3_init_35 : decode cX3_init 35 = .ok (.aload_n 0, 1) := dk_42 (dk_at dksX3_init_1 11 rfl rfl)
theorem dX3_init_36 : decode cX3_init 36 = .ok (.sipush 900, 3) := dk_17 3 132 (dk_at dksX3_init_1 12 rfl rfl)
theorem dX3_init_39 : decode cX3_init 39 = .ok (.newarray .byte, 2) := dk_188_8 (dk_at dksX3_init_1 15 rfl rfl)
theorem dX3_init_41 : decode cX3_init 41 = .ok (.putfield 23, 3) := dk_181 0 23 (dk_at dksX3_init_1 17 rfl rfl)
theorem dX3_init_44 : decode cX3_init 44 = .ok (.aload_n 0, 1) := dk_42 (dk_at dksX3_init_1 20 rfl rfl)
theorem dX3_init_45 : decode cX3_init 45 = .ok (.iconst (-1), 1) := dk_2 (dk_at dksX3_init_1 21 rfl rfl)
theorem dX3_init_46 : decode cX3_init 46 = .ok (.putfield 27, 3) := dk_181 0 27 (dk_at dksX3_init_2 0 rfl rfl)
theorem dX3_init_49 : decode cX3_init 49 = .ok (.aload_n 0, 1) := dk_42 (dk_at dksX3_init_2 3 rfl rfl)
theorem dX3_init_50 : decode cX3_init 50 = .ok (.iconst 5, 1) := dk_8 (dk_at dksX3_init_2 4 rfl rfl)
theorem dX3_init_51 : decode cX3_init 51 = .ok (.newarray .int, 2) := dk_188_10 (dk_at dksX3_init_2 5 rfl rfl)
theorem dX3_init_53 : decode cX3_init 53 = .ok (.putfield 31, 3) := dk_181 0 31 (dk_at dksX3_init_2 7 rfl rfl)
theorem dX3_init_56 : decode cX3_init 56 = .ok (.aload_n 0, 1) := dk_42 (dk_at dksX3_init_2 10 rfl rfl)
theorem dX3_init_57 : decode cX3_init 57 = .ok (.bipush 15, 2) := dk_16 15 (dk_at dksX3_init_2 11 rfl rfl)
theorem dX3_init_59 : decode cX3_init 59 = .ok (.newarray .int, 2) := dk_188_10 (dk_at dksX3_init_2 13 rfl rfl)
theorem dX3_init_61 : decode cX3_init 61 = .ok (.putfield 34, 3) := dk_181 0 34 (dk_at dksX3_init_2 15 rfl rfl)
theorem dX3_init_64 : decode cX3_init 64 = .ok (.aload_n 0, 1) := dk_42 (dk_at dksX3_init_2 18 rfl rfl)
theorem dX3_init_65 : decode cX3_init 65 = .ok (.sipush 200, 3) := dk_17 0 200 (dk_at dksX3_init_2 19 rfl rfl)
theorem dX3_init_68 : decode cX3_init 68 = .ok (.newarray .int, 2) := dk_188_10 (dk_at dksX3_init_2 22 rfl rfl)
theorem dX3_init_70 : decode cX3_init 70 = .ok (.putfield 37, 3) := dk_181 0 37 (dk_at dksX3_init_3 0 rfl rfl)
theorem dX3_init_73 : decode cX3_init 73 = .ok (.aload_n 0, 1) := dk_42 (dk_at dksX3_init_3 3 rfl rfl)
theorem dX3_init_74 : decode cX3_init 74 = .ok (.sipush 1000, 3) := dk_17 3 232 (dk_at dksX3_init_3 4 rfl rfl)
theorem dX3_init_77 : decode cX3_init 77 = .ok (.newarray .int, 2) := dk_188_10 (dk_at dksX3_init_3 7 rfl rfl)
theorem dX3_init_79 : decode cX3_init 79 = .ok (.putfield 40, 3) := dk_181 0 40 (dk_at dksX3_init_3 9 rfl rfl)
theorem dX3_init_82 : decode cX3_init 82 = .ok (.aload_n 0, 1) := dk_42 (dk_at dksX3_init_3 12 rfl rfl)
theorem dX3_init_83 : decode cX3_init 83 = .ok (.iconst 3, 1) := dk_6 (dk_at dksX3_init_3 13 rfl rfl)
theorem dX3_init_84 : decode cX3_init 84 = .ok (.newarray .boolean, 2) := dk_188_4 (dk_at dksX3_init_3 14 rfl rfl)
theorem dX3_init_86 : decode cX3_init 86 = .ok (.putfield 43, 3) := dk_181 0 43 (dk_at dksX3_init_3 16 rfl rfl)
theorem dX3_init_89 : decode cX3_init 89 = .ok (.aload_n 0, 1) := dk_42 (dk_at dksX3_init_3 19 rfl rfl)
theorem dX3_init_90 : decode cX3_init 90 = .ok (.bipush 8, 2) := dk_16 8 (dk_at dksX3_init_3 20 rfl rfl)
theorem dX3_init_92 : decode cX3_init 92 = .ok (.newarray .int, 2) := dk_188_10 (dk_at dksX3_init_3 22 rfl rfl)
theorem dX3_init_94 : decode cX3_init 94 = .ok (.putfield 47, 3) := dk_181 0 47 (dk_at dksX3_init_4 0 rfl rfl)
theorem dX3_init_97 : decode cX3_init 97 = .ok (.aload_n 0, 1) := dk_42 (dk_at dksX3_init_4 3 rfl rfl)
theorem dX3_init_98 : decode cX3_init 98 = .ok (.bipush 8, 2) := dk_16 8 (dk_at dksX3_init_4 4 rfl rfl)
theorem dX3_init_100 : decode cX3_init 100 = .ok (.newarray .int, 2) := dk_188_10 (dk_at dksX3_init_4 6 rfl rfl)
theorem dX3_init_102 : decode cX3_init 102 = .ok (.putfield 50, 3) := dk_181 0 50 (dk_at dksX3_init_4 8 rfl rfl)
theorem dX3_init_105 : decode cX3_init 105 = .ok (.aload_n 0, 1) := dk_42 (dk_at dksX3_init_4 11 rfl rfl)
theorem dX3_init_106 : decode cX3_init 106 = .ok (.bipush 8, 2) := dk_16 8 (dk_at dksX3_init_4 12 rfl rfl)
theorem dX3_init_108 : decode cX3_init 108 = .ok (.newarray .int, 2) := dk_188_10 (dk_at dksX3_init_4 14 rfl rfl)
theorem dX3_init_110 : decode cX3_init 110 = .ok (.putfield 53, 3) := dk_181 0 53 (dk_at dksX3_init_4 16 rfl rfl)
theorem dX3_init_113 : decode cX3_init 113 = .ok (.aload_n 0, 1) := dk_42 (dk_at dksX3_init_4 19 rfl rfl)
theorem dX3_init_114 : decode cX3_init 114 = .ok (.sipush 576, 3) := dk_17 2 64 (dk_at dksX3_init_4 20 rfl rfl)
theorem dX3_init_117 : decode cX3_init 117 = .ok (.newarray .int, 2) := dk_188_10 (dk_at dksX3_init_5 0 rfl rfl)
theorem dX3_init_119 : decode cX3_init 119 = .ok (.putfield 56, 3) := dk_181 0 56 (dk_at dksX3_init_5 2 rfl rfl)
theorem dX3_init_122 : decode cX3_init 122 = .ok (.iconst 0, 1) := dk_3 (dk_at dksX3_init_5 5 rfl rfl)
theorem dX3_init_123 : decode cX3_init 123 = .ok (.istore_n 1, 1) := dk_60 (dk_at dksX3_init_5 6 rfl rfl)
theorem dX3_init_124 : decode cX3_init 124 = .ok (.iload_n 1, 1) := dk_27 (dk_at dksX3_init_5 7 rfl rfl)
theorem dX3_init_125 : decode cX3_init 125 = .ok (.iconst 4, 1) := dk_7 (dk_at dksX3_init_5 8 rfl rfl)
theorem dX3_init_126 : decode cX3_init 126 = .ok (.if_icmp .ge 16, 3) := dk_162 0 16 (dk_at dksX3_init_5 9 rfl rfl)
theorem dX3_init_129 : decode cX3_init 129 = .ok (.aload_n 0, 1) := dk_42 (dk_at dksX3_init_5 12 rfl rfl)
theorem dX3_init_130 : decode cX3_init 130 = .ok (.getfield 7, 3) := dk_180 0 7 (dk_at dksX3_init_5 13 rfl rfl)
theorem dX3_init_133 : decode cX3_init 133 = .ok (.iload_n 1, 1) := dk_27 (dk_at dksX3_init_5 16 rfl rfl)
theorem dX3_init_134 : decode cX3_init 134 = .ok (.iconst (-1), 1) := dk_2 (dk_at dksX3_init_5 17 rfl rfl)
theorem dX3_init_135 : decode cX3_init 135 = .ok (.iastore, 1) := dk_79 (dk_at dksX3_init_5 18 rfl rfl)
theorem dX3_init_136 : decode cX3_init 136 = .ok (.iinc 1 1, 3) := dk_132 1 1 (dk_at dksX3_init_5 19 rfl rfl)
theorem dX3_init_139 : decode cX3_init 139 = .ok (.goto (-15), 3) := dk_167 255 241 (dk_at dksX3_init_6 0 rfl rfl)
theorem dX3_init_142 : decode cX3_init 142 = .ok (.return_, 1) := dk_177 (dk_at dksX3_init_6 3 rfl rfl)
abbrev cX3_row : ByteArray := prog_14_method_5_code
def yX3_row : MethodName := ⟨RX3, "row", "(III)I"⟩
def dkwX3_row_3 : List UInt8 := [21, 4, 96, 9, 80, 132, 4, 1, 167, 255, 234, 3, 172]
abbrev dktX3_row_3 : List UInt8 := dkwX3_row_3 ++ []
def dkwX3_row_2 : List UInt8 := [180, 0, 13, 27, 29, 79, 3, 54, 4, 21, 4, 29, 162, 0, 22, 42, 180, 0, 16, 16, 60, 27, 104]
abbrev dktX3_row_2 : List UInt8 := dkwX3_row_2 ++ dktX3_row_3
def dkwX3_row_1 : List UInt8 := [29, 16, 60, 164, 0, 6, 16, 254, 172, 29, 156, 0, 6, 16, 253, 172, 42, 180, 0, 7, 27, 28, 79, 42]
abbrev dktX3_row_1 : List UInt8 := dkwX3_row_1 ++ dktX3_row_2
def dkwX3_row_0 : List UInt8 := [42, 3, 181, 0, 59, 27, 184, 0, 68, 153, 0, 21, 28, 133, 9, 20, 0, 62, 184, 0, 64, 153, 0, 9]
abbrev dktX3_row_0 : List UInt8 := dkwX3_row_0 ++ dktX3_row_1
theorem dksX3_row_0 : cX3_row.data.toList.drop 0 = dktX3_row_0 := by decide +kernel
theorem dksX3_row_1 : cX3_row.data.toList.drop 24 = dktX3_row_1 := dk_seg dksX3_row_0 24 rfl rfl
theorem dksX3_row_2 : cX3_row.data.toList.drop 48 = dktX3_row_2 := dk_seg dksX3_row_1 24 rfl rfl
theorem dksX3_row_3 : cX3_row.data.toList.drop 71 = dktX3_row_3 := dk_seg dksX3_row_2 23 rfl rfl
theorem dX3_row_0 : decode cX3_row 0 = .ok (.aload_n 0, 1) := dk_42 (dk_at dksX3_row_0 0 rfl rfl)
theorem dX3_row_1 : decode cX3_row 1 = .ok (.iconst 0, 1) := dk_3 (dk_at dksX3_row_0 1 rfl rfl)
theorem dX3_row_2 : decode cX3_row 2 = .ok (.putfield 59, 3) := dk_181 0 59 (dk_at dksX3_row_0 2 rfl rfl)
theorem dX3_row_5 : decode cX3_row 5 = .ok (.iload_n 1, 1) := dk_27 (dk_at dksX3_row_0 5 rfl rfl)
theorem dX3_row_6 : decode cX3_row 6 = .ok (.invokestatic 68, 3) := dk_184 0 68 (dk_at dksX3_row_0 6 rfl rfl)
theorem dX3_row_9 : decode cX3_row 9 = .ok (.ifCond .eq 21, 3) := dk_153 0 21 (dk_at dksX3_row_0 9 rfl rfl)
theorem dX3_row_12 : decode cX3_row 12 = .ok (.iload_n 2, 1) := dk_28 (dk_at dksX3_row_0 12 rfl rfl)
theorem dX3_row_13 : decode cX3_row 13 = .ok (.i2l, 1) := dk_133 (dk_at dksX3_row_0 13 rfl rfl)
theorem dX3_row_14 : decode cX3_row 14 = .ok (.lconst 0, 1) := dk_9 (dk_at dksX3_row_0 14 rfl rfl)
theorem dX3_row_15 : decode cX3_row 15 = .ok (.ldc2_w 62, 3) := dk_20 0 62 (dk_at dksX3_row_0 15 rfl rfl)
theorem dX3_row_18 : decode cX3_row 18 = .ok (.invokestatic 64, 3) := dk_184 0 64 (dk_at dksX3_row_0 18 rfl rfl)
theorem dX3_row_21 : decode cX3_row 21 = .ok (.ifCond .eq 9, 3) := dk_153 0 9 (dk_at dksX3_row_0 21 rfl rfl)
theorem dX3_row_24 : decode cX3_row 24 = .ok (.iload_n 3, 1) := dk_29 (dk_at dksX3_row_1 0 rfl rfl)
theorem dX3_row_25 : decode cX3_row 25 = .ok (.bipush 60, 2) := dk_16 60 (dk_at dksX3_row_1 1 rfl rfl)
theorem dX3_row_27 : decode cX3_row 27 = .ok (.if_icmp .le 6, 3) := dk_164 0 6 (dk_at dksX3_row_1 3 rfl rfl)
theorem dX3_row_30 : decode cX3_row 30 = .ok (.bipush (-2), 2) := dk_16 254 (dk_at dksX3_row_1 6 rfl rfl)
theorem dX3_row_32 : decode cX3_row 32 = .ok (.ireturn, 1) := dk_172 (dk_at dksX3_row_1 8 rfl rfl)
theorem dX3_row_33 : decode cX3_row 33 = .ok (.iload_n 3, 1) := dk_29 (dk_at dksX3_row_1 9 rfl rfl)
theorem dX3_row_34 : decode cX3_row 34 = .ok (.ifCond .ge 6, 3) := dk_156 0 6 (dk_at dksX3_row_1 10 rfl rfl)
theorem dX3_row_37 : decode cX3_row 37 = .ok (.bipush (-3), 2) := dk_16 253 (dk_at dksX3_row_1 13 rfl rfl)
theorem dX3_row_39 : decode cX3_row 39 = .ok (.ireturn, 1) := dk_172 (dk_at dksX3_row_1 15 rfl rfl)
theorem dX3_row_40 : decode cX3_row 40 = .ok (.aload_n 0, 1) := dk_42 (dk_at dksX3_row_1 16 rfl rfl)
theorem dX3_row_41 : decode cX3_row 41 = .ok (.getfield 7, 3) := dk_180 0 7 (dk_at dksX3_row_1 17 rfl rfl)
theorem dX3_row_44 : decode cX3_row 44 = .ok (.iload_n 1, 1) := dk_27 (dk_at dksX3_row_1 20 rfl rfl)
theorem dX3_row_45 : decode cX3_row 45 = .ok (.iload_n 2, 1) := dk_28 (dk_at dksX3_row_1 21 rfl rfl)
theorem dX3_row_46 : decode cX3_row 46 = .ok (.iastore, 1) := dk_79 (dk_at dksX3_row_1 22 rfl rfl)
theorem dX3_row_47 : decode cX3_row 47 = .ok (.aload_n 0, 1) := dk_42 (dk_at dksX3_row_1 23 rfl rfl)
theorem dX3_row_48 : decode cX3_row 48 = .ok (.getfield 13, 3) := dk_180 0 13 (dk_at dksX3_row_2 0 rfl rfl)
theorem dX3_row_51 : decode cX3_row 51 = .ok (.iload_n 1, 1) := dk_27 (dk_at dksX3_row_2 3 rfl rfl)
theorem dX3_row_52 : decode cX3_row 52 = .ok (.iload_n 3, 1) := dk_29 (dk_at dksX3_row_2 4 rfl rfl)
theorem dX3_row_53 : decode cX3_row 53 = .ok (.iastore, 1) := dk_79 (dk_at dksX3_row_2 5 rfl rfl)
theorem dX3_row_54 : decode cX3_row 54 = .ok (.iconst 0, 1) := dk_3 (dk_at dksX3_row_2 6 rfl rfl)
theorem dX3_row_55 : decode cX3_row 55 = .ok (.istore 4, 2) := dk_54 4 (dk_at dksX3_row_2 7 rfl rfl)
theorem dX3_row_57 : decode cX3_row 57 = .ok (.iload 4, 2) := dk_21 4 (dk_at dksX3_row_2 9 rfl rfl)
theorem dX3_row_59 : decode cX3_row 59 = .ok (.iload_n 3, 1) := dk_29 (dk_at dksX3_row_2 11 rfl rfl)
theorem dX3_row_60 : decode cX3_row 60 = .ok (.if_icmp .ge 22, 3) := dk_162 0 22 (dk_at dksX3_row_2 12 rfl rfl)
theorem dX3_row_63 : decode cX3_row 63 = .ok (.aload_n 0, 1) := dk_42 (dk_at dksX3_row_2 15 rfl rfl)
theorem dX3_row_64 : decode cX3_row 64 = .ok (.getfield 16, 3) := dk_180 0 16 (dk_at dksX3_row_2 16 rfl rfl)
theorem dX3_row_67 : decode cX3_row 67 = .ok (.bipush 60, 2) := dk_16 60 (dk_at dksX3_row_2 19 rfl rfl)
theorem dX3_row_69 : decode cX3_row 69 = .ok (.iload_n 1, 1) := dk_27 (dk_at dksX3_row_2 21 rfl rfl)
theorem dX3_row_70 : decode cX3_row 70 = .ok (.imul, 1) := dk_104 (dk_at dksX3_row_2 22 rfl rfl)
theorem dX3_row_71 : decode cX3_row 71 = .ok (.iload 4, 2) := dk_21 4 (dk_at dksX3_row_3 0 rfl rfl)
theorem dX3_row_73 : decode cX3_row 73 = .ok (.iadd, 1) := dk_96 (dk_at dksX3_row_3 2 rfl rfl)
theorem dX3_row_74 : decode cX3_row 74 = .ok (.lconst 0, 1) := dk_9 (dk_at dksX3_row_3 3 rfl rfl)
theorem dX3_row_75 : decode cX3_row 75 = .ok (.lastore, 1) := dk_80 (dk_at dksX3_row_3 4 rfl rfl)
theorem dX3_row_76 : decode cX3_row 76 = .ok (.iinc 4 1, 3) := dk_132 4 1 (dk_at dksX3_row_3 5 rfl rfl)
theorem dX3_row_79 : decode cX3_row 79 = .ok (.goto (-22), 3) := dk_167 255 234 (dk_at dksX3_row_3 8 rfl rfl)
theorem dX3_row_82 : decode cX3_row 82 = .ok (.iconst 0, 1) := dk_3 (dk_at dksX3_row_3 11 rfl rfl)
theorem dX3_row_83 : decode cX3_row 83 = .ok (.ireturn, 1) := dk_172 (dk_at dksX3_row_3 12 rfl rfl)
abbrev cX3_isSlot : ByteArray := prog_14_method_4_code
def yX3_isSlot : MethodName := ⟨RX3, "isSlot", "(I)Z"⟩
def dkwX3_isSlot_0 : List UInt8 := [26, 133, 9, 20, 0, 62, 184, 0, 64, 172]
abbrev dktX3_isSlot_0 : List UInt8 := dkwX3_isSlot_0 ++ []
theorem dksX3_isSlot_0 : cX3_isSlot.data.toList.drop 0 = dktX3_isSlot_0 := by decide +kernel
theorem dX3_isSlot_0 : decode cX3_isSlot 0 = .ok (.iload_n 0, 1) := dk_26 (dk_at dksX3_isSlot_0 0 rfl rfl)
theorem dX3_isSlot_1 : decode cX3_isSlot 1 = .ok (.i2l, 1) := dk_133 (dk_at dksX3_isSlot_0 1 rfl rfl)
theorem dX3_isSlot_2 : decode cX3_isSlot 2 = .ok (.lconst 0, 1) := dk_9 (dk_at dksX3_isSlot_0 2 rfl rfl)
theorem dX3_isSlot_3 : decode cX3_isSlot 3 = .ok (.ldc2_w 62, 3) := dk_20 0 62 (dk_at dksX3_isSlot_0 3 rfl rfl)
theorem dX3_isSlot_6 : decode cX3_isSlot 6 = .ok (.invokestatic 64, 3) := dk_184 0 64 (dk_at dksX3_isSlot_0 6 rfl rfl)
theorem dX3_isSlot_9 : decode cX3_isSlot 9 = .ok (.ireturn, 1) := dk_172 (dk_at dksX3_isSlot_0 9 rfl rfl)
abbrev cX3_in : ByteArray := prog_14_method_3_code
def yX3_in : MethodName := ⟨RX3, "in", "(JJJ)Z"⟩
def dkwX3_in_0 : List UInt8 := [30, 32, 148, 155, 0, 14, 30, 22, 4, 148, 157, 0, 7, 4, 167, 0, 4, 3, 172]
abbrev dktX3_in_0 : List UInt8 := dkwX3_in_0 ++ []
theorem dksX3_in_0 : cX3_in.data.toList.drop 0 = dktX3_in_0 := by decide +kernel
theorem dX3_in_0 : decode cX3_in 0 = .ok (.lload_n 0, 1) := dk_30 (dk_at dksX3_in_0 0 rfl rfl)
theorem dX3_in_1 : decode cX3_in 1 = .ok (.lload_n 2, 1) := dk_32 (dk_at dksX3_in_0 1 rfl rfl)
theorem dX3_in_2 : decode cX3_in 2 = .ok (.lcmp, 1) := dk_148 (dk_at dksX3_in_0 2 rfl rfl)
theorem dX3_in_3 : decode cX3_in 3 = .ok (.ifCond .lt 14, 3) := dk_155 0 14 (dk_at dksX3_in_0 3 rfl rfl)
theorem dX3_in_6 : decode cX3_in 6 = .ok (.lload_n 0, 1) := dk_30 (dk_at dksX3_in_0 6 rfl rfl)
theorem dX3_in_7 : decode cX3_in 7 = .ok (.lload 4, 2) := dk_22 4 (dk_at dksX3_in_0 7 rfl rfl)
theorem dX3_in_9 : decode cX3_in 9 = .ok (.lcmp, 1) := dk_148 (dk_at dksX3_in_0 9 rfl rfl)
theorem dX3_in_10 : decode cX3_in 10 = .ok (.ifCond .gt 7, 3) := dk_157 0 7 (dk_at dksX3_in_0 10 rfl rfl)
theorem dX3_in_13 : decode cX3_in 13 = .ok (.iconst 1, 1) := dk_4 (dk_at dksX3_in_0 13 rfl rfl)
theorem dX3_in_14 : decode cX3_in 14 = .ok (.goto 4, 3) := dk_167 0 4 (dk_at dksX3_in_0 14 rfl rfl)
theorem dX3_in_17 : decode cX3_in 17 = .ok (.iconst 0, 1) := dk_3 (dk_at dksX3_in_0 17 rfl rfl)
theorem dX3_in_18 : decode cX3_in 18 = .ok (.ireturn, 1) := dk_172 (dk_at dksX3_in_0 18 rfl rfl)
abbrev cX3_write : ByteArray := prog_14_method_7_code
def yX3_write : MethodName := ⟨RX3, "write", "(IIJ)I"⟩
def dkwX3_write_3 : List UInt8 := [3, 172]
abbrev dktX3_write_3 : List UInt8 := dkwX3_write_3 ++ []
def dkwX3_write_2 : List UInt8 := [16, 249, 172, 42, 180, 0, 16, 16, 60, 27, 104, 28, 96, 33, 42, 180, 0, 7, 27, 46, 184, 0, 72, 80]
abbrev dktX3_write_2 : List UInt8 := dkwX3_write_2 ++ dktX3_write_3
def dkwX3_write_1 : List UInt8 := [160, 0, 6, 16, 250, 172, 28, 133, 9, 42, 180, 0, 13, 27, 46, 4, 100, 133, 184, 0, 64, 154, 0, 6]
abbrev dktX3_write_1 : List UInt8 := dkwX3_write_1 ++ dktX3_write_2
def dkwX3_write_0 : List UInt8 := [42, 3, 181, 0, 59, 27, 184, 0, 68, 154, 0, 6, 16, 254, 172, 42, 180, 0, 7, 27, 46, 2]
abbrev dktX3_write_0 : List UInt8 := dkwX3_write_0 ++ dktX3_write_1
theorem dksX3_write_0 : cX3_write.data.toList.drop 0 = dktX3_write_0 := by decide +kernel
theorem dksX3_write_1 : cX3_write.data.toList.drop 22 = dktX3_write_1 := dk_seg dksX3_write_0 22 rfl rfl
theorem dksX3_write_2 : cX3_write.data.toList.drop 46 = dktX3_write_2 := dk_seg dksX3_write_1 24 rfl rfl
theorem dksX3_write_3 : cX3_write.data.toList.drop 70 = dktX3_write_3 := dk_seg dksX3_write_2 24 rfl rfl
theorem dX3_write_0 : decode cX3_write 0 = .ok (.aload_n 0, 1) := dk_42 (dk_at dksX3_write_0 0 rfl rfl)
theorem dX3_write_1 : decode cX3_write 1 = .ok (.iconst 0, 1) := dk_3 (dk_at dksX3_write_0 1 rfl rfl)
theorem dX3_write_2 : decode cX3_write 2 = .ok (.putfield 59, 3) := dk_181 0 59 (dk_at dksX3_write_0 2 rfl rfl)
theorem dX3_write_5 : decode cX3_write 5 = .ok (.iload_n 1, 1) := dk_27 (dk_at dksX3_write_0 5 rfl rfl)
theorem dX3_write_6 : decode cX3_write 6 = .ok (.invokestatic 68, 3) := dk_184 0 68 (dk_at dksX3_write_0 6 rfl rfl)
theorem dX3_write_9 : decode cX3_write 9 = .ok (.ifCond .ne 6, 3) := dk_154 0 6 (dk_at dksX3_write_0 9 rfl rfl)
theorem dX3_write_12 : decode cX3_write 12 = .ok (.bipush (-2), 2) := dk_16 254 (dk_at dksX3_write_0 12 rfl rfl)
theorem dX3_write_14 : decode cX3_write 14 = .ok (.ireturn, 1) := dk_172 (dk_at dksX3_write_0 14 rfl rfl)
theorem dX3_write_15 : decode cX3_write 15 = .ok (.aload_n 0, 1) := dk_42 (dk_at dksX3_write_0 15 rfl rfl)
theorem dX3_write_16 : decode cX3_write 16 = .ok (.getfield 7, 3) := dk_180 0 7 (dk_at dksX3_write_0 16 rfl rfl)
theorem dX3_write_19 : decode cX3_write 19 = .ok (.iload_n 1, 1) := dk_27 (dk_at dksX3_write_0 19 rfl rfl)
theorem dX3_write_20 : decode cX3_write 20 = .ok (.iaload, 1) := dk_46 (dk_at dksX3_write_0 20 rfl rfl)
theorem dX3_write_21 : decode cX3_write 21 = .ok (.iconst (-1), 1) := dk_2 (dk_at dksX3_write_0 21 rfl rfl)
theorem dX3_write_22 : decode cX3_write 22 = .ok (.if_icmp .ne 6, 3) := dk_160 0 6 (dk_at dksX3_write_1 0 rfl rfl)
theorem dX3_write_25 : decode cX3_write 25 = .ok (.bipush (-6), 2) := dk_16 250 (dk_at dksX3_write_1 3 rfl rfl)
theorem dX3_write_27 : decode cX3_write 27 = .ok (.ireturn, 1) := dk_172 (dk_at dksX3_write_1 5 rfl rfl)
theorem dX3_write_28 : decode cX3_write 28 = .ok (.iload_n 2, 1) := dk_28 (dk_at dksX3_write_1 6 rfl rfl)
theorem dX3_write_29 : decode cX3_write 29 = .ok (.i2l, 1) := dk_133 (dk_at dksX3_write_1 7 rfl rfl)
theorem dX3_write_30 : decode cX3_write 30 = .ok (.lconst 0, 1) := dk_9 (dk_at dksX3_write_1 8 rfl rfl)
theorem dX3_write_31 : decode cX3_write 31 = .ok (.aload_n 0, 1) := dk_42 (dk_at dksX3_write_1 9 rfl rfl)
theorem dX3_write_32 : decode cX3_write 32 = .ok (.getfield 13, 3) := dk_180 0 13 (dk_at dksX3_write_1 10 rfl rfl)
theorem dX3_write_35 : decode cX3_write 35 = .ok (.iload_n 1, 1) := dk_27 (dk_at dksX3_write_1 13 rfl rfl)
theorem dX3_write_36 : decode cX3_write 36 = .ok (.iaload, 1) := dk_46 (dk_at dksX3_write_1 14 rfl rfl)
theorem dX3_write_37 : decode cX3_write 37 = .ok (.iconst 1, 1) := dk_4 (dk_at dksX3_write_1 15 rfl rfl)
theorem dX3_write_38 : decode cX3_write 38 = .ok (.isub, 1) := dk_100 (dk_at dksX3_write_1 16 rfl rfl)
theorem dX3_write_39 : decode cX3_write 39 = .ok (.i2l, 1) := dk_133 (dk_at dksX3_write_1 17 rfl rfl)
theorem dX3_write_40 : decode cX3_write 40 = .ok (.invokestatic 64, 3) := dk_184 0 64 (dk_at dksX3_write_1 18 rfl rfl)
theorem dX3_write_43 : decode cX3_write 43 = .ok (.ifCond .ne 6, 3) := dk_154 0 6 (dk_at dksX3_write_1 21 rfl rfl)
theorem dX3_write_46 : decode cX3_write 46 = .ok (.bipush (-7), 2) := dk_16 249 (dk_at dksX3_write_2 0 rfl rfl)
theorem dX3_write_48 : decode cX3_write 48 = .ok (.ireturn, 1) := dk_172 (dk_at dksX3_write_2 2 rfl rfl)
theorem dX3_write_49 : decode cX3_write 49 = .ok (.aload_n 0, 1) := dk_42 (dk_at dksX3_write_2 3 rfl rfl)
theorem dX3_write_50 : decode cX3_write 50 = .ok (.getfield 16, 3) := dk_180 0 16 (dk_at dksX3_write_2 4 rfl rfl)
theorem dX3_write_53 : decode cX3_write 53 = .ok (.bipush 60, 2) := dk_16 60 (dk_at dksX3_write_2 7 rfl rfl)
theorem dX3_write_55 : decode cX3_write 55 = .ok (.iload_n 1, 1) := dk_27 (dk_at dksX3_write_2 9 rfl rfl)
theorem dX3_write_56 : decode cX3_write 56 = .ok (.imul, 1) := dk_104 (dk_at dksX3_write_2 10 rfl rfl)
theorem dX3_write_57 : decode cX3_write 57 = .ok (.iload_n 2, 1) := dk_28 (dk_at dksX3_write_2 11 rfl rfl)
theorem dX3_write_58 : decode cX3_write 58 = .ok (.iadd, 1) := dk_96 (dk_at dksX3_write_2 12 rfl rfl)
theorem dX3_write_59 : decode cX3_write 59 = .ok (.lload_n 3, 1) := dk_33 (dk_at dksX3_write_2 13 rfl rfl)
theorem dX3_write_60 : decode cX3_write 60 = .ok (.aload_n 0, 1) := dk_42 (dk_at dksX3_write_2 14 rfl rfl)
theorem dX3_write_61 : decode cX3_write 61 = .ok (.getfield 7, 3) := dk_180 0 7 (dk_at dksX3_write_2 15 rfl rfl)
theorem dX3_write_64 : decode cX3_write 64 = .ok (.iload_n 1, 1) := dk_27 (dk_at dksX3_write_2 18 rfl rfl)
theorem dX3_write_65 : decode cX3_write 65 = .ok (.iaload, 1) := dk_46 (dk_at dksX3_write_2 19 rfl rfl)
theorem dX3_write_66 : decode cX3_write 66 = .ok (.invokestatic 72, 3) := dk_184 0 72 (dk_at dksX3_write_2 20 rfl rfl)
theorem dX3_write_69 : decode cX3_write 69 = .ok (.lastore, 1) := dk_80 (dk_at dksX3_write_2 23 rfl rfl)
theorem dX3_write_70 : decode cX3_write 70 = .ok (.iconst 0, 1) := dk_3 (dk_at dksX3_write_3 0 rfl rfl)
theorem dX3_write_71 : decode cX3_write 71 = .ok (.ireturn, 1) := dk_172 (dk_at dksX3_write_3 1 rfl rfl)
abbrev cX3_cut : ByteArray := prog_14_method_6_code
def yX3_cut : MethodName := ⟨RX3, "cut", "(JI)J"⟩
def dkwX3_cut_1 : List UInt8 := [5, 160, 0, 9, 30, 136, 133, 167, 0, 4, 30, 173]
abbrev dktX3_cut_1 : List UInt8 := dkwX3_cut_1 ++ []
def dkwX3_cut_0 : List UInt8 := [28, 154, 0, 10, 30, 136, 145, 133, 167, 0, 27, 28, 4, 160, 0, 10, 30, 136, 147, 133, 167, 0, 15, 28]
abbrev dktX3_cut_0 : List UInt8 := dkwX3_cut_0 ++ dktX3_cut_1
theorem dksX3_cut_0 : cX3_cut.data.toList.drop 0 = dktX3_cut_0 := by decide +kernel
theorem dksX3_cut_1 : cX3_cut.data.toList.drop 24 = dktX3_cut_1 := dk_seg dksX3_cut_0 24 rfl rfl
theorem dX3_cut_0 : decode cX3_cut 0 = .ok (.iload_n 2, 1) := dk_28 (dk_at dksX3_cut_0 0 rfl rfl)
theorem dX3_cut_1 : decode cX3_cut 1 = .ok (.ifCond .ne 10, 3) := dk_154 0 10 (dk_at dksX3_cut_0 1 rfl rfl)
theorem dX3_cut_4 : decode cX3_cut 4 = .ok (.lload_n 0, 1) := dk_30 (dk_at dksX3_cut_0 4 rfl rfl)
theorem dX3_cut_5 : decode cX3_cut 5 = .ok (.l2i, 1) := dk_136 (dk_at dksX3_cut_0 5 rfl rfl)
theorem dX3_cut_6 : decode cX3_cut 6 = .ok (.i2b, 1) := dk_145 (dk_at dksX3_cut_0 6 rfl rfl)
theorem dX3_cut_7 : decode cX3_cut 7 = .ok (.i2l, 1) := dk_133 (dk_at dksX3_cut_0 7 rfl rfl)
theorem dX3_cut_8 : decode cX3_cut 8 = .ok (.goto 27, 3) := dk_167 0 27 (dk_at dksX3_cut_0 8 rfl rfl)
theorem dX3_cut_11 : decode cX3_cut 11 = .ok (.iload_n 2, 1) := dk_28 (dk_at dksX3_cut_0 11 rfl rfl)
theorem dX3_cut_12 : decode cX3_cut 12 = .ok (.iconst 1, 1) := dk_4 (dk_at dksX3_cut_0 12 rfl rfl)
theorem dX3_cut_13 : decode cX3_cut 13 = .ok (.if_icmp .ne 10, 3) := dk_160 0 10 (dk_at dksX3_cut_0 13 rfl rfl)
theorem dX3_cut_16 : decode cX3_cut 16 = .ok (.lload_n 0, 1) := dk_30 (dk_at dksX3_cut_0 16 rfl rfl)
theorem dX3_cut_17 : decode cX3_cut 17 = .ok (.l2i, 1) := dk_136 (dk_at dksX3_cut_0 17 rfl rfl)
theorem dX3_cut_18 : decode cX3_cut 18 = .ok (.i2s, 1) := dk_147 (dk_at dksX3_cut_0 18 rfl rfl)
theorem dX3_cut_19 : decode cX3_cut 19 = .ok (.i2l, 1) := dk_133 (dk_at dksX3_cut_0 19 rfl rfl)
theorem dX3_cut_20 : decode cX3_cut 20 = .ok (.goto 15, 3) := dk_167 0 15 (dk_at dksX3_cut_0 20 rfl rfl)
theorem dX3_cut_23 : decode cX3_cut 23 = .ok (.iload_n 2, 1) := dk_28 (dk_at dksX3_cut_0 23 rfl rfl)
theorem dX3_cut_24 : decode cX3_cut 24 = .ok (.iconst 2, 1) := dk_5 (dk_at dksX3_cut_1 0 rfl rfl)
theorem dX3_cut_25 : decode cX3_cut 25 = .ok (.if_icmp .ne 9, 3) := dk_160 0 9 (dk_at dksX3_cut_1 1 rfl rfl)
theorem dX3_cut_28 : decode cX3_cut 28 = .ok (.lload_n 0, 1) := dk_30 (dk_at dksX3_cut_1 4 rfl rfl)
theorem dX3_cut_29 : decode cX3_cut 29 = .ok (.l2i, 1) := dk_136 (dk_at dksX3_cut_1 5 rfl rfl)
theorem dX3_cut_30 : decode cX3_cut 30 = .ok (.i2l, 1) := dk_133 (dk_at dksX3_cut_1 6 rfl rfl)
theorem dX3_cut_31 : decode cX3_cut 31 = .ok (.goto 4, 3) := dk_167 0 4 (dk_at dksX3_cut_1 7 rfl rfl)
theorem dX3_cut_34 : decode cX3_cut 34 = .ok (.lload_n 0, 1) := dk_30 (dk_at dksX3_cut_1 10 rfl rfl)
theorem dX3_cut_35 : decode cX3_cut 35 = .ok (.lreturn, 1) := dk_173 (dk_at dksX3_cut_1 11 rfl rfl)
abbrev cX3_paste : ByteArray := prog_14_method_8_code
def yX3_paste : MethodName := ⟨RX3, "paste", "(IIIII)I"⟩
def dkwX3_paste_8 : List UInt8 := [167, 255, 224, 3, 172]
abbrev dktX3_paste_8 : List UInt8 := dkwX3_paste_8 ++ []
def dkwX3_paste_7 : List UInt8 := [180, 0, 16, 16, 60, 29, 104, 21, 4, 96, 21, 6, 96, 42, 180, 0, 20, 21, 6, 47, 80, 132, 6, 1]
abbrev dktX3_paste_7 : List UInt8 := dkwX3_paste_7 ++ dktX3_paste_8
def dkwX3_paste_6 : List UInt8 := [28, 96, 21, 6, 96, 47, 80, 132, 6, 1, 167, 255, 225, 3, 54, 6, 21, 6, 21, 5, 162, 0, 31, 42]
abbrev dktX3_paste_6 : List UInt8 := dkwX3_paste_6 ++ dktX3_paste_7
def dkwX3_paste_5 : List UInt8 := [3, 54, 6, 21, 6, 21, 5, 162, 0, 30, 42, 180, 0, 20, 21, 6, 42, 180, 0, 16, 16, 60, 27, 104]
abbrev dktX3_paste_5 : List UInt8 := dkwX3_paste_5 ++ dktX3_paste_6
def dkwX3_paste_4 : List UInt8 := [157, 0, 21, 21, 4, 133, 21, 5, 133, 97, 42, 180, 0, 13, 29, 46, 133, 148, 158, 0, 6, 16, 249, 172]
abbrev dktX3_paste_4 : List UInt8 := dkwX3_paste_4 ++ dktX3_paste_5
def dkwX3_paste_3 : List UInt8 := [155, 0, 43, 21, 5, 155, 0, 38, 28, 133, 21, 5, 133, 97, 42, 180, 0, 13, 27, 46, 133, 148]
abbrev dktX3_paste_3 : List UInt8 := dkwX3_paste_3 ++ dktX3_paste_4
def dkwX3_paste_2 : List UInt8 := [180, 0, 7, 27, 46, 42, 180, 0, 7, 29, 46, 159, 0, 6, 16, 248, 172, 28, 155, 0, 48, 21, 4]
abbrev dktX3_paste_2 : List UInt8 := dkwX3_paste_2 ++ dktX3_paste_3
def dkwX3_paste_1 : List UInt8 := [180, 0, 7, 27, 46, 2, 159, 0, 13, 42, 180, 0, 7, 29, 46, 2, 160, 0, 6, 16, 250, 172, 42]
abbrev dktX3_paste_1 : List UInt8 := dkwX3_paste_1 ++ dktX3_paste_2
def dkwX3_paste_0 : List UInt8 := [42, 3, 181, 0, 59, 27, 184, 0, 68, 153, 0, 10, 29, 184, 0, 68, 154, 0, 6, 16, 254, 172, 42]
abbrev dktX3_paste_0 : List UInt8 := dkwX3_paste_0 ++ dktX3_paste_1
theorem dksX3_paste_0 : cX3_paste.data.toList.drop 0 = dktX3_paste_0 := by decide +kernel
theorem dksX3_paste_1 : cX3_paste.data.toList.drop 23 = dktX3_paste_1 := dk_seg dksX3_paste_0 23 rfl rfl
theorem dksX3_paste_2 : cX3_paste.data.toList.drop 46 = dktX3_paste_2 := dk_seg dksX3_paste_1 23 rfl rfl
theorem dksX3_paste_3 : cX3_paste.data.toList.drop 69 = dktX3_paste_3 := dk_seg dksX3_paste_2 23 rfl rfl
theorem dksX3_paste_4 : cX3_paste.data.toList.drop 91 = dktX3_paste_4 := dk_seg dksX3_paste_3 22 rfl rfl
theorem dksX3_paste_5 : cX3_paste.data.toList.drop 115 = dktX3_paste_5 := dk_seg dksX3_paste_4 24 rfl rfl
theorem dksX3_paste_6 : cX3_paste.data.toList.drop 139 = dktX3_paste_6 := dk_seg dksX3_paste_5 24 rfl rfl
theorem dksX3_paste_7 : cX3_paste.data.toList.drop 163 = dktX3_paste_7 := dk_seg dksX3_paste_6 24 rfl rfl
theorem dksX3_paste_8 : cX3_paste.data.toList.drop 187 = dktX3_paste_8 := dk_seg dksX3_paste_7 24 rfl rfl
theorem dX3_paste_0 : decode cX3_paste 0 = .ok (.aload_n 0, 1) := dk_42 (dk_at dksX3_paste_0 0 rfl rfl)
theorem dX3_paste_1 : decode cX3_paste 1 = .ok (.iconst 0, 1) := dk_3 (dk_at dksX3_paste_0 1 rfl rfl)
theorem dX3_paste_2 : decode cX3_paste 2 = .ok (.putfield 59, 3) := dk_181 0 59 (dk_at dksX3_paste_0 2 rfl rfl)
theorem dX3_paste_5 : decode cX3_paste 5 = .ok (.iload_n 1, 1) := dk_27 (dk_at dksX3_paste_0 5 rfl rfl)
theorem dX3_paste_6 : decode cX3_paste 6 = .ok (.invokestatic 68, 3) := dk_184 0 68 (dk_at dksX3_paste_0 6 rfl rfl)
theorem dX3_paste_9 : decode cX3_paste 9 = .ok (.ifCond .eq 10, 3) := dk_153 0 10 (dk_at dksX3_paste_0 9 rfl rfl)
theorem dX3_paste_12 : decode cX3_paste 12 = .ok (.iload_n 3, 1) := dk_29 (dk_at dksX3_paste_0 12 rfl rfl)
theorem dX3_paste_13 : decode cX3_paste 13 = .ok (.invokestatic 68, 3) := dk_184 0 68 (dk_at dksX3_paste_0 13 rfl rfl)
theorem dX3_paste_16 : decode cX3_paste 16 = .ok (.ifCond .ne 6, 3) := dk_154 0 6 (dk_at dksX3_paste_0 16 rfl rfl)
theorem dX3_paste_19 : decode cX3_paste 19 = .ok (.bipush (-2), 2) := dk_16 254 (dk_at dksX3_paste_0 19 rfl rfl)
theorem dX3_paste_21 : decode cX3_paste 21 = .ok (.ireturn, 1) := dk_172 (dk_at dksX3_paste_0 21 rfl rfl)
theorem dX3_paste_22 : decode cX3_paste 22 = .ok (.aload_n 0, 1) := dk_42 (dk_at dksX3_paste_0 22 rfl rfl)
theorem dX3_paste_23 : decode cX3_paste 23 = .ok (.getfield 7, 3) := dk_180 0 7 (dk_at dksX3_paste_1 0 rfl rfl)
theorem dX3_paste_26 : decode cX3_paste 26 = .ok (.iload_n 1, 1) := dk_27 (dk_at dksX3_paste_1 3 rfl rfl)
theorem dX3_paste_27 : decode cX3_paste 27 = .ok (.iaload, 1) := dk_46 (dk_at dksX3_paste_1 4 rfl rfl)
theorem dX3_paste_28 : decode cX3_paste 28 = .ok (.iconst (-1), 1) := dk_2 (dk_at dksX3_paste_1 5 rfl rfl)
theorem dX3_paste_29 : decode cX3_paste 29 = .ok (.if_icmp .eq 13, 3) := dk_159 0 13 (dk_at dksX3_paste_1 6 rfl rfl)
theorem dX3_paste_32 : decode cX3_paste 32 = .ok (.aload_n 0, 1) := dk_42 (dk_at dksX3_paste_1 9 rfl rfl)
theorem dX3_paste_33 : decode cX3_paste 33 = .ok (.getfield 7, 3) := dk_180 0 7 (dk_at dksX3_paste_1 10 rfl rfl)
theorem dX3_paste_36 : decode cX3_paste 36 = .ok (.iload_n 3, 1) := dk_29 (dk_at dksX3_paste_1 13 rfl rfl)
theorem dX3_paste_37 : decode cX3_paste 37 = .ok (.iaload, 1) := dk_46 (dk_at dksX3_paste_1 14 rfl rfl)
theorem dX3_paste_38 : decode cX3_paste 38 = .ok (.iconst (-1), 1) := dk_2 (dk_at dksX3_paste_1 15 rfl rfl)
theorem dX3_paste_39 : decode cX3_paste 39 = .ok (.if_icmp .ne 6, 3) := dk_160 0 6 (dk_at dksX3_paste_1 16 rfl rfl)
theorem dX3_paste_42 : decode cX3_paste 42 = .ok (.bipush (-6), 2) := dk_16 250 (dk_at dksX3_paste_1 19 rfl rfl)
theorem dX3_paste_44 : decode cX3_paste 44 = .ok (.ireturn, 1) := dk_172 (dk_at dksX3_paste_1 21 rfl rfl)
theorem dX3_paste_45 : decode cX3_paste 45 = .ok (.aload_n 0, 1) := dk_42 (dk_at dksX3_paste_1 22 rfl rfl)
theorem dX3_paste_46 : decode cX3_paste 46 = .ok (.getfield 7, 3) := dk_180 0 7 (dk_at dksX3_paste_2 0 rfl rfl)
theorem dX3_paste_49 : decode cX3_paste 49 = .ok (.iload_n 1, 1) := dk_27 (dk_at dksX3_paste_2 3 rfl rfl)
theorem dX3_paste_50 : decode cX3_paste 50 = .ok (.iaload, 1) := dk_46 (dk_at dksX3_paste_2 4 rfl rfl)
theorem dX3_paste_51 : decode cX3_paste 51 = .ok (.aload_n 0, 1) := dk_42 (dk_at dksX3_paste_2 5 rfl rfl)
theorem dX3_paste_52 : decode cX3_paste 52 = .ok (.getfield 7, 3) := dk_180 0 7 (dk_at dksX3_paste_2 6 rfl rfl)
theorem dX3_paste_55 : decode cX3_paste 55 = .ok (.iload_n 3, 1) := dk_29 (dk_at dksX3_paste_2 9 rfl rfl)
theorem dX3_paste_56 : decode cX3_paste 56 = .ok (.iaload, 1) := dk_46 (dk_at dksX3_paste_2 10 rfl rfl)
theorem dX3_paste_57 : decode cX3_paste 57 = .ok (.if_icmp .eq 6, 3) := dk_159 0 6 (dk_at dksX3_paste_2 11 rfl rfl)
theorem dX3_paste_60 : decode cX3_paste 60 = .ok (.bipush (-8), 2) := dk_16 248 (dk_at dksX3_paste_2 14 rfl rfl)
theorem dX3_paste_62 : decode cX3_paste 62 = .ok (.ireturn, 1) := dk_172 (dk_at dksX3_paste_2 16 rfl rfl)
theorem dX3_paste_63 : decode cX3_paste 63 = .ok (.iload_n 2, 1) := dk_28 (dk_at dksX3_paste_2 17 rfl rfl)
theorem dX3_paste_64 : decode cX3_paste 64 = .ok (.ifCond .lt 48, 3) := dk_155 0 48 (dk_at dksX3_paste_2 18 rfl rfl)
theorem dX3_paste_67 : decode cX3_paste 67 = .ok (.iload 4, 2) := dk_21 4 (dk_at dksX3_paste_2 21 rfl rfl)
theorem dX3_paste_69 : decode cX3_paste 69 = .ok (.ifCond .lt 43, 3) := dk_155 0 43 (dk_at dksX3_paste_3 0 rfl rfl)
theorem dX3_paste_72 : decode cX3_paste 72 = .ok (.iload 5, 2) := dk_21 5 (dk_at dksX3_paste_3 3 rfl rfl)
theorem dX3_paste_74 : decode cX3_paste 74 = .ok (.ifCond .lt 38, 3) := dk_155 0 38 (dk_at dksX3_paste_3 5 rfl rfl)
theorem dX3_paste_77 : decode cX3_paste 77 = .ok (.iload_n 2, 1) := dk_28 (dk_at dksX3_paste_3 8 rfl rfl)
theorem dX3_paste_78 : decode cX3_paste 78 = .ok (.i2l, 1) := dk_133 (dk_at dksX3_paste_3 9 rfl rfl)
theorem dX3_paste_79 : decode cX3_paste 79 = .ok (.iload 5, 2) := dk_21 5 (dk_at dksX3_paste_3 10 rfl rfl)
theorem dX3_paste_81 : decode cX3_paste 81 = .ok (.i2l, 1) := dk_133 (dk_at dksX3_paste_3 12 rfl rfl)
theorem dX3_paste_82 : decode cX3_paste 82 = .ok (.ladd, 1) := dk_97 (dk_at dksX3_paste_3 13 rfl rfl)
theorem dX3_paste_83 : decode cX3_paste 83 = .ok (.aload_n 0, 1) := dk_42 (dk_at dksX3_paste_3 14 rfl rfl)
theorem dX3_paste_84 : decode cX3_paste 84 = .ok (.getfield 13, 3) := dk_180 0 13 (dk_at dksX3_paste_3 15 rfl rfl)
theorem dX3_paste_87 : decode cX3_paste 87 = .ok (.iload_n 1, 1) := dk_27 (dk_at dksX3_paste_3 18 rfl rfl)
theorem dX3_paste_88 : decode cX3_paste 88 = .ok (.iaload, 1) := dk_46 (dk_at dksX3_paste_3 19 rfl rfl)
theorem dX3_paste_89 : decode cX3_paste 89 = .ok (.i2l, 1) := dk_133 (dk_at dksX3_paste_3 20 rfl rfl)
theorem dX3_paste_90 : decode cX3_paste 90 = .ok (.lcmp, 1) := dk_148 (dk_at dksX3_paste_3 21 rfl rfl)
theorem dX3_paste_91 : decode cX3_paste 91 = .ok (.ifCond .gt 21, 3) := dk_157 0 21 (dk_at dksX3_paste_4 0 rfl rfl)
theorem dX3_paste_94 : decode cX3_paste 94 = .ok (.iload 4, 2) := dk_21 4 (dk_at dksX3_paste_4 3 rfl rfl)
theorem dX3_paste_96 : decode cX3_paste 96 = .ok (.i2l, 1) := dk_133 (dk_at dksX3_paste_4 5 rfl rfl)
theorem dX3_paste_97 : decode cX3_paste 97 = .ok (.iload 5, 2) := dk_21 5 (dk_at dksX3_paste_4 6 rfl rfl)
theorem dX3_paste_99 : decode cX3_paste 99 = .ok (.i2l, 1) := dk_133 (dk_at dksX3_paste_4 8 rfl rfl)
theorem dX3_paste_100 : decode cX3_paste 100 = .ok (.ladd, 1) := dk_97 (dk_at dksX3_paste_4 9 rfl rfl)
theorem dX3_paste_101 : decode cX3_paste 101 = .ok (.aload_n 0, 1) := dk_42 (dk_at dksX3_paste_4 10 rfl rfl)
theorem dX3_paste_102 : decode cX3_paste 102 = .ok (.getfield 13, 3) := dk_180 0 13 (dk_at dksX3_paste_4 11 rfl rfl)
theorem dX3_paste_105 : decode cX3_paste 105 = .ok (.iload_n 3, 1) := dk_29 (dk_at dksX3_paste_4 14 rfl rfl)
theorem dX3_paste_106 : decode cX3_paste 106 = .ok (.iaload, 1) := dk_46 (dk_at dksX3_paste_4 15 rfl rfl)
theorem dX3_paste_107 : decode cX3_paste 107 = .ok (.i2l, 1) := dk_133 (dk_at dksX3_paste_4 16 rfl rfl)
theorem dX3_paste_108 : decode cX3_paste 108 = .ok (.lcmp, 1) := dk_148 (dk_at dksX3_paste_4 17 rfl rfl)
theorem dX3_paste_109 : decode cX3_paste 109 = .ok (.ifCond .le 6, 3) := dk_158 0 6 (dk_at dksX3_paste_4 18 rfl rfl)
theorem dX3_paste_112 : decode cX3_paste 112 = .ok (.bipush (-7), 2) := dk_16 249 (dk_at dksX3_paste_4 21 rfl rfl)
theorem dX3_paste_114 : decode cX3_paste 114 = .ok (.ireturn, 1) := dk_172 (dk_at dksX3_paste_4 23 rfl rfl)
theorem dX3_paste_115 : decode cX3_paste 115 = .ok (.iconst 0, 1) := dk_3 (dk_at dksX3_paste_5 0 rfl rfl)
theorem dX3_paste_116 : decode cX3_paste 116 = .ok (.istore 6, 2) := dk_54 6 (dk_at dksX3_paste_5 1 rfl rfl)
theorem dX3_paste_118 : decode cX3_paste 118 = .ok (.iload 6, 2) := dk_21 6 (dk_at dksX3_paste_5 3 rfl rfl)
theorem dX3_paste_120 : decode cX3_paste 120 = .ok (.iload 5, 2) := dk_21 5 (dk_at dksX3_paste_5 5 rfl rfl)
theorem dX3_paste_122 : decode cX3_paste 122 = .ok (.if_icmp .ge 30, 3) := dk_162 0 30 (dk_at dksX3_paste_5 7 rfl rfl)
theorem dX3_paste_125 : decode cX3_paste 125 = .ok (.aload_n 0, 1) := dk_42 (dk_at dksX3_paste_5 10 rfl rfl)
theorem dX3_paste_126 : decode cX3_paste 126 = .ok (.getfield 20, 3) := dk_180 0 20 (dk_at dksX3_paste_5 11 rfl rfl)
theorem dX3_paste_129 : decode cX3_paste 129 = .ok (.iload 6, 2) := dk_21 6 (dk_at dksX3_paste_5 14 rfl rfl)
theorem dX3_paste_131 : decode cX3_paste 131 = .ok (.aload_n 0, 1) := dk_42 (dk_at dksX3_paste_5 16 rfl rfl)
theorem dX3_paste_132 : decode cX3_paste 132 = .ok (.getfield 16, 3) := dk_180 0 16 (dk_at dksX3_paste_5 17 rfl rfl)
theorem dX3_paste_135 : decode cX3_paste 135 = .ok (.bipush 60, 2) := dk_16 60 (dk_at dksX3_paste_5 20 rfl rfl)
theorem dX3_paste_137 : decode cX3_paste 137 = .ok (.iload_n 1, 1) := dk_27 (dk_at dksX3_paste_5 22 rfl rfl)
theorem dX3_paste_138 : decode cX3_paste 138 = .ok (.imul, 1) := dk_104 (dk_at dksX3_paste_5 23 rfl rfl)
theorem dX3_paste_139 : decode cX3_paste 139 = .ok (.iload_n 2, 1) := dk_28 (dk_at dksX3_paste_6 0 rfl rfl)
theorem dX3_paste_140 : decode cX3_paste 140 = .ok (.iadd, 1) := dk_96 (dk_at dksX3_paste_6 1 rfl rfl)
theorem dX3_paste_141 : decode cX3_paste 141 = .ok (.iload 6, 2) := dk_21 6 (dk_at dksX3_paste_6 2 rfl rfl)
theorem dX3_paste_143 : decode cX3_paste 143 = .ok (.iadd, 1) := dk_96 (dk_at dksX3_paste_6 4 rfl rfl)
theorem dX3_paste_144 : decode cX3_paste 144 = .ok (.laload, 1) := dk_47 (dk_at dksX3_paste_6 5 rfl rfl)
theorem dX3_paste_145 : decode cX3_paste 145 = .ok (.lastore, 1) := dk_80 (dk_at dksX3_paste_6 6 rfl rfl)
theorem dX3_paste_146 : decode cX3_paste 146 = .ok (.iinc 6 1, 3) := dk_132 6 1 (dk_at dksX3_paste_6 7 rfl rfl)
theorem dX3_paste_149 : decode cX3_paste 149 = .ok (.goto (-31), 3) := dk_167 255 225 (dk_at dksX3_paste_6 10 rfl rfl)
theorem dX3_paste_152 : decode cX3_paste 152 = .ok (.iconst 0, 1) := dk_3 (dk_at dksX3_paste_6 13 rfl rfl)
theorem dX3_paste_153 : decode cX3_paste 153 = .ok (.istore 6, 2) := dk_54 6 (dk_at dksX3_paste_6 14 rfl rfl)
theorem dX3_paste_155 : decode cX3_paste 155 = .ok (.iload 6, 2) := dk_21 6 (dk_at dksX3_paste_6 16 rfl rfl)
theorem dX3_paste_157 : decode cX3_paste 157 = .ok (.iload 5, 2) := dk_21 5 (dk_at dksX3_paste_6 18 rfl rfl)
theorem dX3_paste_159 : decode cX3_paste 159 = .ok (.if_icmp .ge 31, 3) := dk_162 0 31 (dk_at dksX3_paste_6 20 rfl rfl)
theorem dX3_paste_162 : decode cX3_paste 162 = .ok (.aload_n 0, 1) := dk_42 (dk_at dksX3_paste_6 23 rfl rfl)
theorem dX3_paste_163 : decode cX3_paste 163 = .ok (.getfield 16, 3) := dk_180 0 16 (dk_at dksX3_paste_7 0 rfl rfl)
theorem dX3_paste_166 : decode cX3_paste 166 = .ok (.bipush 60, 2) := dk_16 60 (dk_at dksX3_paste_7 3 rfl rfl)
theorem dX3_paste_168 : decode cX3_paste 168 = .ok (.iload_n 3, 1) := dk_29 (dk_at dksX3_paste_7 5 rfl rfl)
theorem dX3_paste_169 : decode cX3_paste 169 = .ok (.imul, 1) := dk_104 (dk_at dksX3_paste_7 6 rfl rfl)
theorem dX3_paste_170 : decode cX3_paste 170 = .ok (.iload 4, 2) := dk_21 4 (dk_at dksX3_paste_7 7 rfl rfl)
theorem dX3_paste_172 : decode cX3_paste 172 = .ok (.iadd, 1) := dk_96 (dk_at dksX3_paste_7 9 rfl rfl)
theorem dX3_paste_173 : decode cX3_paste 173 = .ok (.iload 6, 2) := dk_21 6 (dk_at dksX3_paste_7 10 rfl rfl)
theorem dX3_paste_175 : decode cX3_paste 175 = .ok (.iadd, 1) := dk_96 (dk_at dksX3_paste_7 12 rfl rfl)
theorem dX3_paste_176 : decode cX3_paste 176 = .ok (.aload_n 0, 1) := dk_42 (dk_at dksX3_paste_7 13 rfl rfl)
theorem dX3_paste_177 : decode cX3_paste 177 = .ok (.getfield 20, 3) := dk_180 0 20 (dk_at dksX3_paste_7 14 rfl rfl)
theorem dX3_paste_180 : decode cX3_paste 180 = .ok (.iload 6, 2) := dk_21 6 (dk_at dksX3_paste_7 17 rfl rfl)
theorem dX3_paste_182 : decode cX3_paste 182 = .ok (.laload, 1) := dk_47 (dk_at dksX3_paste_7 19 rfl rfl)
theorem dX3_paste_183 : decode cX3_paste 183 = .ok (.lastore, 1) := dk_80 (dk_at dksX3_paste_7 20 rfl rfl)
theorem dX3_paste_184 : decode cX3_paste 184 = .ok (.iinc 6 1, 3) := dk_132 6 1 (dk_at dksX3_paste_7 21 rfl rfl)
theorem dX3_paste_187 : decode cX3_paste 187 = .ok (.goto (-32), 3) := dk_167 255 224 (dk_at dksX3_paste_8 0 rfl rfl)
theorem dX3_paste_190 : decode cX3_paste 190 = .ok (.iconst 0, 1) := dk_3 (dk_at dksX3_paste_8 3 rfl rfl)
theorem dX3_paste_191 : decode cX3_paste 191 = .ok (.ireturn, 1) := dk_172 (dk_at dksX3_paste_8 4 rfl rfl)
abbrev cX3_feed : ByteArray := prog_14_method_9_code
def yX3_feed : MethodName := ⟨RX3, "feed", "(IIIII)I"⟩
def dkwX3_feed_2 : List UInt8 := [182, 0, 79, 42, 180, 0, 76, 172]
abbrev dktX3_feed_2 : List UInt8 := dkwX3_feed_2 ++ []
def dkwX3_feed_1 : List UInt8 := [182, 0, 79, 42, 28, 182, 0, 79, 42, 29, 182, 0, 79, 42, 21, 4, 182, 0, 79, 42, 21, 5]
abbrev dktX3_feed_1 : List UInt8 := dkwX3_feed_1 ++ dktX3_feed_2
def dkwX3_feed_0 : List UInt8 := [42, 3, 181, 0, 59, 42, 180, 0, 76, 16, 20, 96, 17, 3, 132, 164, 0, 5, 2, 172, 42, 27]
abbrev dktX3_feed_0 : List UInt8 := dkwX3_feed_0 ++ dktX3_feed_1
theorem dksX3_feed_0 : cX3_feed.data.toList.drop 0 = dktX3_feed_0 := by decide +kernel
theorem dksX3_feed_1 : cX3_feed.data.toList.drop 22 = dktX3_feed_1 := dk_seg dksX3_feed_0 22 rfl rfl
theorem dksX3_feed_2 : cX3_feed.data.toList.drop 44 = dktX3_feed_2 := dk_seg dksX3_feed_1 22 rfl rfl
theorem dX3_feed_0 : decode cX3_feed 0 = .ok (.aload_n 0, 1) := dk_42 (dk_at dksX3_feed_0 0 rfl rfl)
theorem dX3_feed_1 : decode cX3_feed 1 = .ok (.iconst 0, 1) := dk_3 (dk_at dksX3_feed_0 1 rfl rfl)
theorem dX3_feed_2 : decode cX3_feed 2 = .ok (.putfield 59, 3) := dk_181 0 59 (dk_at dksX3_feed_0 2 rfl rfl)
theorem dX3_feed_5 : decode cX3_feed 5 = .ok (.aload_n 0, 1) := dk_42 (dk_at dksX3_feed_0 5 rfl rfl)
theorem dX3_feed_6 : decode cX3_feed 6 = .ok (.getfield 76, 3) := dk_180 0 76 (dk_at dksX3_feed_0 6 rfl rfl)
theorem dX3_feed_9 : decode cX3_feed 9 = .ok (.bipush 20, 2) := dk_16 20 (dk_at dksX3_feed_0 9 rfl rfl)
theorem dX3_feed_11 : decode cX3_feed 11 = .ok (.iadd, 1) := dk_96 (dk_at dksX3_feed_0 11 rfl rfl)
theorem dX3_feed_12 : decode cX3_feed 12 = .ok (.sipush 900, 3) := dk_17 3 132 (dk_at dksX3_feed_0 12 rfl rfl)
theorem dX3_feed_15 : decode cX3_feed 15 = .ok (.if_icmp .le 5, 3) := dk_164 0 5 (dk_at dksX3_feed_0 15 rfl rfl)
theorem dX3_feed_18 : decode cX3_feed 18 = .ok (.iconst (-1), 1) := dk_2 (dk_at dksX3_feed_0 18 rfl rfl)
theorem dX3_feed_19 : decode cX3_feed 19 = .ok (.ireturn, 1) := dk_172 (dk_at dksX3_feed_0 19 rfl rfl)
theorem dX3_feed_20 : decode cX3_feed 20 = .ok (.aload_n 0, 1) := dk_42 (dk_at dksX3_feed_0 20 rfl rfl)
theorem dX3_feed_21 : decode cX3_feed 21 = .ok (.iload_n 1, 1) := dk_27 (dk_at dksX3_feed_0 21 rfl rfl)
theorem dX3_feed_22 : decode cX3_feed 22 = .ok (.invokevirtual 79, 3) := dk_182 0 79 (dk_at dksX3_feed_1 0 rfl rfl)
theorem dX3_feed_25 : decode cX3_feed 25 = .ok (.aload_n 0, 1) := dk_42 (dk_at dksX3_feed_1 3 rfl rfl)
theorem dX3_feed_26 : decode cX3_feed 26 = .ok (.iload_n 2, 1) := dk_28 (dk_at dksX3_feed_1 4 rfl rfl)
theorem dX3_feed_27 : decode cX3_feed 27 = .ok (.invokevirtual 79, 3) := dk_182 0 79 (dk_at dksX3_feed_1 5 rfl rfl)
theorem dX3_feed_30 : decode cX3_feed 30 = .ok (.aload_n 0, 1) := dk_42 (dk_at dksX3_feed_1 8 rfl rfl)
theorem dX3_feed_31 : decode cX3_feed 31 = .ok (.iload_n 3, 1) := dk_29 (dk_at dksX3_feed_1 9 rfl rfl)
theorem dX3_feed_32 : decode cX3_feed 32 = .ok (.invokevirtual 79, 3) := dk_182 0 79 (dk_at dksX3_feed_1 10 rfl rfl)
theorem dX3_feed_35 : decode cX3_feed 35 = .ok (.aload_n 0, 1) := dk_42 (dk_at dksX3_feed_1 13 rfl rfl)
theorem dX3_feed_36 : decode cX3_feed 36 = .ok (.iload 4, 2) := dk_21 4 (dk_at dksX3_feed_1 14 rfl rfl)
theorem dX3_feed_38 : decode cX3_feed 38 = .ok (.invokevirtual 79, 3) := dk_182 0 79 (dk_at dksX3_feed_1 16 rfl rfl)
theorem dX3_feed_41 : decode cX3_feed 41 = .ok (.aload_n 0, 1) := dk_42 (dk_at dksX3_feed_1 19 rfl rfl)
theorem dX3_feed_42 : decode cX3_feed 42 = .ok (.iload 5, 2) := dk_21 5 (dk_at dksX3_feed_1 20 rfl rfl)
theorem dX3_feed_44 : decode cX3_feed 44 = .ok (.invokevirtual 79, 3) := dk_182 0 79 (dk_at dksX3_feed_2 0 rfl rfl)
theorem dX3_feed_47 : decode cX3_feed 47 = .ok (.aload_n 0, 1) := dk_42 (dk_at dksX3_feed_2 3 rfl rfl)
theorem dX3_feed_48 : decode cX3_feed 48 = .ok (.getfield 76, 3) := dk_180 0 76 (dk_at dksX3_feed_2 4 rfl rfl)
theorem dX3_feed_51 : decode cX3_feed 51 = .ok (.ireturn, 1) := dk_172 (dk_at dksX3_feed_2 7 rfl rfl)
abbrev cX3_four : ByteArray := prog_14_method_10_code
def yX3_four : MethodName := ⟨RX3, "four", "(I)V"⟩
def dkwX3_four_1 : List UInt8 := [180, 0, 76, 4, 96, 181, 0, 76, 132, 2, 248, 167, 255, 226, 177]
abbrev dktX3_four_1 : List UInt8 := dkwX3_four_1 ++ []
def dkwX3_four_0 : List UInt8 := [16, 24, 61, 28, 155, 0, 32, 42, 180, 0, 23, 42, 180, 0, 76, 27, 28, 122, 145, 84, 42, 89]
abbrev dktX3_four_0 : List UInt8 := dkwX3_four_0 ++ dktX3_four_1
theorem dksX3_four_0 : cX3_four.data.toList.drop 0 = dktX3_four_0 := by decide +kernel
theorem dksX3_four_1 : cX3_four.data.toList.drop 22 = dktX3_four_1 := dk_seg dksX3_four_0 22 rfl rfl
theorem dX3_four_0 : decode cX3_four 0 = .ok (.bipush 24, 2) := dk_16 24 (dk_at dksX3_four_0 0 rfl rfl)
theorem dX3_four_2 : decode cX3_four 2 = .ok (.istore_n 2, 1) := dk_61 (dk_at dksX3_four_0 2 rfl rfl)
theorem dX3_four_3 : decode cX3_four 3 = .ok (.iload_n 2, 1) := dk_28 (dk_at dksX3_four_0 3 rfl rfl)
theorem dX3_four_4 : decode cX3_four 4 = .ok (.ifCond .lt 32, 3) := dk_155 0 32 (dk_at dksX3_four_0 4 rfl rfl)
theorem dX3_four_7 : decode cX3_four 7 = .ok (.aload_n 0, 1) := dk_42 (dk_at dksX3_four_0 7 rfl rfl)
theorem dX3_four_8 : decode cX3_four 8 = .ok (.getfield 23, 3) := dk_180 0 23 (dk_at dksX3_four_0 8 rfl rfl)
theorem dX3_four_11 : decode cX3_four 11 = .ok (.aload_n 0, 1) := dk_42 (dk_at dksX3_four_0 11 rfl rfl)
theorem dX3_four_12 : decode cX3_four 12 = .ok (.getfield 76, 3) := dk_180 0 76 (dk_at dksX3_four_0 12 rfl rfl)
theorem dX3_four_15 : decode cX3_four 15 = .ok (.iload_n 1, 1) := dk_27 (dk_at dksX3_four_0 15 rfl rfl)
theorem dX3_four_16 : decode cX3_four 16 = .ok (.iload_n 2, 1) := dk_28 (dk_at dksX3_four_0 16 rfl rfl)
theorem dX3_four_17 : decode cX3_four 17 = .ok (.ishr, 1) := dk_122 (dk_at dksX3_four_0 17 rfl rfl)
theorem dX3_four_18 : decode cX3_four 18 = .ok (.i2b, 1) := dk_145 (dk_at dksX3_four_0 18 rfl rfl)
theorem dX3_four_19 : decode cX3_four 19 = .ok (.bastore, 1) := dk_84 (dk_at dksX3_four_0 19 rfl rfl)
theorem dX3_four_20 : decode cX3_four 20 = .ok (.aload_n 0, 1) := dk_42 (dk_at dksX3_four_0 20 rfl rfl)
theorem dX3_four_21 : decode cX3_four 21 = .ok (.dup, 1) := dk_89 (dk_at dksX3_four_0 21 rfl rfl)
theorem dX3_four_22 : decode cX3_four 22 = .ok (.getfield 76, 3) := dk_180 0 76 (dk_at dksX3_four_1 0 rfl rfl)
theorem dX3_four_25 : decode cX3_four 25 = .ok (.iconst 1, 1) := dk_4 (dk_at dksX3_four_1 3 rfl rfl)
theorem dX3_four_26 : decode cX3_four 26 = .ok (.iadd, 1) := dk_96 (dk_at dksX3_four_1 4 rfl rfl)
theorem dX3_four_27 : decode cX3_four 27 = .ok (.putfield 76, 3) := dk_181 0 76 (dk_at dksX3_four_1 5 rfl rfl)
theorem dX3_four_30 : decode cX3_four 30 = .ok (.iinc 2 (-8), 3) := dk_132 2 248 (dk_at dksX3_four_1 8 rfl rfl)
theorem dX3_four_33 : decode cX3_four 33 = .ok (.goto (-30), 3) := dk_167 255 226 (dk_at dksX3_four_1 11 rfl rfl)
theorem dX3_four_36 : decode cX3_four 36 = .ok (.return_, 1) := dk_177 (dk_at dksX3_four_1 14 rfl rfl)
abbrev cX3_end : ByteArray := prog_14_method_11_code
def yX3_end : MethodName := ⟨RX3, "end", "(I)I"⟩
def dkwX3_end_1 : List UInt8 := [181, 0, 76, 27, 172]
abbrev dktX3_end_1 : List UInt8 := dkwX3_end_1 ++ []
def dkwX3_end_0 : List UInt8 := [42, 3, 181, 0, 59, 27, 133, 9, 42, 180, 0, 76, 133, 184, 0, 64, 154, 0, 5, 2, 172, 42, 27]
abbrev dktX3_end_0 : List UInt8 := dkwX3_end_0 ++ dktX3_end_1
theorem dksX3_end_0 : cX3_end.data.toList.drop 0 = dktX3_end_0 := by decide +kernel
theorem dksX3_end_1 : cX3_end.data.toList.drop 23 = dktX3_end_1 := dk_seg dksX3_end_0 23 rfl rfl
theorem dX3_end_0 : decode cX3_end 0 = .ok (.aload_n 0, 1) := dk_42 (dk_at dksX3_end_0 0 rfl rfl)
theorem dX3_end_1 : decode cX3_end 1 = .ok (.iconst 0, 1) := dk_3 (dk_at dksX3_end_0 1 rfl rfl)
theorem dX3_end_2 : decode cX3_end 2 = .ok (.putfield 59, 3) := dk_181 0 59 (dk_at dksX3_end_0 2 rfl rfl)
theorem dX3_end_5 : decode cX3_end 5 = .ok (.iload_n 1, 1) := dk_27 (dk_at dksX3_end_0 5 rfl rfl)
theorem dX3_end_6 : decode cX3_end 6 = .ok (.i2l, 1) := dk_133 (dk_at dksX3_end_0 6 rfl rfl)
theorem dX3_end_7 : decode cX3_end 7 = .ok (.lconst 0, 1) := dk_9 (dk_at dksX3_end_0 7 rfl rfl)
theorem dX3_end_8 : decode cX3_end 8 = .ok (.aload_n 0, 1) := dk_42 (dk_at dksX3_end_0 8 rfl rfl)
theorem dX3_end_9 : decode cX3_end 9 = .ok (.getfield 76, 3) := dk_180 0 76 (dk_at dksX3_end_0 9 rfl rfl)
theorem dX3_end_12 : decode cX3_end 12 = .ok (.i2l, 1) := dk_133 (dk_at dksX3_end_0 12 rfl rfl)
theorem dX3_end_13 : decode cX3_end 13 = .ok (.invokestatic 64, 3) := dk_184 0 64 (dk_at dksX3_end_0 13 rfl rfl)
theorem dX3_end_16 : decode cX3_end 16 = .ok (.ifCond .ne 5, 3) := dk_154 0 5 (dk_at dksX3_end_0 16 rfl rfl)
theorem dX3_end_19 : decode cX3_end 19 = .ok (.iconst (-1), 1) := dk_2 (dk_at dksX3_end_0 19 rfl rfl)
theorem dX3_end_20 : decode cX3_end 20 = .ok (.ireturn, 1) := dk_172 (dk_at dksX3_end_0 20 rfl rfl)
theorem dX3_end_21 : decode cX3_end 21 = .ok (.aload_n 0, 1) := dk_42 (dk_at dksX3_end_0 21 rfl rfl)
theorem dX3_end_22 : decode cX3_end 22 = .ok (.iload_n 1, 1) := dk_27 (dk_at dksX3_end_0 22 rfl rfl)
theorem dX3_end_23 : decode cX3_end 23 = .ok (.putfield 76, 3) := dk_181 0 76 (dk_at dksX3_end_1 0 rfl rfl)
theorem dX3_end_26 : decode cX3_end 26 = .ok (.iload_n 1, 1) := dk_27 (dk_at dksX3_end_1 3 rfl rfl)
theorem dX3_end_27 : decode cX3_end 27 = .ok (.ireturn, 1) := dk_172 (dk_at dksX3_end_1 4 rfl rfl)
abbrev cX3_fault : ByteArray := prog_14_method_24_code
def yX3_fault : MethodName := ⟨RX3, "fault", "(I)I"⟩
def dkwX3_fault_1 : List UInt8 := [180, 0, 27, 167, 0, 4, 2, 172]
abbrev dktX3_fault_1 : List UInt8 := dkwX3_fault_1 ++ []
def dkwX3_fault_0 : List UInt8 := [42, 3, 181, 0, 59, 27, 154, 0, 10, 42, 180, 0, 138, 167, 0, 16, 27, 4, 160, 0, 10, 42]
abbrev dktX3_fault_0 : List UInt8 := dkwX3_fault_0 ++ dktX3_fault_1
theorem dksX3_fault_0 : cX3_fault.data.toList.drop 0 = dktX3_fault_0 := by decide +kernel
theorem dksX3_fault_1 : cX3_fault.data.toList.drop 22 = dktX3_fault_1 := dk_seg dksX3_fault_0 22 rfl rfl
theorem dX3_fault_0 : decode cX3_fault 0 = .ok (.aload_n 0, 1) := dk_42 (dk_at dksX3_fault_0 0 rfl rfl)
theorem dX3_fault_1 : decode cX3_fault 1 = .ok (.iconst 0, 1) := dk_3 (dk_at dksX3_fault_0 1 rfl rfl)
theorem dX3_fault_2 : decode cX3_fault 2 = .ok (.putfield 59, 3) := dk_181 0 59 (dk_at dksX3_fault_0 2 rfl rfl)
theorem dX3_fault_5 : decode cX3_fault 5 = .ok (.iload_n 1, 1) := dk_27 (dk_at dksX3_fault_0 5 rfl rfl)
theorem dX3_fault_6 : decode cX3_fault 6 = .ok (.ifCond .ne 10, 3) := dk_154 0 10 (dk_at dksX3_fault_0 6 rfl rfl)
theorem dX3_fault_9 : decode cX3_fault 9 = .ok (.aload_n 0, 1) := dk_42 (dk_at dksX3_fault_0 9 rfl rfl)
theorem dX3_fault_10 : decode cX3_fault 10 = .ok (.getfield 138, 3) := dk_180 0 138 (dk_at dksX3_fault_0 10 rfl rfl)
theorem dX3_fault_13 : decode cX3_fault 13 = .ok (.goto 16, 3) := dk_167 0 16 (dk_at dksX3_fault_0 13 rfl rfl)
theorem dX3_fault_16 : decode cX3_fault 16 = .ok (.iload_n 1, 1) := dk_27 (dk_at dksX3_fault_0 16 rfl rfl)
theorem dX3_fault_17 : decode cX3_fault 17 = .ok (.iconst 1, 1) := dk_4 (dk_at dksX3_fault_0 17 rfl rfl)
theorem dX3_fault_18 : decode cX3_fault 18 = .ok (.if_icmp .ne 10, 3) := dk_160 0 10 (dk_at dksX3_fault_0 18 rfl rfl)
theorem dX3_fault_21 : decode cX3_fault 21 = .ok (.aload_n 0, 1) := dk_42 (dk_at dksX3_fault_0 21 rfl rfl)
theorem dX3_fault_22 : decode cX3_fault 22 = .ok (.getfield 27, 3) := dk_180 0 27 (dk_at dksX3_fault_1 0 rfl rfl)
theorem dX3_fault_25 : decode cX3_fault 25 = .ok (.goto 4, 3) := dk_167 0 4 (dk_at dksX3_fault_1 3 rfl rfl)
theorem dX3_fault_28 : decode cX3_fault 28 = .ok (.iconst (-1), 1) := dk_2 (dk_at dksX3_fault_1 6 rfl rfl)
theorem dX3_fault_29 : decode cX3_fault 29 = .ok (.ireturn, 1) := dk_172 (dk_at dksX3_fault_1 7 rfl rfl)
abbrev cX3_city : ByteArray := prog_14_method_32_code
def yX3_city : MethodName := ⟨RX3, "city", "()I"⟩
def dkwX3_city_4 : List UInt8 := [42, 180, 0, 111, 153, 0, 6, 16, 252, 172, 42, 7, 3, 182, 0, 199, 42, 180, 0, 31, 3, 46, 172]
abbrev dktX3_city_4 : List UInt8 := dkwX3_city_4 ++ []
def dkwX3_city_3 : List UInt8 := [153, 0, 7, 42, 182, 0, 193, 42, 180, 0, 31, 7, 92, 46, 4, 96, 79, 167, 255, 183, 42, 182, 0, 196]
abbrev dktX3_city_3 : List UInt8 := dkwX3_city_3 ++ dktX3_city_4
def dkwX3_city_2 : List UInt8 := [20, 0, 188, 4, 16, 9, 182, 0, 151, 182, 0, 162, 167, 0, 7, 42, 182, 0, 190, 42, 182, 0, 141]
abbrev dktX3_city_2 : List UInt8 := dkwX3_city_2 ++ dktX3_city_3
def dkwX3_city_1 : List UInt8 := [153, 0, 65, 42, 180, 0, 31, 7, 46, 154, 0, 28, 42, 20, 0, 186, 182, 0, 130, 42, 3, 42]
abbrev dktX3_city_1 : List UInt8 := dkwX3_city_1 ++ dktX3_city_2
def dkwX3_city_0 : List UInt8 := [42, 3, 181, 0, 59, 42, 182, 0, 180, 42, 182, 0, 183, 42, 182, 0, 141, 153, 0, 72, 42, 180, 0, 100]
abbrev dktX3_city_0 : List UInt8 := dkwX3_city_0 ++ dktX3_city_1
theorem dksX3_city_0 : cX3_city.data.toList.drop 0 = dktX3_city_0 := by decide +kernel
theorem dksX3_city_1 : cX3_city.data.toList.drop 24 = dktX3_city_1 := dk_seg dksX3_city_0 24 rfl rfl
theorem dksX3_city_2 : cX3_city.data.toList.drop 46 = dktX3_city_2 := dk_seg dksX3_city_1 22 rfl rfl
theorem dksX3_city_3 : cX3_city.data.toList.drop 69 = dktX3_city_3 := dk_seg dksX3_city_2 23 rfl rfl
theorem dksX3_city_4 : cX3_city.data.toList.drop 93 = dktX3_city_4 := dk_seg dksX3_city_3 24 rfl rfl
theorem dX3_city_0 : decode cX3_city 0 = .ok (.aload_n 0, 1) := dk_42 (dk_at dksX3_city_0 0 rfl rfl)
theorem dX3_city_1 : decode cX3_city 1 = .ok (.iconst 0, 1) := dk_3 (dk_at dksX3_city_0 1 rfl rfl)
theorem dX3_city_2 : decode cX3_city 2 = .ok (.putfield 59, 3) := dk_181 0 59 (dk_at dksX3_city_0 2 rfl rfl)
theorem dX3_city_5 : decode cX3_city 5 = .ok (.aload_n 0, 1) := dk_42 (dk_at dksX3_city_0 5 rfl rfl)
theorem dX3_city_6 : decode cX3_city 6 = .ok (.invokevirtual 180, 3) := dk_182 0 180 (dk_at dksX3_city_0 6 rfl rfl)
theorem dX3_city_9 : decode cX3_city 9 = .ok (.aload_n 0, 1) := dk_42 (dk_at dksX3_city_0 9 rfl rfl)
theorem dX3_city_10 : decode cX3_city 10 = .ok (.invokevirtual 183, 3) := dk_182 0 183 (dk_at dksX3_city_0 10 rfl rfl)
theorem dX3_city_13 : decode cX3_city 13 = .ok (.aload_n 0, 1) := dk_42 (dk_at dksX3_city_0 13 rfl rfl)
theorem dX3_city_14 : decode cX3_city 14 = .ok (.invokevirtual 141, 3) := dk_182 0 141 (dk_at dksX3_city_0 14 rfl rfl)
theorem dX3_city_17 : decode cX3_city 17 = .ok (.ifCond .eq 72, 3) := dk_153 0 72 (dk_at dksX3_city_0 17 rfl rfl)
theorem dX3_city_20 : decode cX3_city 20 = .ok (.aload_n 0, 1) := dk_42 (dk_at dksX3_city_0 20 rfl rfl)
theorem dX3_city_21 : decode cX3_city 21 = .ok (.getfield 100, 3) := dk_180 0 100 (dk_at dksX3_city_0 21 rfl rfl)
theorem dX3_city_24 : decode cX3_city 24 = .ok (.ifCond .eq 65, 3) := dk_153 0 65 (dk_at dksX3_city_1 0 rfl rfl)
theorem dX3_city_27 : decode cX3_city 27 = .ok (.aload_n 0, 1) := dk_42 (dk_at dksX3_city_1 3 rfl rfl)
theorem dX3_city_28 : decode cX3_city 28 = .ok (.getfield 31, 3) := dk_180 0 31 (dk_at dksX3_city_1 4 rfl rfl)
theorem dX3_city_31 : decode cX3_city 31 = .ok (.iconst 4, 1) := dk_7 (dk_at dksX3_city_1 7 rfl rfl)
theorem dX3_city_32 : decode cX3_city 32 = .ok (.iaload, 1) := dk_46 (dk_at dksX3_city_1 8 rfl rfl)
theorem dX3_city_33 : decode cX3_city 33 = .ok (.ifCond .ne 28, 3) := dk_154 0 28 (dk_at dksX3_city_1 9 rfl rfl)
theorem dX3_city_36 : decode cX3_city 36 = .ok (.aload_n 0, 1) := dk_42 (dk_at dksX3_city_1 12 rfl rfl)
theorem dX3_city_37 : decode cX3_city 37 = .ok (.ldc2_w 186, 3) := dk_20 0 186 (dk_at dksX3_city_1 13 rfl rfl)
theorem dX3_city_40 : decode cX3_city 40 = .ok (.invokevirtual 130, 3) := dk_182 0 130 (dk_at dksX3_city_1 16 rfl rfl)
theorem dX3_city_43 : decode cX3_city 43 = .ok (.aload_n 0, 1) := dk_42 (dk_at dksX3_city_1 19 rfl rfl)
theorem dX3_city_44 : decode cX3_city 44 = .ok (.iconst 0, 1) := dk_3 (dk_at dksX3_city_1 20 rfl rfl)
theorem dX3_city_45 : decode cX3_city 45 = .ok (.aload_n 0, 1) := dk_42 (dk_at dksX3_city_1 21 rfl rfl)
theorem dX3_city_46 : decode cX3_city 46 = .ok (.ldc2_w 188, 3) := dk_20 0 188 (dk_at dksX3_city_2 0 rfl rfl)
theorem dX3_city_49 : decode cX3_city 49 = .ok (.iconst 1, 1) := dk_4 (dk_at dksX3_city_2 3 rfl rfl)
theorem dX3_city_50 : decode cX3_city 50 = .ok (.bipush 9, 2) := dk_16 9 (dk_at dksX3_city_2 4 rfl rfl)
theorem dX3_city_52 : decode cX3_city 52 = .ok (.invokevirtual 151, 3) := dk_182 0 151 (dk_at dksX3_city_2 6 rfl rfl)
theorem dX3_city_55 : decode cX3_city 55 = .ok (.invokevirtual 162, 3) := dk_182 0 162 (dk_at dksX3_city_2 9 rfl rfl)
theorem dX3_city_58 : decode cX3_city 58 = .ok (.goto 7, 3) := dk_167 0 7 (dk_at dksX3_city_2 12 rfl rfl)
theorem dX3_city_61 : decode cX3_city 61 = .ok (.aload_n 0, 1) := dk_42 (dk_at dksX3_city_2 15 rfl rfl)
theorem dX3_city_62 : decode cX3_city 62 = .ok (.invokevirtual 190, 3) := dk_182 0 190 (dk_at dksX3_city_2 16 rfl rfl)
theorem dX3_city_65 : decode cX3_city 65 = .ok (.aload_n 0, 1) := dk_42 (dk_at dksX3_city_2 19 rfl rfl)
theorem dX3_city_66 : decode cX3_city 66 = .ok (.invokevirtual 141, 3) := dk_182 0 141 (dk_at dksX3_city_2 20 rfl rfl)
theorem dX3_city_69 : decode cX3_city 69 = .ok (.ifCond .eq 7, 3) := dk_153 0 7 (dk_at dksX3_city_3 0 rfl rfl)
theorem dX3_city_72 : decode cX3_city 72 = .ok (.aload_n 0, 1) := dk_42 (dk_at dksX3_city_3 3 rfl rfl)
theorem dX3_city_73 : decode cX3_city 73 = .ok (.invokevirtual 193, 3) := dk_182 0 193 (dk_at dksX3_city_3 4 rfl rfl)
theorem dX3_city_76 : decode cX3_city 76 = .ok (.aload_n 0, 1) := dk_42 (dk_at dksX3_city_3 7 rfl rfl)
theorem dX3_city_77 : decode cX3_city 77 = .ok (.getfield 31, 3) := dk_180 0 31 (dk_at dksX3_city_3 8 rfl rfl)
theorem dX3_city_80 : decode cX3_city 80 = .ok (.iconst 4, 1) := dk_7 (dk_at dksX3_city_3 11 rfl rfl)
theorem dX3_city_81 : decode cX3_city 81 = .ok (.dup2, 1) := dk_92 (dk_at dksX3_city_3 12 rfl rfl)
theorem dX3_city_82 : decode cX3_city 82 = .ok (.iaload, 1) := dk_46 (dk_at dksX3_city_3 13 rfl rfl)
theorem dX3_city_83 : decode cX3_city 83 = .ok (.iconst 1, 1) := dk_4 (dk_at dksX3_city_3 14 rfl rfl)
theorem dX3_city_84 : decode cX3_city 84 = .ok (.iadd, 1) := dk_96 (dk_at dksX3_city_3 15 rfl rfl)
theorem dX3_city_85 : decode cX3_city 85 = .ok (.iastore, 1) := dk_79 (dk_at dksX3_city_3 16 rfl rfl)
theorem dX3_city_86 : decode cX3_city 86 = .ok (.goto (-73), 3) := dk_167 255 183 (dk_at dksX3_city_3 17 rfl rfl)
theorem dX3_city_89 : decode cX3_city 89 = .ok (.aload_n 0, 1) := dk_42 (dk_at dksX3_city_3 20 rfl rfl)
theorem dX3_city_90 : decode cX3_city 90 = .ok (.invokevirtual 196, 3) := dk_182 0 196 (dk_at dksX3_city_3 21 rfl rfl)
theorem dX3_city_93 : decode cX3_city 93 = .ok (.aload_n 0, 1) := dk_42 (dk_at dksX3_city_4 0 rfl rfl)
theorem dX3_city_94 : decode cX3_city 94 = .ok (.getfield 111, 3) := dk_180 0 111 (dk_at dksX3_city_4 1 rfl rfl)
theorem dX3_city_97 : decode cX3_city 97 = .ok (.ifCond .eq 6, 3) := dk_153 0 6 (dk_at dksX3_city_4 4 rfl rfl)
theorem dX3_city_100 : decode cX3_city 100 = .ok (.bipush (-4), 2) := dk_16 252 (dk_at dksX3_city_4 7 rfl rfl)
theorem dX3_city_102 : decode cX3_city 102 = .ok (.ireturn, 1) := dk_172 (dk_at dksX3_city_4 9 rfl rfl)
theorem dX3_city_103 : decode cX3_city 103 = .ok (.aload_n 0, 1) := dk_42 (dk_at dksX3_city_4 10 rfl rfl)
theorem dX3_city_104 : decode cX3_city 104 = .ok (.iconst 4, 1) := dk_7 (dk_at dksX3_city_4 11 rfl rfl)
theorem dX3_city_105 : decode cX3_city 105 = .ok (.iconst 0, 1) := dk_3 (dk_at dksX3_city_4 12 rfl rfl)
theorem dX3_city_106 : decode cX3_city 106 = .ok (.invokevirtual 199, 3) := dk_182 0 199 (dk_at dksX3_city_4 13 rfl rfl)
theorem dX3_city_109 : decode cX3_city 109 = .ok (.aload_n 0, 1) := dk_42 (dk_at dksX3_city_4 16 rfl rfl)
theorem dX3_city_110 : decode cX3_city 110 = .ok (.getfield 31, 3) := dk_180 0 31 (dk_at dksX3_city_4 17 rfl rfl)
theorem dX3_city_113 : decode cX3_city 113 = .ok (.iconst 0, 1) := dk_3 (dk_at dksX3_city_4 20 rfl rfl)
theorem dX3_city_114 : decode cX3_city 114 = .ok (.iaload, 1) := dk_46 (dk_at dksX3_city_4 21 rfl rfl)
theorem dX3_city_115 : decode cX3_city 115 = .ok (.ireturn, 1) := dk_172 (dk_at dksX3_city_4 22 rfl rfl)
abbrev cX3_clears : ByteArray := prog_14_method_31_code
def yX3_clears : MethodName := ⟨RX3, "clears", "()V"⟩
def dkwX3_clears_1 : List UInt8 := [167, 255, 242, 177]
abbrev dktX3_clears_1 : List UInt8 := dkwX3_clears_1 ++ []
def dkwX3_clears_0 : List UInt8 := [42, 180, 0, 31, 7, 3, 79, 3, 60, 27, 6, 162, 0, 15, 42, 27, 3, 182, 0, 162, 132, 1, 1]
abbrev dktX3_clears_0 : List UInt8 := dkwX3_clears_0 ++ dktX3_clears_1
theorem dksX3_clears_0 : cX3_clears.data.toList.drop 0 = dktX3_clears_0 := by decide +kernel
theorem dksX3_clears_1 : cX3_clears.data.toList.drop 23 = dktX3_clears_1 := dk_seg dksX3_clears_0 23 rfl rfl
theorem dX3_clears_0 : decode cX3_clears 0 = .ok (.aload_n 0, 1) := dk_42 (dk_at dksX3_clears_0 0 rfl rfl)
theorem dX3_clears_1 : decode cX3_clears 1 = .ok (.getfield 31, 3) := dk_180 0 31 (dk_at dksX3_clears_0 1 rfl rfl)
theorem dX3_clears_4 : decode cX3_clears 4 = .ok (.iconst 4, 1) := dk_7 (dk_at dksX3_clears_0 4 rfl rfl)
theorem dX3_clears_5 : decode cX3_clears 5 = .ok (.iconst 0, 1) := dk_3 (dk_at dksX3_clears_0 5 rfl rfl)
theorem dX3_clears_6 : decode cX3_clears 6 = .ok (.iastore, 1) := dk_79 (dk_at dksX3_clears_0 6 rfl rfl)
theorem dX3_clears_7 : decode cX3_clears 7 = .ok (.iconst 0, 1) := dk_3 (dk_at dksX3_clears_0 7 rfl rfl)
theorem dX3_clears_8 : decode cX3_clears 8 = .ok (.istore_n 1, 1) := dk_60 (dk_at dksX3_clears_0 8 rfl rfl)
theorem dX3_clears_9 : decode cX3_clears 9 = .ok (.iload_n 1, 1) := dk_27 (dk_at dksX3_clears_0 9 rfl rfl)
theorem dX3_clears_10 : decode cX3_clears 10 = .ok (.iconst 3, 1) := dk_6 (dk_at dksX3_clears_0 10 rfl rfl)
theorem dX3_clears_11 : decode cX3_clears 11 = .ok (.if_icmp .ge 15, 3) := dk_162 0 15 (dk_at dksX3_clears_0 11 rfl rfl)
theorem dX3_clears_14 : decode cX3_clears 14 = .ok (.aload_n 0, 1) := dk_42 (dk_at dksX3_clears_0 14 rfl rfl)
theorem dX3_clears_15 : decode cX3_clears 15 = .ok (.iload_n 1, 1) := dk_27 (dk_at dksX3_clears_0 15 rfl rfl)
theorem dX3_clears_16 : decode cX3_clears 16 = .ok (.iconst 0, 1) := dk_3 (dk_at dksX3_clears_0 16 rfl rfl)
theorem dX3_clears_17 : decode cX3_clears 17 = .ok (.invokevirtual 162, 3) := dk_182 0 162 (dk_at dksX3_clears_0 17 rfl rfl)
theorem dX3_clears_20 : decode cX3_clears 20 = .ok (.iinc 1 1, 3) := dk_132 1 1 (dk_at dksX3_clears_0 20 rfl rfl)
theorem dX3_clears_23 : decode cX3_clears 23 = .ok (.goto (-14), 3) := dk_167 255 242 (dk_at dksX3_clears_1 0 rfl rfl)
theorem dX3_clears_26 : decode cX3_clears 26 = .ok (.return_, 1) := dk_177 (dk_at dksX3_clears_1 3 rfl rfl)
abbrev cX3_tells : ByteArray := prog_14_method_26_code
def yX3_tells : MethodName := ⟨RX3, "tells", "(II)V"⟩
def dkwX3_tells_0 : List UInt8 := [42, 180, 0, 34, 16, 12, 27, 96, 28, 79, 177]
abbrev dktX3_tells_0 : List UInt8 := dkwX3_tells_0 ++ []
theorem dksX3_tells_0 : cX3_tells.data.toList.drop 0 = dktX3_tells_0 := by decide +kernel
theorem dX3_tells_0 : decode cX3_tells 0 = .ok (.aload_n 0, 1) := dk_42 (dk_at dksX3_tells_0 0 rfl rfl)
theorem dX3_tells_1 : decode cX3_tells 1 = .ok (.getfield 34, 3) := dk_180 0 34 (dk_at dksX3_tells_0 1 rfl rfl)
theorem dX3_tells_4 : decode cX3_tells 4 = .ok (.bipush 12, 2) := dk_16 12 (dk_at dksX3_tells_0 4 rfl rfl)
theorem dX3_tells_6 : decode cX3_tells 6 = .ok (.iload_n 1, 1) := dk_27 (dk_at dksX3_tells_0 6 rfl rfl)
theorem dX3_tells_7 : decode cX3_tells 7 = .ok (.iadd, 1) := dk_96 (dk_at dksX3_tells_0 7 rfl rfl)
theorem dX3_tells_8 : decode cX3_tells 8 = .ok (.iload_n 2, 1) := dk_28 (dk_at dksX3_tells_0 8 rfl rfl)
theorem dX3_tells_9 : decode cX3_tells 9 = .ok (.iastore, 1) := dk_79 (dk_at dksX3_tells_0 9 rfl rfl)
theorem dX3_tells_10 : decode cX3_tells 10 = .ok (.return_, 1) := dk_177 (dk_at dksX3_tells_0 10 rfl rfl)
abbrev cX3_begins : ByteArray := prog_14_method_22_code
def yX3_begins : MethodName := ⟨RX3, "begins", "()V"⟩
def dkwX3_begins_0 : List UInt8 := [42, 3, 181, 0, 111, 42, 2, 181, 0, 114, 42, 3, 181, 0, 83, 42, 182, 0, 121, 177]
abbrev dktX3_begins_0 : List UInt8 := dkwX3_begins_0 ++ []
theorem dksX3_begins_0 : cX3_begins.data.toList.drop 0 = dktX3_begins_0 := by decide +kernel
theorem dX3_begins_0 : decode cX3_begins 0 = .ok (.aload_n 0, 1) := dk_42 (dk_at dksX3_begins_0 0 rfl rfl)
theorem dX3_begins_1 : decode cX3_begins 1 = .ok (.iconst 0, 1) := dk_3 (dk_at dksX3_begins_0 1 rfl rfl)
theorem dX3_begins_2 : decode cX3_begins 2 = .ok (.putfield 111, 3) := dk_181 0 111 (dk_at dksX3_begins_0 2 rfl rfl)
theorem dX3_begins_5 : decode cX3_begins 5 = .ok (.aload_n 0, 1) := dk_42 (dk_at dksX3_begins_0 5 rfl rfl)
theorem dX3_begins_6 : decode cX3_begins 6 = .ok (.iconst (-1), 1) := dk_2 (dk_at dksX3_begins_0 6 rfl rfl)
theorem dX3_begins_7 : decode cX3_begins 7 = .ok (.putfield 114, 3) := dk_181 0 114 (dk_at dksX3_begins_0 7 rfl rfl)
theorem dX3_begins_10 : decode cX3_begins 10 = .ok (.aload_n 0, 1) := dk_42 (dk_at dksX3_begins_0 10 rfl rfl)
theorem dX3_begins_11 : decode cX3_begins 11 = .ok (.iconst 0, 1) := dk_3 (dk_at dksX3_begins_0 11 rfl rfl)
theorem dX3_begins_12 : decode cX3_begins 12 = .ok (.putfield 83, 3) := dk_181 0 83 (dk_at dksX3_begins_0 12 rfl rfl)
theorem dX3_begins_15 : decode cX3_begins 15 = .ok (.aload_n 0, 1) := dk_42 (dk_at dksX3_begins_0 15 rfl rfl)
theorem dX3_begins_16 : decode cX3_begins 16 = .ok (.invokevirtual 121, 3) := dk_182 0 121 (dk_at dksX3_begins_0 16 rfl rfl)
theorem dX3_begins_19 : decode cX3_begins 19 = .ok (.return_, 1) := dk_177 (dk_at dksX3_begins_0 19 rfl rfl)
abbrev cX3_next : ByteArray := prog_14_method_13_code
def yX3_next : MethodName := ⟨RX3, "next", "()V"⟩
def dkwX3_next_13 : List UInt8 := [181, 0, 83, 177]
abbrev dktX3_next_13 : List UInt8 := dkwX3_next_13 ++ []
def dkwX3_next_12 : List UInt8 := [180, 0, 83, 51, 16, 59, 160, 0, 7, 6, 167, 0, 4, 7, 181, 0, 100, 42, 89, 180, 0, 83, 4, 96]
abbrev dktX3_next_12 : List UInt8 := dkwX3_next_12 ++ dktX3_next_13
def dkwX3_next_11 : List UInt8 := [181, 0, 93, 42, 89, 180, 0, 83, 4, 96, 181, 0, 83, 167, 255, 193, 42, 42, 180, 0, 23, 42]
abbrev dktX3_next_11 : List UInt8 := dkwX3_next_11 ++ dktX3_next_12
def dkwX3_next_10 : List UInt8 := [167, 0, 23, 16, 10, 42, 180, 0, 93, 104, 42, 180, 0, 23, 42, 180, 0, 83, 51, 96, 16, 48, 100]
abbrev dktX3_next_10 : List UInt8 := dkwX3_next_10 ++ dktX3_next_11
def dkwX3_next_9 : List UInt8 := [16, 48, 16, 57, 182, 0, 86, 153, 0, 87, 42, 42, 180, 0, 93, 18, 109, 164, 0, 8, 18, 110]
abbrev dktX3_next_9 : List UInt8 := dkwX3_next_9 ++ dktX3_next_10
def dkwX3_next_8 : List UInt8 := [180, 0, 83, 16, 48, 16, 57, 182, 0, 86, 153, 0, 74, 42, 5, 181, 0, 100, 42, 42, 180, 0, 83]
abbrev dktX3_next_8 : List UInt8 := dkwX3_next_8 ++ dktX3_next_9
def dkwX3_next_7 : List UInt8 := [181, 0, 96, 42, 89, 180, 0, 83, 4, 96, 181, 0, 83, 132, 1, 1, 167, 255, 176, 167, 0, 122, 42, 42]
abbrev dktX3_next_7 : List UInt8 := dkwX3_next_7 ++ dktX3_next_8
def dkwX3_next_6 : List UInt8 := [180, 0, 83, 51, 133, 97, 20, 0, 107, 101, 181, 0, 96, 27, 16, 11, 164, 0, 10, 42, 20, 0, 103]
abbrev dktX3_next_6 : List UInt8 := dkwX3_next_6 ++ dktX3_next_7
def dkwX3_next_5 : List UInt8 := [16, 11, 164, 0, 9, 20, 0, 103, 167, 0, 26, 20, 0, 105, 42, 180, 0, 96, 105, 42, 180, 0, 23, 42]
abbrev dktX3_next_5 : List UInt8 := dkwX3_next_5 ++ dktX3_next_6
def dkwX3_next_4 : List UInt8 := [4, 181, 0, 100, 3, 60, 42, 42, 180, 0, 83, 16, 97, 16, 122, 182, 0, 86, 153, 0, 71, 42, 27]
abbrev dktX3_next_4 : List UInt8 := dkwX3_next_4 ++ dktX3_next_5
def dkwX3_next_3 : List UInt8 := [42, 3, 181, 0, 100, 167, 0, 230, 42, 42, 180, 0, 83, 16, 97, 16, 122, 182, 0, 86, 153, 0, 96, 42]
abbrev dktX3_next_3 : List UInt8 := dkwX3_next_3 ++ dktX3_next_4
def dkwX3_next_2 : List UInt8 := [181, 0, 90, 42, 3, 181, 0, 93, 42, 9, 181, 0, 96, 42, 180, 0, 83, 42, 180, 0, 76, 160, 0, 11]
abbrev dktX3_next_2 : List UInt8 := dkwX3_next_2 ++ dktX3_next_3
def dkwX3_next_1 : List UInt8 := [182, 0, 86, 153, 0, 16, 42, 89, 180, 0, 83, 4, 96, 181, 0, 83, 167, 255, 216, 42, 42, 180, 0, 83]
abbrev dktX3_next_1 : List UInt8 := dkwX3_next_1 ++ dktX3_next_2
def dkwX3_next_0 : List UInt8 := [42, 42, 180, 0, 83, 16, 32, 16, 32, 182, 0, 86, 154, 0, 18, 42, 42, 180, 0, 83, 16, 10, 16, 10]
abbrev dktX3_next_0 : List UInt8 := dkwX3_next_0 ++ dktX3_next_1
theorem dksX3_next_0 : cX3_next.data.toList.drop 0 = dktX3_next_0 := by decide +kernel
theorem dksX3_next_1 : cX3_next.data.toList.drop 24 = dktX3_next_1 := dk_seg dksX3_next_0 24 rfl rfl
theorem dksX3_next_2 : cX3_next.data.toList.drop 48 = dktX3_next_2 := dk_seg dksX3_next_1 24 rfl rfl
theorem dksX3_next_3 : cX3_next.data.toList.drop 72 = dktX3_next_3 := dk_seg dksX3_next_2 24 rfl rfl
theorem dksX3_next_4 : cX3_next.data.toList.drop 96 = dktX3_next_4 := dk_seg dksX3_next_3 24 rfl rfl
theorem dksX3_next_5 : cX3_next.data.toList.drop 119 = dktX3_next_5 := dk_seg dksX3_next_4 23 rfl rfl
theorem dksX3_next_6 : cX3_next.data.toList.drop 143 = dktX3_next_6 := dk_seg dksX3_next_5 24 rfl rfl
theorem dksX3_next_7 : cX3_next.data.toList.drop 166 = dktX3_next_7 := dk_seg dksX3_next_6 23 rfl rfl
theorem dksX3_next_8 : cX3_next.data.toList.drop 190 = dktX3_next_8 := dk_seg dksX3_next_7 24 rfl rfl
theorem dksX3_next_9 : cX3_next.data.toList.drop 213 = dktX3_next_9 := dk_seg dksX3_next_8 23 rfl rfl
theorem dksX3_next_10 : cX3_next.data.toList.drop 235 = dktX3_next_10 := dk_seg dksX3_next_9 22 rfl rfl
theorem dksX3_next_11 : cX3_next.data.toList.drop 258 = dktX3_next_11 := dk_seg dksX3_next_10 23 rfl rfl
theorem dksX3_next_12 : cX3_next.data.toList.drop 280 = dktX3_next_12 := dk_seg dksX3_next_11 22 rfl rfl
theorem dksX3_next_13 : cX3_next.data.toList.drop 304 = dktX3_next_13 := dk_seg dksX3_next_12 24 rfl rfl
theorem dX3_next_0 : decode cX3_next 0 = .ok (.aload_n 0, 1) := dk_42 (dk_at dksX3_next_0 0 rfl rfl)
theorem dX3_next_1 : decode cX3_next 1 = .ok (.aload_n 0, 1) := dk_42 (dk_at dksX3_next_0 1 rfl rfl)
theorem dX3_next_2 : decode cX3_next 2 = .ok (.getfield 83, 3) := dk_180 0 83 (dk_at dksX3_next_0 2 rfl rfl)
theorem dX3_next_5 : decode cX3_next 5 = .ok (.bipush 32, 2) := dk_16 32 (dk_at dksX3_next_0 5 rfl rfl)
theorem dX3_next_7 : decode cX3_next 7 = .ok (.bipush 32, 2) := dk_16 32 (dk_at dksX3_next_0 7 rfl rfl)
theorem dX3_next_9 : decode cX3_next 9 = .ok (.invokevirtual 86, 3) := dk_182 0 86 (dk_at dksX3_next_0 9 rfl rfl)
theorem dX3_next_12 : decode cX3_next 12 = .ok (.ifCond .ne 18, 3) := dk_154 0 18 (dk_at dksX3_next_0 12 rfl rfl)
theorem dX3_next_15 : decode cX3_next 15 = .ok (.aload_n 0, 1) := dk_42 (dk_at dksX3_next_0 15 rfl rfl)
theorem dX3_next_16 : decode cX3_next 16 = .ok (.aload_n 0, 1) := dk_42 (dk_at dksX3_next_0 16 rfl rfl)
theorem dX3_next_17 : decode cX3_next 17 = .ok (.getfield 83, 3) := dk_180 0 83 (dk_at dksX3_next_0 17 rfl rfl)
theorem dX3_next_20 : decode cX3_next 20 = .ok (.bipush 10, 2) := dk_16 10 (dk_at dksX3_next_0 20 rfl rfl)
theorem dX3_next_22 : decode cX3_next 22 = .ok (.bipush 10, 2) := dk_16 10 (dk_at dksX3_next_0 22 rfl rfl)
theorem dX3_next_24 : decode cX3_next 24 = .ok (.invokevirtual 86, 3) := dk_182 0 86 (dk_at dksX3_next_1 0 rfl rfl)
theorem dX3_next_27 : decode cX3_next 27 = .ok (.ifCond .eq 16, 3) := dk_153 0 16 (dk_at dksX3_next_1 3 rfl rfl)
theorem dX3_next_30 : decode cX3_next 30 = .ok (.aload_n 0, 1) := dk_42 (dk_at dksX3_next_1 6 rfl rfl)
theorem dX3_next_31 : decode cX3_next 31 = .ok (.dup, 1) := dk_89 (dk_at dksX3_next_1 7 rfl rfl)
theorem dX3_next_32 : decode cX3_next 32 = .ok (.getfield 83, 3) := dk_180 0 83 (dk_at dksX3_next_1 8 rfl rfl)
theorem dX3_next_35 : decode cX3_next 35 = .ok (.iconst 1, 1) := dk_4 (dk_at dksX3_next_1 11 rfl rfl)
theorem dX3_next_36 : decode cX3_next 36 = .ok (.iadd, 1) := dk_96 (dk_at dksX3_next_1 12 rfl rfl)
theorem dX3_next_37 : decode cX3_next 37 = .ok (.putfield 83, 3) := dk_181 0 83 (dk_at dksX3_next_1 13 rfl rfl)
theorem dX3_next_40 : decode cX3_next 40 = .ok (.goto (-40), 3) := dk_167 255 216 (dk_at dksX3_next_1 16 rfl rfl)
theorem dX3_next_43 : decode cX3_next 43 = .ok (.aload_n 0, 1) := dk_42 (dk_at dksX3_next_1 19 rfl rfl)
theorem dX3_next_44 : decode cX3_next 44 = .ok (.aload_n 0, 1) := dk_42 (dk_at dksX3_next_1 20 rfl rfl)
theorem dX3_next_45 : decode cX3_next 45 = .ok (.getfield 83, 3) := dk_180 0 83 (dk_at dksX3_next_1 21 rfl rfl)
theorem dX3_next_48 : decode cX3_next 48 = .ok (.putfield 90, 3) := dk_181 0 90 (dk_at dksX3_next_2 0 rfl rfl)
theorem dX3_next_51 : decode cX3_next 51 = .ok (.aload_n 0, 1) := dk_42 (dk_at dksX3_next_2 3 rfl rfl)
theorem dX3_next_52 : decode cX3_next 52 = .ok (.iconst 0, 1) := dk_3 (dk_at dksX3_next_2 4 rfl rfl)
theorem dX3_next_53 : decode cX3_next 53 = .ok (.putfield 93, 3) := dk_181 0 93 (dk_at dksX3_next_2 5 rfl rfl)
theorem dX3_next_56 : decode cX3_next 56 = .ok (.aload_n 0, 1) := dk_42 (dk_at dksX3_next_2 8 rfl rfl)
theorem dX3_next_57 : decode cX3_next 57 = .ok (.lconst 0, 1) := dk_9 (dk_at dksX3_next_2 9 rfl rfl)
theorem dX3_next_58 : decode cX3_next 58 = .ok (.putfield 96, 3) := dk_181 0 96 (dk_at dksX3_next_2 10 rfl rfl)
theorem dX3_next_61 : decode cX3_next 61 = .ok (.aload_n 0, 1) := dk_42 (dk_at dksX3_next_2 13 rfl rfl)
theorem dX3_next_62 : decode cX3_next 62 = .ok (.getfield 83, 3) := dk_180 0 83 (dk_at dksX3_next_2 14 rfl rfl)
theorem dX3_next_65 : decode cX3_next 65 = .ok (.aload_n 0, 1) := dk_42 (dk_at dksX3_next_2 17 rfl rfl)
theorem dX3_next_66 : decode cX3_next 66 = .ok (.getfield 76, 3) := dk_180 0 76 (dk_at dksX3_next_2 18 rfl rfl)
theorem dX3_next_69 : decode cX3_next 69 = .ok (.if_icmp .ne 11, 3) := dk_160 0 11 (dk_at dksX3_next_2 21 rfl rfl)
theorem dX3_next_72 : decode cX3_next 72 = .ok (.aload_n 0, 1) := dk_42 (dk_at dksX3_next_3 0 rfl rfl)
theorem dX3_next_73 : decode cX3_next 73 = .ok (.iconst 0, 1) := dk_3 (dk_at dksX3_next_3 1 rfl rfl)
theorem dX3_next_74 : decode cX3_next 74 = .ok (.putfield 100, 3) := dk_181 0 100 (dk_at dksX3_next_3 2 rfl rfl)
theorem dX3_next_77 : decode cX3_next 77 = .ok (.goto 230, 3) := dk_167 0 230 (dk_at dksX3_next_3 5 rfl rfl)
theorem dX3_next_80 : decode cX3_next 80 = .ok (.aload_n 0, 1) := dk_42 (dk_at dksX3_next_3 8 rfl rfl)
theorem dX3_next_81 : decode cX3_next 81 = .ok (.aload_n 0, 1) := dk_42 (dk_at dksX3_next_3 9 rfl rfl)
theorem dX3_next_82 : decode cX3_next 82 = .ok (.getfield 83, 3) := dk_180 0 83 (dk_at dksX3_next_3 10 rfl rfl)
theorem dX3_next_85 : decode cX3_next 85 = .ok (.bipush 97, 2) := dk_16 97 (dk_at dksX3_next_3 13 rfl rfl)
theorem dX3_next_87 : decode cX3_next 87 = .ok (.bipush 122, 2) := dk_16 122 (dk_at dksX3_next_3 15 rfl rfl)
theorem dX3_next_89 : decode cX3_next 89 = .ok (.invokevirtual 86, 3) := dk_182 0 86 (dk_at dksX3_next_3 17 rfl rfl)
theorem dX3_next_92 : decode cX3_next 92 = .ok (.ifCond .eq 96, 3) := dk_153 0 96 (dk_at dksX3_next_3 20 rfl rfl)
theorem dX3_next_95 : decode cX3_next 95 = .ok (.aload_n 0, 1) := dk_42 (dk_at dksX3_next_3 23 rfl rfl)
theorem dX3_next_96 : decode cX3_next 96 = .ok (.iconst 1, 1) := dk_4 (dk_at dksX3_next_4 0 rfl rfl)
theorem dX3_next_97 : decode cX3_next 97 = .ok (.putfield 100, 3) := dk_181 0 100 (dk_at dksX3_next_4 1 rfl rfl)
theorem dX3_next_100 : decode cX3_next 100 = .ok (.iconst 0, 1) := dk_3 (dk_at dksX3_next_4 4 rfl rfl)
theorem dX3_next_101 : decode cX3_next 101 = .ok (.istore_n 1, 1) := dk_60 (dk_at dksX3_next_4 5 rfl rfl)
theorem dX3_next_102 : decode cX3_next 102 = .ok (.aload_n 0, 1) := dk_42 (dk_at dksX3_next_4 6 rfl rfl)
theorem dX3_next_103 : decode cX3_next 103 = .ok (.aload_n 0, 1) := dk_42 (dk_at dksX3_next_4 7 rfl rfl)
theorem dX3_next_104 : decode cX3_next 104 = .ok (.getfield 83, 3) := dk_180 0 83 (dk_at dksX3_next_4 8 rfl rfl)
theorem dX3_next_107 : decode cX3_next 107 = .ok (.bipush 97, 2) := dk_16 97 (dk_at dksX3_next_4 11 rfl rfl)
theorem dX3_next_109 : decode cX3_next 109 = .ok (.bipush 122, 2) := dk_16 122 (dk_at dksX3_next_4 13 rfl rfl)
theorem dX3_next_111 : decode cX3_next 111 = .ok (.invokevirtual 86, 3) := dk_182 0 86 (dk_at dksX3_next_4 15 rfl rfl)
theorem dX3_next_114 : decode cX3_next 114 = .ok (.ifCond .eq 71, 3) := dk_153 0 71 (dk_at dksX3_next_4 18 rfl rfl)
theorem dX3_next_117 : decode cX3_next 117 = .ok (.aload_n 0, 1) := dk_42 (dk_at dksX3_next_4 21 rfl rfl)
theorem dX3_next_118 : decode cX3_next 118 = .ok (.iload_n 1, 1) := dk_27 (dk_at dksX3_next_4 22 rfl rfl)
theorem dX3_next_119 : decode cX3_next 119 = .ok (.bipush 11, 2) := dk_16 11 (dk_at dksX3_next_5 0 rfl rfl)
theorem dX3_next_121 : decode cX3_next 121 = .ok (.if_icmp .le 9, 3) := dk_164 0 9 (dk_at dksX3_next_5 2 rfl rfl)
theorem dX3_next_124 : decode cX3_next 124 = .ok (.ldc2_w 103, 3) := dk_20 0 103 (dk_at dksX3_next_5 5 rfl rfl)
theorem dX3_next_127 : decode cX3_next 127 = .ok (.goto 26, 3) := dk_167 0 26 (dk_at dksX3_next_5 8 rfl rfl)
theorem dX3_next_130 : decode cX3_next 130 = .ok (.ldc2_w 105, 3) := dk_20 0 105 (dk_at dksX3_next_5 11 rfl rfl)
theorem dX3_next_133 : decode cX3_next 133 = .ok (.aload_n 0, 1) := dk_42 (dk_at dksX3_next_5 14 rfl rfl)
theorem dX3_next_134 : decode cX3_next 134 = .ok (.getfield 96, 3) := dk_180 0 96 (dk_at dksX3_next_5 15 rfl rfl)
theorem dX3_next_137 : decode cX3_next 137 = .ok (.lmul, 1) := dk_105 (dk_at dksX3_next_5 18 rfl rfl)
theorem dX3_next_138 : decode cX3_next 138 = .ok (.aload_n 0, 1) := dk_42 (dk_at dksX3_next_5 19 rfl rfl)
theorem dX3_next_139 : decode cX3_next 139 = .ok (.getfield 23, 3) := dk_180 0 23 (dk_at dksX3_next_5 20 rfl rfl)
theorem dX3_next_142 : decode cX3_next 142 = .ok (.aload_n 0, 1) := dk_42 (dk_at dksX3_next_5 23 rfl rfl)
theorem dX3_next_143 : decode cX3_next 143 = .ok (.getfield 83, 3) := dk_180 0 83 (dk_at dksX3_next_6 0 rfl rfl)
theorem dX3_next_146 : decode cX3_next 146 = .ok (.baload, 1) := dk_51 (dk_at dksX3_next_6 3 rfl rfl)
theorem dX3_next_147 : decode cX3_next 147 = .ok (.i2l, 1) := dk_133 (dk_at dksX3_next_6 4 rfl rfl)
theorem dX3_next_148 : decode cX3_next 148 = .ok (.ladd, 1) := dk_97 (dk_at dksX3_next_6 5 rfl rfl)
theorem dX3_next_149 : decode cX3_next 149 = .ok (.ldc2_w 107, 3) := dk_20 0 107 (dk_at dksX3_next_6 6 rfl rfl)
theorem dX3_next_152 : decode cX3_next 152 = .ok (.lsub, 1) := dk_101 (dk_at dksX3_next_6 9 rfl rfl)
theorem dX3_next_153 : decode cX3_next 153 = .ok (.putfield 96, 3) := dk_181 0 96 (dk_at dksX3_next_6 10 rfl rfl)
theorem dX3_next_156 : decode cX3_next 156 = .ok (.iload_n 1, 1) := dk_27 (dk_at dksX3_next_6 13 rfl rfl)
theorem dX3_next_157 : decode cX3_next 157 = .ok (.bipush 11, 2) := dk_16 11 (dk_at dksX3_next_6 14 rfl rfl)
theorem dX3_next_159 : decode cX3_next 159 = .ok (.if_icmp .le 10, 3) := dk_164 0 10 (dk_at dksX3_next_6 16 rfl rfl)
theorem dX3_next_162 : decode cX3_next 162 = .ok (.aload_n 0, 1) := dk_42 (dk_at dksX3_next_6 19 rfl rfl)
theorem dX3_next_163 : decode cX3_next 163 = .ok (.ldc2_w 103, 3) := dk_20 0 103 (dk_at dksX3_next_6 20 rfl rfl)
theorem dX3_next_166 : decode cX3_next 166 = .ok (.putfield 96, 3) := dk_181 0 96 (dk_at dksX3_next_7 0 rfl rfl)
theorem dX3_next_169 : decode cX3_next 169 = .ok (.aload_n 0, 1) := dk_42 (dk_at dksX3_next_7 3 rfl rfl)
theorem dX3_next_170 : decode cX3_next 170 = .ok (.dup, 1) := dk_89 (dk_at dksX3_next_7 4 rfl rfl)
theorem dX3_next_171 : decode cX3_next 171 = .ok (.getfield 83, 3) := dk_180 0 83 (dk_at dksX3_next_7 5 rfl rfl)
theorem dX3_next_174 : decode cX3_next 174 = .ok (.iconst 1, 1) := dk_4 (dk_at dksX3_next_7 8 rfl rfl)
theorem dX3_next_175 : decode cX3_next 175 = .ok (.iadd, 1) := dk_96 (dk_at dksX3_next_7 9 rfl rfl)
theorem dX3_next_176 : decode cX3_next 176 = .ok (.putfield 83, 3) := dk_181 0 83 (dk_at dksX3_next_7 10 rfl rfl)
theorem dX3_next_179 : decode cX3_next 179 = .ok (.iinc 1 1, 3) := dk_132 1 1 (dk_at dksX3_next_7 13 rfl rfl)
theorem dX3_next_182 : decode cX3_next 182 = .ok (.goto (-80), 3) := dk_167 255 176 (dk_at dksX3_next_7 16 rfl rfl)
theorem dX3_next_185 : decode cX3_next 185 = .ok (.goto 122, 3) := dk_167 0 122 (dk_at dksX3_next_7 19 rfl rfl)
theorem dX3_next_188 : decode cX3_next 188 = .ok (.aload_n 0, 1) := dk_42 (dk_at dksX3_next_7 22 rfl rfl)
theorem dX3_next_189 : decode cX3_next 189 = .ok (.aload_n 0, 1) := dk_42 (dk_at dksX3_next_7 23 rfl rfl)
theorem dX3_next_190 : decode cX3_next 190 = .ok (.getfield 83, 3) := dk_180 0 83 (dk_at dksX3_next_8 0 rfl rfl)
theorem dX3_next_193 : decode cX3_next 193 = .ok (.bipush 48, 2) := dk_16 48 (dk_at dksX3_next_8 3 rfl rfl)
theorem dX3_next_195 : decode cX3_next 195 = .ok (.bipush 57, 2) := dk_16 57 (dk_at dksX3_next_8 5 rfl rfl)
theorem dX3_next_197 : decode cX3_next 197 = .ok (.invokevirtual 86, 3) := dk_182 0 86 (dk_at dksX3_next_8 7 rfl rfl)
theorem dX3_next_200 : decode cX3_next 200 = .ok (.ifCond .eq 74, 3) := dk_153 0 74 (dk_at dksX3_next_8 10 rfl rfl)
theorem dX3_next_203 : decode cX3_next 203 = .ok (.aload_n 0, 1) := dk_42 (dk_at dksX3_next_8 13 rfl rfl)
theorem dX3_next_204 : decode cX3_next 204 = .ok (.iconst 2, 1) := dk_5 (dk_at dksX3_next_8 14 rfl rfl)
theorem dX3_next_205 : decode cX3_next 205 = .ok (.putfield 100, 3) := dk_181 0 100 (dk_at dksX3_next_8 15 rfl rfl)
theorem dX3_next_208 : decode cX3_next 208 = .ok (.aload_n 0, 1) := dk_42 (dk_at dksX3_next_8 18 rfl rfl)
theorem dX3_next_209 : decode cX3_next 209 = .ok (.aload_n 0, 1) := dk_42 (dk_at dksX3_next_8 19 rfl rfl)
theorem dX3_next_210 : decode cX3_next 210 = .ok (.getfield 83, 3) := dk_180 0 83 (dk_at dksX3_next_8 20 rfl rfl)
theorem dX3_next_213 : decode cX3_next 213 = .ok (.bipush 48, 2) := dk_16 48 (dk_at dksX3_next_9 0 rfl rfl)
theorem dX3_next_215 : decode cX3_next 215 = .ok (.bipush 57, 2) := dk_16 57 (dk_at dksX3_next_9 2 rfl rfl)
theorem dX3_next_217 : decode cX3_next 217 = .ok (.invokevirtual 86, 3) := dk_182 0 86 (dk_at dksX3_next_9 4 rfl rfl)
theorem dX3_next_220 : decode cX3_next 220 = .ok (.ifCond .eq 87, 3) := dk_153 0 87 (dk_at dksX3_next_9 7 rfl rfl)
theorem dX3_next_223 : decode cX3_next 223 = .ok (.aload_n 0, 1) := dk_42 (dk_at dksX3_next_9 10 rfl rfl)
theorem dX3_next_224 : decode cX3_next 224 = .ok (.aload_n 0, 1) := dk_42 (dk_at dksX3_next_9 11 rfl rfl)
theorem dX3_next_225 : decode cX3_next 225 = .ok (.getfield 93, 3) := dk_180 0 93 (dk_at dksX3_next_9 12 rfl rfl)
theorem dX3_next_228 : decode cX3_next 228 = .ok (.ldc 109, 2) := dk_18 109 (dk_at dksX3_next_9 15 rfl rfl)
theorem dX3_next_230 : decode cX3_next 230 = .ok (.if_icmp .le 8, 3) := dk_164 0 8 (dk_at dksX3_next_9 17 rfl rfl)
theorem dX3_next_233 : decode cX3_next 233 = .ok (.ldc 110, 2) := dk_18 110 (dk_at dksX3_next_9 20 rfl rfl)
theorem dX3_next_235 : decode cX3_next 235 = .ok (.goto 23, 3) := dk_167 0 23 (dk_at dksX3_next_10 0 rfl rfl)
theorem dX3_next_238 : decode cX3_next 238 = .ok (.bipush 10, 2) := dk_16 10 (dk_at dksX3_next_10 3 rfl rfl)
theorem dX3_next_240 : decode cX3_next 240 = .ok (.aload_n 0, 1) := dk_42 (dk_at dksX3_next_10 5 rfl rfl)
theorem dX3_next_241 : decode cX3_next 241 = .ok (.getfield 93, 3) := dk_180 0 93 (dk_at dksX3_next_10 6 rfl rfl)
theorem dX3_next_244 : decode cX3_next 244 = .ok (.imul, 1) := dk_104 (dk_at dksX3_next_10 9 rfl rfl)
theorem dX3_next_245 : decode cX3_next 245 = .ok (.aload_n 0, 1) := dk_42 (dk_at dksX3_next_10 10 rfl rfl)
theorem dX3_next_246 : decode cX3_next 246 = .ok (.getfield 23, 3) := dk_180 0 23 (dk_at dksX3_next_10 11 rfl rfl)
theorem dX3_next_249 : decode cX3_next 249 = .ok (.aload_n 0, 1) := dk_42 (dk_at dksX3_next_10 14 rfl rfl)
theorem dX3_next_250 : decode cX3_next 250 = .ok (.getfield 83, 3) := dk_180 0 83 (dk_at dksX3_next_10 15 rfl rfl)
theorem dX3_next_253 : decode cX3_next 253 = .ok (.baload, 1) := dk_51 (dk_at dksX3_next_10 18 rfl rfl)
theorem dX3_next_254 : decode cX3_next 254 = .ok (.iadd, 1) := dk_96 (dk_at dksX3_next_10 19 rfl rfl)
theorem dX3_next_255 : decode cX3_next 255 = .ok (.bipush 48, 2) := dk_16 48 (dk_at dksX3_next_10 20 rfl rfl)
theorem dX3_next_257 : decode cX3_next 257 = .ok (.isub, 1) := dk_100 (dk_at dksX3_next_10 22 rfl rfl)
theorem dX3_next_258 : decode cX3_next 258 = .ok (.putfield 93, 3) := dk_181 0 93 (dk_at dksX3_next_11 0 rfl rfl)
theorem dX3_next_261 : decode cX3_next 261 = .ok (.aload_n 0, 1) := dk_42 (dk_at dksX3_next_11 3 rfl rfl)
theorem dX3_next_262 : decode cX3_next 262 = .ok (.dup, 1) := dk_89 (dk_at dksX3_next_11 4 rfl rfl)
theorem dX3_next_263 : decode cX3_next 263 = .ok (.getfield 83, 3) := dk_180 0 83 (dk_at dksX3_next_11 5 rfl rfl)
theorem dX3_next_266 : decode cX3_next 266 = .ok (.iconst 1, 1) := dk_4 (dk_at dksX3_next_11 8 rfl rfl)
theorem dX3_next_267 : decode cX3_next 267 = .ok (.iadd, 1) := dk_96 (dk_at dksX3_next_11 9 rfl rfl)
theorem dX3_next_268 : decode cX3_next 268 = .ok (.putfield 83, 3) := dk_181 0 83 (dk_at dksX3_next_11 10 rfl rfl)
theorem dX3_next_271 : decode cX3_next 271 = .ok (.goto (-63), 3) := dk_167 255 193 (dk_at dksX3_next_11 13 rfl rfl)
theorem dX3_next_274 : decode cX3_next 274 = .ok (.aload_n 0, 1) := dk_42 (dk_at dksX3_next_11 16 rfl rfl)
theorem dX3_next_275 : decode cX3_next 275 = .ok (.aload_n 0, 1) := dk_42 (dk_at dksX3_next_11 17 rfl rfl)
theorem dX3_next_276 : decode cX3_next 276 = .ok (.getfield 23, 3) := dk_180 0 23 (dk_at dksX3_next_11 18 rfl rfl)
theorem dX3_next_279 : decode cX3_next 279 = .ok (.aload_n 0, 1) := dk_42 (dk_at dksX3_next_11 21 rfl rfl)
theorem dX3_next_280 : decode cX3_next 280 = .ok (.getfield 83, 3) := dk_180 0 83 (dk_at dksX3_next_12 0 rfl rfl)
theorem dX3_next_283 : decode cX3_next 283 = .ok (.baload, 1) := dk_51 (dk_at dksX3_next_12 3 rfl rfl)
theorem dX3_next_284 : decode cX3_next 284 = .ok (.bipush 59, 2) := dk_16 59 (dk_at dksX3_next_12 4 rfl rfl)
theorem dX3_next_286 : decode cX3_next 286 = .ok (.if_icmp .ne 7, 3) := dk_160 0 7 (dk_at dksX3_next_12 6 rfl rfl)
theorem dX3_next_289 : decode cX3_next 289 = .ok (.iconst 3, 1) := dk_6 (dk_at dksX3_next_12 9 rfl rfl)
theorem dX3_next_290 : decode cX3_next 290 = .ok (.goto 4, 3) := dk_167 0 4 (dk_at dksX3_next_12 10 rfl rfl)
theorem dX3_next_293 : decode cX3_next 293 = .ok (.iconst 4, 1) := dk_7 (dk_at dksX3_next_12 13 rfl rfl)
theorem dX3_next_294 : decode cX3_next 294 = .ok (.putfield 100, 3) := dk_181 0 100 (dk_at dksX3_next_12 14 rfl rfl)
theorem dX3_next_297 : decode cX3_next 297 = .ok (.aload_n 0, 1) := dk_42 (dk_at dksX3_next_12 17 rfl rfl)
theorem dX3_next_298 : decode cX3_next 298 = .ok (.dup, 1) := dk_89 (dk_at dksX3_next_12 18 rfl rfl)
theorem dX3_next_299 : decode cX3_next 299 = .ok (.getfield 83, 3) := dk_180 0 83 (dk_at dksX3_next_12 19 rfl rfl)
theorem dX3_next_302 : decode cX3_next 302 = .ok (.iconst 1, 1) := dk_4 (dk_at dksX3_next_12 22 rfl rfl)
theorem dX3_next_303 : decode cX3_next 303 = .ok (.iadd, 1) := dk_96 (dk_at dksX3_next_12 23 rfl rfl)
theorem dX3_next_304 : decode cX3_next 304 = .ok (.putfield 83, 3) := dk_181 0 83 (dk_at dksX3_next_13 0 rfl rfl)
theorem dX3_next_307 : decode cX3_next 307 = .ok (.return_, 1) := dk_177 (dk_at dksX3_next_13 3 rfl rfl)
abbrev cX3_isByte : ByteArray := prog_14_method_12_code
def yX3_isByte : MethodName := ⟨RX3, "isByte", "(III)Z"⟩
def dkwX3_isByte_1 : List UInt8 := [29, 163, 0, 7, 4, 167, 0, 4, 3, 172]
abbrev dktX3_isByte_1 : List UInt8 := dkwX3_isByte_1 ++ []
def dkwX3_isByte_0 : List UInt8 := [27, 42, 180, 0, 76, 162, 0, 27, 42, 180, 0, 23, 27, 51, 28, 161, 0, 17, 42, 180, 0, 23, 27, 51]
abbrev dktX3_isByte_0 : List UInt8 := dkwX3_isByte_0 ++ dktX3_isByte_1
theorem dksX3_isByte_0 : cX3_isByte.data.toList.drop 0 = dktX3_isByte_0 := by decide +kernel
theorem dksX3_isByte_1 : cX3_isByte.data.toList.drop 24 = dktX3_isByte_1 := dk_seg dksX3_isByte_0 24 rfl rfl
theorem dX3_isByte_0 : decode cX3_isByte 0 = .ok (.iload_n 1, 1) := dk_27 (dk_at dksX3_isByte_0 0 rfl rfl)
theorem dX3_isByte_1 : decode cX3_isByte 1 = .ok (.aload_n 0, 1) := dk_42 (dk_at dksX3_isByte_0 1 rfl rfl)
theorem dX3_isByte_2 : decode cX3_isByte 2 = .ok (.getfield 76, 3) := dk_180 0 76 (dk_at dksX3_isByte_0 2 rfl rfl)
theorem dX3_isByte_5 : decode cX3_isByte 5 = .ok (.if_icmp .ge 27, 3) := dk_162 0 27 (dk_at dksX3_isByte_0 5 rfl rfl)
theorem dX3_isByte_8 : decode cX3_isByte 8 = .ok (.aload_n 0, 1) := dk_42 (dk_at dksX3_isByte_0 8 rfl rfl)
theorem dX3_isByte_9 : decode cX3_isByte 9 = .ok (.getfield 23, 3) := dk_180 0 23 (dk_at dksX3_isByte_0 9 rfl rfl)
theorem dX3_isByte_12 : decode cX3_isByte 12 = .ok (.iload_n 1, 1) := dk_27 (dk_at dksX3_isByte_0 12 rfl rfl)
theorem dX3_isByte_13 : decode cX3_isByte 13 = .ok (.baload, 1) := dk_51 (dk_at dksX3_isByte_0 13 rfl rfl)
theorem dX3_isByte_14 : decode cX3_isByte 14 = .ok (.iload_n 2, 1) := dk_28 (dk_at dksX3_isByte_0 14 rfl rfl)
theorem dX3_isByte_15 : decode cX3_isByte 15 = .ok (.if_icmp .lt 17, 3) := dk_161 0 17 (dk_at dksX3_isByte_0 15 rfl rfl)
theorem dX3_isByte_18 : decode cX3_isByte 18 = .ok (.aload_n 0, 1) := dk_42 (dk_at dksX3_isByte_0 18 rfl rfl)
theorem dX3_isByte_19 : decode cX3_isByte 19 = .ok (.getfield 23, 3) := dk_180 0 23 (dk_at dksX3_isByte_0 19 rfl rfl)
theorem dX3_isByte_22 : decode cX3_isByte 22 = .ok (.iload_n 1, 1) := dk_27 (dk_at dksX3_isByte_0 22 rfl rfl)
theorem dX3_isByte_23 : decode cX3_isByte 23 = .ok (.baload, 1) := dk_51 (dk_at dksX3_isByte_0 23 rfl rfl)
theorem dX3_isByte_24 : decode cX3_isByte 24 = .ok (.iload_n 3, 1) := dk_29 (dk_at dksX3_isByte_1 0 rfl rfl)
theorem dX3_isByte_25 : decode cX3_isByte 25 = .ok (.if_icmp .gt 7, 3) := dk_163 0 7 (dk_at dksX3_isByte_1 1 rfl rfl)
theorem dX3_isByte_28 : decode cX3_isByte 28 = .ok (.iconst 1, 1) := dk_4 (dk_at dksX3_isByte_1 4 rfl rfl)
theorem dX3_isByte_29 : decode cX3_isByte 29 = .ok (.goto 4, 3) := dk_167 0 4 (dk_at dksX3_isByte_1 5 rfl rfl)
theorem dX3_isByte_32 : decode cX3_isByte 32 = .ok (.iconst 0, 1) := dk_3 (dk_at dksX3_isByte_1 8 rfl rfl)
theorem dX3_isByte_33 : decode cX3_isByte 33 = .ok (.ireturn, 1) := dk_172 (dk_at dksX3_isByte_1 9 rfl rfl)
abbrev cX3_isGood : ByteArray := prog_14_method_14_code
def yX3_isGood : MethodName := ⟨RX3, "isGood", "()Z"⟩
def dkwX3_isGood_0 : List UInt8 := [42, 180, 0, 111, 154, 0, 7, 4, 167, 0, 4, 3, 172]
abbrev dktX3_isGood_0 : List UInt8 := dkwX3_isGood_0 ++ []
theorem dksX3_isGood_0 : cX3_isGood.data.toList.drop 0 = dktX3_isGood_0 := by decide +kernel
theorem dX3_isGood_0 : decode cX3_isGood 0 = .ok (.aload_n 0, 1) := dk_42 (dk_at dksX3_isGood_0 0 rfl rfl)
theorem dX3_isGood_1 : decode cX3_isGood 1 = .ok (.getfield 111, 3) := dk_180 0 111 (dk_at dksX3_isGood_0 1 rfl rfl)
theorem dX3_isGood_4 : decode cX3_isGood 4 = .ok (.ifCond .ne 7, 3) := dk_154 0 7 (dk_at dksX3_isGood_0 4 rfl rfl)
theorem dX3_isGood_7 : decode cX3_isGood 7 = .ok (.iconst 1, 1) := dk_4 (dk_at dksX3_isGood_0 7 rfl rfl)
theorem dX3_isGood_8 : decode cX3_isGood 8 = .ok (.goto 4, 3) := dk_167 0 4 (dk_at dksX3_isGood_0 8 rfl rfl)
theorem dX3_isGood_11 : decode cX3_isGood 11 = .ok (.iconst 0, 1) := dk_3 (dk_at dksX3_isGood_0 11 rfl rfl)
theorem dX3_isGood_12 : decode cX3_isGood 12 = .ok (.ireturn, 1) := dk_172 (dk_at dksX3_isGood_0 12 rfl rfl)
abbrev cX3_asks : ByteArray := prog_14_method_18_code
def yX3_asks : MethodName := ⟨RX3, "asks", "(J)V"⟩
def dkwX3_asks_0 : List UInt8 := [42, 31, 182, 0, 124, 154, 0, 8, 42, 4, 182, 0, 127, 177]
abbrev dktX3_asks_0 : List UInt8 := dkwX3_asks_0 ++ []
theorem dksX3_asks_0 : cX3_asks.data.toList.drop 0 = dktX3_asks_0 := by decide +kernel
theorem dX3_asks_0 : decode cX3_asks 0 = .ok (.aload_n 0, 1) := dk_42 (dk_at dksX3_asks_0 0 rfl rfl)
theorem dX3_asks_1 : decode cX3_asks 1 = .ok (.lload_n 1, 1) := dk_31 (dk_at dksX3_asks_0 1 rfl rfl)
theorem dX3_asks_2 : decode cX3_asks 2 = .ok (.invokevirtual 124, 3) := dk_182 0 124 (dk_at dksX3_asks_0 2 rfl rfl)
theorem dX3_asks_5 : decode cX3_asks 5 = .ok (.ifCond .ne 8, 3) := dk_154 0 8 (dk_at dksX3_asks_0 5 rfl rfl)
theorem dX3_asks_8 : decode cX3_asks 8 = .ok (.aload_n 0, 1) := dk_42 (dk_at dksX3_asks_0 8 rfl rfl)
theorem dX3_asks_9 : decode cX3_asks 9 = .ok (.iconst 1, 1) := dk_4 (dk_at dksX3_asks_0 9 rfl rfl)
theorem dX3_asks_10 : decode cX3_asks 10 = .ok (.invokevirtual 127, 3) := dk_182 0 127 (dk_at dksX3_asks_0 10 rfl rfl)
theorem dX3_asks_13 : decode cX3_asks 13 = .ok (.return_, 1) := dk_177 (dk_at dksX3_asks_0 13 rfl rfl)
abbrev cX3_takes : ByteArray := prog_14_method_17_code
def yX3_takes : MethodName := ⟨RX3, "takes", "(J)Z"⟩
def dkwX3_takes_0 : List UInt8 := [42, 31, 182, 0, 117, 154, 0, 5, 3, 172, 42, 182, 0, 121, 4, 172]
abbrev dktX3_takes_0 : List UInt8 := dkwX3_takes_0 ++ []
theorem dksX3_takes_0 : cX3_takes.data.toList.drop 0 = dktX3_takes_0 := by decide +kernel
theorem dX3_takes_0 : decode cX3_takes 0 = .ok (.aload_n 0, 1) := dk_42 (dk_at dksX3_takes_0 0 rfl rfl)
theorem dX3_takes_1 : decode cX3_takes 1 = .ok (.lload_n 1, 1) := dk_31 (dk_at dksX3_takes_0 1 rfl rfl)
theorem dX3_takes_2 : decode cX3_takes 2 = .ok (.invokevirtual 117, 3) := dk_182 0 117 (dk_at dksX3_takes_0 2 rfl rfl)
theorem dX3_takes_5 : decode cX3_takes 5 = .ok (.ifCond .ne 5, 3) := dk_154 0 5 (dk_at dksX3_takes_0 5 rfl rfl)
theorem dX3_takes_8 : decode cX3_takes 8 = .ok (.iconst 0, 1) := dk_3 (dk_at dksX3_takes_0 8 rfl rfl)
theorem dX3_takes_9 : decode cX3_takes 9 = .ok (.ireturn, 1) := dk_172 (dk_at dksX3_takes_0 9 rfl rfl)
theorem dX3_takes_10 : decode cX3_takes 10 = .ok (.aload_n 0, 1) := dk_42 (dk_at dksX3_takes_0 10 rfl rfl)
theorem dX3_takes_11 : decode cX3_takes 11 = .ok (.invokevirtual 121, 3) := dk_182 0 121 (dk_at dksX3_takes_0 11 rfl rfl)
theorem dX3_takes_14 : decode cX3_takes 14 = .ok (.iconst 1, 1) := dk_4 (dk_at dksX3_takes_0 14 rfl rfl)
theorem dX3_takes_15 : decode cX3_takes 15 = .ok (.ireturn, 1) := dk_172 (dk_at dksX3_takes_0 15 rfl rfl)
abbrev cX3_is : ByteArray := prog_14_method_16_code
def yX3_is : MethodName := ⟨RX3, "is", "(J)Z"⟩
def dkwX3_is_1 : List UInt8 := [4, 167, 0, 4, 3, 172]
abbrev dktX3_is_1 : List UInt8 := dkwX3_is_1 ++ []
def dkwX3_is_0 : List UInt8 := [42, 180, 0, 111, 154, 0, 24, 42, 180, 0, 100, 4, 160, 0, 16, 42, 180, 0, 96, 31, 148, 154, 0, 7]
abbrev dktX3_is_0 : List UInt8 := dkwX3_is_0 ++ dktX3_is_1
theorem dksX3_is_0 : cX3_is.data.toList.drop 0 = dktX3_is_0 := by decide +kernel
theorem dksX3_is_1 : cX3_is.data.toList.drop 24 = dktX3_is_1 := dk_seg dksX3_is_0 24 rfl rfl
theorem dX3_is_0 : decode cX3_is 0 = .ok (.aload_n 0, 1) := dk_42 (dk_at dksX3_is_0 0 rfl rfl)
theorem dX3_is_1 : decode cX3_is 1 = .ok (.getfield 111, 3) := dk_180 0 111 (dk_at dksX3_is_0 1 rfl rfl)
theorem dX3_is_4 : decode cX3_is 4 = .ok (.ifCond .ne 24, 3) := dk_154 0 24 (dk_at dksX3_is_0 4 rfl rfl)
theorem dX3_is_7 : decode cX3_is 7 = .ok (.aload_n 0, 1) := dk_42 (dk_at dksX3_is_0 7 rfl rfl)
theorem dX3_is_8 : decode cX3_is 8 = .ok (.getfield 100, 3) := dk_180 0 100 (dk_at dksX3_is_0 8 rfl rfl)
theorem dX3_is_11 : decode cX3_is 11 = .ok (.iconst 1, 1) := dk_4 (dk_at dksX3_is_0 11 rfl rfl)
theorem dX3_is_12 : decode cX3_is 12 = .ok (.if_icmp .ne 16, 3) := dk_160 0 16 (dk_at dksX3_is_0 12 rfl rfl)
theorem dX3_is_15 : decode cX3_is 15 = .ok (.aload_n 0, 1) := dk_42 (dk_at dksX3_is_0 15 rfl rfl)
theorem dX3_is_16 : decode cX3_is 16 = .ok (.getfield 96, 3) := dk_180 0 96 (dk_at dksX3_is_0 16 rfl rfl)
theorem dX3_is_19 : decode cX3_is 19 = .ok (.lload_n 1, 1) := dk_31 (dk_at dksX3_is_0 19 rfl rfl)
theorem dX3_is_20 : decode cX3_is 20 = .ok (.lcmp, 1) := dk_148 (dk_at dksX3_is_0 20 rfl rfl)
theorem dX3_is_21 : decode cX3_is 21 = .ok (.ifCond .ne 7, 3) := dk_154 0 7 (dk_at dksX3_is_0 21 rfl rfl)
theorem dX3_is_24 : decode cX3_is 24 = .ok (.iconst 1, 1) := dk_4 (dk_at dksX3_is_1 0 rfl rfl)
theorem dX3_is_25 : decode cX3_is 25 = .ok (.goto 4, 3) := dk_167 0 4 (dk_at dksX3_is_1 1 rfl rfl)
theorem dX3_is_28 : decode cX3_is 28 = .ok (.iconst 0, 1) := dk_3 (dk_at dksX3_is_1 4 rfl rfl)
theorem dX3_is_29 : decode cX3_is 29 = .ok (.ireturn, 1) := dk_172 (dk_at dksX3_is_1 5 rfl rfl)
abbrev cX3_fails : ByteArray := prog_14_method_15_code
def yX3_fails : MethodName := ⟨RX3, "fails", "(I)V"⟩
def dkwX3_fails_0 : List UInt8 := [42, 180, 0, 111, 153, 0, 4, 177, 42, 27, 181, 0, 111, 42, 42, 180, 0, 90, 181, 0, 114, 177]
abbrev dktX3_fails_0 : List UInt8 := dkwX3_fails_0 ++ []
theorem dksX3_fails_0 : cX3_fails.data.toList.drop 0 = dktX3_fails_0 := by decide +kernel
theorem dX3_fails_0 : decode cX3_fails 0 = .ok (.aload_n 0, 1) := dk_42 (dk_at dksX3_fails_0 0 rfl rfl)
theorem dX3_fails_1 : decode cX3_fails 1 = .ok (.getfield 111, 3) := dk_180 0 111 (dk_at dksX3_fails_0 1 rfl rfl)
theorem dX3_fails_4 : decode cX3_fails 4 = .ok (.ifCond .eq 4, 3) := dk_153 0 4 (dk_at dksX3_fails_0 4 rfl rfl)
theorem dX3_fails_7 : decode cX3_fails 7 = .ok (.return_, 1) := dk_177 (dk_at dksX3_fails_0 7 rfl rfl)
theorem dX3_fails_8 : decode cX3_fails 8 = .ok (.aload_n 0, 1) := dk_42 (dk_at dksX3_fails_0 8 rfl rfl)
theorem dX3_fails_9 : decode cX3_fails 9 = .ok (.iload_n 1, 1) := dk_27 (dk_at dksX3_fails_0 9 rfl rfl)
theorem dX3_fails_10 : decode cX3_fails 10 = .ok (.putfield 111, 3) := dk_181 0 111 (dk_at dksX3_fails_0 10 rfl rfl)
theorem dX3_fails_13 : decode cX3_fails 13 = .ok (.aload_n 0, 1) := dk_42 (dk_at dksX3_fails_0 13 rfl rfl)
theorem dX3_fails_14 : decode cX3_fails 14 = .ok (.aload_n 0, 1) := dk_42 (dk_at dksX3_fails_0 14 rfl rfl)
theorem dX3_fails_15 : decode cX3_fails 15 = .ok (.getfield 90, 3) := dk_180 0 90 (dk_at dksX3_fails_0 15 rfl rfl)
theorem dX3_fails_18 : decode cX3_fails 18 = .ok (.putfield 114, 3) := dk_181 0 114 (dk_at dksX3_fails_0 18 rfl rfl)
theorem dX3_fails_21 : decode cX3_fails 21 = .ok (.return_, 1) := dk_177 (dk_at dksX3_fails_0 21 rfl rfl)
abbrev cX3_number : ByteArray := prog_14_method_20_code
def yX3_number : MethodName := ⟨RX3, "number", "(JII)I"⟩
def dkwX3_number_0 : List UInt8 := [42, 31, 182, 0, 130, 42, 29, 21, 4, 182, 0, 134, 172]
abbrev dktX3_number_0 : List UInt8 := dkwX3_number_0 ++ []
theorem dksX3_number_0 : cX3_number.data.toList.drop 0 = dktX3_number_0 := by decide +kernel
theorem dX3_number_0 : decode cX3_number 0 = .ok (.aload_n 0, 1) := dk_42 (dk_at dksX3_number_0 0 rfl rfl)
theorem dX3_number_1 : decode cX3_number 1 = .ok (.lload_n 1, 1) := dk_31 (dk_at dksX3_number_0 1 rfl rfl)
theorem dX3_number_2 : decode cX3_number 2 = .ok (.invokevirtual 130, 3) := dk_182 0 130 (dk_at dksX3_number_0 2 rfl rfl)
theorem dX3_number_5 : decode cX3_number 5 = .ok (.aload_n 0, 1) := dk_42 (dk_at dksX3_number_0 5 rfl rfl)
theorem dX3_number_6 : decode cX3_number 6 = .ok (.iload_n 3, 1) := dk_29 (dk_at dksX3_number_0 6 rfl rfl)
theorem dX3_number_7 : decode cX3_number 7 = .ok (.iload 4, 2) := dk_21 4 (dk_at dksX3_number_0 7 rfl rfl)
theorem dX3_number_9 : decode cX3_number 9 = .ok (.invokevirtual 134, 3) := dk_182 0 134 (dk_at dksX3_number_0 9 rfl rfl)
theorem dX3_number_12 : decode cX3_number 12 = .ok (.ireturn, 1) := dk_172 (dk_at dksX3_number_0 12 rfl rfl)
abbrev cX3_number_2 : ByteArray := prog_14_method_19_code
def yX3_number_2 : MethodName := ⟨RX3, "number", "(II)I"⟩
def dkwX3_number_2_2 : List UInt8 := [180, 0, 93, 62, 42, 182, 0, 121, 29, 172]
abbrev dktX3_number_2_2 : List UInt8 := dkwX3_number_2_2 ++ []
def dkwX3_number_2_1 : List UInt8 := [42, 180, 0, 93, 133, 27, 133, 28, 133, 184, 0, 64, 154, 0, 10, 42, 5, 182, 0, 127, 27, 172, 42]
abbrev dktX3_number_2_1 : List UInt8 := dkwX3_number_2_1 ++ dktX3_number_2_2
def dkwX3_number_2_0 : List UInt8 := [42, 180, 0, 111, 153, 0, 5, 27, 172, 42, 180, 0, 100, 5, 159, 0, 10, 42, 4, 182, 0, 127, 27, 172]
abbrev dktX3_number_2_0 : List UInt8 := dkwX3_number_2_0 ++ dktX3_number_2_1
theorem dksX3_number_2_0 : cX3_number_2.data.toList.drop 0 = dktX3_number_2_0 := by decide +kernel
theorem dksX3_number_2_1 : cX3_number_2.data.toList.drop 24 = dktX3_number_2_1 := dk_seg dksX3_number_2_0 24 rfl rfl
theorem dksX3_number_2_2 : cX3_number_2.data.toList.drop 47 = dktX3_number_2_2 := dk_seg dksX3_number_2_1 23 rfl rfl
theorem dX3_number_2_0 : decode cX3_number_2 0 = .ok (.aload_n 0, 1) := dk_42 (dk_at dksX3_number_2_0 0 rfl rfl)
theorem dX3_number_2_1 : decode cX3_number_2 1 = .ok (.getfield 111, 3) := dk_180 0 111 (dk_at dksX3_number_2_0 1 rfl rfl)
theorem dX3_number_2_4 : decode cX3_number_2 4 = .ok (.ifCond .eq 5, 3) := dk_153 0 5 (dk_at dksX3_number_2_0 4 rfl rfl)
theorem dX3_number_2_7 : decode cX3_number_2 7 = .ok (.iload_n 1, 1) := dk_27 (dk_at dksX3_number_2_0 7 rfl rfl)
theorem dX3_number_2_8 : decode cX3_number_2 8 = .ok (.ireturn, 1) := dk_172 (dk_at dksX3_number_2_0 8 rfl rfl)
theorem dX3_number_2_9 : decode cX3_number_2 9 = .ok (.aload_n 0, 1) := dk_42 (dk_at dksX3_number_2_0 9 rfl rfl)
theorem dX3_number_2_10 : decode cX3_number_2 10 = .ok (.getfield 100, 3) := dk_180 0 100 (dk_at dksX3_number_2_0 10 rfl rfl)
theorem dX3_number_2_13 : decode cX3_number_2 13 = .ok (.iconst 2, 1) := dk_5 (dk_at dksX3_number_2_0 13 rfl rfl)
theorem dX3_number_2_14 : decode cX3_number_2 14 = .ok (.if_icmp .eq 10, 3) := dk_159 0 10 (dk_at dksX3_number_2_0 14 rfl rfl)
theorem dX3_number_2_17 : decode cX3_number_2 17 = .ok (.aload_n 0, 1) := dk_42 (dk_at dksX3_number_2_0 17 rfl rfl)
theorem dX3_number_2_18 : decode cX3_number_2 18 = .ok (.iconst 1, 1) := dk_4 (dk_at dksX3_number_2_0 18 rfl rfl)
theorem dX3_number_2_19 : decode cX3_number_2 19 = .ok (.invokevirtual 127, 3) := dk_182 0 127 (dk_at dksX3_number_2_0 19 rfl rfl)
theorem dX3_number_2_22 : decode cX3_number_2 22 = .ok (.iload_n 1, 1) := dk_27 (dk_at dksX3_number_2_0 22 rfl rfl)
theorem dX3_number_2_23 : decode cX3_number_2 23 = .ok (.ireturn, 1) := dk_172 (dk_at dksX3_number_2_0 23 rfl rfl)
theorem dX3_number_2_24 : decode cX3_number_2 24 = .ok (.aload_n 0, 1) := dk_42 (dk_at dksX3_number_2_1 0 rfl rfl)
theorem dX3_number_2_25 : decode cX3_number_2 25 = .ok (.getfield 93, 3) := dk_180 0 93 (dk_at dksX3_number_2_1 1 rfl rfl)
theorem dX3_number_2_28 : decode cX3_number_2 28 = .ok (.i2l, 1) := dk_133 (dk_at dksX3_number_2_1 4 rfl rfl)
theorem dX3_number_2_29 : decode cX3_number_2 29 = .ok (.iload_n 1, 1) := dk_27 (dk_at dksX3_number_2_1 5 rfl rfl)
theorem dX3_number_2_30 : decode cX3_number_2 30 = .ok (.i2l, 1) := dk_133 (dk_at dksX3_number_2_1 6 rfl rfl)
theorem dX3_number_2_31 : decode cX3_number_2 31 = .ok (.iload_n 2, 1) := dk_28 (dk_at dksX3_number_2_1 7 rfl rfl)
theorem dX3_number_2_32 : decode cX3_number_2 32 = .ok (.i2l, 1) := dk_133 (dk_at dksX3_number_2_1 8 rfl rfl)
theorem dX3_number_2_33 : decode cX3_number_2 33 = .ok (.invokestatic 64, 3) := dk_184 0 64 (dk_at dksX3_number_2_1 9 rfl rfl)
theorem dX3_number_2_36 : decode cX3_number_2 36 = .ok (.ifCond .ne 10, 3) := dk_154 0 10 (dk_at dksX3_number_2_1 12 rfl rfl)
theorem dX3_number_2_39 : decode cX3_number_2 39 = .ok (.aload_n 0, 1) := dk_42 (dk_at dksX3_number_2_1 15 rfl rfl)
theorem dX3_number_2_40 : decode cX3_number_2 40 = .ok (.iconst 2, 1) := dk_5 (dk_at dksX3_number_2_1 16 rfl rfl)
theorem dX3_number_2_41 : decode cX3_number_2 41 = .ok (.invokevirtual 127, 3) := dk_182 0 127 (dk_at dksX3_number_2_1 17 rfl rfl)
theorem dX3_number_2_44 : decode cX3_number_2 44 = .ok (.iload_n 1, 1) := dk_27 (dk_at dksX3_number_2_1 20 rfl rfl)
theorem dX3_number_2_45 : decode cX3_number_2 45 = .ok (.ireturn, 1) := dk_172 (dk_at dksX3_number_2_1 21 rfl rfl)
theorem dX3_number_2_46 : decode cX3_number_2 46 = .ok (.aload_n 0, 1) := dk_42 (dk_at dksX3_number_2_1 22 rfl rfl)
theorem dX3_number_2_47 : decode cX3_number_2 47 = .ok (.getfield 93, 3) := dk_180 0 93 (dk_at dksX3_number_2_2 0 rfl rfl)
theorem dX3_number_2_50 : decode cX3_number_2 50 = .ok (.istore_n 3, 1) := dk_62 (dk_at dksX3_number_2_2 3 rfl rfl)
theorem dX3_number_2_51 : decode cX3_number_2 51 = .ok (.aload_n 0, 1) := dk_42 (dk_at dksX3_number_2_2 4 rfl rfl)
theorem dX3_number_2_52 : decode cX3_number_2 52 = .ok (.invokevirtual 121, 3) := dk_182 0 121 (dk_at dksX3_number_2_2 5 rfl rfl)
theorem dX3_number_2_55 : decode cX3_number_2 55 = .ok (.iload_n 3, 1) := dk_29 (dk_at dksX3_number_2_2 8 rfl rfl)
theorem dX3_number_2_56 : decode cX3_number_2 56 = .ok (.ireturn, 1) := dk_172 (dk_at dksX3_number_2_2 9 rfl rfl)
abbrev cX3_line : ByteArray := prog_14_method_30_code
def yX3_line : MethodName := ⟨RX3, "line", "()V"⟩
def dkwX3_line_2 : List UInt8 := [20, 0, 175, 182, 0, 130, 42, 182, 0, 177, 177]
abbrev dktX3_line_2 : List UInt8 := dkwX3_line_2 ++ []
def dkwX3_line_1 : List UInt8 := [182, 0, 127, 42, 180, 0, 111, 153, 0, 4, 177, 42, 182, 0, 121, 42, 182, 0, 172, 167, 0, 14, 42]
abbrev dktX3_line_1 : List UInt8 := dkwX3_line_1 ++ dktX3_line_2
def dkwX3_line_0 : List UInt8 := [42, 20, 0, 170, 182, 0, 117, 153, 0, 37, 42, 4, 182, 0, 145, 16, 8, 160, 0, 8, 42, 6]
abbrev dktX3_line_0 : List UInt8 := dkwX3_line_0 ++ dktX3_line_1
theorem dksX3_line_0 : cX3_line.data.toList.drop 0 = dktX3_line_0 := by decide +kernel
theorem dksX3_line_1 : cX3_line.data.toList.drop 22 = dktX3_line_1 := dk_seg dksX3_line_0 22 rfl rfl
theorem dksX3_line_2 : cX3_line.data.toList.drop 45 = dktX3_line_2 := dk_seg dksX3_line_1 23 rfl rfl
theorem dX3_line_0 : decode cX3_line 0 = .ok (.aload_n 0, 1) := dk_42 (dk_at dksX3_line_0 0 rfl rfl)
theorem dX3_line_1 : decode cX3_line 1 = .ok (.ldc2_w 170, 3) := dk_20 0 170 (dk_at dksX3_line_0 1 rfl rfl)
theorem dX3_line_4 : decode cX3_line 4 = .ok (.invokevirtual 117, 3) := dk_182 0 117 (dk_at dksX3_line_0 4 rfl rfl)
theorem dX3_line_7 : decode cX3_line 7 = .ok (.ifCond .eq 37, 3) := dk_153 0 37 (dk_at dksX3_line_0 7 rfl rfl)
theorem dX3_line_10 : decode cX3_line 10 = .ok (.aload_n 0, 1) := dk_42 (dk_at dksX3_line_0 10 rfl rfl)
theorem dX3_line_11 : decode cX3_line 11 = .ok (.iconst 1, 1) := dk_4 (dk_at dksX3_line_0 11 rfl rfl)
theorem dX3_line_12 : decode cX3_line 12 = .ok (.invokevirtual 145, 3) := dk_182 0 145 (dk_at dksX3_line_0 12 rfl rfl)
theorem dX3_line_15 : decode cX3_line 15 = .ok (.bipush 8, 2) := dk_16 8 (dk_at dksX3_line_0 15 rfl rfl)
theorem dX3_line_17 : decode cX3_line 17 = .ok (.if_icmp .ne 8, 3) := dk_160 0 8 (dk_at dksX3_line_0 17 rfl rfl)
theorem dX3_line_20 : decode cX3_line 20 = .ok (.aload_n 0, 1) := dk_42 (dk_at dksX3_line_0 20 rfl rfl)
theorem dX3_line_21 : decode cX3_line 21 = .ok (.iconst 3, 1) := dk_6 (dk_at dksX3_line_0 21 rfl rfl)
theorem dX3_line_22 : decode cX3_line 22 = .ok (.invokevirtual 127, 3) := dk_182 0 127 (dk_at dksX3_line_1 0 rfl rfl)
theorem dX3_line_25 : decode cX3_line 25 = .ok (.aload_n 0, 1) := dk_42 (dk_at dksX3_line_1 3 rfl rfl)
theorem dX3_line_26 : decode cX3_line 26 = .ok (.getfield 111, 3) := dk_180 0 111 (dk_at dksX3_line_1 4 rfl rfl)
theorem dX3_line_29 : decode cX3_line 29 = .ok (.ifCond .eq 4, 3) := dk_153 0 4 (dk_at dksX3_line_1 7 rfl rfl)
theorem dX3_line_32 : decode cX3_line 32 = .ok (.return_, 1) := dk_177 (dk_at dksX3_line_1 10 rfl rfl)
theorem dX3_line_33 : decode cX3_line 33 = .ok (.aload_n 0, 1) := dk_42 (dk_at dksX3_line_1 11 rfl rfl)
theorem dX3_line_34 : decode cX3_line 34 = .ok (.invokevirtual 121, 3) := dk_182 0 121 (dk_at dksX3_line_1 12 rfl rfl)
theorem dX3_line_37 : decode cX3_line 37 = .ok (.aload_n 0, 1) := dk_42 (dk_at dksX3_line_1 15 rfl rfl)
theorem dX3_line_38 : decode cX3_line 38 = .ok (.invokevirtual 172, 3) := dk_182 0 172 (dk_at dksX3_line_1 16 rfl rfl)
theorem dX3_line_41 : decode cX3_line 41 = .ok (.goto 14, 3) := dk_167 0 14 (dk_at dksX3_line_1 19 rfl rfl)
theorem dX3_line_44 : decode cX3_line 44 = .ok (.aload_n 0, 1) := dk_42 (dk_at dksX3_line_1 22 rfl rfl)
theorem dX3_line_45 : decode cX3_line 45 = .ok (.ldc2_w 175, 3) := dk_20 0 175 (dk_at dksX3_line_2 0 rfl rfl)
theorem dX3_line_48 : decode cX3_line 48 = .ok (.invokevirtual 130, 3) := dk_182 0 130 (dk_at dksX3_line_2 3 rfl rfl)
theorem dX3_line_51 : decode cX3_line 51 = .ok (.aload_n 0, 1) := dk_42 (dk_at dksX3_line_2 6 rfl rfl)
theorem dX3_line_52 : decode cX3_line 52 = .ok (.invokevirtual 177, 3) := dk_182 0 177 (dk_at dksX3_line_2 7 rfl rfl)
theorem dX3_line_55 : decode cX3_line 55 = .ok (.return_, 1) := dk_177 (dk_at dksX3_line_2 10 rfl rfl)
abbrev cX3_hasRead : ByteArray := prog_14_method_25_code
def yX3_hasRead : MethodName := ⟨RX3, "hasRead", "(I)I"⟩
def dkwX3_hasRead_0 : List UInt8 := [42, 180, 0, 34, 16, 12, 27, 96, 46, 172]
abbrev dktX3_hasRead_0 : List UInt8 := dkwX3_hasRead_0 ++ []
theorem dksX3_hasRead_0 : cX3_hasRead.data.toList.drop 0 = dktX3_hasRead_0 := by decide +kernel
theorem dX3_hasRead_0 : decode cX3_hasRead 0 = .ok (.aload_n 0, 1) := dk_42 (dk_at dksX3_hasRead_0 0 rfl rfl)
theorem dX3_hasRead_1 : decode cX3_hasRead 1 = .ok (.getfield 34, 3) := dk_180 0 34 (dk_at dksX3_hasRead_0 1 rfl rfl)
theorem dX3_hasRead_4 : decode cX3_hasRead 4 = .ok (.bipush 12, 2) := dk_16 12 (dk_at dksX3_hasRead_0 4 rfl rfl)
theorem dX3_hasRead_6 : decode cX3_hasRead 6 = .ok (.iload_n 1, 1) := dk_27 (dk_at dksX3_hasRead_0 6 rfl rfl)
theorem dX3_hasRead_7 : decode cX3_hasRead 7 = .ok (.iadd, 1) := dk_96 (dk_at dksX3_hasRead_0 7 rfl rfl)
theorem dX3_hasRead_8 : decode cX3_hasRead 8 = .ok (.iaload, 1) := dk_46 (dk_at dksX3_hasRead_0 8 rfl rfl)
theorem dX3_hasRead_9 : decode cX3_hasRead 9 = .ok (.ireturn, 1) := dk_172 (dk_at dksX3_hasRead_0 9 rfl rfl)
abbrev cX3_personLine : ByteArray := prog_14_method_28_code
def yX3_personLine : MethodName := ⟨RX3, "personLine", "()V"⟩
def dkwX3_personLine_5 : List UInt8 := [182, 0, 145, 4, 96, 182, 0, 162, 177]
abbrev dktX3_personLine_5 : List UInt8 := dkwX3_personLine_5 ++ []
def dkwX3_personLine_4 : List UInt8 := [79, 42, 180, 0, 37, 27, 6, 96, 2, 79, 42, 180, 0, 37, 27, 7, 96, 3, 79, 42, 4, 42, 4]
abbrev dktX3_personLine_4 : List UInt8 := dkwX3_personLine_4 ++ dktX3_personLine_5
def dkwX3_personLine_3 : List UInt8 := [180, 0, 111, 154, 0, 20, 42, 20, 0, 160, 182, 0, 124, 153, 0, 10, 42, 182, 0, 156, 167, 0, 4, 3]
abbrev dktX3_personLine_3 : List UInt8 := dkwX3_personLine_3 ++ dktX3_personLine_4
def dkwX3_personLine_2 : List UInt8 := [182, 0, 124, 153, 0, 10, 42, 182, 0, 156, 167, 0, 4, 3, 79, 42, 180, 0, 37, 27, 5, 96, 42]
abbrev dktX3_personLine_2 : List UInt8 := dkwX3_personLine_2 ++ dktX3_personLine_3
def dkwX3_personLine_1 : List UInt8 := [182, 0, 151, 79, 42, 180, 0, 37, 27, 4, 96, 42, 180, 0, 111, 154, 0, 20, 42, 20, 0, 154]
abbrev dktX3_personLine_1 : List UInt8 := dkwX3_personLine_1 ++ dktX3_personLine_2
def dkwX3_personLine_0 : List UInt8 := [8, 16, 32, 42, 4, 182, 0, 145, 96, 104, 60, 42, 180, 0, 37, 27, 42, 20, 0, 149, 4, 17, 3, 231]
abbrev dktX3_personLine_0 : List UInt8 := dkwX3_personLine_0 ++ dktX3_personLine_1
theorem dksX3_personLine_0 : cX3_personLine.data.toList.drop 0 = dktX3_personLine_0 := by decide +kernel
theorem dksX3_personLine_1 : cX3_personLine.data.toList.drop 24 = dktX3_personLine_1 := dk_seg dksX3_personLine_0 24 rfl rfl
theorem dksX3_personLine_2 : cX3_personLine.data.toList.drop 46 = dktX3_personLine_2 := dk_seg dksX3_personLine_1 22 rfl rfl
theorem dksX3_personLine_3 : cX3_personLine.data.toList.drop 69 = dktX3_personLine_3 := dk_seg dksX3_personLine_2 23 rfl rfl
theorem dksX3_personLine_4 : cX3_personLine.data.toList.drop 93 = dktX3_personLine_4 := dk_seg dksX3_personLine_3 24 rfl rfl
theorem dksX3_personLine_5 : cX3_personLine.data.toList.drop 116 = dktX3_personLine_5 := dk_seg dksX3_personLine_4 23 rfl rfl
theorem dX3_personLine_0 : decode cX3_personLine 0 = .ok (.iconst 5, 1) := dk_8 (dk_at dksX3_personLine_0 0 rfl rfl)
theorem dX3_personLine_1 : decode cX3_personLine 1 = .ok (.bipush 32, 2) := dk_16 32 (dk_at dksX3_personLine_0 1 rfl rfl)
theorem dX3_personLine_3 : decode cX3_personLine 3 = .ok (.aload_n 0, 1) := dk_42 (dk_at dksX3_personLine_0 3 rfl rfl)
theorem dX3_personLine_4 : decode cX3_personLine 4 = .ok (.iconst 1, 1) := dk_4 (dk_at dksX3_personLine_0 4 rfl rfl)
theorem dX3_personLine_5 : decode cX3_personLine 5 = .ok (.invokevirtual 145, 3) := dk_182 0 145 (dk_at dksX3_personLine_0 5 rfl rfl)
theorem dX3_personLine_8 : decode cX3_personLine 8 = .ok (.iadd, 1) := dk_96 (dk_at dksX3_personLine_0 8 rfl rfl)
theorem dX3_personLine_9 : decode cX3_personLine 9 = .ok (.imul, 1) := dk_104 (dk_at dksX3_personLine_0 9 rfl rfl)
theorem dX3_personLine_10 : decode cX3_personLine 10 = .ok (.istore_n 1, 1) := dk_60 (dk_at dksX3_personLine_0 10 rfl rfl)
theorem dX3_personLine_11 : decode cX3_personLine 11 = .ok (.aload_n 0, 1) := dk_42 (dk_at dksX3_personLine_0 11 rfl rfl)
theorem dX3_personLine_12 : decode cX3_personLine 12 = .ok (.getfield 37, 3) := dk_180 0 37 (dk_at dksX3_personLine_0 12 rfl rfl)
theorem dX3_personLine_15 : decode cX3_personLine 15 = .ok (.iload_n 1, 1) := dk_27 (dk_at dksX3_personLine_0 15 rfl rfl)
theorem dX3_personLine_16 : decode cX3_personLine 16 = .ok (.aload_n 0, 1) := dk_42 (dk_at dksX3_personLine_0 16 rfl rfl)
theorem dX3_personLine_17 : decode cX3_personLine 17 = .ok (.ldc2_w 149, 3) := dk_20 0 149 (dk_at dksX3_personLine_0 17 rfl rfl)
theorem dX3_personLine_20 : decode cX3_personLine 20 = .ok (.iconst 1, 1) := dk_4 (dk_at dksX3_personLine_0 20 rfl rfl)
theorem dX3_personLine_21 : decode cX3_personLine 21 = .ok (.sipush 999, 3) := dk_17 3 231 (dk_at dksX3_personLine_0 21 rfl rfl)
theorem dX3_personLine_24 : decode cX3_personLine 24 = .ok (.invokevirtual 151, 3) := dk_182 0 151 (dk_at dksX3_personLine_1 0 rfl rfl)
theorem dX3_personLine_27 : decode cX3_personLine 27 = .ok (.iastore, 1) := dk_79 (dk_at dksX3_personLine_1 3 rfl rfl)
theorem dX3_personLine_28 : decode cX3_personLine 28 = .ok (.aload_n 0, 1) := dk_42 (dk_at dksX3_personLine_1 4 rfl rfl)
theorem dX3_personLine_29 : decode cX3_personLine 29 = .ok (.getfield 37, 3) := dk_180 0 37 (dk_at dksX3_personLine_1 5 rfl rfl)
theorem dX3_personLine_32 : decode cX3_personLine 32 = .ok (.iload_n 1, 1) := dk_27 (dk_at dksX3_personLine_1 8 rfl rfl)
theorem dX3_personLine_33 : decode cX3_personLine 33 = .ok (.iconst 1, 1) := dk_4 (dk_at dksX3_personLine_1 9 rfl rfl)
theorem dX3_personLine_34 : decode cX3_personLine 34 = .ok (.iadd, 1) := dk_96 (dk_at dksX3_personLine_1 10 rfl rfl)
theorem dX3_personLine_35 : decode cX3_personLine 35 = .ok (.aload_n 0, 1) := dk_42 (dk_at dksX3_personLine_1 11 rfl rfl)
theorem dX3_personLine_36 : decode cX3_personLine 36 = .ok (.getfield 111, 3) := dk_180 0 111 (dk_at dksX3_personLine_1 12 rfl rfl)
theorem dX3_personLine_39 : decode cX3_personLine 39 = .ok (.ifCond .ne 20, 3) := dk_154 0 20 (dk_at dksX3_personLine_1 15 rfl rfl)
theorem dX3_personLine_42 : decode cX3_personLine 42 = .ok (.aload_n 0, 1) := dk_42 (dk_at dksX3_personLine_1 18 rfl rfl)
theorem dX3_personLine_43 : decode cX3_personLine 43 = .ok (.ldc2_w 154, 3) := dk_20 0 154 (dk_at dksX3_personLine_1 19 rfl rfl)
theorem dX3_personLine_46 : decode cX3_personLine 46 = .ok (.invokevirtual 124, 3) := dk_182 0 124 (dk_at dksX3_personLine_2 0 rfl rfl)
theorem dX3_personLine_49 : decode cX3_personLine 49 = .ok (.ifCond .eq 10, 3) := dk_153 0 10 (dk_at dksX3_personLine_2 3 rfl rfl)
theorem dX3_personLine_52 : decode cX3_personLine 52 = .ok (.aload_n 0, 1) := dk_42 (dk_at dksX3_personLine_2 6 rfl rfl)
theorem dX3_personLine_53 : decode cX3_personLine 53 = .ok (.invokevirtual 156, 3) := dk_182 0 156 (dk_at dksX3_personLine_2 7 rfl rfl)
theorem dX3_personLine_56 : decode cX3_personLine 56 = .ok (.goto 4, 3) := dk_167 0 4 (dk_at dksX3_personLine_2 10 rfl rfl)
theorem dX3_personLine_59 : decode cX3_personLine 59 = .ok (.iconst 0, 1) := dk_3 (dk_at dksX3_personLine_2 13 rfl rfl)
theorem dX3_personLine_60 : decode cX3_personLine 60 = .ok (.iastore, 1) := dk_79 (dk_at dksX3_personLine_2 14 rfl rfl)
theorem dX3_personLine_61 : decode cX3_personLine 61 = .ok (.aload_n 0, 1) := dk_42 (dk_at dksX3_personLine_2 15 rfl rfl)
theorem dX3_personLine_62 : decode cX3_personLine 62 = .ok (.getfield 37, 3) := dk_180 0 37 (dk_at dksX3_personLine_2 16 rfl rfl)
theorem dX3_personLine_65 : decode cX3_personLine 65 = .ok (.iload_n 1, 1) := dk_27 (dk_at dksX3_personLine_2 19 rfl rfl)
theorem dX3_personLine_66 : decode cX3_personLine 66 = .ok (.iconst 2, 1) := dk_5 (dk_at dksX3_personLine_2 20 rfl rfl)
theorem dX3_personLine_67 : decode cX3_personLine 67 = .ok (.iadd, 1) := dk_96 (dk_at dksX3_personLine_2 21 rfl rfl)
theorem dX3_personLine_68 : decode cX3_personLine 68 = .ok (.aload_n 0, 1) := dk_42 (dk_at dksX3_personLine_2 22 rfl rfl)
theorem dX3_personLine_69 : decode cX3_personLine 69 = .ok (.getfield 111, 3) := dk_180 0 111 (dk_at dksX3_personLine_3 0 rfl rfl)
theorem dX3_personLine_72 : decode cX3_personLine 72 = .ok (.ifCond .ne 20, 3) := dk_154 0 20 (dk_at dksX3_personLine_3 3 rfl rfl)
theorem dX3_personLine_75 : decode cX3_personLine 75 = .ok (.aload_n 0, 1) := dk_42 (dk_at dksX3_personLine_3 6 rfl rfl)
theorem dX3_personLine_76 : decode cX3_personLine 76 = .ok (.ldc2_w 160, 3) := dk_20 0 160 (dk_at dksX3_personLine_3 7 rfl rfl)
theorem dX3_personLine_79 : decode cX3_personLine 79 = .ok (.invokevirtual 124, 3) := dk_182 0 124 (dk_at dksX3_personLine_3 10 rfl rfl)
theorem dX3_personLine_82 : decode cX3_personLine 82 = .ok (.ifCond .eq 10, 3) := dk_153 0 10 (dk_at dksX3_personLine_3 13 rfl rfl)
theorem dX3_personLine_85 : decode cX3_personLine 85 = .ok (.aload_n 0, 1) := dk_42 (dk_at dksX3_personLine_3 16 rfl rfl)
theorem dX3_personLine_86 : decode cX3_personLine 86 = .ok (.invokevirtual 156, 3) := dk_182 0 156 (dk_at dksX3_personLine_3 17 rfl rfl)
theorem dX3_personLine_89 : decode cX3_personLine 89 = .ok (.goto 4, 3) := dk_167 0 4 (dk_at dksX3_personLine_3 20 rfl rfl)
theorem dX3_personLine_92 : decode cX3_personLine 92 = .ok (.iconst 0, 1) := dk_3 (dk_at dksX3_personLine_3 23 rfl rfl)
theorem dX3_personLine_93 : decode cX3_personLine 93 = .ok (.iastore, 1) := dk_79 (dk_at dksX3_personLine_4 0 rfl rfl)
theorem dX3_personLine_94 : decode cX3_personLine 94 = .ok (.aload_n 0, 1) := dk_42 (dk_at dksX3_personLine_4 1 rfl rfl)
theorem dX3_personLine_95 : decode cX3_personLine 95 = .ok (.getfield 37, 3) := dk_180 0 37 (dk_at dksX3_personLine_4 2 rfl rfl)
theorem dX3_personLine_98 : decode cX3_personLine 98 = .ok (.iload_n 1, 1) := dk_27 (dk_at dksX3_personLine_4 5 rfl rfl)
theorem dX3_personLine_99 : decode cX3_personLine 99 = .ok (.iconst 3, 1) := dk_6 (dk_at dksX3_personLine_4 6 rfl rfl)
theorem dX3_personLine_100 : decode cX3_personLine 100 = .ok (.iadd, 1) := dk_96 (dk_at dksX3_personLine_4 7 rfl rfl)
theorem dX3_personLine_101 : decode cX3_personLine 101 = .ok (.iconst (-1), 1) := dk_2 (dk_at dksX3_personLine_4 8 rfl rfl)
theorem dX3_personLine_102 : decode cX3_personLine 102 = .ok (.iastore, 1) := dk_79 (dk_at dksX3_personLine_4 9 rfl rfl)
theorem dX3_personLine_103 : decode cX3_personLine 103 = .ok (.aload_n 0, 1) := dk_42 (dk_at dksX3_personLine_4 10 rfl rfl)
theorem dX3_personLine_104 : decode cX3_personLine 104 = .ok (.getfield 37, 3) := dk_180 0 37 (dk_at dksX3_personLine_4 11 rfl rfl)
theorem dX3_personLine_107 : decode cX3_personLine 107 = .ok (.iload_n 1, 1) := dk_27 (dk_at dksX3_personLine_4 14 rfl rfl)
theorem dX3_personLine_108 : decode cX3_personLine 108 = .ok (.iconst 4, 1) := dk_7 (dk_at dksX3_personLine_4 15 rfl rfl)
theorem dX3_personLine_109 : decode cX3_personLine 109 = .ok (.iadd, 1) := dk_96 (dk_at dksX3_personLine_4 16 rfl rfl)
theorem dX3_personLine_110 : decode cX3_personLine 110 = .ok (.iconst 0, 1) := dk_3 (dk_at dksX3_personLine_4 17 rfl rfl)
theorem dX3_personLine_111 : decode cX3_personLine 111 = .ok (.iastore, 1) := dk_79 (dk_at dksX3_personLine_4 18 rfl rfl)
theorem dX3_personLine_112 : decode cX3_personLine 112 = .ok (.aload_n 0, 1) := dk_42 (dk_at dksX3_personLine_4 19 rfl rfl)
theorem dX3_personLine_113 : decode cX3_personLine 113 = .ok (.iconst 1, 1) := dk_4 (dk_at dksX3_personLine_4 20 rfl rfl)
theorem dX3_personLine_114 : decode cX3_personLine 114 = .ok (.aload_n 0, 1) := dk_42 (dk_at dksX3_personLine_4 21 rfl rfl)
theorem dX3_personLine_115 : decode cX3_personLine 115 = .ok (.iconst 1, 1) := dk_4 (dk_at dksX3_personLine_4 22 rfl rfl)
theorem dX3_personLine_116 : decode cX3_personLine 116 = .ok (.invokevirtual 145, 3) := dk_182 0 145 (dk_at dksX3_personLine_5 0 rfl rfl)
theorem dX3_personLine_119 : decode cX3_personLine 119 = .ok (.iconst 1, 1) := dk_4 (dk_at dksX3_personLine_5 3 rfl rfl)
theorem dX3_personLine_120 : decode cX3_personLine 120 = .ok (.iadd, 1) := dk_96 (dk_at dksX3_personLine_5 4 rfl rfl)
theorem dX3_personLine_121 : decode cX3_personLine 121 = .ok (.invokevirtual 162, 3) := dk_182 0 162 (dk_at dksX3_personLine_5 5 rfl rfl)
theorem dX3_personLine_124 : decode cX3_personLine 124 = .ok (.return_, 1) := dk_177 (dk_at dksX3_personLine_5 8 rfl rfl)
abbrev cX3_deedsHere : ByteArray := prog_14_method_27_code
def yX3_deedsHere : MethodName := ⟨RX3, "deedsHere", "()I"⟩
def dkwX3_deedsHere_1 : List UInt8 := [5, 159, 255, 233, 27, 172]
abbrev dktX3_deedsHere_1 : List UInt8 := dkwX3_deedsHere_1 ++ []
def dkwX3_deedsHere_0 : List UInt8 := [3, 60, 27, 4, 42, 3, 8, 182, 0, 134, 120, 128, 60, 42, 182, 0, 141, 153, 0, 11, 42, 180, 0, 100]
abbrev dktX3_deedsHere_0 : List UInt8 := dkwX3_deedsHere_0 ++ dktX3_deedsHere_1
theorem dksX3_deedsHere_0 : cX3_deedsHere.data.toList.drop 0 = dktX3_deedsHere_0 := by decide +kernel
theorem dksX3_deedsHere_1 : cX3_deedsHere.data.toList.drop 24 = dktX3_deedsHere_1 := dk_seg dksX3_deedsHere_0 24 rfl rfl
theorem dX3_deedsHere_0 : decode cX3_deedsHere 0 = .ok (.iconst 0, 1) := dk_3 (dk_at dksX3_deedsHere_0 0 rfl rfl)
theorem dX3_deedsHere_1 : decode cX3_deedsHere 1 = .ok (.istore_n 1, 1) := dk_60 (dk_at dksX3_deedsHere_0 1 rfl rfl)
theorem dX3_deedsHere_2 : decode cX3_deedsHere 2 = .ok (.iload_n 1, 1) := dk_27 (dk_at dksX3_deedsHere_0 2 rfl rfl)
theorem dX3_deedsHere_3 : decode cX3_deedsHere 3 = .ok (.iconst 1, 1) := dk_4 (dk_at dksX3_deedsHere_0 3 rfl rfl)
theorem dX3_deedsHere_4 : decode cX3_deedsHere 4 = .ok (.aload_n 0, 1) := dk_42 (dk_at dksX3_deedsHere_0 4 rfl rfl)
theorem dX3_deedsHere_5 : decode cX3_deedsHere 5 = .ok (.iconst 0, 1) := dk_3 (dk_at dksX3_deedsHere_0 5 rfl rfl)
theorem dX3_deedsHere_6 : decode cX3_deedsHere 6 = .ok (.iconst 5, 1) := dk_8 (dk_at dksX3_deedsHere_0 6 rfl rfl)
theorem dX3_deedsHere_7 : decode cX3_deedsHere 7 = .ok (.invokevirtual 134, 3) := dk_182 0 134 (dk_at dksX3_deedsHere_0 7 rfl rfl)
theorem dX3_deedsHere_10 : decode cX3_deedsHere 10 = .ok (.ishl, 1) := dk_120 (dk_at dksX3_deedsHere_0 10 rfl rfl)
theorem dX3_deedsHere_11 : decode cX3_deedsHere 11 = .ok (.ior, 1) := dk_128 (dk_at dksX3_deedsHere_0 11 rfl rfl)
theorem dX3_deedsHere_12 : decode cX3_deedsHere 12 = .ok (.istore_n 1, 1) := dk_60 (dk_at dksX3_deedsHere_0 12 rfl rfl)
theorem dX3_deedsHere_13 : decode cX3_deedsHere 13 = .ok (.aload_n 0, 1) := dk_42 (dk_at dksX3_deedsHere_0 13 rfl rfl)
theorem dX3_deedsHere_14 : decode cX3_deedsHere 14 = .ok (.invokevirtual 141, 3) := dk_182 0 141 (dk_at dksX3_deedsHere_0 14 rfl rfl)
theorem dX3_deedsHere_17 : decode cX3_deedsHere 17 = .ok (.ifCond .eq 11, 3) := dk_153 0 11 (dk_at dksX3_deedsHere_0 17 rfl rfl)
theorem dX3_deedsHere_20 : decode cX3_deedsHere 20 = .ok (.aload_n 0, 1) := dk_42 (dk_at dksX3_deedsHere_0 20 rfl rfl)
theorem dX3_deedsHere_21 : decode cX3_deedsHere 21 = .ok (.getfield 100, 3) := dk_180 0 100 (dk_at dksX3_deedsHere_0 21 rfl rfl)
theorem dX3_deedsHere_24 : decode cX3_deedsHere 24 = .ok (.iconst 2, 1) := dk_5 (dk_at dksX3_deedsHere_1 0 rfl rfl)
theorem dX3_deedsHere_25 : decode cX3_deedsHere 25 = .ok (.if_icmp .eq (-23), 3) := dk_159 255 233 (dk_at dksX3_deedsHere_1 1 rfl rfl)
theorem dX3_deedsHere_28 : decode cX3_deedsHere 28 = .ok (.iload_n 1, 1) := dk_27 (dk_at dksX3_deedsHere_1 4 rfl rfl)
theorem dX3_deedsHere_29 : decode cX3_deedsHere 29 = .ok (.ireturn, 1) := dk_172 (dk_at dksX3_deedsHere_1 5 rfl rfl)
abbrev cX3_cardLine : ByteArray := prog_14_method_29_code
def yX3_cardLine : MethodName := ⟨RX3, "cardLine", "()V"⟩
def dkwX3_cardLine_6 : List UInt8 := [153, 0, 7, 4, 167, 0, 4, 3, 79, 177]
abbrev dktX3_cardLine_6 : List UInt8 := dkwX3_cardLine_6 ++ []
def dkwX3_cardLine_5 : List UInt8 := [8, 16, 32, 27, 96, 104, 6, 96, 28, 79, 42, 180, 0, 37, 8, 16, 32, 27, 96, 104, 7, 96, 29]
abbrev dktX3_cardLine_5 : List UInt8 := dkwX3_cardLine_5 ++ dktX3_cardLine_6
def dkwX3_cardLine_4 : List UInt8 := [182, 0, 124, 153, 0, 7, 4, 167, 0, 4, 3, 62, 42, 182, 0, 141, 154, 0, 4, 177, 42, 180, 0, 37]
abbrev dktX3_cardLine_4 : List UInt8 := dkwX3_cardLine_4 ++ dktX3_cardLine_5
def dkwX3_cardLine_3 : List UInt8 := [42, 3, 42, 4, 182, 0, 145, 4, 100, 182, 0, 134, 61, 42, 180, 0, 111, 154, 0, 17, 42, 20, 0, 168]
abbrev dktX3_cardLine_3 : List UInt8 := dkwX3_cardLine_3 ++ dktX3_cardLine_4
def dkwX3_cardLine_2 : List UInt8 := [5, 182, 0, 127, 42, 3, 42, 4, 182, 0, 145, 4, 100, 182, 0, 134, 60, 42, 20, 0, 166, 182, 0, 130]
abbrev dktX3_cardLine_2 : List UInt8 := dkwX3_cardLine_2 ++ dktX3_cardLine_3
def dkwX3_cardLine_1 : List UInt8 := [162, 0, 28, 42, 180, 0, 37, 8, 16, 32, 42, 180, 0, 93, 96, 104, 6, 96, 46, 2, 159, 0, 8, 42]
abbrev dktX3_cardLine_1 : List UInt8 := dkwX3_cardLine_1 ++ dktX3_cardLine_2
def dkwX3_cardLine_0 : List UInt8 := [42, 180, 0, 111, 154, 0, 48, 42, 180, 0, 100, 5, 160, 0, 40, 42, 180, 0, 93, 42, 4, 182, 0, 145]
abbrev dktX3_cardLine_0 : List UInt8 := dkwX3_cardLine_0 ++ dktX3_cardLine_1
theorem dksX3_cardLine_0 : cX3_cardLine.data.toList.drop 0 = dktX3_cardLine_0 := by decide +kernel
theorem dksX3_cardLine_1 : cX3_cardLine.data.toList.drop 24 = dktX3_cardLine_1 := dk_seg dksX3_cardLine_0 24 rfl rfl
theorem dksX3_cardLine_2 : cX3_cardLine.data.toList.drop 48 = dktX3_cardLine_2 := dk_seg dksX3_cardLine_1 24 rfl rfl
theorem dksX3_cardLine_3 : cX3_cardLine.data.toList.drop 72 = dktX3_cardLine_3 := dk_seg dksX3_cardLine_2 24 rfl rfl
theorem dksX3_cardLine_4 : cX3_cardLine.data.toList.drop 96 = dktX3_cardLine_4 := dk_seg dksX3_cardLine_3 24 rfl rfl
theorem dksX3_cardLine_5 : cX3_cardLine.data.toList.drop 120 = dktX3_cardLine_5 := dk_seg dksX3_cardLine_4 24 rfl rfl
theorem dksX3_cardLine_6 : cX3_cardLine.data.toList.drop 143 = dktX3_cardLine_6 := dk_seg dksX3_cardLine_5 23 rfl rfl
theorem dX3_cardLine_0 : decode cX3_cardLine 0 = .ok (.aload_n 0, 1) := dk_42 (dk_at dksX3_cardLine_0 0 rfl rfl)
theorem dX3_cardLine_1 : decode cX3_cardLine 1 = .ok (.getfield 111, 3) := dk_180 0 111 (dk_at dksX3_cardLine_0 1 rfl rfl)
theorem dX3_cardLine_4 : decode cX3_cardLine 4 = .ok (.ifCond .ne 48, 3) := dk_154 0 48 (dk_at dksX3_cardLine_0 4 rfl rfl)
theorem dX3_cardLine_7 : decode cX3_cardLine 7 = .ok (.aload_n 0, 1) := dk_42 (dk_at dksX3_cardLine_0 7 rfl rfl)
theorem dX3_cardLine_8 : decode cX3_cardLine 8 = .ok (.getfield 100, 3) := dk_180 0 100 (dk_at dksX3_cardLine_0 8 rfl rfl)
theorem dX3_cardLine_11 : decode cX3_cardLine 11 = .ok (.iconst 2, 1) := dk_5 (dk_at dksX3_cardLine_0 11 rfl rfl)
theorem dX3_cardLine_12 : decode cX3_cardLine 12 = .ok (.if_icmp .ne 40, 3) := dk_160 0 40 (dk_at dksX3_cardLine_0 12 rfl rfl)
theorem dX3_cardLine_15 : decode cX3_cardLine 15 = .ok (.aload_n 0, 1) := dk_42 (dk_at dksX3_cardLine_0 15 rfl rfl)
theorem dX3_cardLine_16 : decode cX3_cardLine 16 = .ok (.getfield 93, 3) := dk_180 0 93 (dk_at dksX3_cardLine_0 16 rfl rfl)
theorem dX3_cardLine_19 : decode cX3_cardLine 19 = .ok (.aload_n 0, 1) := dk_42 (dk_at dksX3_cardLine_0 19 rfl rfl)
theorem dX3_cardLine_20 : decode cX3_cardLine 20 = .ok (.iconst 1, 1) := dk_4 (dk_at dksX3_cardLine_0 20 rfl rfl)
theorem dX3_cardLine_21 : decode cX3_cardLine 21 = .ok (.invokevirtual 145, 3) := dk_182 0 145 (dk_at dksX3_cardLine_0 21 rfl rfl)
theorem dX3_cardLine_24 : decode cX3_cardLine 24 = .ok (.if_icmp .ge 28, 3) := dk_162 0 28 (dk_at dksX3_cardLine_1 0 rfl rfl)
theorem dX3_cardLine_27 : decode cX3_cardLine 27 = .ok (.aload_n 0, 1) := dk_42 (dk_at dksX3_cardLine_1 3 rfl rfl)
theorem dX3_cardLine_28 : decode cX3_cardLine 28 = .ok (.getfield 37, 3) := dk_180 0 37 (dk_at dksX3_cardLine_1 4 rfl rfl)
theorem dX3_cardLine_31 : decode cX3_cardLine 31 = .ok (.iconst 5, 1) := dk_8 (dk_at dksX3_cardLine_1 7 rfl rfl)
theorem dX3_cardLine_32 : decode cX3_cardLine 32 = .ok (.bipush 32, 2) := dk_16 32 (dk_at dksX3_cardLine_1 8 rfl rfl)
theorem dX3_cardLine_34 : decode cX3_cardLine 34 = .ok (.aload_n 0, 1) := dk_42 (dk_at dksX3_cardLine_1 10 rfl rfl)
theorem dX3_cardLine_35 : decode cX3_cardLine 35 = .ok (.getfield 93, 3) := dk_180 0 93 (dk_at dksX3_cardLine_1 11 rfl rfl)
theorem dX3_cardLine_38 : decode cX3_cardLine 38 = .ok (.iadd, 1) := dk_96 (dk_at dksX3_cardLine_1 14 rfl rfl)
theorem dX3_cardLine_39 : decode cX3_cardLine 39 = .ok (.imul, 1) := dk_104 (dk_at dksX3_cardLine_1 15 rfl rfl)
theorem dX3_cardLine_40 : decode cX3_cardLine 40 = .ok (.iconst 3, 1) := dk_6 (dk_at dksX3_cardLine_1 16 rfl rfl)
theorem dX3_cardLine_41 : decode cX3_cardLine 41 = .ok (.iadd, 1) := dk_96 (dk_at dksX3_cardLine_1 17 rfl rfl)
theorem dX3_cardLine_42 : decode cX3_cardLine 42 = .ok (.iaload, 1) := dk_46 (dk_at dksX3_cardLine_1 18 rfl rfl)
theorem dX3_cardLine_43 : decode cX3_cardLine 43 = .ok (.iconst (-1), 1) := dk_2 (dk_at dksX3_cardLine_1 19 rfl rfl)
theorem dX3_cardLine_44 : decode cX3_cardLine 44 = .ok (.if_icmp .eq 8, 3) := dk_159 0 8 (dk_at dksX3_cardLine_1 20 rfl rfl)
theorem dX3_cardLine_47 : decode cX3_cardLine 47 = .ok (.aload_n 0, 1) := dk_42 (dk_at dksX3_cardLine_1 23 rfl rfl)
theorem dX3_cardLine_48 : decode cX3_cardLine 48 = .ok (.iconst 2, 1) := dk_5 (dk_at dksX3_cardLine_2 0 rfl rfl)
theorem dX3_cardLine_49 : decode cX3_cardLine 49 = .ok (.invokevirtual 127, 3) := dk_182 0 127 (dk_at dksX3_cardLine_2 1 rfl rfl)
theorem dX3_cardLine_52 : decode cX3_cardLine 52 = .ok (.aload_n 0, 1) := dk_42 (dk_at dksX3_cardLine_2 4 rfl rfl)
theorem dX3_cardLine_53 : decode cX3_cardLine 53 = .ok (.iconst 0, 1) := dk_3 (dk_at dksX3_cardLine_2 5 rfl rfl)
theorem dX3_cardLine_54 : decode cX3_cardLine 54 = .ok (.aload_n 0, 1) := dk_42 (dk_at dksX3_cardLine_2 6 rfl rfl)
theorem dX3_cardLine_55 : decode cX3_cardLine 55 = .ok (.iconst 1, 1) := dk_4 (dk_at dksX3_cardLine_2 7 rfl rfl)
theorem dX3_cardLine_56 : decode cX3_cardLine 56 = .ok (.invokevirtual 145, 3) := dk_182 0 145 (dk_at dksX3_cardLine_2 8 rfl rfl)
theorem dX3_cardLine_59 : decode cX3_cardLine 59 = .ok (.iconst 1, 1) := dk_4 (dk_at dksX3_cardLine_2 11 rfl rfl)
theorem dX3_cardLine_60 : decode cX3_cardLine 60 = .ok (.isub, 1) := dk_100 (dk_at dksX3_cardLine_2 12 rfl rfl)
theorem dX3_cardLine_61 : decode cX3_cardLine 61 = .ok (.invokevirtual 134, 3) := dk_182 0 134 (dk_at dksX3_cardLine_2 13 rfl rfl)
theorem dX3_cardLine_64 : decode cX3_cardLine 64 = .ok (.istore_n 1, 1) := dk_60 (dk_at dksX3_cardLine_2 16 rfl rfl)
theorem dX3_cardLine_65 : decode cX3_cardLine 65 = .ok (.aload_n 0, 1) := dk_42 (dk_at dksX3_cardLine_2 17 rfl rfl)
theorem dX3_cardLine_66 : decode cX3_cardLine 66 = .ok (.ldc2_w 166, 3) := dk_20 0 166 (dk_at dksX3_cardLine_2 18 rfl rfl)
theorem dX3_cardLine_69 : decode cX3_cardLine 69 = .ok (.invokevirtual 130, 3) := dk_182 0 130 (dk_at dksX3_cardLine_2 21 rfl rfl)
theorem dX3_cardLine_72 : decode cX3_cardLine 72 = .ok (.aload_n 0, 1) := dk_42 (dk_at dksX3_cardLine_3 0 rfl rfl)
theorem dX3_cardLine_73 : decode cX3_cardLine 73 = .ok (.iconst 0, 1) := dk_3 (dk_at dksX3_cardLine_3 1 rfl rfl)
theorem dX3_cardLine_74 : decode cX3_cardLine 74 = .ok (.aload_n 0, 1) := dk_42 (dk_at dksX3_cardLine_3 2 rfl rfl)
theorem dX3_cardLine_75 : decode cX3_cardLine 75 = .ok (.iconst 1, 1) := dk_4 (dk_at dksX3_cardLine_3 3 rfl rfl)
theorem dX3_cardLine_76 : decode cX3_cardLine 76 = .ok (.invokevirtual 145, 3) := dk_182 0 145 (dk_at dksX3_cardLine_3 4 rfl rfl)
theorem dX3_cardLine_79 : decode cX3_cardLine 79 = .ok (.iconst 1, 1) := dk_4 (dk_at dksX3_cardLine_3 7 rfl rfl)
theorem dX3_cardLine_80 : decode cX3_cardLine 80 = .ok (.isub, 1) := dk_100 (dk_at dksX3_cardLine_3 8 rfl rfl)
theorem dX3_cardLine_81 : decode cX3_cardLine 81 = .ok (.invokevirtual 134, 3) := dk_182 0 134 (dk_at dksX3_cardLine_3 9 rfl rfl)
theorem dX3_cardLine_84 : decode cX3_cardLine 84 = .ok (.istore_n 2, 1) := dk_61 (dk_at dksX3_cardLine_3 12 rfl rfl)
theorem dX3_cardLine_85 : decode cX3_cardLine 85 = .ok (.aload_n 0, 1) := dk_42 (dk_at dksX3_cardLine_3 13 rfl rfl)
theorem dX3_cardLine_86 : decode cX3_cardLine 86 = .ok (.getfield 111, 3) := dk_180 0 111 (dk_at dksX3_cardLine_3 14 rfl rfl)
theorem dX3_cardLine_89 : decode cX3_cardLine 89 = .ok (.ifCond .ne 17, 3) := dk_154 0 17 (dk_at dksX3_cardLine_3 17 rfl rfl)
theorem dX3_cardLine_92 : decode cX3_cardLine 92 = .ok (.aload_n 0, 1) := dk_42 (dk_at dksX3_cardLine_3 20 rfl rfl)
theorem dX3_cardLine_93 : decode cX3_cardLine 93 = .ok (.ldc2_w 168, 3) := dk_20 0 168 (dk_at dksX3_cardLine_3 21 rfl rfl)
theorem dX3_cardLine_96 : decode cX3_cardLine 96 = .ok (.invokevirtual 124, 3) := dk_182 0 124 (dk_at dksX3_cardLine_4 0 rfl rfl)
theorem dX3_cardLine_99 : decode cX3_cardLine 99 = .ok (.ifCond .eq 7, 3) := dk_153 0 7 (dk_at dksX3_cardLine_4 3 rfl rfl)
theorem dX3_cardLine_102 : decode cX3_cardLine 102 = .ok (.iconst 1, 1) := dk_4 (dk_at dksX3_cardLine_4 6 rfl rfl)
theorem dX3_cardLine_103 : decode cX3_cardLine 103 = .ok (.goto 4, 3) := dk_167 0 4 (dk_at dksX3_cardLine_4 7 rfl rfl)
theorem dX3_cardLine_106 : decode cX3_cardLine 106 = .ok (.iconst 0, 1) := dk_3 (dk_at dksX3_cardLine_4 10 rfl rfl)
theorem dX3_cardLine_107 : decode cX3_cardLine 107 = .ok (.istore_n 3, 1) := dk_62 (dk_at dksX3_cardLine_4 11 rfl rfl)
theorem dX3_cardLine_108 : decode cX3_cardLine 108 = .ok (.aload_n 0, 1) := dk_42 (dk_at dksX3_cardLine_4 12 rfl rfl)
theorem dX3_cardLine_109 : decode cX3_cardLine 109 = .ok (.invokevirtual 141, 3) := dk_182 0 141 (dk_at dksX3_cardLine_4 13 rfl rfl)
theorem dX3_cardLine_112 : decode cX3_cardLine 112 = .ok (.ifCond .ne 4, 3) := dk_154 0 4 (dk_at dksX3_cardLine_4 16 rfl rfl)
theorem dX3_cardLine_115 : decode cX3_cardLine 115 = .ok (.return_, 1) := dk_177 (dk_at dksX3_cardLine_4 19 rfl rfl)
theorem dX3_cardLine_116 : decode cX3_cardLine 116 = .ok (.aload_n 0, 1) := dk_42 (dk_at dksX3_cardLine_4 20 rfl rfl)
theorem dX3_cardLine_117 : decode cX3_cardLine 117 = .ok (.getfield 37, 3) := dk_180 0 37 (dk_at dksX3_cardLine_4 21 rfl rfl)
theorem dX3_cardLine_120 : decode cX3_cardLine 120 = .ok (.iconst 5, 1) := dk_8 (dk_at dksX3_cardLine_5 0 rfl rfl)
theorem dX3_cardLine_121 : decode cX3_cardLine 121 = .ok (.bipush 32, 2) := dk_16 32 (dk_at dksX3_cardLine_5 1 rfl rfl)
theorem dX3_cardLine_123 : decode cX3_cardLine 123 = .ok (.iload_n 1, 1) := dk_27 (dk_at dksX3_cardLine_5 3 rfl rfl)
theorem dX3_cardLine_124 : decode cX3_cardLine 124 = .ok (.iadd, 1) := dk_96 (dk_at dksX3_cardLine_5 4 rfl rfl)
theorem dX3_cardLine_125 : decode cX3_cardLine 125 = .ok (.imul, 1) := dk_104 (dk_at dksX3_cardLine_5 5 rfl rfl)
theorem dX3_cardLine_126 : decode cX3_cardLine 126 = .ok (.iconst 3, 1) := dk_6 (dk_at dksX3_cardLine_5 6 rfl rfl)
theorem dX3_cardLine_127 : decode cX3_cardLine 127 = .ok (.iadd, 1) := dk_96 (dk_at dksX3_cardLine_5 7 rfl rfl)
theorem dX3_cardLine_128 : decode cX3_cardLine 128 = .ok (.iload_n 2, 1) := dk_28 (dk_at dksX3_cardLine_5 8 rfl rfl)
theorem dX3_cardLine_129 : decode cX3_cardLine 129 = .ok (.iastore, 1) := dk_79 (dk_at dksX3_cardLine_5 9 rfl rfl)
theorem dX3_cardLine_130 : decode cX3_cardLine 130 = .ok (.aload_n 0, 1) := dk_42 (dk_at dksX3_cardLine_5 10 rfl rfl)
theorem dX3_cardLine_131 : decode cX3_cardLine 131 = .ok (.getfield 37, 3) := dk_180 0 37 (dk_at dksX3_cardLine_5 11 rfl rfl)
theorem dX3_cardLine_134 : decode cX3_cardLine 134 = .ok (.iconst 5, 1) := dk_8 (dk_at dksX3_cardLine_5 14 rfl rfl)
theorem dX3_cardLine_135 : decode cX3_cardLine 135 = .ok (.bipush 32, 2) := dk_16 32 (dk_at dksX3_cardLine_5 15 rfl rfl)
theorem dX3_cardLine_137 : decode cX3_cardLine 137 = .ok (.iload_n 1, 1) := dk_27 (dk_at dksX3_cardLine_5 17 rfl rfl)
theorem dX3_cardLine_138 : decode cX3_cardLine 138 = .ok (.iadd, 1) := dk_96 (dk_at dksX3_cardLine_5 18 rfl rfl)
theorem dX3_cardLine_139 : decode cX3_cardLine 139 = .ok (.imul, 1) := dk_104 (dk_at dksX3_cardLine_5 19 rfl rfl)
theorem dX3_cardLine_140 : decode cX3_cardLine 140 = .ok (.iconst 4, 1) := dk_7 (dk_at dksX3_cardLine_5 20 rfl rfl)
theorem dX3_cardLine_141 : decode cX3_cardLine 141 = .ok (.iadd, 1) := dk_96 (dk_at dksX3_cardLine_5 21 rfl rfl)
theorem dX3_cardLine_142 : decode cX3_cardLine 142 = .ok (.iload_n 3, 1) := dk_29 (dk_at dksX3_cardLine_5 22 rfl rfl)
theorem dX3_cardLine_143 : decode cX3_cardLine 143 = .ok (.ifCond .eq 7, 3) := dk_153 0 7 (dk_at dksX3_cardLine_6 0 rfl rfl)
theorem dX3_cardLine_146 : decode cX3_cardLine 146 = .ok (.iconst 1, 1) := dk_4 (dk_at dksX3_cardLine_6 3 rfl rfl)
theorem dX3_cardLine_147 : decode cX3_cardLine 147 = .ok (.goto 4, 3) := dk_167 0 4 (dk_at dksX3_cardLine_6 4 rfl rfl)
theorem dX3_cardLine_150 : decode cX3_cardLine 150 = .ok (.iconst 0, 1) := dk_3 (dk_at dksX3_cardLine_6 7 rfl rfl)
theorem dX3_cardLine_151 : decode cX3_cardLine 151 = .ok (.iastore, 1) := dk_79 (dk_at dksX3_cardLine_6 8 rfl rfl)
theorem dX3_cardLine_152 : decode cX3_cardLine 152 = .ok (.return_, 1) := dk_177 (dk_at dksX3_cardLine_6 9 rfl rfl)
abbrev cX3_ends : ByteArray := prog_14_method_21_code
def yX3_ends : MethodName := ⟨RX3, "ends", "()V"⟩
def dkwX3_ends_1 : List UInt8 := [177]
abbrev dktX3_ends_1 : List UInt8 := dkwX3_ends_1 ++ []
def dkwX3_ends_0 : List UInt8 := [42, 180, 0, 100, 6, 159, 0, 8, 42, 4, 182, 0, 127, 42, 180, 0, 111, 154, 0, 7, 42, 182, 0, 121]
abbrev dktX3_ends_0 : List UInt8 := dkwX3_ends_0 ++ dktX3_ends_1
theorem dksX3_ends_0 : cX3_ends.data.toList.drop 0 = dktX3_ends_0 := by decide +kernel
theorem dksX3_ends_1 : cX3_ends.data.toList.drop 24 = dktX3_ends_1 := dk_seg dksX3_ends_0 24 rfl rfl
theorem dX3_ends_0 : decode cX3_ends 0 = .ok (.aload_n 0, 1) := dk_42 (dk_at dksX3_ends_0 0 rfl rfl)
theorem dX3_ends_1 : decode cX3_ends 1 = .ok (.getfield 100, 3) := dk_180 0 100 (dk_at dksX3_ends_0 1 rfl rfl)
theorem dX3_ends_4 : decode cX3_ends 4 = .ok (.iconst 3, 1) := dk_6 (dk_at dksX3_ends_0 4 rfl rfl)
theorem dX3_ends_5 : decode cX3_ends 5 = .ok (.if_icmp .eq 8, 3) := dk_159 0 8 (dk_at dksX3_ends_0 5 rfl rfl)
theorem dX3_ends_8 : decode cX3_ends 8 = .ok (.aload_n 0, 1) := dk_42 (dk_at dksX3_ends_0 8 rfl rfl)
theorem dX3_ends_9 : decode cX3_ends 9 = .ok (.iconst 1, 1) := dk_4 (dk_at dksX3_ends_0 9 rfl rfl)
theorem dX3_ends_10 : decode cX3_ends 10 = .ok (.invokevirtual 127, 3) := dk_182 0 127 (dk_at dksX3_ends_0 10 rfl rfl)
theorem dX3_ends_13 : decode cX3_ends 13 = .ok (.aload_n 0, 1) := dk_42 (dk_at dksX3_ends_0 13 rfl rfl)
theorem dX3_ends_14 : decode cX3_ends 14 = .ok (.getfield 111, 3) := dk_180 0 111 (dk_at dksX3_ends_0 14 rfl rfl)
theorem dX3_ends_17 : decode cX3_ends 17 = .ok (.ifCond .ne 7, 3) := dk_154 0 7 (dk_at dksX3_ends_0 17 rfl rfl)
theorem dX3_ends_20 : decode cX3_ends 20 = .ok (.aload_n 0, 1) := dk_42 (dk_at dksX3_ends_0 20 rfl rfl)
theorem dX3_ends_21 : decode cX3_ends 21 = .ok (.invokevirtual 121, 3) := dk_182 0 121 (dk_at dksX3_ends_0 21 rfl rfl)
theorem dX3_ends_24 : decode cX3_ends 24 = .ok (.return_, 1) := dk_177 (dk_at dksX3_ends_1 0 rfl rfl)
abbrev cX3_isOver : ByteArray := prog_14_method_23_code
def yX3_isOver : MethodName := ⟨RX3, "isOver", "()V"⟩
def dkwX3_isOver_1 : List UInt8 := [167, 0, 7, 42, 180, 0, 114, 181, 0, 27, 177]
abbrev dktX3_isOver_1 : List UInt8 := dkwX3_isOver_1 ++ []
def dkwX3_isOver_0 : List UInt8 := [42, 3, 181, 0, 76, 42, 42, 180, 0, 111, 181, 0, 138, 42, 42, 180, 0, 111, 154, 0, 7, 2]
abbrev dktX3_isOver_0 : List UInt8 := dkwX3_isOver_0 ++ dktX3_isOver_1
theorem dksX3_isOver_0 : cX3_isOver.data.toList.drop 0 = dktX3_isOver_0 := by decide +kernel
theorem dksX3_isOver_1 : cX3_isOver.data.toList.drop 22 = dktX3_isOver_1 := dk_seg dksX3_isOver_0 22 rfl rfl
theorem dX3_isOver_0 : decode cX3_isOver 0 = .ok (.aload_n 0, 1) := dk_42 (dk_at dksX3_isOver_0 0 rfl rfl)
theorem dX3_isOver_1 : decode cX3_isOver 1 = .ok (.iconst 0, 1) := dk_3 (dk_at dksX3_isOver_0 1 rfl rfl)
theorem dX3_isOver_2 : decode cX3_isOver 2 = .ok (.putfield 76, 3) := dk_181 0 76 (dk_at dksX3_isOver_0 2 rfl rfl)
theorem dX3_isOver_5 : decode cX3_isOver 5 = .ok (.aload_n 0, 1) := dk_42 (dk_at dksX3_isOver_0 5 rfl rfl)
theorem dX3_isOver_6 : decode cX3_isOver 6 = .ok (.aload_n 0, 1) := dk_42 (dk_at dksX3_isOver_0 6 rfl rfl)
theorem dX3_isOver_7 : decode cX3_isOver 7 = .ok (.getfield 111, 3) := dk_180 0 111 (dk_at dksX3_isOver_0 7 rfl rfl)
theorem dX3_isOver_10 : decode cX3_isOver 10 = .ok (.putfield 138, 3) := dk_181 0 138 (dk_at dksX3_isOver_0 10 rfl rfl)
theorem dX3_isOver_13 : decode cX3_isOver 13 = .ok (.aload_n 0, 1) := dk_42 (dk_at dksX3_isOver_0 13 rfl rfl)
theorem dX3_isOver_14 : decode cX3_isOver 14 = .ok (.aload_n 0, 1) := dk_42 (dk_at dksX3_isOver_0 14 rfl rfl)
theorem dX3_isOver_15 : decode cX3_isOver 15 = .ok (.getfield 111, 3) := dk_180 0 111 (dk_at dksX3_isOver_0 15 rfl rfl)
theorem dX3_isOver_18 : decode cX3_isOver 18 = .ok (.ifCond .ne 7, 3) := dk_154 0 7 (dk_at dksX3_isOver_0 18 rfl rfl)
theorem dX3_isOver_21 : decode cX3_isOver 21 = .ok (.iconst (-1), 1) := dk_2 (dk_at dksX3_isOver_0 21 rfl rfl)
theorem dX3_isOver_22 : decode cX3_isOver 22 = .ok (.goto 7, 3) := dk_167 0 7 (dk_at dksX3_isOver_1 0 rfl rfl)
theorem dX3_isOver_25 : decode cX3_isOver 25 = .ok (.aload_n 0, 1) := dk_42 (dk_at dksX3_isOver_1 3 rfl rfl)
theorem dX3_isOver_26 : decode cX3_isOver 26 = .ok (.getfield 114, 3) := dk_180 0 114 (dk_at dksX3_isOver_1 4 rfl rfl)
theorem dX3_isOver_29 : decode cX3_isOver 29 = .ok (.putfield 27, 3) := dk_181 0 27 (dk_at dksX3_isOver_1 7 rfl rfl)
theorem dX3_isOver_32 : decode cX3_isOver 32 = .ok (.return_, 1) := dk_177 (dk_at dksX3_isOver_1 10 rfl rfl)
abbrev cX3_copyCity : ByteArray := prog_14_method_34_code
def yX3_copyCity : MethodName := ⟨RX3, "copyCity", "(II)V"⟩
def dkwX3_copyCity_1 : List UInt8 := [16, 40, 27, 28, 184, 0, 202, 42, 180, 0, 40, 17, 0, 200, 27, 28, 184, 0, 202, 177]
abbrev dktX3_copyCity_1 : List UInt8 := dkwX3_copyCity_1 ++ []
def dkwX3_copyCity_0 : List UInt8 := [42, 180, 0, 31, 4, 27, 28, 184, 0, 202, 42, 180, 0, 34, 6, 27, 28, 184, 0, 202, 42, 180, 0, 37]
abbrev dktX3_copyCity_0 : List UInt8 := dkwX3_copyCity_0 ++ dktX3_copyCity_1
theorem dksX3_copyCity_0 : cX3_copyCity.data.toList.drop 0 = dktX3_copyCity_0 := by decide +kernel
theorem dksX3_copyCity_1 : cX3_copyCity.data.toList.drop 24 = dktX3_copyCity_1 := dk_seg dksX3_copyCity_0 24 rfl rfl
theorem dX3_copyCity_0 : decode cX3_copyCity 0 = .ok (.aload_n 0, 1) := dk_42 (dk_at dksX3_copyCity_0 0 rfl rfl)
theorem dX3_copyCity_1 : decode cX3_copyCity 1 = .ok (.getfield 31, 3) := dk_180 0 31 (dk_at dksX3_copyCity_0 1 rfl rfl)
theorem dX3_copyCity_4 : decode cX3_copyCity 4 = .ok (.iconst 1, 1) := dk_4 (dk_at dksX3_copyCity_0 4 rfl rfl)
theorem dX3_copyCity_5 : decode cX3_copyCity 5 = .ok (.iload_n 1, 1) := dk_27 (dk_at dksX3_copyCity_0 5 rfl rfl)
theorem dX3_copyCity_6 : decode cX3_copyCity 6 = .ok (.iload_n 2, 1) := dk_28 (dk_at dksX3_copyCity_0 6 rfl rfl)
theorem dX3_copyCity_7 : decode cX3_copyCity 7 = .ok (.invokestatic 202, 3) := dk_184 0 202 (dk_at dksX3_copyCity_0 7 rfl rfl)
theorem dX3_copyCity_10 : decode cX3_copyCity 10 = .ok (.aload_n 0, 1) := dk_42 (dk_at dksX3_copyCity_0 10 rfl rfl)
theorem dX3_copyCity_11 : decode cX3_copyCity 11 = .ok (.getfield 34, 3) := dk_180 0 34 (dk_at dksX3_copyCity_0 11 rfl rfl)
theorem dX3_copyCity_14 : decode cX3_copyCity 14 = .ok (.iconst 3, 1) := dk_6 (dk_at dksX3_copyCity_0 14 rfl rfl)
theorem dX3_copyCity_15 : decode cX3_copyCity 15 = .ok (.iload_n 1, 1) := dk_27 (dk_at dksX3_copyCity_0 15 rfl rfl)
theorem dX3_copyCity_16 : decode cX3_copyCity 16 = .ok (.iload_n 2, 1) := dk_28 (dk_at dksX3_copyCity_0 16 rfl rfl)
theorem dX3_copyCity_17 : decode cX3_copyCity 17 = .ok (.invokestatic 202, 3) := dk_184 0 202 (dk_at dksX3_copyCity_0 17 rfl rfl)
theorem dX3_copyCity_20 : decode cX3_copyCity 20 = .ok (.aload_n 0, 1) := dk_42 (dk_at dksX3_copyCity_0 20 rfl rfl)
theorem dX3_copyCity_21 : decode cX3_copyCity 21 = .ok (.getfield 37, 3) := dk_180 0 37 (dk_at dksX3_copyCity_0 21 rfl rfl)
theorem dX3_copyCity_24 : decode cX3_copyCity 24 = .ok (.bipush 40, 2) := dk_16 40 (dk_at dksX3_copyCity_1 0 rfl rfl)
theorem dX3_copyCity_26 : decode cX3_copyCity 26 = .ok (.iload_n 1, 1) := dk_27 (dk_at dksX3_copyCity_1 2 rfl rfl)
theorem dX3_copyCity_27 : decode cX3_copyCity 27 = .ok (.iload_n 2, 1) := dk_28 (dk_at dksX3_copyCity_1 3 rfl rfl)
theorem dX3_copyCity_28 : decode cX3_copyCity 28 = .ok (.invokestatic 202, 3) := dk_184 0 202 (dk_at dksX3_copyCity_1 4 rfl rfl)
theorem dX3_copyCity_31 : decode cX3_copyCity 31 = .ok (.aload_n 0, 1) := dk_42 (dk_at dksX3_copyCity_1 7 rfl rfl)
theorem dX3_copyCity_32 : decode cX3_copyCity 32 = .ok (.getfield 40, 3) := dk_180 0 40 (dk_at dksX3_copyCity_1 8 rfl rfl)
theorem dX3_copyCity_35 : decode cX3_copyCity 35 = .ok (.sipush 200, 3) := dk_17 0 200 (dk_at dksX3_copyCity_1 11 rfl rfl)
theorem dX3_copyCity_38 : decode cX3_copyCity 38 = .ok (.iload_n 1, 1) := dk_27 (dk_at dksX3_copyCity_1 14 rfl rfl)
theorem dX3_copyCity_39 : decode cX3_copyCity 39 = .ok (.iload_n 2, 1) := dk_28 (dk_at dksX3_copyCity_1 15 rfl rfl)
theorem dX3_copyCity_40 : decode cX3_copyCity 40 = .ok (.invokestatic 202, 3) := dk_184 0 202 (dk_at dksX3_copyCity_1 16 rfl rfl)
theorem dX3_copyCity_43 : decode cX3_copyCity 43 = .ok (.return_, 1) := dk_177 (dk_at dksX3_copyCity_1 19 rfl rfl)
abbrev cX3_copyRow : ByteArray := prog_14_method_33_code
def yX3_copyRow : MethodName := ⟨RX3, "copyRow", "([IIII)V"⟩
def dkwX3_copyRow_1 : List UInt8 := [79, 132, 4, 1, 167, 255, 231, 177]
abbrev dktX3_copyRow_1 : List UInt8 := dkwX3_copyRow_1 ++ []
def dkwX3_copyRow_0 : List UInt8 := [3, 54, 4, 21, 4, 27, 162, 0, 25, 42, 27, 29, 104, 21, 4, 96, 42, 27, 28, 104, 21, 4, 96, 46]
abbrev dktX3_copyRow_0 : List UInt8 := dkwX3_copyRow_0 ++ dktX3_copyRow_1
theorem dksX3_copyRow_0 : cX3_copyRow.data.toList.drop 0 = dktX3_copyRow_0 := by decide +kernel
theorem dksX3_copyRow_1 : cX3_copyRow.data.toList.drop 24 = dktX3_copyRow_1 := dk_seg dksX3_copyRow_0 24 rfl rfl
theorem dX3_copyRow_0 : decode cX3_copyRow 0 = .ok (.iconst 0, 1) := dk_3 (dk_at dksX3_copyRow_0 0 rfl rfl)
theorem dX3_copyRow_1 : decode cX3_copyRow 1 = .ok (.istore 4, 2) := dk_54 4 (dk_at dksX3_copyRow_0 1 rfl rfl)
theorem dX3_copyRow_3 : decode cX3_copyRow 3 = .ok (.iload 4, 2) := dk_21 4 (dk_at dksX3_copyRow_0 3 rfl rfl)
theorem dX3_copyRow_5 : decode cX3_copyRow 5 = .ok (.iload_n 1, 1) := dk_27 (dk_at dksX3_copyRow_0 5 rfl rfl)
theorem dX3_copyRow_6 : decode cX3_copyRow 6 = .ok (.if_icmp .ge 25, 3) := dk_162 0 25 (dk_at dksX3_copyRow_0 6 rfl rfl)
theorem dX3_copyRow_9 : decode cX3_copyRow 9 = .ok (.aload_n 0, 1) := dk_42 (dk_at dksX3_copyRow_0 9 rfl rfl)
theorem dX3_copyRow_10 : decode cX3_copyRow 10 = .ok (.iload_n 1, 1) := dk_27 (dk_at dksX3_copyRow_0 10 rfl rfl)
theorem dX3_copyRow_11 : decode cX3_copyRow 11 = .ok (.iload_n 3, 1) := dk_29 (dk_at dksX3_copyRow_0 11 rfl rfl)
theorem dX3_copyRow_12 : decode cX3_copyRow 12 = .ok (.imul, 1) := dk_104 (dk_at dksX3_copyRow_0 12 rfl rfl)
theorem dX3_copyRow_13 : decode cX3_copyRow 13 = .ok (.iload 4, 2) := dk_21 4 (dk_at dksX3_copyRow_0 13 rfl rfl)
theorem dX3_copyRow_15 : decode cX3_copyRow 15 = .ok (.iadd, 1) := dk_96 (dk_at dksX3_copyRow_0 15 rfl rfl)
theorem dX3_copyRow_16 : decode cX3_copyRow 16 = .ok (.aload_n 0, 1) := dk_42 (dk_at dksX3_copyRow_0 16 rfl rfl)
theorem dX3_copyRow_17 : decode cX3_copyRow 17 = .ok (.iload_n 1, 1) := dk_27 (dk_at dksX3_copyRow_0 17 rfl rfl)
theorem dX3_copyRow_18 : decode cX3_copyRow 18 = .ok (.iload_n 2, 1) := dk_28 (dk_at dksX3_copyRow_0 18 rfl rfl)
theorem dX3_copyRow_19 : decode cX3_copyRow 19 = .ok (.imul, 1) := dk_104 (dk_at dksX3_copyRow_0 19 rfl rfl)
theorem dX3_copyRow_20 : decode cX3_copyRow 20 = .ok (.iload 4, 2) := dk_21 4 (dk_at dksX3_copyRow_0 20 rfl rfl)
theorem dX3_copyRow_22 : decode cX3_copyRow 22 = .ok (.iadd, 1) := dk_96 (dk_at dksX3_copyRow_0 22 rfl rfl)
theorem dX3_copyRow_23 : decode cX3_copyRow 23 = .ok (.iaload, 1) := dk_46 (dk_at dksX3_copyRow_0 23 rfl rfl)
theorem dX3_copyRow_24 : decode cX3_copyRow 24 = .ok (.iastore, 1) := dk_79 (dk_at dksX3_copyRow_1 0 rfl rfl)
theorem dX3_copyRow_25 : decode cX3_copyRow 25 = .ok (.iinc 4 1, 3) := dk_132 4 1 (dk_at dksX3_copyRow_1 1 rfl rfl)
theorem dX3_copyRow_28 : decode cX3_copyRow 28 = .ok (.goto (-25), 3) := dk_167 255 231 (dk_at dksX3_copyRow_1 4 rfl rfl)
theorem dX3_copyRow_31 : decode cX3_copyRow 31 = .ok (.return_, 1) := dk_177 (dk_at dksX3_copyRow_1 7 rfl rfl)
abbrev cX3_person : ByteArray := prog_14_method_51_code
def yX3_person : MethodName := ⟨RX3, "person", "(II)I"⟩
def dkwX3_person_5 : List UInt8 := [182, 0, 214, 172, 42, 27, 182, 1, 1, 172]
abbrev dktX3_person_5 : List UInt8 := dkwX3_person_5 ++ []
def dkwX3_person_4 : List UInt8 := [182, 0, 254, 172, 42, 27, 5, 182, 0, 214, 172, 42, 180, 0, 217, 27, 122, 4, 126, 172, 42, 27, 7]
abbrev dktX3_person_4 : List UInt8 := dkwX3_person_4 ++ dktX3_person_5
def dkwX3_person_3 : List UInt8 := [42, 27, 3, 182, 0, 214, 172, 42, 27, 4, 182, 0, 214, 172, 42, 180, 0, 47, 27, 46, 172, 42, 27]
abbrev dktX3_person_3 : List UInt8 := dkwX3_person_3 ++ dktX3_person_4
def dkwX3_person_2 : List UInt8 := [170, 0, 0, 0, 0, 92, 0, 0, 0, 0, 0, 0, 0, 6, 0, 0, 0, 42, 0, 0, 0, 49, 0, 0, 0, 56, 0, 0, 0, 63, 0, 0, 0, 69, 0, 0, 0, 76, 0, 0, 0, 85]
abbrev dktX3_person_2 : List UInt8 := dkwX3_person_2 ++ dktX3_person_3
def dkwX3_person_1 : List UInt8 := [154, 0, 6, 16, 254, 172, 42, 182, 0, 251, 28]
abbrev dktX3_person_1 : List UInt8 := dkwX3_person_1 ++ dktX3_person_2
def dkwX3_person_0 : List UInt8 := [42, 3, 181, 0, 59, 42, 27, 133, 182, 0, 206, 153, 0, 15, 28, 133, 9, 20, 0, 249, 184, 0, 64]
abbrev dktX3_person_0 : List UInt8 := dkwX3_person_0 ++ dktX3_person_1
theorem dksX3_person_0 : cX3_person.data.toList.drop 0 = dktX3_person_0 := by decide +kernel
theorem dksX3_person_1 : cX3_person.data.toList.drop 23 = dktX3_person_1 := dk_seg dksX3_person_0 23 rfl rfl
theorem dksX3_person_2 : cX3_person.data.toList.drop 34 = dktX3_person_2 := dk_seg dksX3_person_1 11 rfl rfl
theorem dksX3_person_3 : cX3_person.data.toList.drop 76 = dktX3_person_3 := dk_seg dksX3_person_2 42 rfl rfl
theorem dksX3_person_4 : cX3_person.data.toList.drop 99 = dktX3_person_4 := dk_seg dksX3_person_3 23 rfl rfl
theorem dksX3_person_5 : cX3_person.data.toList.drop 122 = dktX3_person_5 := dk_seg dksX3_person_4 23 rfl rfl
theorem dX3_person_0 : decode cX3_person 0 = .ok (.aload_n 0, 1) := dk_42 (dk_at dksX3_person_0 0 rfl rfl)
theorem dX3_person_1 : decode cX3_person 1 = .ok (.iconst 0, 1) := dk_3 (dk_at dksX3_person_0 1 rfl rfl)
theorem dX3_person_2 : decode cX3_person 2 = .ok (.putfield 59, 3) := dk_181 0 59 (dk_at dksX3_person_0 2 rfl rfl)
theorem dX3_person_5 : decode cX3_person 5 = .ok (.aload_n 0, 1) := dk_42 (dk_at dksX3_person_0 5 rfl rfl)
theorem dX3_person_6 : decode cX3_person 6 = .ok (.iload_n 1, 1) := dk_27 (dk_at dksX3_person_0 6 rfl rfl)
theorem dX3_person_7 : decode cX3_person 7 = .ok (.i2l, 1) := dk_133 (dk_at dksX3_person_0 7 rfl rfl)
theorem dX3_person_8 : decode cX3_person 8 = .ok (.invokevirtual 206, 3) := dk_182 0 206 (dk_at dksX3_person_0 8 rfl rfl)
theorem dX3_person_11 : decode cX3_person 11 = .ok (.ifCond .eq 15, 3) := dk_153 0 15 (dk_at dksX3_person_0 11 rfl rfl)
theorem dX3_person_14 : decode cX3_person 14 = .ok (.iload_n 2, 1) := dk_28 (dk_at dksX3_person_0 14 rfl rfl)
theorem dX3_person_15 : decode cX3_person 15 = .ok (.i2l, 1) := dk_133 (dk_at dksX3_person_0 15 rfl rfl)
theorem dX3_person_16 : decode cX3_person 16 = .ok (.lconst 0, 1) := dk_9 (dk_at dksX3_person_0 16 rfl rfl)
theorem dX3_person_17 : decode cX3_person 17 = .ok (.ldc2_w 249, 3) := dk_20 0 249 (dk_at dksX3_person_0 17 rfl rfl)
theorem dX3_person_20 : decode cX3_person 20 = .ok (.invokestatic 64, 3) := dk_184 0 64 (dk_at dksX3_person_0 20 rfl rfl)
theorem dX3_person_23 : decode cX3_person 23 = .ok (.ifCond .ne 6, 3) := dk_154 0 6 (dk_at dksX3_person_1 0 rfl rfl)
theorem dX3_person_26 : decode cX3_person 26 = .ok (.bipush (-2), 2) := dk_16 254 (dk_at dksX3_person_1 3 rfl rfl)
theorem dX3_person_28 : decode cX3_person 28 = .ok (.ireturn, 1) := dk_172 (dk_at dksX3_person_1 5 rfl rfl)
theorem dX3_person_29 : decode cX3_person 29 = .ok (.aload_n 0, 1) := dk_42 (dk_at dksX3_person_1 6 rfl rfl)
theorem dX3_person_30 : decode cX3_person 30 = .ok (.invokevirtual 251, 3) := dk_182 0 251 (dk_at dksX3_person_1 7 rfl rfl)
theorem dX3_person_33 : decode cX3_person 33 = .ok (.iload_n 2, 1) := dk_28 (dk_at dksX3_person_1 10 rfl rfl)
theorem dX3_person_34 : decode cX3_person 34 = .ok (.tableswitch 92 0 6 #[42, 49, 56, 63, 69, 76, 85], 42) := by decide +kernel
theorem dX3_person_76 : decode cX3_person 76 = .ok (.aload_n 0, 1) := dk_42 (dk_at dksX3_person_3 0 rfl rfl)
theorem dX3_person_77 : decode cX3_person 77 = .ok (.iload_n 1, 1) := dk_27 (dk_at dksX3_person_3 1 rfl rfl)
theorem dX3_person_78 : decode cX3_person 78 = .ok (.iconst 0, 1) := dk_3 (dk_at dksX3_person_3 2 rfl rfl)
theorem dX3_person_79 : decode cX3_person 79 = .ok (.invokevirtual 214, 3) := dk_182 0 214 (dk_at dksX3_person_3 3 rfl rfl)
theorem dX3_person_82 : decode cX3_person 82 = .ok (.ireturn, 1) := dk_172 (dk_at dksX3_person_3 6 rfl rfl)
theorem dX3_person_83 : decode cX3_person 83 = .ok (.aload_n 0, 1) := dk_42 (dk_at dksX3_person_3 7 rfl rfl)
theorem dX3_person_84 : decode cX3_person 84 = .ok (.iload_n 1, 1) := dk_27 (dk_at dksX3_person_3 8 rfl rfl)
theorem dX3_person_85 : decode cX3_person 85 = .ok (.iconst 1, 1) := dk_4 (dk_at dksX3_person_3 9 rfl rfl)
theorem dX3_person_86 : decode cX3_person 86 = .ok (.invokevirtual 214, 3) := dk_182 0 214 (dk_at dksX3_person_3 10 rfl rfl)
theorem dX3_person_89 : decode cX3_person 89 = .ok (.ireturn, 1) := dk_172 (dk_at dksX3_person_3 13 rfl rfl)
theorem dX3_person_90 : decode cX3_person 90 = .ok (.aload_n 0, 1) := dk_42 (dk_at dksX3_person_3 14 rfl rfl)
theorem dX3_person_91 : decode cX3_person 91 = .ok (.getfield 47, 3) := dk_180 0 47 (dk_at dksX3_person_3 15 rfl rfl)
theorem dX3_person_94 : decode cX3_person 94 = .ok (.iload_n 1, 1) := dk_27 (dk_at dksX3_person_3 18 rfl rfl)
theorem dX3_person_95 : decode cX3_person 95 = .ok (.iaload, 1) := dk_46 (dk_at dksX3_person_3 19 rfl rfl)
theorem dX3_person_96 : decode cX3_person 96 = .ok (.ireturn, 1) := dk_172 (dk_at dksX3_person_3 20 rfl rfl)
theorem dX3_person_97 : decode cX3_person 97 = .ok (.aload_n 0, 1) := dk_42 (dk_at dksX3_person_3 21 rfl rfl)
theorem dX3_person_98 : decode cX3_person 98 = .ok (.iload_n 1, 1) := dk_27 (dk_at dksX3_person_3 22 rfl rfl)
theorem dX3_person_99 : decode cX3_person 99 = .ok (.invokevirtual 254, 3) := dk_182 0 254 (dk_at dksX3_person_4 0 rfl rfl)
theorem dX3_person_102 : decode cX3_person 102 = .ok (.ireturn, 1) := dk_172 (dk_at dksX3_person_4 3 rfl rfl)
theorem dX3_person_103 : decode cX3_person 103 = .ok (.aload_n 0, 1) := dk_42 (dk_at dksX3_person_4 4 rfl rfl)
theorem dX3_person_104 : decode cX3_person 104 = .ok (.iload_n 1, 1) := dk_27 (dk_at dksX3_person_4 5 rfl rfl)
theorem dX3_person_105 : decode cX3_person 105 = .ok (.iconst 2, 1) := dk_5 (dk_at dksX3_person_4 6 rfl rfl)
theorem dX3_person_106 : decode cX3_person 106 = .ok (.invokevirtual 214, 3) := dk_182 0 214 (dk_at dksX3_person_4 7 rfl rfl)
theorem dX3_person_109 : decode cX3_person 109 = .ok (.ireturn, 1) := dk_172 (dk_at dksX3_person_4 10 rfl rfl)
theorem dX3_person_110 : decode cX3_person 110 = .ok (.aload_n 0, 1) := dk_42 (dk_at dksX3_person_4 11 rfl rfl)
theorem dX3_person_111 : decode cX3_person 111 = .ok (.getfield 217, 3) := dk_180 0 217 (dk_at dksX3_person_4 12 rfl rfl)
theorem dX3_person_114 : decode cX3_person 114 = .ok (.iload_n 1, 1) := dk_27 (dk_at dksX3_person_4 15 rfl rfl)
theorem dX3_person_115 : decode cX3_person 115 = .ok (.ishr, 1) := dk_122 (dk_at dksX3_person_4 16 rfl rfl)
theorem dX3_person_116 : decode cX3_person 116 = .ok (.iconst 1, 1) := dk_4 (dk_at dksX3_person_4 17 rfl rfl)
theorem dX3_person_117 : decode cX3_person 117 = .ok (.iand, 1) := dk_126 (dk_at dksX3_person_4 18 rfl rfl)
theorem dX3_person_118 : decode cX3_person 118 = .ok (.ireturn, 1) := dk_172 (dk_at dksX3_person_4 19 rfl rfl)
theorem dX3_person_119 : decode cX3_person 119 = .ok (.aload_n 0, 1) := dk_42 (dk_at dksX3_person_4 20 rfl rfl)
theorem dX3_person_120 : decode cX3_person 120 = .ok (.iload_n 1, 1) := dk_27 (dk_at dksX3_person_4 21 rfl rfl)
theorem dX3_person_121 : decode cX3_person 121 = .ok (.iconst 4, 1) := dk_7 (dk_at dksX3_person_4 22 rfl rfl)
theorem dX3_person_122 : decode cX3_person 122 = .ok (.invokevirtual 214, 3) := dk_182 0 214 (dk_at dksX3_person_5 0 rfl rfl)
theorem dX3_person_125 : decode cX3_person 125 = .ok (.ireturn, 1) := dk_172 (dk_at dksX3_person_5 3 rfl rfl)
theorem dX3_person_126 : decode cX3_person 126 = .ok (.aload_n 0, 1) := dk_42 (dk_at dksX3_person_5 4 rfl rfl)
theorem dX3_person_127 : decode cX3_person 127 = .ok (.iload_n 1, 1) := dk_27 (dk_at dksX3_person_5 5 rfl rfl)
theorem dX3_person_128 : decode cX3_person 128 = .ok (.invokevirtual 257, 3) := dk_182 1 1 (dk_at dksX3_person_5 6 rfl rfl)
theorem dX3_person_131 : decode cX3_person 131 = .ok (.ireturn, 1) := dk_172 (dk_at dksX3_person_5 9 rfl rfl)
abbrev cX3_isPerson : ByteArray := prog_14_method_36_code
def yX3_isPerson : MethodName := ⟨RX3, "isPerson", "(J)Z"⟩
def dkwX3_isPerson_0 : List UInt8 := [31, 9, 42, 180, 0, 34, 4, 46, 133, 10, 101, 184, 0, 64, 172]
abbrev dktX3_isPerson_0 : List UInt8 := dkwX3_isPerson_0 ++ []
theorem dksX3_isPerson_0 : cX3_isPerson.data.toList.drop 0 = dktX3_isPerson_0 := by decide +kernel
theorem dX3_isPerson_0 : decode cX3_isPerson 0 = .ok (.lload_n 1, 1) := dk_31 (dk_at dksX3_isPerson_0 0 rfl rfl)
theorem dX3_isPerson_1 : decode cX3_isPerson 1 = .ok (.lconst 0, 1) := dk_9 (dk_at dksX3_isPerson_0 1 rfl rfl)
theorem dX3_isPerson_2 : decode cX3_isPerson 2 = .ok (.aload_n 0, 1) := dk_42 (dk_at dksX3_isPerson_0 2 rfl rfl)
theorem dX3_isPerson_3 : decode cX3_isPerson 3 = .ok (.getfield 34, 3) := dk_180 0 34 (dk_at dksX3_isPerson_0 3 rfl rfl)
theorem dX3_isPerson_6 : decode cX3_isPerson 6 = .ok (.iconst 1, 1) := dk_4 (dk_at dksX3_isPerson_0 6 rfl rfl)
theorem dX3_isPerson_7 : decode cX3_isPerson 7 = .ok (.iaload, 1) := dk_46 (dk_at dksX3_isPerson_0 7 rfl rfl)
theorem dX3_isPerson_8 : decode cX3_isPerson 8 = .ok (.i2l, 1) := dk_133 (dk_at dksX3_isPerson_0 8 rfl rfl)
theorem dX3_isPerson_9 : decode cX3_isPerson 9 = .ok (.lconst 1, 1) := dk_10 (dk_at dksX3_isPerson_0 9 rfl rfl)
theorem dX3_isPerson_10 : decode cX3_isPerson 10 = .ok (.lsub, 1) := dk_101 (dk_at dksX3_isPerson_0 10 rfl rfl)
theorem dX3_isPerson_11 : decode cX3_isPerson 11 = .ok (.invokestatic 64, 3) := dk_184 0 64 (dk_at dksX3_isPerson_0 11 rfl rfl)
theorem dX3_isPerson_14 : decode cX3_isPerson 14 = .ok (.ireturn, 1) := dk_172 (dk_at dksX3_isPerson_0 14 rfl rfl)
abbrev cX3_laysNow : ByteArray := prog_14_method_44_code
def yX3_laysNow : MethodName := ⟨RX3, "laysNow", "()V"⟩
def dkwX3_laysNow_3 : List UInt8 := [132, 1, 1, 167, 255, 191, 177]
abbrev dktX3_laysNow_3 : List UInt8 := dkwX3_laysNow_3 ++ []
def dkwX3_laysNow_2 : List UInt8 := [180, 0, 40, 8, 27, 104, 6, 96, 46, 42, 180, 0, 40, 8, 27, 104, 7, 96, 46, 182, 0, 232]
abbrev dktX3_laysNow_2 : List UInt8 := dkwX3_laysNow_2 ++ dktX3_laysNow_3
def dkwX3_laysNow_1 : List UInt8 := [46, 42, 180, 0, 40, 8, 27, 104, 4, 96, 46, 42, 180, 0, 40, 8, 27, 104, 5, 96, 46, 42]
abbrev dktX3_laysNow_1 : List UInt8 := dkwX3_laysNow_1 ++ dktX3_laysNow_2
def dkwX3_laysNow_0 : List UInt8 := [42, 182, 0, 229, 3, 60, 27, 42, 180, 0, 34, 5, 46, 162, 0, 61, 42, 42, 180, 0, 40, 8, 27, 104]
abbrev dktX3_laysNow_0 : List UInt8 := dkwX3_laysNow_0 ++ dktX3_laysNow_1
theorem dksX3_laysNow_0 : cX3_laysNow.data.toList.drop 0 = dktX3_laysNow_0 := by decide +kernel
theorem dksX3_laysNow_1 : cX3_laysNow.data.toList.drop 24 = dktX3_laysNow_1 := dk_seg dksX3_laysNow_0 24 rfl rfl
theorem dksX3_laysNow_2 : cX3_laysNow.data.toList.drop 46 = dktX3_laysNow_2 := dk_seg dksX3_laysNow_1 22 rfl rfl
theorem dksX3_laysNow_3 : cX3_laysNow.data.toList.drop 68 = dktX3_laysNow_3 := dk_seg dksX3_laysNow_2 22 rfl rfl
theorem dX3_laysNow_0 : decode cX3_laysNow 0 = .ok (.aload_n 0, 1) := dk_42 (dk_at dksX3_laysNow_0 0 rfl rfl)
theorem dX3_laysNow_1 : decode cX3_laysNow 1 = .ok (.invokevirtual 229, 3) := dk_182 0 229 (dk_at dksX3_laysNow_0 1 rfl rfl)
theorem dX3_laysNow_4 : decode cX3_laysNow 4 = .ok (.iconst 0, 1) := dk_3 (dk_at dksX3_laysNow_0 4 rfl rfl)
theorem dX3_laysNow_5 : decode cX3_laysNow 5 = .ok (.istore_n 1, 1) := dk_60 (dk_at dksX3_laysNow_0 5 rfl rfl)
theorem dX3_laysNow_6 : decode cX3_laysNow 6 = .ok (.iload_n 1, 1) := dk_27 (dk_at dksX3_laysNow_0 6 rfl rfl)
theorem dX3_laysNow_7 : decode cX3_laysNow 7 = .ok (.aload_n 0, 1) := dk_42 (dk_at dksX3_laysNow_0 7 rfl rfl)
theorem dX3_laysNow_8 : decode cX3_laysNow 8 = .ok (.getfield 34, 3) := dk_180 0 34 (dk_at dksX3_laysNow_0 8 rfl rfl)
theorem dX3_laysNow_11 : decode cX3_laysNow 11 = .ok (.iconst 2, 1) := dk_5 (dk_at dksX3_laysNow_0 11 rfl rfl)
theorem dX3_laysNow_12 : decode cX3_laysNow 12 = .ok (.iaload, 1) := dk_46 (dk_at dksX3_laysNow_0 12 rfl rfl)
theorem dX3_laysNow_13 : decode cX3_laysNow 13 = .ok (.if_icmp .ge 61, 3) := dk_162 0 61 (dk_at dksX3_laysNow_0 13 rfl rfl)
theorem dX3_laysNow_16 : decode cX3_laysNow 16 = .ok (.aload_n 0, 1) := dk_42 (dk_at dksX3_laysNow_0 16 rfl rfl)
theorem dX3_laysNow_17 : decode cX3_laysNow 17 = .ok (.aload_n 0, 1) := dk_42 (dk_at dksX3_laysNow_0 17 rfl rfl)
theorem dX3_laysNow_18 : decode cX3_laysNow 18 = .ok (.getfield 40, 3) := dk_180 0 40 (dk_at dksX3_laysNow_0 18 rfl rfl)
theorem dX3_laysNow_21 : decode cX3_laysNow 21 = .ok (.iconst 5, 1) := dk_8 (dk_at dksX3_laysNow_0 21 rfl rfl)
theorem dX3_laysNow_22 : decode cX3_laysNow 22 = .ok (.iload_n 1, 1) := dk_27 (dk_at dksX3_laysNow_0 22 rfl rfl)
theorem dX3_laysNow_23 : decode cX3_laysNow 23 = .ok (.imul, 1) := dk_104 (dk_at dksX3_laysNow_0 23 rfl rfl)
theorem dX3_laysNow_24 : decode cX3_laysNow 24 = .ok (.iaload, 1) := dk_46 (dk_at dksX3_laysNow_1 0 rfl rfl)
theorem dX3_laysNow_25 : decode cX3_laysNow 25 = .ok (.aload_n 0, 1) := dk_42 (dk_at dksX3_laysNow_1 1 rfl rfl)
theorem dX3_laysNow_26 : decode cX3_laysNow 26 = .ok (.getfield 40, 3) := dk_180 0 40 (dk_at dksX3_laysNow_1 2 rfl rfl)
theorem dX3_laysNow_29 : decode cX3_laysNow 29 = .ok (.iconst 5, 1) := dk_8 (dk_at dksX3_laysNow_1 5 rfl rfl)
theorem dX3_laysNow_30 : decode cX3_laysNow 30 = .ok (.iload_n 1, 1) := dk_27 (dk_at dksX3_laysNow_1 6 rfl rfl)
theorem dX3_laysNow_31 : decode cX3_laysNow 31 = .ok (.imul, 1) := dk_104 (dk_at dksX3_laysNow_1 7 rfl rfl)
theorem dX3_laysNow_32 : decode cX3_laysNow 32 = .ok (.iconst 1, 1) := dk_4 (dk_at dksX3_laysNow_1 8 rfl rfl)
theorem dX3_laysNow_33 : decode cX3_laysNow 33 = .ok (.iadd, 1) := dk_96 (dk_at dksX3_laysNow_1 9 rfl rfl)
theorem dX3_laysNow_34 : decode cX3_laysNow 34 = .ok (.iaload, 1) := dk_46 (dk_at dksX3_laysNow_1 10 rfl rfl)
theorem dX3_laysNow_35 : decode cX3_laysNow 35 = .ok (.aload_n 0, 1) := dk_42 (dk_at dksX3_laysNow_1 11 rfl rfl)
theorem dX3_laysNow_36 : decode cX3_laysNow 36 = .ok (.getfield 40, 3) := dk_180 0 40 (dk_at dksX3_laysNow_1 12 rfl rfl)
theorem dX3_laysNow_39 : decode cX3_laysNow 39 = .ok (.iconst 5, 1) := dk_8 (dk_at dksX3_laysNow_1 15 rfl rfl)
theorem dX3_laysNow_40 : decode cX3_laysNow 40 = .ok (.iload_n 1, 1) := dk_27 (dk_at dksX3_laysNow_1 16 rfl rfl)
theorem dX3_laysNow_41 : decode cX3_laysNow 41 = .ok (.imul, 1) := dk_104 (dk_at dksX3_laysNow_1 17 rfl rfl)
theorem dX3_laysNow_42 : decode cX3_laysNow 42 = .ok (.iconst 2, 1) := dk_5 (dk_at dksX3_laysNow_1 18 rfl rfl)
theorem dX3_laysNow_43 : decode cX3_laysNow 43 = .ok (.iadd, 1) := dk_96 (dk_at dksX3_laysNow_1 19 rfl rfl)
theorem dX3_laysNow_44 : decode cX3_laysNow 44 = .ok (.iaload, 1) := dk_46 (dk_at dksX3_laysNow_1 20 rfl rfl)
theorem dX3_laysNow_45 : decode cX3_laysNow 45 = .ok (.aload_n 0, 1) := dk_42 (dk_at dksX3_laysNow_1 21 rfl rfl)
theorem dX3_laysNow_46 : decode cX3_laysNow 46 = .ok (.getfield 40, 3) := dk_180 0 40 (dk_at dksX3_laysNow_2 0 rfl rfl)
theorem dX3_laysNow_49 : decode cX3_laysNow 49 = .ok (.iconst 5, 1) := dk_8 (dk_at dksX3_laysNow_2 3 rfl rfl)
theorem dX3_laysNow_50 : decode cX3_laysNow 50 = .ok (.iload_n 1, 1) := dk_27 (dk_at dksX3_laysNow_2 4 rfl rfl)
theorem dX3_laysNow_51 : decode cX3_laysNow 51 = .ok (.imul, 1) := dk_104 (dk_at dksX3_laysNow_2 5 rfl rfl)
theorem dX3_laysNow_52 : decode cX3_laysNow 52 = .ok (.iconst 3, 1) := dk_6 (dk_at dksX3_laysNow_2 6 rfl rfl)
theorem dX3_laysNow_53 : decode cX3_laysNow 53 = .ok (.iadd, 1) := dk_96 (dk_at dksX3_laysNow_2 7 rfl rfl)
theorem dX3_laysNow_54 : decode cX3_laysNow 54 = .ok (.iaload, 1) := dk_46 (dk_at dksX3_laysNow_2 8 rfl rfl)
theorem dX3_laysNow_55 : decode cX3_laysNow 55 = .ok (.aload_n 0, 1) := dk_42 (dk_at dksX3_laysNow_2 9 rfl rfl)
theorem dX3_laysNow_56 : decode cX3_laysNow 56 = .ok (.getfield 40, 3) := dk_180 0 40 (dk_at dksX3_laysNow_2 10 rfl rfl)
theorem dX3_laysNow_59 : decode cX3_laysNow 59 = .ok (.iconst 5, 1) := dk_8 (dk_at dksX3_laysNow_2 13 rfl rfl)
theorem dX3_laysNow_60 : decode cX3_laysNow 60 = .ok (.iload_n 1, 1) := dk_27 (dk_at dksX3_laysNow_2 14 rfl rfl)
theorem dX3_laysNow_61 : decode cX3_laysNow 61 = .ok (.imul, 1) := dk_104 (dk_at dksX3_laysNow_2 15 rfl rfl)
theorem dX3_laysNow_62 : decode cX3_laysNow 62 = .ok (.iconst 4, 1) := dk_7 (dk_at dksX3_laysNow_2 16 rfl rfl)
theorem dX3_laysNow_63 : decode cX3_laysNow 63 = .ok (.iadd, 1) := dk_96 (dk_at dksX3_laysNow_2 17 rfl rfl)
theorem dX3_laysNow_64 : decode cX3_laysNow 64 = .ok (.iaload, 1) := dk_46 (dk_at dksX3_laysNow_2 18 rfl rfl)
theorem dX3_laysNow_65 : decode cX3_laysNow 65 = .ok (.invokevirtual 232, 3) := dk_182 0 232 (dk_at dksX3_laysNow_2 19 rfl rfl)
theorem dX3_laysNow_68 : decode cX3_laysNow 68 = .ok (.iinc 1 1, 3) := dk_132 1 1 (dk_at dksX3_laysNow_3 0 rfl rfl)
theorem dX3_laysNow_71 : decode cX3_laysNow 71 = .ok (.goto (-65), 3) := dk_167 255 191 (dk_at dksX3_laysNow_3 3 rfl rfl)
theorem dX3_laysNow_74 : decode cX3_laysNow 74 = .ok (.return_, 1) := dk_177 (dk_at dksX3_laysNow_3 6 rfl rfl)
abbrev cX3_start : ByteArray := prog_14_method_43_code
def yX3_start : MethodName := ⟨RX3, "start", "()V"⟩
def dkwX3_start_2 : List UInt8 := [181, 0, 217, 42, 3, 181, 0, 220, 42, 3, 181, 0, 223, 42, 3, 181, 0, 226, 177]
abbrev dktX3_start_2 : List UInt8 := dkwX3_start_2 ++ []
def dkwX3_start_1 : List UInt8 := [42, 180, 0, 50, 27, 3, 79, 42, 180, 0, 53, 27, 2, 79, 132, 1, 1, 167, 255, 217, 42, 3]
abbrev dktX3_start_1 : List UInt8 := dkwX3_start_1 ++ dktX3_start_2
def dkwX3_start_0 : List UInt8 := [3, 60, 27, 42, 180, 0, 34, 4, 46, 162, 0, 35, 42, 180, 0, 47, 27, 42, 27, 6, 182, 0, 214, 79]
abbrev dktX3_start_0 : List UInt8 := dkwX3_start_0 ++ dktX3_start_1
theorem dksX3_start_0 : cX3_start.data.toList.drop 0 = dktX3_start_0 := by decide +kernel
theorem dksX3_start_1 : cX3_start.data.toList.drop 24 = dktX3_start_1 := dk_seg dksX3_start_0 24 rfl rfl
theorem dksX3_start_2 : cX3_start.data.toList.drop 46 = dktX3_start_2 := dk_seg dksX3_start_1 22 rfl rfl
theorem dX3_start_0 : decode cX3_start 0 = .ok (.iconst 0, 1) := dk_3 (dk_at dksX3_start_0 0 rfl rfl)
theorem dX3_start_1 : decode cX3_start 1 = .ok (.istore_n 1, 1) := dk_60 (dk_at dksX3_start_0 1 rfl rfl)
theorem dX3_start_2 : decode cX3_start 2 = .ok (.iload_n 1, 1) := dk_27 (dk_at dksX3_start_0 2 rfl rfl)
theorem dX3_start_3 : decode cX3_start 3 = .ok (.aload_n 0, 1) := dk_42 (dk_at dksX3_start_0 3 rfl rfl)
theorem dX3_start_4 : decode cX3_start 4 = .ok (.getfield 34, 3) := dk_180 0 34 (dk_at dksX3_start_0 4 rfl rfl)
theorem dX3_start_7 : decode cX3_start 7 = .ok (.iconst 1, 1) := dk_4 (dk_at dksX3_start_0 7 rfl rfl)
theorem dX3_start_8 : decode cX3_start 8 = .ok (.iaload, 1) := dk_46 (dk_at dksX3_start_0 8 rfl rfl)
theorem dX3_start_9 : decode cX3_start 9 = .ok (.if_icmp .ge 35, 3) := dk_162 0 35 (dk_at dksX3_start_0 9 rfl rfl)
theorem dX3_start_12 : decode cX3_start 12 = .ok (.aload_n 0, 1) := dk_42 (dk_at dksX3_start_0 12 rfl rfl)
theorem dX3_start_13 : decode cX3_start 13 = .ok (.getfield 47, 3) := dk_180 0 47 (dk_at dksX3_start_0 13 rfl rfl)
theorem dX3_start_16 : decode cX3_start 16 = .ok (.iload_n 1, 1) := dk_27 (dk_at dksX3_start_0 16 rfl rfl)
theorem dX3_start_17 : decode cX3_start 17 = .ok (.aload_n 0, 1) := dk_42 (dk_at dksX3_start_0 17 rfl rfl)
theorem dX3_start_18 : decode cX3_start 18 = .ok (.iload_n 1, 1) := dk_27 (dk_at dksX3_start_0 18 rfl rfl)
theorem dX3_start_19 : decode cX3_start 19 = .ok (.iconst 3, 1) := dk_6 (dk_at dksX3_start_0 19 rfl rfl)
theorem dX3_start_20 : decode cX3_start 20 = .ok (.invokevirtual 214, 3) := dk_182 0 214 (dk_at dksX3_start_0 20 rfl rfl)
theorem dX3_start_23 : decode cX3_start 23 = .ok (.iastore, 1) := dk_79 (dk_at dksX3_start_0 23 rfl rfl)
theorem dX3_start_24 : decode cX3_start 24 = .ok (.aload_n 0, 1) := dk_42 (dk_at dksX3_start_1 0 rfl rfl)
theorem dX3_start_25 : decode cX3_start 25 = .ok (.getfield 50, 3) := dk_180 0 50 (dk_at dksX3_start_1 1 rfl rfl)
theorem dX3_start_28 : decode cX3_start 28 = .ok (.iload_n 1, 1) := dk_27 (dk_at dksX3_start_1 4 rfl rfl)
theorem dX3_start_29 : decode cX3_start 29 = .ok (.iconst 0, 1) := dk_3 (dk_at dksX3_start_1 5 rfl rfl)
theorem dX3_start_30 : decode cX3_start 30 = .ok (.iastore, 1) := dk_79 (dk_at dksX3_start_1 6 rfl rfl)
theorem dX3_start_31 : decode cX3_start 31 = .ok (.aload_n 0, 1) := dk_42 (dk_at dksX3_start_1 7 rfl rfl)
theorem dX3_start_32 : decode cX3_start 32 = .ok (.getfield 53, 3) := dk_180 0 53 (dk_at dksX3_start_1 8 rfl rfl)
theorem dX3_start_35 : decode cX3_start 35 = .ok (.iload_n 1, 1) := dk_27 (dk_at dksX3_start_1 11 rfl rfl)
theorem dX3_start_36 : decode cX3_start 36 = .ok (.iconst (-1), 1) := dk_2 (dk_at dksX3_start_1 12 rfl rfl)
theorem dX3_start_37 : decode cX3_start 37 = .ok (.iastore, 1) := dk_79 (dk_at dksX3_start_1 13 rfl rfl)
theorem dX3_start_38 : decode cX3_start 38 = .ok (.iinc 1 1, 3) := dk_132 1 1 (dk_at dksX3_start_1 14 rfl rfl)
theorem dX3_start_41 : decode cX3_start 41 = .ok (.goto (-39), 3) := dk_167 255 217 (dk_at dksX3_start_1 17 rfl rfl)
theorem dX3_start_44 : decode cX3_start 44 = .ok (.aload_n 0, 1) := dk_42 (dk_at dksX3_start_1 20 rfl rfl)
theorem dX3_start_45 : decode cX3_start 45 = .ok (.iconst 0, 1) := dk_3 (dk_at dksX3_start_1 21 rfl rfl)
theorem dX3_start_46 : decode cX3_start 46 = .ok (.putfield 217, 3) := dk_181 0 217 (dk_at dksX3_start_2 0 rfl rfl)
theorem dX3_start_49 : decode cX3_start 49 = .ok (.aload_n 0, 1) := dk_42 (dk_at dksX3_start_2 3 rfl rfl)
theorem dX3_start_50 : decode cX3_start 50 = .ok (.iconst 0, 1) := dk_3 (dk_at dksX3_start_2 4 rfl rfl)
theorem dX3_start_51 : decode cX3_start 51 = .ok (.putfield 220, 3) := dk_181 0 220 (dk_at dksX3_start_2 5 rfl rfl)
theorem dX3_start_54 : decode cX3_start 54 = .ok (.aload_n 0, 1) := dk_42 (dk_at dksX3_start_2 8 rfl rfl)
theorem dX3_start_55 : decode cX3_start 55 = .ok (.iconst 0, 1) := dk_3 (dk_at dksX3_start_2 9 rfl rfl)
theorem dX3_start_56 : decode cX3_start 56 = .ok (.putfield 223, 3) := dk_181 0 223 (dk_at dksX3_start_2 10 rfl rfl)
theorem dX3_start_59 : decode cX3_start 59 = .ok (.aload_n 0, 1) := dk_42 (dk_at dksX3_start_2 13 rfl rfl)
theorem dX3_start_60 : decode cX3_start 60 = .ok (.iconst 0, 1) := dk_3 (dk_at dksX3_start_2 14 rfl rfl)
theorem dX3_start_61 : decode cX3_start 61 = .ok (.putfield 226, 3) := dk_181 0 226 (dk_at dksX3_start_2 15 rfl rfl)
theorem dX3_start_64 : decode cX3_start 64 = .ok (.return_, 1) := dk_177 (dk_at dksX3_start_2 18 rfl rfl)
abbrev cX3_of : ByteArray := prog_14_method_42_code
def yX3_of : MethodName := ⟨RX3, "of", "(II)I"⟩
def dkwX3_of_0 : List UInt8 := [42, 180, 0, 37, 8, 27, 104, 28, 96, 46, 172]
abbrev dktX3_of_0 : List UInt8 := dkwX3_of_0 ++ []
theorem dksX3_of_0 : cX3_of.data.toList.drop 0 = dktX3_of_0 := by decide +kernel
theorem dX3_of_0 : decode cX3_of 0 = .ok (.aload_n 0, 1) := dk_42 (dk_at dksX3_of_0 0 rfl rfl)
theorem dX3_of_1 : decode cX3_of 1 = .ok (.getfield 37, 3) := dk_180 0 37 (dk_at dksX3_of_0 1 rfl rfl)
theorem dX3_of_4 : decode cX3_of 4 = .ok (.iconst 5, 1) := dk_8 (dk_at dksX3_of_0 4 rfl rfl)
theorem dX3_of_5 : decode cX3_of 5 = .ok (.iload_n 1, 1) := dk_27 (dk_at dksX3_of_0 5 rfl rfl)
theorem dX3_of_6 : decode cX3_of 6 = .ok (.imul, 1) := dk_104 (dk_at dksX3_of_0 6 rfl rfl)
theorem dX3_of_7 : decode cX3_of 7 = .ok (.iload_n 2, 1) := dk_28 (dk_at dksX3_of_0 7 rfl rfl)
theorem dX3_of_8 : decode cX3_of 8 = .ok (.iadd, 1) := dk_96 (dk_at dksX3_of_0 8 rfl rfl)
theorem dX3_of_9 : decode cX3_of 9 = .ok (.iaload, 1) := dk_46 (dk_at dksX3_of_0 9 rfl rfl)
theorem dX3_of_10 : decode cX3_of 10 = .ok (.ireturn, 1) := dk_172 (dk_at dksX3_of_0 10 rfl rfl)
abbrev cX3_does : ByteArray := prog_14_method_48_code
def yX3_does : MethodName := ⟨RX3, "does", "(IIIII)V"⟩
def dkwX3_does_5 : List UInt8 := [167, 0, 7, 42, 182, 0, 246, 177]
abbrev dktX3_does_5 : List UInt8 := dkwX3_does_5 ++ []
def dkwX3_does_4 : List UInt8 := [29, 46, 79, 42, 180, 0, 47, 29, 28, 79, 42, 89, 180, 0, 220, 4, 29, 120, 128, 181, 0, 220]
abbrev dktX3_does_4 : List UInt8 := dkwX3_does_4 ++ dktX3_does_5
def dkwX3_does_3 : List UInt8 := [180, 0, 47, 29, 21, 6, 79, 167, 0, 46, 27, 6, 160, 0, 37, 42, 180, 0, 53, 29, 42, 180, 0, 47]
abbrev dktX3_does_3 : List UInt8 := dkwX3_does_3 ++ dktX3_does_4
def dkwX3_does_2 : List UInt8 := [160, 0, 34, 42, 180, 0, 47, 28, 46, 54, 6, 42, 180, 0, 47, 28, 42, 180, 0, 47, 29, 46, 79, 42]
abbrev dktX3_does_2 : List UInt8 := dkwX3_does_2 ++ dktX3_does_3
def dkwX3_does_1 : List UInt8 := [160, 0, 20, 42, 180, 0, 47, 21, 4, 21, 5, 79, 42, 29, 182, 0, 243, 167, 0, 82, 27, 5]
abbrev dktX3_does_1 : List UInt8 := dkwX3_does_1 ++ dktX3_does_2
def dkwX3_does_0 : List UInt8 := [27, 154, 0, 21, 42, 29, 182, 0, 243, 42, 89, 180, 0, 226, 4, 96, 181, 0, 226, 167, 0, 104, 27, 4]
abbrev dktX3_does_0 : List UInt8 := dkwX3_does_0 ++ dktX3_does_1
theorem dksX3_does_0 : cX3_does.data.toList.drop 0 = dktX3_does_0 := by decide +kernel
theorem dksX3_does_1 : cX3_does.data.toList.drop 24 = dktX3_does_1 := dk_seg dksX3_does_0 24 rfl rfl
theorem dksX3_does_2 : cX3_does.data.toList.drop 46 = dktX3_does_2 := dk_seg dksX3_does_1 22 rfl rfl
theorem dksX3_does_3 : cX3_does.data.toList.drop 70 = dktX3_does_3 := dk_seg dksX3_does_2 24 rfl rfl
theorem dksX3_does_4 : cX3_does.data.toList.drop 94 = dktX3_does_4 := dk_seg dksX3_does_3 24 rfl rfl
theorem dksX3_does_5 : cX3_does.data.toList.drop 116 = dktX3_does_5 := dk_seg dksX3_does_4 22 rfl rfl
theorem dX3_does_0 : decode cX3_does 0 = .ok (.iload_n 1, 1) := dk_27 (dk_at dksX3_does_0 0 rfl rfl)
theorem dX3_does_1 : decode cX3_does 1 = .ok (.ifCond .ne 21, 3) := dk_154 0 21 (dk_at dksX3_does_0 1 rfl rfl)
theorem dX3_does_4 : decode cX3_does 4 = .ok (.aload_n 0, 1) := dk_42 (dk_at dksX3_does_0 4 rfl rfl)
theorem dX3_does_5 : decode cX3_does 5 = .ok (.iload_n 3, 1) := dk_29 (dk_at dksX3_does_0 5 rfl rfl)
theorem dX3_does_6 : decode cX3_does 6 = .ok (.invokevirtual 243, 3) := dk_182 0 243 (dk_at dksX3_does_0 6 rfl rfl)
theorem dX3_does_9 : decode cX3_does 9 = .ok (.aload_n 0, 1) := dk_42 (dk_at dksX3_does_0 9 rfl rfl)
theorem dX3_does_10 : decode cX3_does 10 = .ok (.dup, 1) := dk_89 (dk_at dksX3_does_0 10 rfl rfl)
theorem dX3_does_11 : decode cX3_does 11 = .ok (.getfield 226, 3) := dk_180 0 226 (dk_at dksX3_does_0 11 rfl rfl)
theorem dX3_does_14 : decode cX3_does 14 = .ok (.iconst 1, 1) := dk_4 (dk_at dksX3_does_0 14 rfl rfl)
theorem dX3_does_15 : decode cX3_does 15 = .ok (.iadd, 1) := dk_96 (dk_at dksX3_does_0 15 rfl rfl)
theorem dX3_does_16 : decode cX3_does 16 = .ok (.putfield 226, 3) := dk_181 0 226 (dk_at dksX3_does_0 16 rfl rfl)
theorem dX3_does_19 : decode cX3_does 19 = .ok (.goto 104, 3) := dk_167 0 104 (dk_at dksX3_does_0 19 rfl rfl)
theorem dX3_does_22 : decode cX3_does 22 = .ok (.iload_n 1, 1) := dk_27 (dk_at dksX3_does_0 22 rfl rfl)
theorem dX3_does_23 : decode cX3_does 23 = .ok (.iconst 1, 1) := dk_4 (dk_at dksX3_does_0 23 rfl rfl)
theorem dX3_does_24 : decode cX3_does 24 = .ok (.if_icmp .ne 20, 3) := dk_160 0 20 (dk_at dksX3_does_1 0 rfl rfl)
theorem dX3_does_27 : decode cX3_does 27 = .ok (.aload_n 0, 1) := dk_42 (dk_at dksX3_does_1 3 rfl rfl)
theorem dX3_does_28 : decode cX3_does 28 = .ok (.getfield 47, 3) := dk_180 0 47 (dk_at dksX3_does_1 4 rfl rfl)
theorem dX3_does_31 : decode cX3_does 31 = .ok (.iload 4, 2) := dk_21 4 (dk_at dksX3_does_1 7 rfl rfl)
theorem dX3_does_33 : decode cX3_does 33 = .ok (.iload 5, 2) := dk_21 5 (dk_at dksX3_does_1 9 rfl rfl)
theorem dX3_does_35 : decode cX3_does 35 = .ok (.iastore, 1) := dk_79 (dk_at dksX3_does_1 11 rfl rfl)
theorem dX3_does_36 : decode cX3_does 36 = .ok (.aload_n 0, 1) := dk_42 (dk_at dksX3_does_1 12 rfl rfl)
theorem dX3_does_37 : decode cX3_does 37 = .ok (.iload_n 3, 1) := dk_29 (dk_at dksX3_does_1 13 rfl rfl)
theorem dX3_does_38 : decode cX3_does 38 = .ok (.invokevirtual 243, 3) := dk_182 0 243 (dk_at dksX3_does_1 14 rfl rfl)
theorem dX3_does_41 : decode cX3_does 41 = .ok (.goto 82, 3) := dk_167 0 82 (dk_at dksX3_does_1 17 rfl rfl)
theorem dX3_does_44 : decode cX3_does 44 = .ok (.iload_n 1, 1) := dk_27 (dk_at dksX3_does_1 20 rfl rfl)
theorem dX3_does_45 : decode cX3_does 45 = .ok (.iconst 2, 1) := dk_5 (dk_at dksX3_does_1 21 rfl rfl)
theorem dX3_does_46 : decode cX3_does 46 = .ok (.if_icmp .ne 34, 3) := dk_160 0 34 (dk_at dksX3_does_2 0 rfl rfl)
theorem dX3_does_49 : decode cX3_does 49 = .ok (.aload_n 0, 1) := dk_42 (dk_at dksX3_does_2 3 rfl rfl)
theorem dX3_does_50 : decode cX3_does 50 = .ok (.getfield 47, 3) := dk_180 0 47 (dk_at dksX3_does_2 4 rfl rfl)
theorem dX3_does_53 : decode cX3_does 53 = .ok (.iload_n 2, 1) := dk_28 (dk_at dksX3_does_2 7 rfl rfl)
theorem dX3_does_54 : decode cX3_does 54 = .ok (.iaload, 1) := dk_46 (dk_at dksX3_does_2 8 rfl rfl)
theorem dX3_does_55 : decode cX3_does 55 = .ok (.istore 6, 2) := dk_54 6 (dk_at dksX3_does_2 9 rfl rfl)
theorem dX3_does_57 : decode cX3_does 57 = .ok (.aload_n 0, 1) := dk_42 (dk_at dksX3_does_2 11 rfl rfl)
theorem dX3_does_58 : decode cX3_does 58 = .ok (.getfield 47, 3) := dk_180 0 47 (dk_at dksX3_does_2 12 rfl rfl)
theorem dX3_does_61 : decode cX3_does 61 = .ok (.iload_n 2, 1) := dk_28 (dk_at dksX3_does_2 15 rfl rfl)
theorem dX3_does_62 : decode cX3_does 62 = .ok (.aload_n 0, 1) := dk_42 (dk_at dksX3_does_2 16 rfl rfl)
theorem dX3_does_63 : decode cX3_does 63 = .ok (.getfield 47, 3) := dk_180 0 47 (dk_at dksX3_does_2 17 rfl rfl)
theorem dX3_does_66 : decode cX3_does 66 = .ok (.iload_n 3, 1) := dk_29 (dk_at dksX3_does_2 20 rfl rfl)
theorem dX3_does_67 : decode cX3_does 67 = .ok (.iaload, 1) := dk_46 (dk_at dksX3_does_2 21 rfl rfl)
theorem dX3_does_68 : decode cX3_does 68 = .ok (.iastore, 1) := dk_79 (dk_at dksX3_does_2 22 rfl rfl)
theorem dX3_does_69 : decode cX3_does 69 = .ok (.aload_n 0, 1) := dk_42 (dk_at dksX3_does_2 23 rfl rfl)
theorem dX3_does_70 : decode cX3_does 70 = .ok (.getfield 47, 3) := dk_180 0 47 (dk_at dksX3_does_3 0 rfl rfl)
theorem dX3_does_73 : decode cX3_does 73 = .ok (.iload_n 3, 1) := dk_29 (dk_at dksX3_does_3 3 rfl rfl)
theorem dX3_does_74 : decode cX3_does 74 = .ok (.iload 6, 2) := dk_21 6 (dk_at dksX3_does_3 4 rfl rfl)
theorem dX3_does_76 : decode cX3_does 76 = .ok (.iastore, 1) := dk_79 (dk_at dksX3_does_3 6 rfl rfl)
theorem dX3_does_77 : decode cX3_does 77 = .ok (.goto 46, 3) := dk_167 0 46 (dk_at dksX3_does_3 7 rfl rfl)
theorem dX3_does_80 : decode cX3_does 80 = .ok (.iload_n 1, 1) := dk_27 (dk_at dksX3_does_3 10 rfl rfl)
theorem dX3_does_81 : decode cX3_does 81 = .ok (.iconst 3, 1) := dk_6 (dk_at dksX3_does_3 11 rfl rfl)
theorem dX3_does_82 : decode cX3_does 82 = .ok (.if_icmp .ne 37, 3) := dk_160 0 37 (dk_at dksX3_does_3 12 rfl rfl)
theorem dX3_does_85 : decode cX3_does 85 = .ok (.aload_n 0, 1) := dk_42 (dk_at dksX3_does_3 15 rfl rfl)
theorem dX3_does_86 : decode cX3_does 86 = .ok (.getfield 53, 3) := dk_180 0 53 (dk_at dksX3_does_3 16 rfl rfl)
theorem dX3_does_89 : decode cX3_does 89 = .ok (.iload_n 3, 1) := dk_29 (dk_at dksX3_does_3 19 rfl rfl)
theorem dX3_does_90 : decode cX3_does 90 = .ok (.aload_n 0, 1) := dk_42 (dk_at dksX3_does_3 20 rfl rfl)
theorem dX3_does_91 : decode cX3_does 91 = .ok (.getfield 47, 3) := dk_180 0 47 (dk_at dksX3_does_3 21 rfl rfl)
theorem dX3_does_94 : decode cX3_does 94 = .ok (.iload_n 3, 1) := dk_29 (dk_at dksX3_does_4 0 rfl rfl)
theorem dX3_does_95 : decode cX3_does 95 = .ok (.iaload, 1) := dk_46 (dk_at dksX3_does_4 1 rfl rfl)
theorem dX3_does_96 : decode cX3_does 96 = .ok (.iastore, 1) := dk_79 (dk_at dksX3_does_4 2 rfl rfl)
theorem dX3_does_97 : decode cX3_does 97 = .ok (.aload_n 0, 1) := dk_42 (dk_at dksX3_does_4 3 rfl rfl)
theorem dX3_does_98 : decode cX3_does 98 = .ok (.getfield 47, 3) := dk_180 0 47 (dk_at dksX3_does_4 4 rfl rfl)
theorem dX3_does_101 : decode cX3_does 101 = .ok (.iload_n 3, 1) := dk_29 (dk_at dksX3_does_4 7 rfl rfl)
theorem dX3_does_102 : decode cX3_does 102 = .ok (.iload_n 2, 1) := dk_28 (dk_at dksX3_does_4 8 rfl rfl)
theorem dX3_does_103 : decode cX3_does 103 = .ok (.iastore, 1) := dk_79 (dk_at dksX3_does_4 9 rfl rfl)
theorem dX3_does_104 : decode cX3_does 104 = .ok (.aload_n 0, 1) := dk_42 (dk_at dksX3_does_4 10 rfl rfl)
theorem dX3_does_105 : decode cX3_does 105 = .ok (.dup, 1) := dk_89 (dk_at dksX3_does_4 11 rfl rfl)
theorem dX3_does_106 : decode cX3_does 106 = .ok (.getfield 220, 3) := dk_180 0 220 (dk_at dksX3_does_4 12 rfl rfl)
theorem dX3_does_109 : decode cX3_does 109 = .ok (.iconst 1, 1) := dk_4 (dk_at dksX3_does_4 15 rfl rfl)
theorem dX3_does_110 : decode cX3_does 110 = .ok (.iload_n 3, 1) := dk_29 (dk_at dksX3_does_4 16 rfl rfl)
theorem dX3_does_111 : decode cX3_does 111 = .ok (.ishl, 1) := dk_120 (dk_at dksX3_does_4 17 rfl rfl)
theorem dX3_does_112 : decode cX3_does 112 = .ok (.ior, 1) := dk_128 (dk_at dksX3_does_4 18 rfl rfl)
theorem dX3_does_113 : decode cX3_does 113 = .ok (.putfield 220, 3) := dk_181 0 220 (dk_at dksX3_does_4 19 rfl rfl)
theorem dX3_does_116 : decode cX3_does 116 = .ok (.goto 7, 3) := dk_167 0 7 (dk_at dksX3_does_5 0 rfl rfl)
theorem dX3_does_119 : decode cX3_does 119 = .ok (.aload_n 0, 1) := dk_42 (dk_at dksX3_does_5 3 rfl rfl)
theorem dX3_does_120 : decode cX3_does 120 = .ok (.invokevirtual 246, 3) := dk_182 0 246 (dk_at dksX3_does_5 4 rfl rfl)
theorem dX3_does_123 : decode cX3_does 123 = .ok (.return_, 1) := dk_177 (dk_at dksX3_does_5 7 rfl rfl)
abbrev cX3_isAsked : ByteArray := prog_14_method_46_code
def yX3_isAsked : MethodName := ⟨RX3, "isAsked", "(I)V"⟩
def dkwX3_isAsked_1 : List UInt8 := [180, 0, 50, 27, 46, 42, 27, 182, 0, 236, 161, 0, 10, 42, 180, 0, 47, 27, 2, 79, 177]
abbrev dktX3_isAsked_1 : List UInt8 := dkwX3_isAsked_1 ++ []
def dkwX3_isAsked_0 : List UInt8 := [42, 89, 180, 0, 217, 4, 27, 120, 128, 181, 0, 217, 42, 180, 0, 50, 27, 92, 46, 4, 96, 79, 42]
abbrev dktX3_isAsked_0 : List UInt8 := dkwX3_isAsked_0 ++ dktX3_isAsked_1
theorem dksX3_isAsked_0 : cX3_isAsked.data.toList.drop 0 = dktX3_isAsked_0 := by decide +kernel
theorem dksX3_isAsked_1 : cX3_isAsked.data.toList.drop 23 = dktX3_isAsked_1 := dk_seg dksX3_isAsked_0 23 rfl rfl
theorem dX3_isAsked_0 : decode cX3_isAsked 0 = .ok (.aload_n 0, 1) := dk_42 (dk_at dksX3_isAsked_0 0 rfl rfl)
theorem dX3_isAsked_1 : decode cX3_isAsked 1 = .ok (.dup, 1) := dk_89 (dk_at dksX3_isAsked_0 1 rfl rfl)
theorem dX3_isAsked_2 : decode cX3_isAsked 2 = .ok (.getfield 217, 3) := dk_180 0 217 (dk_at dksX3_isAsked_0 2 rfl rfl)
theorem dX3_isAsked_5 : decode cX3_isAsked 5 = .ok (.iconst 1, 1) := dk_4 (dk_at dksX3_isAsked_0 5 rfl rfl)
theorem dX3_isAsked_6 : decode cX3_isAsked 6 = .ok (.iload_n 1, 1) := dk_27 (dk_at dksX3_isAsked_0 6 rfl rfl)
theorem dX3_isAsked_7 : decode cX3_isAsked 7 = .ok (.ishl, 1) := dk_120 (dk_at dksX3_isAsked_0 7 rfl rfl)
theorem dX3_isAsked_8 : decode cX3_isAsked 8 = .ok (.ior, 1) := dk_128 (dk_at dksX3_isAsked_0 8 rfl rfl)
theorem dX3_isAsked_9 : decode cX3_isAsked 9 = .ok (.putfield 217, 3) := dk_181 0 217 (dk_at dksX3_isAsked_0 9 rfl rfl)
theorem dX3_isAsked_12 : decode cX3_isAsked 12 = .ok (.aload_n 0, 1) := dk_42 (dk_at dksX3_isAsked_0 12 rfl rfl)
theorem dX3_isAsked_13 : decode cX3_isAsked 13 = .ok (.getfield 50, 3) := dk_180 0 50 (dk_at dksX3_isAsked_0 13 rfl rfl)
theorem dX3_isAsked_16 : decode cX3_isAsked 16 = .ok (.iload_n 1, 1) := dk_27 (dk_at dksX3_isAsked_0 16 rfl rfl)
theorem dX3_isAsked_17 : decode cX3_isAsked 17 = .ok (.dup2, 1) := dk_92 (dk_at dksX3_isAsked_0 17 rfl rfl)
theorem dX3_isAsked_18 : decode cX3_isAsked 18 = .ok (.iaload, 1) := dk_46 (dk_at dksX3_isAsked_0 18 rfl rfl)
theorem dX3_isAsked_19 : decode cX3_isAsked 19 = .ok (.iconst 1, 1) := dk_4 (dk_at dksX3_isAsked_0 19 rfl rfl)
theorem dX3_isAsked_20 : decode cX3_isAsked 20 = .ok (.iadd, 1) := dk_96 (dk_at dksX3_isAsked_0 20 rfl rfl)
theorem dX3_isAsked_21 : decode cX3_isAsked 21 = .ok (.iastore, 1) := dk_79 (dk_at dksX3_isAsked_0 21 rfl rfl)
theorem dX3_isAsked_22 : decode cX3_isAsked 22 = .ok (.aload_n 0, 1) := dk_42 (dk_at dksX3_isAsked_0 22 rfl rfl)
theorem dX3_isAsked_23 : decode cX3_isAsked 23 = .ok (.getfield 50, 3) := dk_180 0 50 (dk_at dksX3_isAsked_1 0 rfl rfl)
theorem dX3_isAsked_26 : decode cX3_isAsked 26 = .ok (.iload_n 1, 1) := dk_27 (dk_at dksX3_isAsked_1 3 rfl rfl)
theorem dX3_isAsked_27 : decode cX3_isAsked 27 = .ok (.iaload, 1) := dk_46 (dk_at dksX3_isAsked_1 4 rfl rfl)
theorem dX3_isAsked_28 : decode cX3_isAsked 28 = .ok (.aload_n 0, 1) := dk_42 (dk_at dksX3_isAsked_1 5 rfl rfl)
theorem dX3_isAsked_29 : decode cX3_isAsked 29 = .ok (.iload_n 1, 1) := dk_27 (dk_at dksX3_isAsked_1 6 rfl rfl)
theorem dX3_isAsked_30 : decode cX3_isAsked 30 = .ok (.invokevirtual 236, 3) := dk_182 0 236 (dk_at dksX3_isAsked_1 7 rfl rfl)
theorem dX3_isAsked_33 : decode cX3_isAsked 33 = .ok (.if_icmp .lt 10, 3) := dk_161 0 10 (dk_at dksX3_isAsked_1 10 rfl rfl)
theorem dX3_isAsked_36 : decode cX3_isAsked 36 = .ok (.aload_n 0, 1) := dk_42 (dk_at dksX3_isAsked_1 13 rfl rfl)
theorem dX3_isAsked_37 : decode cX3_isAsked 37 = .ok (.getfield 47, 3) := dk_180 0 47 (dk_at dksX3_isAsked_1 14 rfl rfl)
theorem dX3_isAsked_40 : decode cX3_isAsked 40 = .ok (.iload_n 1, 1) := dk_27 (dk_at dksX3_isAsked_1 17 rfl rfl)
theorem dX3_isAsked_41 : decode cX3_isAsked 41 = .ok (.iconst (-1), 1) := dk_2 (dk_at dksX3_isAsked_1 18 rfl rfl)
theorem dX3_isAsked_42 : decode cX3_isAsked 42 = .ok (.iastore, 1) := dk_79 (dk_at dksX3_isAsked_1 19 rfl rfl)
theorem dX3_isAsked_43 : decode cX3_isAsked 43 = .ok (.return_, 1) := dk_177 (dk_at dksX3_isAsked_1 20 rfl rfl)
abbrev cX3_readable : ByteArray := prog_14_method_45_code
def yX3_readable : MethodName := ⟨RX3, "readable", "(I)I"⟩
def dkwX3_readable_0 : List UInt8 := [42, 27, 7, 182, 0, 214, 4, 160, 0, 7, 4, 167, 0, 9, 42, 180, 0, 34, 3, 46, 172]
abbrev dktX3_readable_0 : List UInt8 := dkwX3_readable_0 ++ []
theorem dksX3_readable_0 : cX3_readable.data.toList.drop 0 = dktX3_readable_0 := by decide +kernel
theorem dX3_readable_0 : decode cX3_readable 0 = .ok (.aload_n 0, 1) := dk_42 (dk_at dksX3_readable_0 0 rfl rfl)
theorem dX3_readable_1 : decode cX3_readable 1 = .ok (.iload_n 1, 1) := dk_27 (dk_at dksX3_readable_0 1 rfl rfl)
theorem dX3_readable_2 : decode cX3_readable 2 = .ok (.iconst 4, 1) := dk_7 (dk_at dksX3_readable_0 2 rfl rfl)
theorem dX3_readable_3 : decode cX3_readable 3 = .ok (.invokevirtual 214, 3) := dk_182 0 214 (dk_at dksX3_readable_0 3 rfl rfl)
theorem dX3_readable_6 : decode cX3_readable 6 = .ok (.iconst 1, 1) := dk_4 (dk_at dksX3_readable_0 6 rfl rfl)
theorem dX3_readable_7 : decode cX3_readable 7 = .ok (.if_icmp .ne 7, 3) := dk_160 0 7 (dk_at dksX3_readable_0 7 rfl rfl)
theorem dX3_readable_10 : decode cX3_readable 10 = .ok (.iconst 1, 1) := dk_4 (dk_at dksX3_readable_0 10 rfl rfl)
theorem dX3_readable_11 : decode cX3_readable 11 = .ok (.goto 9, 3) := dk_167 0 9 (dk_at dksX3_readable_0 11 rfl rfl)
theorem dX3_readable_14 : decode cX3_readable 14 = .ok (.aload_n 0, 1) := dk_42 (dk_at dksX3_readable_0 14 rfl rfl)
theorem dX3_readable_15 : decode cX3_readable 15 = .ok (.getfield 34, 3) := dk_180 0 34 (dk_at dksX3_readable_0 15 rfl rfl)
theorem dX3_readable_18 : decode cX3_readable 18 = .ok (.iconst 0, 1) := dk_3 (dk_at dksX3_readable_0 18 rfl rfl)
theorem dX3_readable_19 : decode cX3_readable 19 = .ok (.iaload, 1) := dk_46 (dk_at dksX3_readable_0 19 rfl rfl)
theorem dX3_readable_20 : decode cX3_readable 20 = .ok (.ireturn, 1) := dk_172 (dk_at dksX3_readable_0 20 rfl rfl)
abbrev cX3_dayEnds : ByteArray := prog_14_method_47_code
def yX3_dayEnds : MethodName := ⟨RX3, "dayEnds", "()V"⟩
def dkwX3_dayEnds_2 : List UInt8 := [167, 255, 210, 42, 3, 181, 0, 220, 42, 3, 181, 0, 217, 42, 89, 180, 0, 223, 4, 96, 181, 0, 223, 177]
abbrev dktX3_dayEnds_2 : List UInt8 := dkwX3_dayEnds_2 ++ []
def dkwX3_dayEnds_1 : List UInt8 := [180, 0, 47, 27, 46, 2, 159, 0, 15, 42, 180, 0, 47, 27, 42, 180, 0, 53, 27, 46, 79, 132, 1, 1]
abbrev dktX3_dayEnds_1 : List UInt8 := dkwX3_dayEnds_1 ++ dktX3_dayEnds_2
def dkwX3_dayEnds_0 : List UInt8 := [3, 60, 27, 42, 180, 0, 34, 4, 46, 162, 0, 42, 42, 180, 0, 220, 27, 184, 0, 239, 153, 0, 25, 42]
abbrev dktX3_dayEnds_0 : List UInt8 := dkwX3_dayEnds_0 ++ dktX3_dayEnds_1
theorem dksX3_dayEnds_0 : cX3_dayEnds.data.toList.drop 0 = dktX3_dayEnds_0 := by decide +kernel
theorem dksX3_dayEnds_1 : cX3_dayEnds.data.toList.drop 24 = dktX3_dayEnds_1 := dk_seg dksX3_dayEnds_0 24 rfl rfl
theorem dksX3_dayEnds_2 : cX3_dayEnds.data.toList.drop 48 = dktX3_dayEnds_2 := dk_seg dksX3_dayEnds_1 24 rfl rfl
theorem dX3_dayEnds_0 : decode cX3_dayEnds 0 = .ok (.iconst 0, 1) := dk_3 (dk_at dksX3_dayEnds_0 0 rfl rfl)
theorem dX3_dayEnds_1 : decode cX3_dayEnds 1 = .ok (.istore_n 1, 1) := dk_60 (dk_at dksX3_dayEnds_0 1 rfl rfl)
theorem dX3_dayEnds_2 : decode cX3_dayEnds 2 = .ok (.iload_n 1, 1) := dk_27 (dk_at dksX3_dayEnds_0 2 rfl rfl)
theorem dX3_dayEnds_3 : decode cX3_dayEnds 3 = .ok (.aload_n 0, 1) := dk_42 (dk_at dksX3_dayEnds_0 3 rfl rfl)
theorem dX3_dayEnds_4 : decode cX3_dayEnds 4 = .ok (.getfield 34, 3) := dk_180 0 34 (dk_at dksX3_dayEnds_0 4 rfl rfl)
theorem dX3_dayEnds_7 : decode cX3_dayEnds 7 = .ok (.iconst 1, 1) := dk_4 (dk_at dksX3_dayEnds_0 7 rfl rfl)
theorem dX3_dayEnds_8 : decode cX3_dayEnds 8 = .ok (.iaload, 1) := dk_46 (dk_at dksX3_dayEnds_0 8 rfl rfl)
theorem dX3_dayEnds_9 : decode cX3_dayEnds 9 = .ok (.if_icmp .ge 42, 3) := dk_162 0 42 (dk_at dksX3_dayEnds_0 9 rfl rfl)
theorem dX3_dayEnds_12 : decode cX3_dayEnds 12 = .ok (.aload_n 0, 1) := dk_42 (dk_at dksX3_dayEnds_0 12 rfl rfl)
theorem dX3_dayEnds_13 : decode cX3_dayEnds 13 = .ok (.getfield 220, 3) := dk_180 0 220 (dk_at dksX3_dayEnds_0 13 rfl rfl)
theorem dX3_dayEnds_16 : decode cX3_dayEnds 16 = .ok (.iload_n 1, 1) := dk_27 (dk_at dksX3_dayEnds_0 16 rfl rfl)
theorem dX3_dayEnds_17 : decode cX3_dayEnds 17 = .ok (.invokestatic 239, 3) := dk_184 0 239 (dk_at dksX3_dayEnds_0 17 rfl rfl)
theorem dX3_dayEnds_20 : decode cX3_dayEnds 20 = .ok (.ifCond .eq 25, 3) := dk_153 0 25 (dk_at dksX3_dayEnds_0 20 rfl rfl)
theorem dX3_dayEnds_23 : decode cX3_dayEnds 23 = .ok (.aload_n 0, 1) := dk_42 (dk_at dksX3_dayEnds_0 23 rfl rfl)
theorem dX3_dayEnds_24 : decode cX3_dayEnds 24 = .ok (.getfield 47, 3) := dk_180 0 47 (dk_at dksX3_dayEnds_1 0 rfl rfl)
theorem dX3_dayEnds_27 : decode cX3_dayEnds 27 = .ok (.iload_n 1, 1) := dk_27 (dk_at dksX3_dayEnds_1 3 rfl rfl)
theorem dX3_dayEnds_28 : decode cX3_dayEnds 28 = .ok (.iaload, 1) := dk_46 (dk_at dksX3_dayEnds_1 4 rfl rfl)
theorem dX3_dayEnds_29 : decode cX3_dayEnds 29 = .ok (.iconst (-1), 1) := dk_2 (dk_at dksX3_dayEnds_1 5 rfl rfl)
theorem dX3_dayEnds_30 : decode cX3_dayEnds 30 = .ok (.if_icmp .eq 15, 3) := dk_159 0 15 (dk_at dksX3_dayEnds_1 6 rfl rfl)
theorem dX3_dayEnds_33 : decode cX3_dayEnds 33 = .ok (.aload_n 0, 1) := dk_42 (dk_at dksX3_dayEnds_1 9 rfl rfl)
theorem dX3_dayEnds_34 : decode cX3_dayEnds 34 = .ok (.getfield 47, 3) := dk_180 0 47 (dk_at dksX3_dayEnds_1 10 rfl rfl)
theorem dX3_dayEnds_37 : decode cX3_dayEnds 37 = .ok (.iload_n 1, 1) := dk_27 (dk_at dksX3_dayEnds_1 13 rfl rfl)
theorem dX3_dayEnds_38 : decode cX3_dayEnds 38 = .ok (.aload_n 0, 1) := dk_42 (dk_at dksX3_dayEnds_1 14 rfl rfl)
theorem dX3_dayEnds_39 : decode cX3_dayEnds 39 = .ok (.getfield 53, 3) := dk_180 0 53 (dk_at dksX3_dayEnds_1 15 rfl rfl)
theorem dX3_dayEnds_42 : decode cX3_dayEnds 42 = .ok (.iload_n 1, 1) := dk_27 (dk_at dksX3_dayEnds_1 18 rfl rfl)
theorem dX3_dayEnds_43 : decode cX3_dayEnds 43 = .ok (.iaload, 1) := dk_46 (dk_at dksX3_dayEnds_1 19 rfl rfl)
theorem dX3_dayEnds_44 : decode cX3_dayEnds 44 = .ok (.iastore, 1) := dk_79 (dk_at dksX3_dayEnds_1 20 rfl rfl)
theorem dX3_dayEnds_45 : decode cX3_dayEnds 45 = .ok (.iinc 1 1, 3) := dk_132 1 1 (dk_at dksX3_dayEnds_1 21 rfl rfl)
theorem dX3_dayEnds_48 : decode cX3_dayEnds 48 = .ok (.goto (-46), 3) := dk_167 255 210 (dk_at dksX3_dayEnds_2 0 rfl rfl)
theorem dX3_dayEnds_51 : decode cX3_dayEnds 51 = .ok (.aload_n 0, 1) := dk_42 (dk_at dksX3_dayEnds_2 3 rfl rfl)
theorem dX3_dayEnds_52 : decode cX3_dayEnds 52 = .ok (.iconst 0, 1) := dk_3 (dk_at dksX3_dayEnds_2 4 rfl rfl)
theorem dX3_dayEnds_53 : decode cX3_dayEnds 53 = .ok (.putfield 220, 3) := dk_181 0 220 (dk_at dksX3_dayEnds_2 5 rfl rfl)
theorem dX3_dayEnds_56 : decode cX3_dayEnds 56 = .ok (.aload_n 0, 1) := dk_42 (dk_at dksX3_dayEnds_2 8 rfl rfl)
theorem dX3_dayEnds_57 : decode cX3_dayEnds 57 = .ok (.iconst 0, 1) := dk_3 (dk_at dksX3_dayEnds_2 9 rfl rfl)
theorem dX3_dayEnds_58 : decode cX3_dayEnds 58 = .ok (.putfield 217, 3) := dk_181 0 217 (dk_at dksX3_dayEnds_2 10 rfl rfl)
theorem dX3_dayEnds_61 : decode cX3_dayEnds 61 = .ok (.aload_n 0, 1) := dk_42 (dk_at dksX3_dayEnds_2 13 rfl rfl)
theorem dX3_dayEnds_62 : decode cX3_dayEnds 62 = .ok (.dup, 1) := dk_89 (dk_at dksX3_dayEnds_2 14 rfl rfl)
theorem dX3_dayEnds_63 : decode cX3_dayEnds 63 = .ok (.getfield 223, 3) := dk_180 0 223 (dk_at dksX3_dayEnds_2 15 rfl rfl)
theorem dX3_dayEnds_66 : decode cX3_dayEnds 66 = .ok (.iconst 1, 1) := dk_4 (dk_at dksX3_dayEnds_2 18 rfl rfl)
theorem dX3_dayEnds_67 : decode cX3_dayEnds 67 = .ok (.iadd, 1) := dk_96 (dk_at dksX3_dayEnds_2 19 rfl rfl)
theorem dX3_dayEnds_68 : decode cX3_dayEnds 68 = .ok (.putfield 223, 3) := dk_181 0 223 (dk_at dksX3_dayEnds_2 20 rfl rfl)
theorem dX3_dayEnds_71 : decode cX3_dayEnds 71 = .ok (.return_, 1) := dk_177 (dk_at dksX3_dayEnds_2 23 rfl rfl)
abbrev cX3_isBit : ByteArray := prog_14_method_40_code
def yX3_isBit : MethodName := ⟨RX3, "isBit", "(II)Z"⟩
def dkwX3_isBit_0 : List UInt8 := [26, 27, 122, 4, 126, 4, 160, 0, 7, 4, 167, 0, 4, 3, 172]
abbrev dktX3_isBit_0 : List UInt8 := dkwX3_isBit_0 ++ []
theorem dksX3_isBit_0 : cX3_isBit.data.toList.drop 0 = dktX3_isBit_0 := by decide +kernel
theorem dX3_isBit_0 : decode cX3_isBit 0 = .ok (.iload_n 0, 1) := dk_26 (dk_at dksX3_isBit_0 0 rfl rfl)
theorem dX3_isBit_1 : decode cX3_isBit 1 = .ok (.iload_n 1, 1) := dk_27 (dk_at dksX3_isBit_0 1 rfl rfl)
theorem dX3_isBit_2 : decode cX3_isBit 2 = .ok (.ishr, 1) := dk_122 (dk_at dksX3_isBit_0 2 rfl rfl)
theorem dX3_isBit_3 : decode cX3_isBit 3 = .ok (.iconst 1, 1) := dk_4 (dk_at dksX3_isBit_0 3 rfl rfl)
theorem dX3_isBit_4 : decode cX3_isBit 4 = .ok (.iand, 1) := dk_126 (dk_at dksX3_isBit_0 4 rfl rfl)
theorem dX3_isBit_5 : decode cX3_isBit 5 = .ok (.iconst 1, 1) := dk_4 (dk_at dksX3_isBit_0 5 rfl rfl)
theorem dX3_isBit_6 : decode cX3_isBit 6 = .ok (.if_icmp .ne 7, 3) := dk_160 0 7 (dk_at dksX3_isBit_0 6 rfl rfl)
theorem dX3_isBit_9 : decode cX3_isBit 9 = .ok (.iconst 1, 1) := dk_4 (dk_at dksX3_isBit_0 9 rfl rfl)
theorem dX3_isBit_10 : decode cX3_isBit 10 = .ok (.goto 4, 3) := dk_167 0 4 (dk_at dksX3_isBit_0 10 rfl rfl)
theorem dX3_isBit_13 : decode cX3_isBit 13 = .ok (.iconst 0, 1) := dk_3 (dk_at dksX3_isBit_0 13 rfl rfl)
theorem dX3_isBit_14 : decode cX3_isBit 14 = .ok (.ireturn, 1) := dk_172 (dk_at dksX3_isBit_0 14 rfl rfl)
abbrev cX3_handOf : ByteArray := prog_14_method_49_code
def yX3_handOf : MethodName := ⟨RX3, "handOf", "(I)I"⟩
def dkwX3_handOf_1 : List UInt8 := [160, 0, 9, 4, 29, 120, 167, 0, 4, 3, 128, 61, 132, 3, 1, 167, 255, 223, 28, 172]
abbrev dktX3_handOf_1 : List UInt8 := dkwX3_handOf_1 ++ []
def dkwX3_handOf_0 : List UInt8 := [3, 61, 3, 62, 29, 42, 180, 0, 34, 4, 46, 162, 0, 29, 28, 42, 180, 0, 47, 29, 46, 27]
abbrev dktX3_handOf_0 : List UInt8 := dkwX3_handOf_0 ++ dktX3_handOf_1
theorem dksX3_handOf_0 : cX3_handOf.data.toList.drop 0 = dktX3_handOf_0 := by decide +kernel
theorem dksX3_handOf_1 : cX3_handOf.data.toList.drop 22 = dktX3_handOf_1 := dk_seg dksX3_handOf_0 22 rfl rfl
theorem dX3_handOf_0 : decode cX3_handOf 0 = .ok (.iconst 0, 1) := dk_3 (dk_at dksX3_handOf_0 0 rfl rfl)
theorem dX3_handOf_1 : decode cX3_handOf 1 = .ok (.istore_n 2, 1) := dk_61 (dk_at dksX3_handOf_0 1 rfl rfl)
theorem dX3_handOf_2 : decode cX3_handOf 2 = .ok (.iconst 0, 1) := dk_3 (dk_at dksX3_handOf_0 2 rfl rfl)
theorem dX3_handOf_3 : decode cX3_handOf 3 = .ok (.istore_n 3, 1) := dk_62 (dk_at dksX3_handOf_0 3 rfl rfl)
theorem dX3_handOf_4 : decode cX3_handOf 4 = .ok (.iload_n 3, 1) := dk_29 (dk_at dksX3_handOf_0 4 rfl rfl)
theorem dX3_handOf_5 : decode cX3_handOf 5 = .ok (.aload_n 0, 1) := dk_42 (dk_at dksX3_handOf_0 5 rfl rfl)
theorem dX3_handOf_6 : decode cX3_handOf 6 = .ok (.getfield 34, 3) := dk_180 0 34 (dk_at dksX3_handOf_0 6 rfl rfl)
theorem dX3_handOf_9 : decode cX3_handOf 9 = .ok (.iconst 1, 1) := dk_4 (dk_at dksX3_handOf_0 9 rfl rfl)
theorem dX3_handOf_10 : decode cX3_handOf 10 = .ok (.iaload, 1) := dk_46 (dk_at dksX3_handOf_0 10 rfl rfl)
theorem dX3_handOf_11 : decode cX3_handOf 11 = .ok (.if_icmp .ge 29, 3) := dk_162 0 29 (dk_at dksX3_handOf_0 11 rfl rfl)
theorem dX3_handOf_14 : decode cX3_handOf 14 = .ok (.iload_n 2, 1) := dk_28 (dk_at dksX3_handOf_0 14 rfl rfl)
theorem dX3_handOf_15 : decode cX3_handOf 15 = .ok (.aload_n 0, 1) := dk_42 (dk_at dksX3_handOf_0 15 rfl rfl)
theorem dX3_handOf_16 : decode cX3_handOf 16 = .ok (.getfield 47, 3) := dk_180 0 47 (dk_at dksX3_handOf_0 16 rfl rfl)
theorem dX3_handOf_19 : decode cX3_handOf 19 = .ok (.iload_n 3, 1) := dk_29 (dk_at dksX3_handOf_0 19 rfl rfl)
theorem dX3_handOf_20 : decode cX3_handOf 20 = .ok (.iaload, 1) := dk_46 (dk_at dksX3_handOf_0 20 rfl rfl)
theorem dX3_handOf_21 : decode cX3_handOf 21 = .ok (.iload_n 1, 1) := dk_27 (dk_at dksX3_handOf_0 21 rfl rfl)
theorem dX3_handOf_22 : decode cX3_handOf 22 = .ok (.if_icmp .ne 9, 3) := dk_160 0 9 (dk_at dksX3_handOf_1 0 rfl rfl)
theorem dX3_handOf_25 : decode cX3_handOf 25 = .ok (.iconst 1, 1) := dk_4 (dk_at dksX3_handOf_1 3 rfl rfl)
theorem dX3_handOf_26 : decode cX3_handOf 26 = .ok (.iload_n 3, 1) := dk_29 (dk_at dksX3_handOf_1 4 rfl rfl)
theorem dX3_handOf_27 : decode cX3_handOf 27 = .ok (.ishl, 1) := dk_120 (dk_at dksX3_handOf_1 5 rfl rfl)
theorem dX3_handOf_28 : decode cX3_handOf 28 = .ok (.goto 4, 3) := dk_167 0 4 (dk_at dksX3_handOf_1 6 rfl rfl)
theorem dX3_handOf_31 : decode cX3_handOf 31 = .ok (.iconst 0, 1) := dk_3 (dk_at dksX3_handOf_1 9 rfl rfl)
theorem dX3_handOf_32 : decode cX3_handOf 32 = .ok (.ior, 1) := dk_128 (dk_at dksX3_handOf_1 10 rfl rfl)
theorem dX3_handOf_33 : decode cX3_handOf 33 = .ok (.istore_n 2, 1) := dk_61 (dk_at dksX3_handOf_1 11 rfl rfl)
theorem dX3_handOf_34 : decode cX3_handOf 34 = .ok (.iinc 3 1, 3) := dk_132 3 1 (dk_at dksX3_handOf_1 12 rfl rfl)
theorem dX3_handOf_37 : decode cX3_handOf 37 = .ok (.goto (-33), 3) := dk_167 255 223 (dk_at dksX3_handOf_1 15 rfl rfl)
theorem dX3_handOf_40 : decode cX3_handOf 40 = .ok (.iload_n 2, 1) := dk_28 (dk_at dksX3_handOf_1 18 rfl rfl)
theorem dX3_handOf_41 : decode cX3_handOf 41 = .ok (.ireturn, 1) := dk_172 (dk_at dksX3_handOf_1 19 rfl rfl)
abbrev cX3_yetOf : ByteArray := prog_14_method_52_code
def yX3_yetOf : MethodName := ⟨RX3, "yetOf", "(I)I"⟩
def dkwX3_yetOf_1 : List UInt8 := [46, 100, 172]
abbrev dktX3_yetOf_1 : List UInt8 := dkwX3_yetOf_1 ++ []
def dkwX3_yetOf_0 : List UInt8 := [42, 180, 0, 47, 27, 46, 2, 160, 0, 7, 3, 167, 0, 15, 42, 27, 182, 0, 236, 42, 180, 0, 50, 27]
abbrev dktX3_yetOf_0 : List UInt8 := dkwX3_yetOf_0 ++ dktX3_yetOf_1
theorem dksX3_yetOf_0 : cX3_yetOf.data.toList.drop 0 = dktX3_yetOf_0 := by decide +kernel
theorem dksX3_yetOf_1 : cX3_yetOf.data.toList.drop 24 = dktX3_yetOf_1 := dk_seg dksX3_yetOf_0 24 rfl rfl
theorem dX3_yetOf_0 : decode cX3_yetOf 0 = .ok (.aload_n 0, 1) := dk_42 (dk_at dksX3_yetOf_0 0 rfl rfl)
theorem dX3_yetOf_1 : decode cX3_yetOf 1 = .ok (.getfield 47, 3) := dk_180 0 47 (dk_at dksX3_yetOf_0 1 rfl rfl)
theorem dX3_yetOf_4 : decode cX3_yetOf 4 = .ok (.iload_n 1, 1) := dk_27 (dk_at dksX3_yetOf_0 4 rfl rfl)
theorem dX3_yetOf_5 : decode cX3_yetOf 5 = .ok (.iaload, 1) := dk_46 (dk_at dksX3_yetOf_0 5 rfl rfl)
theorem dX3_yetOf_6 : decode cX3_yetOf 6 = .ok (.iconst (-1), 1) := dk_2 (dk_at dksX3_yetOf_0 6 rfl rfl)
theorem dX3_yetOf_7 : decode cX3_yetOf 7 = .ok (.if_icmp .ne 7, 3) := dk_160 0 7 (dk_at dksX3_yetOf_0 7 rfl rfl)
theorem dX3_yetOf_10 : decode cX3_yetOf 10 = .ok (.iconst 0, 1) := dk_3 (dk_at dksX3_yetOf_0 10 rfl rfl)
theorem dX3_yetOf_11 : decode cX3_yetOf 11 = .ok (.goto 15, 3) := dk_167 0 15 (dk_at dksX3_yetOf_0 11 rfl rfl)
theorem dX3_yetOf_14 : decode cX3_yetOf 14 = .ok (.aload_n 0, 1) := dk_42 (dk_at dksX3_yetOf_0 14 rfl rfl)
theorem dX3_yetOf_15 : decode cX3_yetOf 15 = .ok (.iload_n 1, 1) := dk_27 (dk_at dksX3_yetOf_0 15 rfl rfl)
theorem dX3_yetOf_16 : decode cX3_yetOf 16 = .ok (.invokevirtual 236, 3) := dk_182 0 236 (dk_at dksX3_yetOf_0 16 rfl rfl)
theorem dX3_yetOf_19 : decode cX3_yetOf 19 = .ok (.aload_n 0, 1) := dk_42 (dk_at dksX3_yetOf_0 19 rfl rfl)
theorem dX3_yetOf_20 : decode cX3_yetOf 20 = .ok (.getfield 50, 3) := dk_180 0 50 (dk_at dksX3_yetOf_0 20 rfl rfl)
theorem dX3_yetOf_23 : decode cX3_yetOf 23 = .ok (.iload_n 1, 1) := dk_27 (dk_at dksX3_yetOf_0 23 rfl rfl)
theorem dX3_yetOf_24 : decode cX3_yetOf 24 = .ok (.iaload, 1) := dk_46 (dk_at dksX3_yetOf_1 0 rfl rfl)
theorem dX3_yetOf_25 : decode cX3_yetOf 25 = .ok (.isub, 1) := dk_100 (dk_at dksX3_yetOf_1 1 rfl rfl)
theorem dX3_yetOf_26 : decode cX3_yetOf 26 = .ok (.ireturn, 1) := dk_172 (dk_at dksX3_yetOf_1 2 rfl rfl)
abbrev cX3_free : ByteArray := prog_14_method_54_code
def yX3_free : MethodName := ⟨RX3, "free", "()I"⟩
def dkwX3_free_0 : List UInt8 := [42, 3, 181, 0, 59, 42, 182, 0, 209, 154, 0, 6, 16, 254, 172, 42, 182, 0, 251, 42, 182, 1, 4, 172]
abbrev dktX3_free_0 : List UInt8 := dkwX3_free_0 ++ []
theorem dksX3_free_0 : cX3_free.data.toList.drop 0 = dktX3_free_0 := by decide +kernel
theorem dX3_free_0 : decode cX3_free 0 = .ok (.aload_n 0, 1) := dk_42 (dk_at dksX3_free_0 0 rfl rfl)
theorem dX3_free_1 : decode cX3_free 1 = .ok (.iconst 0, 1) := dk_3 (dk_at dksX3_free_0 1 rfl rfl)
theorem dX3_free_2 : decode cX3_free 2 = .ok (.putfield 59, 3) := dk_181 0 59 (dk_at dksX3_free_0 2 rfl rfl)
theorem dX3_free_5 : decode cX3_free 5 = .ok (.aload_n 0, 1) := dk_42 (dk_at dksX3_free_0 5 rfl rfl)
theorem dX3_free_6 : decode cX3_free 6 = .ok (.invokevirtual 209, 3) := dk_182 0 209 (dk_at dksX3_free_0 6 rfl rfl)
theorem dX3_free_9 : decode cX3_free 9 = .ok (.ifCond .ne 6, 3) := dk_154 0 6 (dk_at dksX3_free_0 9 rfl rfl)
theorem dX3_free_12 : decode cX3_free 12 = .ok (.bipush (-2), 2) := dk_16 254 (dk_at dksX3_free_0 12 rfl rfl)
theorem dX3_free_14 : decode cX3_free 14 = .ok (.ireturn, 1) := dk_172 (dk_at dksX3_free_0 14 rfl rfl)
theorem dX3_free_15 : decode cX3_free 15 = .ok (.aload_n 0, 1) := dk_42 (dk_at dksX3_free_0 15 rfl rfl)
theorem dX3_free_16 : decode cX3_free 16 = .ok (.invokevirtual 251, 3) := dk_182 0 251 (dk_at dksX3_free_0 16 rfl rfl)
theorem dX3_free_19 : decode cX3_free 19 = .ok (.aload_n 0, 1) := dk_42 (dk_at dksX3_free_0 19 rfl rfl)
theorem dX3_free_20 : decode cX3_free 20 = .ok (.invokevirtual 260, 3) := dk_182 1 4 (dk_at dksX3_free_0 20 rfl rfl)
theorem dX3_free_23 : decode cX3_free 23 = .ok (.ireturn, 1) := dk_172 (dk_at dksX3_free_0 23 rfl rfl)
abbrev cX3_isCity : ByteArray := prog_14_method_35_code
def yX3_isCity : MethodName := ⟨RX3, "isCity", "()Z"⟩
def dkwX3_isCity_0 : List UInt8 := [42, 180, 0, 31, 3, 46, 158, 0, 7, 4, 167, 0, 4, 3, 172]
abbrev dktX3_isCity_0 : List UInt8 := dkwX3_isCity_0 ++ []
theorem dksX3_isCity_0 : cX3_isCity.data.toList.drop 0 = dktX3_isCity_0 := by decide +kernel
theorem dX3_isCity_0 : decode cX3_isCity 0 = .ok (.aload_n 0, 1) := dk_42 (dk_at dksX3_isCity_0 0 rfl rfl)
theorem dX3_isCity_1 : decode cX3_isCity 1 = .ok (.getfield 31, 3) := dk_180 0 31 (dk_at dksX3_isCity_0 1 rfl rfl)
theorem dX3_isCity_4 : decode cX3_isCity 4 = .ok (.iconst 0, 1) := dk_3 (dk_at dksX3_isCity_0 4 rfl rfl)
theorem dX3_isCity_5 : decode cX3_isCity 5 = .ok (.iaload, 1) := dk_46 (dk_at dksX3_isCity_0 5 rfl rfl)
theorem dX3_isCity_6 : decode cX3_isCity 6 = .ok (.ifCond .le 7, 3) := dk_158 0 7 (dk_at dksX3_isCity_0 6 rfl rfl)
theorem dX3_isCity_9 : decode cX3_isCity 9 = .ok (.iconst 1, 1) := dk_4 (dk_at dksX3_isCity_0 9 rfl rfl)
theorem dX3_isCity_10 : decode cX3_isCity 10 = .ok (.goto 4, 3) := dk_167 0 4 (dk_at dksX3_isCity_0 10 rfl rfl)
theorem dX3_isCity_13 : decode cX3_isCity 13 = .ok (.iconst 0, 1) := dk_3 (dk_at dksX3_isCity_0 13 rfl rfl)
theorem dX3_isCity_14 : decode cX3_isCity 14 = .ok (.ireturn, 1) := dk_172 (dk_at dksX3_isCity_0 14 rfl rfl)
abbrev cX3_freeNow : ByteArray := prog_14_method_53_code
def yX3_freeNow : MethodName := ⟨RX3, "freeNow", "()I"⟩
def dkwX3_freeNow_1 : List UInt8 := [160, 0, 9, 4, 28, 120, 167, 0, 4, 3, 128, 60, 132, 2, 1, 167, 255, 223, 27, 172]
abbrev dktX3_freeNow_1 : List UInt8 := dkwX3_freeNow_1 ++ []
def dkwX3_freeNow_0 : List UInt8 := [3, 60, 3, 61, 28, 42, 180, 0, 34, 4, 46, 162, 0, 29, 27, 42, 180, 0, 47, 28, 46, 2]
abbrev dktX3_freeNow_0 : List UInt8 := dkwX3_freeNow_0 ++ dktX3_freeNow_1
theorem dksX3_freeNow_0 : cX3_freeNow.data.toList.drop 0 = dktX3_freeNow_0 := by decide +kernel
theorem dksX3_freeNow_1 : cX3_freeNow.data.toList.drop 22 = dktX3_freeNow_1 := dk_seg dksX3_freeNow_0 22 rfl rfl
theorem dX3_freeNow_0 : decode cX3_freeNow 0 = .ok (.iconst 0, 1) := dk_3 (dk_at dksX3_freeNow_0 0 rfl rfl)
theorem dX3_freeNow_1 : decode cX3_freeNow 1 = .ok (.istore_n 1, 1) := dk_60 (dk_at dksX3_freeNow_0 1 rfl rfl)
theorem dX3_freeNow_2 : decode cX3_freeNow 2 = .ok (.iconst 0, 1) := dk_3 (dk_at dksX3_freeNow_0 2 rfl rfl)
theorem dX3_freeNow_3 : decode cX3_freeNow 3 = .ok (.istore_n 2, 1) := dk_61 (dk_at dksX3_freeNow_0 3 rfl rfl)
theorem dX3_freeNow_4 : decode cX3_freeNow 4 = .ok (.iload_n 2, 1) := dk_28 (dk_at dksX3_freeNow_0 4 rfl rfl)
theorem dX3_freeNow_5 : decode cX3_freeNow 5 = .ok (.aload_n 0, 1) := dk_42 (dk_at dksX3_freeNow_0 5 rfl rfl)
theorem dX3_freeNow_6 : decode cX3_freeNow 6 = .ok (.getfield 34, 3) := dk_180 0 34 (dk_at dksX3_freeNow_0 6 rfl rfl)
theorem dX3_freeNow_9 : decode cX3_freeNow 9 = .ok (.iconst 1, 1) := dk_4 (dk_at dksX3_freeNow_0 9 rfl rfl)
theorem dX3_freeNow_10 : decode cX3_freeNow 10 = .ok (.iaload, 1) := dk_46 (dk_at dksX3_freeNow_0 10 rfl rfl)
theorem dX3_freeNow_11 : decode cX3_freeNow 11 = .ok (.if_icmp .ge 29, 3) := dk_162 0 29 (dk_at dksX3_freeNow_0 11 rfl rfl)
theorem dX3_freeNow_14 : decode cX3_freeNow 14 = .ok (.iload_n 1, 1) := dk_27 (dk_at dksX3_freeNow_0 14 rfl rfl)
theorem dX3_freeNow_15 : decode cX3_freeNow 15 = .ok (.aload_n 0, 1) := dk_42 (dk_at dksX3_freeNow_0 15 rfl rfl)
theorem dX3_freeNow_16 : decode cX3_freeNow 16 = .ok (.getfield 47, 3) := dk_180 0 47 (dk_at dksX3_freeNow_0 16 rfl rfl)
theorem dX3_freeNow_19 : decode cX3_freeNow 19 = .ok (.iload_n 2, 1) := dk_28 (dk_at dksX3_freeNow_0 19 rfl rfl)
theorem dX3_freeNow_20 : decode cX3_freeNow 20 = .ok (.iaload, 1) := dk_46 (dk_at dksX3_freeNow_0 20 rfl rfl)
theorem dX3_freeNow_21 : decode cX3_freeNow 21 = .ok (.iconst (-1), 1) := dk_2 (dk_at dksX3_freeNow_0 21 rfl rfl)
theorem dX3_freeNow_22 : decode cX3_freeNow 22 = .ok (.if_icmp .ne 9, 3) := dk_160 0 9 (dk_at dksX3_freeNow_1 0 rfl rfl)
theorem dX3_freeNow_25 : decode cX3_freeNow 25 = .ok (.iconst 1, 1) := dk_4 (dk_at dksX3_freeNow_1 3 rfl rfl)
theorem dX3_freeNow_26 : decode cX3_freeNow 26 = .ok (.iload_n 2, 1) := dk_28 (dk_at dksX3_freeNow_1 4 rfl rfl)
theorem dX3_freeNow_27 : decode cX3_freeNow 27 = .ok (.ishl, 1) := dk_120 (dk_at dksX3_freeNow_1 5 rfl rfl)
theorem dX3_freeNow_28 : decode cX3_freeNow 28 = .ok (.goto 4, 3) := dk_167 0 4 (dk_at dksX3_freeNow_1 6 rfl rfl)
theorem dX3_freeNow_31 : decode cX3_freeNow 31 = .ok (.iconst 0, 1) := dk_3 (dk_at dksX3_freeNow_1 9 rfl rfl)
theorem dX3_freeNow_32 : decode cX3_freeNow 32 = .ok (.ior, 1) := dk_128 (dk_at dksX3_freeNow_1 10 rfl rfl)
theorem dX3_freeNow_33 : decode cX3_freeNow 33 = .ok (.istore_n 1, 1) := dk_60 (dk_at dksX3_freeNow_1 11 rfl rfl)
theorem dX3_freeNow_34 : decode cX3_freeNow 34 = .ok (.iinc 2 1, 3) := dk_132 2 1 (dk_at dksX3_freeNow_1 12 rfl rfl)
theorem dX3_freeNow_37 : decode cX3_freeNow 37 = .ok (.goto (-33), 3) := dk_167 255 223 (dk_at dksX3_freeNow_1 15 rfl rfl)
theorem dX3_freeNow_40 : decode cX3_freeNow 40 = .ok (.iload_n 1, 1) := dk_27 (dk_at dksX3_freeNow_1 18 rfl rfl)
theorem dX3_freeNow_41 : decode cX3_freeNow 41 = .ok (.ireturn, 1) := dk_172 (dk_at dksX3_freeNow_1 19 rfl rfl)
abbrev cX3_under : ByteArray := prog_14_method_55_code
def yX3_under : MethodName := ⟨RX3, "under", "(I)I"⟩
def dkwX3_under_1 : List UInt8 := [182, 1, 7, 172]
abbrev dktX3_under_1 : List UInt8 := dkwX3_under_1 ++ []
def dkwX3_under_0 : List UInt8 := [42, 3, 181, 0, 59, 42, 27, 133, 182, 0, 206, 154, 0, 6, 16, 254, 172, 42, 182, 0, 251, 42, 27]
abbrev dktX3_under_0 : List UInt8 := dkwX3_under_0 ++ dktX3_under_1
theorem dksX3_under_0 : cX3_under.data.toList.drop 0 = dktX3_under_0 := by decide +kernel
theorem dksX3_under_1 : cX3_under.data.toList.drop 23 = dktX3_under_1 := dk_seg dksX3_under_0 23 rfl rfl
theorem dX3_under_0 : decode cX3_under 0 = .ok (.aload_n 0, 1) := dk_42 (dk_at dksX3_under_0 0 rfl rfl)
theorem dX3_under_1 : decode cX3_under 1 = .ok (.iconst 0, 1) := dk_3 (dk_at dksX3_under_0 1 rfl rfl)
theorem dX3_under_2 : decode cX3_under 2 = .ok (.putfield 59, 3) := dk_181 0 59 (dk_at dksX3_under_0 2 rfl rfl)
theorem dX3_under_5 : decode cX3_under 5 = .ok (.aload_n 0, 1) := dk_42 (dk_at dksX3_under_0 5 rfl rfl)
theorem dX3_under_6 : decode cX3_under 6 = .ok (.iload_n 1, 1) := dk_27 (dk_at dksX3_under_0 6 rfl rfl)
theorem dX3_under_7 : decode cX3_under 7 = .ok (.i2l, 1) := dk_133 (dk_at dksX3_under_0 7 rfl rfl)
theorem dX3_under_8 : decode cX3_under 8 = .ok (.invokevirtual 206, 3) := dk_182 0 206 (dk_at dksX3_under_0 8 rfl rfl)
theorem dX3_under_11 : decode cX3_under 11 = .ok (.ifCond .ne 6, 3) := dk_154 0 6 (dk_at dksX3_under_0 11 rfl rfl)
theorem dX3_under_14 : decode cX3_under 14 = .ok (.bipush (-2), 2) := dk_16 254 (dk_at dksX3_under_0 14 rfl rfl)
theorem dX3_under_16 : decode cX3_under 16 = .ok (.ireturn, 1) := dk_172 (dk_at dksX3_under_0 16 rfl rfl)
theorem dX3_under_17 : decode cX3_under 17 = .ok (.aload_n 0, 1) := dk_42 (dk_at dksX3_under_0 17 rfl rfl)
theorem dX3_under_18 : decode cX3_under 18 = .ok (.invokevirtual 251, 3) := dk_182 0 251 (dk_at dksX3_under_0 18 rfl rfl)
theorem dX3_under_21 : decode cX3_under 21 = .ok (.aload_n 0, 1) := dk_42 (dk_at dksX3_under_0 21 rfl rfl)
theorem dX3_under_22 : decode cX3_under 22 = .ok (.iload_n 1, 1) := dk_27 (dk_at dksX3_under_0 22 rfl rfl)
theorem dX3_under_23 : decode cX3_under 23 = .ok (.invokevirtual 263, 3) := dk_182 1 7 (dk_at dksX3_under_1 0 rfl rfl)
theorem dX3_under_26 : decode cX3_under 26 = .ok (.ireturn, 1) := dk_172 (dk_at dksX3_under_1 3 rfl rfl)
abbrev cX3_underOf : ByteArray := prog_14_method_50_code
def yX3_underOf : MethodName := ⟨RX3, "underOf", "(I)I"⟩
def dkwX3_underOf_3 : List UInt8 := [167, 255, 199, 132, 3, 1, 167, 255, 184, 28, 172]
abbrev dktX3_underOf_3 : List UInt8 := dkwX3_underOf_3 ++ []
def dkwX3_underOf_2 : List UInt8 := [180, 0, 47, 21, 4, 46, 184, 0, 239, 153, 0, 10, 28, 4, 21, 4, 120, 128, 61, 132, 4, 1]
abbrev dktX3_underOf_2 : List UInt8 := dkwX3_underOf_2 ++ dktX3_underOf_3
def dkwX3_underOf_1 : List UInt8 := [42, 180, 0, 47, 21, 4, 46, 27, 159, 0, 28, 42, 180, 0, 47, 21, 4, 46, 2, 159, 0, 24, 28, 42]
abbrev dktX3_underOf_1 : List UInt8 := dkwX3_underOf_1 ++ dktX3_underOf_2
def dkwX3_underOf_0 : List UInt8 := [3, 61, 3, 62, 29, 16, 8, 162, 0, 72, 3, 54, 4, 21, 4, 42, 180, 0, 34, 4, 46, 162, 0, 52]
abbrev dktX3_underOf_0 : List UInt8 := dkwX3_underOf_0 ++ dktX3_underOf_1
theorem dksX3_underOf_0 : cX3_underOf.data.toList.drop 0 = dktX3_underOf_0 := by decide +kernel
theorem dksX3_underOf_1 : cX3_underOf.data.toList.drop 24 = dktX3_underOf_1 := dk_seg dksX3_underOf_0 24 rfl rfl
theorem dksX3_underOf_2 : cX3_underOf.data.toList.drop 48 = dktX3_underOf_2 := dk_seg dksX3_underOf_1 24 rfl rfl
theorem dksX3_underOf_3 : cX3_underOf.data.toList.drop 70 = dktX3_underOf_3 := dk_seg dksX3_underOf_2 22 rfl rfl
theorem dX3_underOf_0 : decode cX3_underOf 0 = .ok (.iconst 0, 1) := dk_3 (dk_at dksX3_underOf_0 0 rfl rfl)
theorem dX3_underOf_1 : decode cX3_underOf 1 = .ok (.istore_n 2, 1) := dk_61 (dk_at dksX3_underOf_0 1 rfl rfl)
theorem dX3_underOf_2 : decode cX3_underOf 2 = .ok (.iconst 0, 1) := dk_3 (dk_at dksX3_underOf_0 2 rfl rfl)
theorem dX3_underOf_3 : decode cX3_underOf 3 = .ok (.istore_n 3, 1) := dk_62 (dk_at dksX3_underOf_0 3 rfl rfl)
theorem dX3_underOf_4 : decode cX3_underOf 4 = .ok (.iload_n 3, 1) := dk_29 (dk_at dksX3_underOf_0 4 rfl rfl)
theorem dX3_underOf_5 : decode cX3_underOf 5 = .ok (.bipush 8, 2) := dk_16 8 (dk_at dksX3_underOf_0 5 rfl rfl)
theorem dX3_underOf_7 : decode cX3_underOf 7 = .ok (.if_icmp .ge 72, 3) := dk_162 0 72 (dk_at dksX3_underOf_0 7 rfl rfl)
theorem dX3_underOf_10 : decode cX3_underOf 10 = .ok (.iconst 0, 1) := dk_3 (dk_at dksX3_underOf_0 10 rfl rfl)
theorem dX3_underOf_11 : decode cX3_underOf 11 = .ok (.istore 4, 2) := dk_54 4 (dk_at dksX3_underOf_0 11 rfl rfl)
theorem dX3_underOf_13 : decode cX3_underOf 13 = .ok (.iload 4, 2) := dk_21 4 (dk_at dksX3_underOf_0 13 rfl rfl)
theorem dX3_underOf_15 : decode cX3_underOf 15 = .ok (.aload_n 0, 1) := dk_42 (dk_at dksX3_underOf_0 15 rfl rfl)
theorem dX3_underOf_16 : decode cX3_underOf 16 = .ok (.getfield 34, 3) := dk_180 0 34 (dk_at dksX3_underOf_0 16 rfl rfl)
theorem dX3_underOf_19 : decode cX3_underOf 19 = .ok (.iconst 1, 1) := dk_4 (dk_at dksX3_underOf_0 19 rfl rfl)
theorem dX3_underOf_20 : decode cX3_underOf 20 = .ok (.iaload, 1) := dk_46 (dk_at dksX3_underOf_0 20 rfl rfl)
theorem dX3_underOf_21 : decode cX3_underOf 21 = .ok (.if_icmp .ge 52, 3) := dk_162 0 52 (dk_at dksX3_underOf_0 21 rfl rfl)
theorem dX3_underOf_24 : decode cX3_underOf 24 = .ok (.aload_n 0, 1) := dk_42 (dk_at dksX3_underOf_1 0 rfl rfl)
theorem dX3_underOf_25 : decode cX3_underOf 25 = .ok (.getfield 47, 3) := dk_180 0 47 (dk_at dksX3_underOf_1 1 rfl rfl)
theorem dX3_underOf_28 : decode cX3_underOf 28 = .ok (.iload 4, 2) := dk_21 4 (dk_at dksX3_underOf_1 4 rfl rfl)
theorem dX3_underOf_30 : decode cX3_underOf 30 = .ok (.iaload, 1) := dk_46 (dk_at dksX3_underOf_1 6 rfl rfl)
theorem dX3_underOf_31 : decode cX3_underOf 31 = .ok (.iload_n 1, 1) := dk_27 (dk_at dksX3_underOf_1 7 rfl rfl)
theorem dX3_underOf_32 : decode cX3_underOf 32 = .ok (.if_icmp .eq 28, 3) := dk_159 0 28 (dk_at dksX3_underOf_1 8 rfl rfl)
theorem dX3_underOf_35 : decode cX3_underOf 35 = .ok (.aload_n 0, 1) := dk_42 (dk_at dksX3_underOf_1 11 rfl rfl)
theorem dX3_underOf_36 : decode cX3_underOf 36 = .ok (.getfield 47, 3) := dk_180 0 47 (dk_at dksX3_underOf_1 12 rfl rfl)
theorem dX3_underOf_39 : decode cX3_underOf 39 = .ok (.iload 4, 2) := dk_21 4 (dk_at dksX3_underOf_1 15 rfl rfl)
theorem dX3_underOf_41 : decode cX3_underOf 41 = .ok (.iaload, 1) := dk_46 (dk_at dksX3_underOf_1 17 rfl rfl)
theorem dX3_underOf_42 : decode cX3_underOf 42 = .ok (.iconst (-1), 1) := dk_2 (dk_at dksX3_underOf_1 18 rfl rfl)
theorem dX3_underOf_43 : decode cX3_underOf 43 = .ok (.if_icmp .eq 24, 3) := dk_159 0 24 (dk_at dksX3_underOf_1 19 rfl rfl)
theorem dX3_underOf_46 : decode cX3_underOf 46 = .ok (.iload_n 2, 1) := dk_28 (dk_at dksX3_underOf_1 22 rfl rfl)
theorem dX3_underOf_47 : decode cX3_underOf 47 = .ok (.aload_n 0, 1) := dk_42 (dk_at dksX3_underOf_1 23 rfl rfl)
theorem dX3_underOf_48 : decode cX3_underOf 48 = .ok (.getfield 47, 3) := dk_180 0 47 (dk_at dksX3_underOf_2 0 rfl rfl)
theorem dX3_underOf_51 : decode cX3_underOf 51 = .ok (.iload 4, 2) := dk_21 4 (dk_at dksX3_underOf_2 3 rfl rfl)
theorem dX3_underOf_53 : decode cX3_underOf 53 = .ok (.iaload, 1) := dk_46 (dk_at dksX3_underOf_2 5 rfl rfl)
theorem dX3_underOf_54 : decode cX3_underOf 54 = .ok (.invokestatic 239, 3) := dk_184 0 239 (dk_at dksX3_underOf_2 6 rfl rfl)
theorem dX3_underOf_57 : decode cX3_underOf 57 = .ok (.ifCond .eq 10, 3) := dk_153 0 10 (dk_at dksX3_underOf_2 9 rfl rfl)
theorem dX3_underOf_60 : decode cX3_underOf 60 = .ok (.iload_n 2, 1) := dk_28 (dk_at dksX3_underOf_2 12 rfl rfl)
theorem dX3_underOf_61 : decode cX3_underOf 61 = .ok (.iconst 1, 1) := dk_4 (dk_at dksX3_underOf_2 13 rfl rfl)
theorem dX3_underOf_62 : decode cX3_underOf 62 = .ok (.iload 4, 2) := dk_21 4 (dk_at dksX3_underOf_2 14 rfl rfl)
theorem dX3_underOf_64 : decode cX3_underOf 64 = .ok (.ishl, 1) := dk_120 (dk_at dksX3_underOf_2 16 rfl rfl)
theorem dX3_underOf_65 : decode cX3_underOf 65 = .ok (.ior, 1) := dk_128 (dk_at dksX3_underOf_2 17 rfl rfl)
theorem dX3_underOf_66 : decode cX3_underOf 66 = .ok (.istore_n 2, 1) := dk_61 (dk_at dksX3_underOf_2 18 rfl rfl)
theorem dX3_underOf_67 : decode cX3_underOf 67 = .ok (.iinc 4 1, 3) := dk_132 4 1 (dk_at dksX3_underOf_2 19 rfl rfl)
theorem dX3_underOf_70 : decode cX3_underOf 70 = .ok (.goto (-57), 3) := dk_167 255 199 (dk_at dksX3_underOf_3 0 rfl rfl)
theorem dX3_underOf_73 : decode cX3_underOf 73 = .ok (.iinc 3 1, 3) := dk_132 3 1 (dk_at dksX3_underOf_3 3 rfl rfl)
theorem dX3_underOf_76 : decode cX3_underOf 76 = .ok (.goto (-72), 3) := dk_167 255 184 (dk_at dksX3_underOf_3 6 rfl rfl)
theorem dX3_underOf_79 : decode cX3_underOf 79 = .ok (.iload_n 2, 1) := dk_28 (dk_at dksX3_underOf_3 9 rfl rfl)
theorem dX3_underOf_80 : decode cX3_underOf 80 = .ok (.ireturn, 1) := dk_172 (dk_at dksX3_underOf_3 10 rfl rfl)
abbrev cX3_time : ByteArray := prog_14_method_57_code
def yX3_time : MethodName := ⟨RX3, "time", "(II)I"⟩
def dkwX3_time_1 : List UInt8 := [182, 1, 13, 172]
abbrev dktX3_time_1 : List UInt8 := dkwX3_time_1 ++ []
def dkwX3_time_0 : List UInt8 := [42, 3, 181, 0, 59, 42, 27, 28, 182, 1, 10, 154, 0, 6, 16, 254, 172, 42, 182, 0, 251, 42, 27, 28]
abbrev dktX3_time_0 : List UInt8 := dkwX3_time_0 ++ dktX3_time_1
theorem dksX3_time_0 : cX3_time.data.toList.drop 0 = dktX3_time_0 := by decide +kernel
theorem dksX3_time_1 : cX3_time.data.toList.drop 24 = dktX3_time_1 := dk_seg dksX3_time_0 24 rfl rfl
theorem dX3_time_0 : decode cX3_time 0 = .ok (.aload_n 0, 1) := dk_42 (dk_at dksX3_time_0 0 rfl rfl)
theorem dX3_time_1 : decode cX3_time 1 = .ok (.iconst 0, 1) := dk_3 (dk_at dksX3_time_0 1 rfl rfl)
theorem dX3_time_2 : decode cX3_time 2 = .ok (.putfield 59, 3) := dk_181 0 59 (dk_at dksX3_time_0 2 rfl rfl)
theorem dX3_time_5 : decode cX3_time 5 = .ok (.aload_n 0, 1) := dk_42 (dk_at dksX3_time_0 5 rfl rfl)
theorem dX3_time_6 : decode cX3_time 6 = .ok (.iload_n 1, 1) := dk_27 (dk_at dksX3_time_0 6 rfl rfl)
theorem dX3_time_7 : decode cX3_time 7 = .ok (.iload_n 2, 1) := dk_28 (dk_at dksX3_time_0 7 rfl rfl)
theorem dX3_time_8 : decode cX3_time 8 = .ok (.invokevirtual 266, 3) := dk_182 1 10 (dk_at dksX3_time_0 8 rfl rfl)
theorem dX3_time_11 : decode cX3_time 11 = .ok (.ifCond .ne 6, 3) := dk_154 0 6 (dk_at dksX3_time_0 11 rfl rfl)
theorem dX3_time_14 : decode cX3_time 14 = .ok (.bipush (-2), 2) := dk_16 254 (dk_at dksX3_time_0 14 rfl rfl)
theorem dX3_time_16 : decode cX3_time 16 = .ok (.ireturn, 1) := dk_172 (dk_at dksX3_time_0 16 rfl rfl)
theorem dX3_time_17 : decode cX3_time 17 = .ok (.aload_n 0, 1) := dk_42 (dk_at dksX3_time_0 17 rfl rfl)
theorem dX3_time_18 : decode cX3_time 18 = .ok (.invokevirtual 251, 3) := dk_182 0 251 (dk_at dksX3_time_0 18 rfl rfl)
theorem dX3_time_21 : decode cX3_time 21 = .ok (.aload_n 0, 1) := dk_42 (dk_at dksX3_time_0 21 rfl rfl)
theorem dX3_time_22 : decode cX3_time 22 = .ok (.iload_n 1, 1) := dk_27 (dk_at dksX3_time_0 22 rfl rfl)
theorem dX3_time_23 : decode cX3_time 23 = .ok (.iload_n 2, 1) := dk_28 (dk_at dksX3_time_0 23 rfl rfl)
theorem dX3_time_24 : decode cX3_time 24 = .ok (.invokevirtual 269, 3) := dk_182 1 13 (dk_at dksX3_time_1 0 rfl rfl)
theorem dX3_time_27 : decode cX3_time 27 = .ok (.ireturn, 1) := dk_172 (dk_at dksX3_time_1 3 rfl rfl)
abbrev cX3_arePeople : ByteArray := prog_14_method_37_code
def yX3_arePeople : MethodName := ⟨RX3, "arePeople", "(II)Z"⟩
def dkwX3_arePeople_0 : List UInt8 := [42, 27, 133, 182, 0, 206, 153, 0, 16, 42, 28, 133, 182, 0, 206, 153, 0, 7, 4, 167, 0, 4, 3, 172]
abbrev dktX3_arePeople_0 : List UInt8 := dkwX3_arePeople_0 ++ []
theorem dksX3_arePeople_0 : cX3_arePeople.data.toList.drop 0 = dktX3_arePeople_0 := by decide +kernel
theorem dX3_arePeople_0 : decode cX3_arePeople 0 = .ok (.aload_n 0, 1) := dk_42 (dk_at dksX3_arePeople_0 0 rfl rfl)
theorem dX3_arePeople_1 : decode cX3_arePeople 1 = .ok (.iload_n 1, 1) := dk_27 (dk_at dksX3_arePeople_0 1 rfl rfl)
theorem dX3_arePeople_2 : decode cX3_arePeople 2 = .ok (.i2l, 1) := dk_133 (dk_at dksX3_arePeople_0 2 rfl rfl)
theorem dX3_arePeople_3 : decode cX3_arePeople 3 = .ok (.invokevirtual 206, 3) := dk_182 0 206 (dk_at dksX3_arePeople_0 3 rfl rfl)
theorem dX3_arePeople_6 : decode cX3_arePeople 6 = .ok (.ifCond .eq 16, 3) := dk_153 0 16 (dk_at dksX3_arePeople_0 6 rfl rfl)
theorem dX3_arePeople_9 : decode cX3_arePeople 9 = .ok (.aload_n 0, 1) := dk_42 (dk_at dksX3_arePeople_0 9 rfl rfl)
theorem dX3_arePeople_10 : decode cX3_arePeople 10 = .ok (.iload_n 2, 1) := dk_28 (dk_at dksX3_arePeople_0 10 rfl rfl)
theorem dX3_arePeople_11 : decode cX3_arePeople 11 = .ok (.i2l, 1) := dk_133 (dk_at dksX3_arePeople_0 11 rfl rfl)
theorem dX3_arePeople_12 : decode cX3_arePeople 12 = .ok (.invokevirtual 206, 3) := dk_182 0 206 (dk_at dksX3_arePeople_0 12 rfl rfl)
theorem dX3_arePeople_15 : decode cX3_arePeople 15 = .ok (.ifCond .eq 7, 3) := dk_153 0 7 (dk_at dksX3_arePeople_0 15 rfl rfl)
theorem dX3_arePeople_18 : decode cX3_arePeople 18 = .ok (.iconst 1, 1) := dk_4 (dk_at dksX3_arePeople_0 18 rfl rfl)
theorem dX3_arePeople_19 : decode cX3_arePeople 19 = .ok (.goto 4, 3) := dk_167 0 4 (dk_at dksX3_arePeople_0 19 rfl rfl)
theorem dX3_arePeople_22 : decode cX3_arePeople 22 = .ok (.iconst 0, 1) := dk_3 (dk_at dksX3_arePeople_0 22 rfl rfl)
theorem dX3_arePeople_23 : decode cX3_arePeople 23 = .ok (.ireturn, 1) := dk_172 (dk_at dksX3_arePeople_0 23 rfl rfl)
abbrev cX3_timeOf : ByteArray := prog_14_method_56_code
def yX3_timeOf : MethodName := ⟨RX3, "timeOf", "(II)I"⟩
def dkwX3_timeOf_3 : List UInt8 := [172]
abbrev dktX3_timeOf_3 : List UInt8 := dkwX3_timeOf_3 ++ []
def dkwX3_timeOf_2 : List UInt8 := [42, 180, 0, 47, 21, 4, 46, 54, 4, 21, 4, 27, 160, 0, 5, 29, 172, 132, 5, 1, 167, 255, 197, 2]
abbrev dktX3_timeOf_2 : List UInt8 := dkwX3_timeOf_2 ++ dktX3_timeOf_3
def dkwX3_timeOf_1 : List UInt8 := [160, 0, 5, 2, 172, 29, 42, 21, 4, 7, 182, 0, 214, 4, 160, 0, 7, 5, 167, 0, 4, 4, 96, 62]
abbrev dktX3_timeOf_1 : List UInt8 := dkwX3_timeOf_1 ++ dktX3_timeOf_2
def dkwX3_timeOf_0 : List UInt8 := [3, 62, 28, 54, 4, 3, 54, 5, 21, 5, 16, 8, 162, 0, 58, 42, 180, 0, 47, 21, 4, 46, 2]
abbrev dktX3_timeOf_0 : List UInt8 := dkwX3_timeOf_0 ++ dktX3_timeOf_1
theorem dksX3_timeOf_0 : cX3_timeOf.data.toList.drop 0 = dktX3_timeOf_0 := by decide +kernel
theorem dksX3_timeOf_1 : cX3_timeOf.data.toList.drop 23 = dktX3_timeOf_1 := dk_seg dksX3_timeOf_0 23 rfl rfl
theorem dksX3_timeOf_2 : cX3_timeOf.data.toList.drop 47 = dktX3_timeOf_2 := dk_seg dksX3_timeOf_1 24 rfl rfl
theorem dksX3_timeOf_3 : cX3_timeOf.data.toList.drop 71 = dktX3_timeOf_3 := dk_seg dksX3_timeOf_2 24 rfl rfl
theorem dX3_timeOf_0 : decode cX3_timeOf 0 = .ok (.iconst 0, 1) := dk_3 (dk_at dksX3_timeOf_0 0 rfl rfl)
theorem dX3_timeOf_1 : decode cX3_timeOf 1 = .ok (.istore_n 3, 1) := dk_62 (dk_at dksX3_timeOf_0 1 rfl rfl)
theorem dX3_timeOf_2 : decode cX3_timeOf 2 = .ok (.iload_n 2, 1) := dk_28 (dk_at dksX3_timeOf_0 2 rfl rfl)
theorem dX3_timeOf_3 : decode cX3_timeOf 3 = .ok (.istore 4, 2) := dk_54 4 (dk_at dksX3_timeOf_0 3 rfl rfl)
theorem dX3_timeOf_5 : decode cX3_timeOf 5 = .ok (.iconst 0, 1) := dk_3 (dk_at dksX3_timeOf_0 5 rfl rfl)
theorem dX3_timeOf_6 : decode cX3_timeOf 6 = .ok (.istore 5, 2) := dk_54 5 (dk_at dksX3_timeOf_0 6 rfl rfl)
theorem dX3_timeOf_8 : decode cX3_timeOf 8 = .ok (.iload 5, 2) := dk_21 5 (dk_at dksX3_timeOf_0 8 rfl rfl)
theorem dX3_timeOf_10 : decode cX3_timeOf 10 = .ok (.bipush 8, 2) := dk_16 8 (dk_at dksX3_timeOf_0 10 rfl rfl)
theorem dX3_timeOf_12 : decode cX3_timeOf 12 = .ok (.if_icmp .ge 58, 3) := dk_162 0 58 (dk_at dksX3_timeOf_0 12 rfl rfl)
theorem dX3_timeOf_15 : decode cX3_timeOf 15 = .ok (.aload_n 0, 1) := dk_42 (dk_at dksX3_timeOf_0 15 rfl rfl)
theorem dX3_timeOf_16 : decode cX3_timeOf 16 = .ok (.getfield 47, 3) := dk_180 0 47 (dk_at dksX3_timeOf_0 16 rfl rfl)
theorem dX3_timeOf_19 : decode cX3_timeOf 19 = .ok (.iload 4, 2) := dk_21 4 (dk_at dksX3_timeOf_0 19 rfl rfl)
theorem dX3_timeOf_21 : decode cX3_timeOf 21 = .ok (.iaload, 1) := dk_46 (dk_at dksX3_timeOf_0 21 rfl rfl)
theorem dX3_timeOf_22 : decode cX3_timeOf 22 = .ok (.iconst (-1), 1) := dk_2 (dk_at dksX3_timeOf_0 22 rfl rfl)
theorem dX3_timeOf_23 : decode cX3_timeOf 23 = .ok (.if_icmp .ne 5, 3) := dk_160 0 5 (dk_at dksX3_timeOf_1 0 rfl rfl)
theorem dX3_timeOf_26 : decode cX3_timeOf 26 = .ok (.iconst (-1), 1) := dk_2 (dk_at dksX3_timeOf_1 3 rfl rfl)
theorem dX3_timeOf_27 : decode cX3_timeOf 27 = .ok (.ireturn, 1) := dk_172 (dk_at dksX3_timeOf_1 4 rfl rfl)
theorem dX3_timeOf_28 : decode cX3_timeOf 28 = .ok (.iload_n 3, 1) := dk_29 (dk_at dksX3_timeOf_1 5 rfl rfl)
theorem dX3_timeOf_29 : decode cX3_timeOf 29 = .ok (.aload_n 0, 1) := dk_42 (dk_at dksX3_timeOf_1 6 rfl rfl)
theorem dX3_timeOf_30 : decode cX3_timeOf 30 = .ok (.iload 4, 2) := dk_21 4 (dk_at dksX3_timeOf_1 7 rfl rfl)
theorem dX3_timeOf_32 : decode cX3_timeOf 32 = .ok (.iconst 4, 1) := dk_7 (dk_at dksX3_timeOf_1 9 rfl rfl)
theorem dX3_timeOf_33 : decode cX3_timeOf 33 = .ok (.invokevirtual 214, 3) := dk_182 0 214 (dk_at dksX3_timeOf_1 10 rfl rfl)
theorem dX3_timeOf_36 : decode cX3_timeOf 36 = .ok (.iconst 1, 1) := dk_4 (dk_at dksX3_timeOf_1 13 rfl rfl)
theorem dX3_timeOf_37 : decode cX3_timeOf 37 = .ok (.if_icmp .ne 7, 3) := dk_160 0 7 (dk_at dksX3_timeOf_1 14 rfl rfl)
theorem dX3_timeOf_40 : decode cX3_timeOf 40 = .ok (.iconst 2, 1) := dk_5 (dk_at dksX3_timeOf_1 17 rfl rfl)
theorem dX3_timeOf_41 : decode cX3_timeOf 41 = .ok (.goto 4, 3) := dk_167 0 4 (dk_at dksX3_timeOf_1 18 rfl rfl)
theorem dX3_timeOf_44 : decode cX3_timeOf 44 = .ok (.iconst 1, 1) := dk_4 (dk_at dksX3_timeOf_1 21 rfl rfl)
theorem dX3_timeOf_45 : decode cX3_timeOf 45 = .ok (.iadd, 1) := dk_96 (dk_at dksX3_timeOf_1 22 rfl rfl)
theorem dX3_timeOf_46 : decode cX3_timeOf 46 = .ok (.istore_n 3, 1) := dk_62 (dk_at dksX3_timeOf_1 23 rfl rfl)
theorem dX3_timeOf_47 : decode cX3_timeOf 47 = .ok (.aload_n 0, 1) := dk_42 (dk_at dksX3_timeOf_2 0 rfl rfl)
theorem dX3_timeOf_48 : decode cX3_timeOf 48 = .ok (.getfield 47, 3) := dk_180 0 47 (dk_at dksX3_timeOf_2 1 rfl rfl)
theorem dX3_timeOf_51 : decode cX3_timeOf 51 = .ok (.iload 4, 2) := dk_21 4 (dk_at dksX3_timeOf_2 4 rfl rfl)
theorem dX3_timeOf_53 : decode cX3_timeOf 53 = .ok (.iaload, 1) := dk_46 (dk_at dksX3_timeOf_2 6 rfl rfl)
theorem dX3_timeOf_54 : decode cX3_timeOf 54 = .ok (.istore 4, 2) := dk_54 4 (dk_at dksX3_timeOf_2 7 rfl rfl)
theorem dX3_timeOf_56 : decode cX3_timeOf 56 = .ok (.iload 4, 2) := dk_21 4 (dk_at dksX3_timeOf_2 9 rfl rfl)
theorem dX3_timeOf_58 : decode cX3_timeOf 58 = .ok (.iload_n 1, 1) := dk_27 (dk_at dksX3_timeOf_2 11 rfl rfl)
theorem dX3_timeOf_59 : decode cX3_timeOf 59 = .ok (.if_icmp .ne 5, 3) := dk_160 0 5 (dk_at dksX3_timeOf_2 12 rfl rfl)
theorem dX3_timeOf_62 : decode cX3_timeOf 62 = .ok (.iload_n 3, 1) := dk_29 (dk_at dksX3_timeOf_2 15 rfl rfl)
theorem dX3_timeOf_63 : decode cX3_timeOf 63 = .ok (.ireturn, 1) := dk_172 (dk_at dksX3_timeOf_2 16 rfl rfl)
theorem dX3_timeOf_64 : decode cX3_timeOf 64 = .ok (.iinc 5 1, 3) := dk_132 5 1 (dk_at dksX3_timeOf_2 17 rfl rfl)
theorem dX3_timeOf_67 : decode cX3_timeOf 67 = .ok (.goto (-59), 3) := dk_167 255 197 (dk_at dksX3_timeOf_2 20 rfl rfl)
theorem dX3_timeOf_70 : decode cX3_timeOf 70 = .ok (.iconst (-1), 1) := dk_2 (dk_at dksX3_timeOf_2 23 rfl rfl)
theorem dX3_timeOf_71 : decode cX3_timeOf 71 = .ok (.ireturn, 1) := dk_172 (dk_at dksX3_timeOf_3 0 rfl rfl)
abbrev cX3_top : ByteArray := prog_14_method_58_code
def yX3_top : MethodName := ⟨RX3, "top", "(I)I"⟩
def dkwX3_top_2 : List UInt8 := [46, 61, 132, 3, 1, 167, 255, 228, 2, 172]
abbrev dktX3_top_2 : List UInt8 := dkwX3_top_2 ++ []
def dkwX3_top_1 : List UInt8 := [62, 29, 16, 8, 162, 0, 28, 42, 180, 0, 47, 28, 46, 2, 160, 0, 5, 28, 172, 42, 180, 0, 47, 28]
abbrev dktX3_top_1 : List UInt8 := dkwX3_top_1 ++ dktX3_top_2
def dkwX3_top_0 : List UInt8 := [42, 3, 181, 0, 59, 42, 27, 133, 182, 0, 206, 154, 0, 6, 16, 254, 172, 42, 182, 0, 251, 27, 61, 3]
abbrev dktX3_top_0 : List UInt8 := dkwX3_top_0 ++ dktX3_top_1
theorem dksX3_top_0 : cX3_top.data.toList.drop 0 = dktX3_top_0 := by decide +kernel
theorem dksX3_top_1 : cX3_top.data.toList.drop 24 = dktX3_top_1 := dk_seg dksX3_top_0 24 rfl rfl
theorem dksX3_top_2 : cX3_top.data.toList.drop 48 = dktX3_top_2 := dk_seg dksX3_top_1 24 rfl rfl
theorem dX3_top_0 : decode cX3_top 0 = .ok (.aload_n 0, 1) := dk_42 (dk_at dksX3_top_0 0 rfl rfl)
theorem dX3_top_1 : decode cX3_top 1 = .ok (.iconst 0, 1) := dk_3 (dk_at dksX3_top_0 1 rfl rfl)
theorem dX3_top_2 : decode cX3_top 2 = .ok (.putfield 59, 3) := dk_181 0 59 (dk_at dksX3_top_0 2 rfl rfl)
theorem dX3_top_5 : decode cX3_top 5 = .ok (.aload_n 0, 1) := dk_42 (dk_at dksX3_top_0 5 rfl rfl)
theorem dX3_top_6 : decode cX3_top 6 = .ok (.iload_n 1, 1) := dk_27 (dk_at dksX3_top_0 6 rfl rfl)
theorem dX3_top_7 : decode cX3_top 7 = .ok (.i2l, 1) := dk_133 (dk_at dksX3_top_0 7 rfl rfl)
theorem dX3_top_8 : decode cX3_top 8 = .ok (.invokevirtual 206, 3) := dk_182 0 206 (dk_at dksX3_top_0 8 rfl rfl)
theorem dX3_top_11 : decode cX3_top 11 = .ok (.ifCond .ne 6, 3) := dk_154 0 6 (dk_at dksX3_top_0 11 rfl rfl)
theorem dX3_top_14 : decode cX3_top 14 = .ok (.bipush (-2), 2) := dk_16 254 (dk_at dksX3_top_0 14 rfl rfl)
theorem dX3_top_16 : decode cX3_top 16 = .ok (.ireturn, 1) := dk_172 (dk_at dksX3_top_0 16 rfl rfl)
theorem dX3_top_17 : decode cX3_top 17 = .ok (.aload_n 0, 1) := dk_42 (dk_at dksX3_top_0 17 rfl rfl)
theorem dX3_top_18 : decode cX3_top 18 = .ok (.invokevirtual 251, 3) := dk_182 0 251 (dk_at dksX3_top_0 18 rfl rfl)
theorem dX3_top_21 : decode cX3_top 21 = .ok (.iload_n 1, 1) := dk_27 (dk_at dksX3_top_0 21 rfl rfl)
theorem dX3_top_22 : decode cX3_top 22 = .ok (.istore_n 2, 1) := dk_61 (dk_at dksX3_top_0 22 rfl rfl)
theorem dX3_top_23 : decode cX3_top 23 = .ok (.iconst 0, 1) := dk_3 (dk_at dksX3_top_0 23 rfl rfl)
theorem dX3_top_24 : decode cX3_top 24 = .ok (.istore_n 3, 1) := dk_62 (dk_at dksX3_top_1 0 rfl rfl)
theorem dX3_top_25 : decode cX3_top 25 = .ok (.iload_n 3, 1) := dk_29 (dk_at dksX3_top_1 1 rfl rfl)
theorem dX3_top_26 : decode cX3_top 26 = .ok (.bipush 8, 2) := dk_16 8 (dk_at dksX3_top_1 2 rfl rfl)
theorem dX3_top_28 : decode cX3_top 28 = .ok (.if_icmp .ge 28, 3) := dk_162 0 28 (dk_at dksX3_top_1 4 rfl rfl)
theorem dX3_top_31 : decode cX3_top 31 = .ok (.aload_n 0, 1) := dk_42 (dk_at dksX3_top_1 7 rfl rfl)
theorem dX3_top_32 : decode cX3_top 32 = .ok (.getfield 47, 3) := dk_180 0 47 (dk_at dksX3_top_1 8 rfl rfl)
theorem dX3_top_35 : decode cX3_top 35 = .ok (.iload_n 2, 1) := dk_28 (dk_at dksX3_top_1 11 rfl rfl)
theorem dX3_top_36 : decode cX3_top 36 = .ok (.iaload, 1) := dk_46 (dk_at dksX3_top_1 12 rfl rfl)
theorem dX3_top_37 : decode cX3_top 37 = .ok (.iconst (-1), 1) := dk_2 (dk_at dksX3_top_1 13 rfl rfl)
theorem dX3_top_38 : decode cX3_top 38 = .ok (.if_icmp .ne 5, 3) := dk_160 0 5 (dk_at dksX3_top_1 14 rfl rfl)
theorem dX3_top_41 : decode cX3_top 41 = .ok (.iload_n 2, 1) := dk_28 (dk_at dksX3_top_1 17 rfl rfl)
theorem dX3_top_42 : decode cX3_top 42 = .ok (.ireturn, 1) := dk_172 (dk_at dksX3_top_1 18 rfl rfl)
theorem dX3_top_43 : decode cX3_top 43 = .ok (.aload_n 0, 1) := dk_42 (dk_at dksX3_top_1 19 rfl rfl)
theorem dX3_top_44 : decode cX3_top 44 = .ok (.getfield 47, 3) := dk_180 0 47 (dk_at dksX3_top_1 20 rfl rfl)
theorem dX3_top_47 : decode cX3_top 47 = .ok (.iload_n 2, 1) := dk_28 (dk_at dksX3_top_1 23 rfl rfl)
theorem dX3_top_48 : decode cX3_top 48 = .ok (.iaload, 1) := dk_46 (dk_at dksX3_top_2 0 rfl rfl)
theorem dX3_top_49 : decode cX3_top 49 = .ok (.istore_n 2, 1) := dk_61 (dk_at dksX3_top_2 1 rfl rfl)
theorem dX3_top_50 : decode cX3_top 50 = .ok (.iinc 3 1, 3) := dk_132 3 1 (dk_at dksX3_top_2 2 rfl rfl)
theorem dX3_top_53 : decode cX3_top 53 = .ok (.goto (-28), 3) := dk_167 255 228 (dk_at dksX3_top_2 5 rfl rfl)
theorem dX3_top_56 : decode cX3_top 56 = .ok (.iconst (-1), 1) := dk_2 (dk_at dksX3_top_2 8 rfl rfl)
theorem dX3_top_57 : decode cX3_top 57 = .ok (.ireturn, 1) := dk_172 (dk_at dksX3_top_2 9 rfl rfl)
abbrev cX3_ring : ByteArray := prog_14_method_61_code
def yX3_ring : MethodName := ⟨RX3, "ring", "(I)I"⟩
def dkwX3_ring_1 : List UInt8 := [182, 1, 16, 172]
abbrev dktX3_ring_1 : List UInt8 := dkwX3_ring_1 ++ []
def dkwX3_ring_0 : List UInt8 := [42, 3, 181, 0, 59, 42, 27, 133, 182, 0, 206, 154, 0, 6, 16, 254, 172, 42, 182, 0, 251, 42, 27]
abbrev dktX3_ring_0 : List UInt8 := dkwX3_ring_0 ++ dktX3_ring_1
theorem dksX3_ring_0 : cX3_ring.data.toList.drop 0 = dktX3_ring_0 := by decide +kernel
theorem dksX3_ring_1 : cX3_ring.data.toList.drop 23 = dktX3_ring_1 := dk_seg dksX3_ring_0 23 rfl rfl
theorem dX3_ring_0 : decode cX3_ring 0 = .ok (.aload_n 0, 1) := dk_42 (dk_at dksX3_ring_0 0 rfl rfl)
theorem dX3_ring_1 : decode cX3_ring 1 = .ok (.iconst 0, 1) := dk_3 (dk_at dksX3_ring_0 1 rfl rfl)
theorem dX3_ring_2 : decode cX3_ring 2 = .ok (.putfield 59, 3) := dk_181 0 59 (dk_at dksX3_ring_0 2 rfl rfl)
theorem dX3_ring_5 : decode cX3_ring 5 = .ok (.aload_n 0, 1) := dk_42 (dk_at dksX3_ring_0 5 rfl rfl)
theorem dX3_ring_6 : decode cX3_ring 6 = .ok (.iload_n 1, 1) := dk_27 (dk_at dksX3_ring_0 6 rfl rfl)
theorem dX3_ring_7 : decode cX3_ring 7 = .ok (.i2l, 1) := dk_133 (dk_at dksX3_ring_0 7 rfl rfl)
theorem dX3_ring_8 : decode cX3_ring 8 = .ok (.invokevirtual 206, 3) := dk_182 0 206 (dk_at dksX3_ring_0 8 rfl rfl)
theorem dX3_ring_11 : decode cX3_ring 11 = .ok (.ifCond .ne 6, 3) := dk_154 0 6 (dk_at dksX3_ring_0 11 rfl rfl)
theorem dX3_ring_14 : decode cX3_ring 14 = .ok (.bipush (-2), 2) := dk_16 254 (dk_at dksX3_ring_0 14 rfl rfl)
theorem dX3_ring_16 : decode cX3_ring 16 = .ok (.ireturn, 1) := dk_172 (dk_at dksX3_ring_0 16 rfl rfl)
theorem dX3_ring_17 : decode cX3_ring 17 = .ok (.aload_n 0, 1) := dk_42 (dk_at dksX3_ring_0 17 rfl rfl)
theorem dX3_ring_18 : decode cX3_ring 18 = .ok (.invokevirtual 251, 3) := dk_182 0 251 (dk_at dksX3_ring_0 18 rfl rfl)
theorem dX3_ring_21 : decode cX3_ring 21 = .ok (.aload_n 0, 1) := dk_42 (dk_at dksX3_ring_0 21 rfl rfl)
theorem dX3_ring_22 : decode cX3_ring 22 = .ok (.iload_n 1, 1) := dk_27 (dk_at dksX3_ring_0 22 rfl rfl)
theorem dX3_ring_23 : decode cX3_ring 23 = .ok (.invokevirtual 272, 3) := dk_182 1 16 (dk_at dksX3_ring_1 0 rfl rfl)
theorem dX3_ring_26 : decode cX3_ring 26 = .ok (.ireturn, 1) := dk_172 (dk_at dksX3_ring_1 3 rfl rfl)
abbrev cX3_ringOf : ByteArray := prog_14_method_59_code
def yX3_ringOf : MethodName := ⟨RX3, "ringOf", "(I)I"⟩
def dkwX3_ringOf_1 : List UInt8 := [180, 0, 47, 28, 46, 61, 28, 27, 160, 0, 5, 29, 172, 132, 3, 1, 167, 255, 221, 3, 172]
abbrev dktX3_ringOf_1 : List UInt8 := dkwX3_ringOf_1 ++ []
def dkwX3_ringOf_0 : List UInt8 := [27, 61, 4, 62, 29, 16, 8, 163, 0, 35, 42, 180, 0, 47, 28, 46, 2, 160, 0, 5, 3, 172, 42]
abbrev dktX3_ringOf_0 : List UInt8 := dkwX3_ringOf_0 ++ dktX3_ringOf_1
theorem dksX3_ringOf_0 : cX3_ringOf.data.toList.drop 0 = dktX3_ringOf_0 := by decide +kernel
theorem dksX3_ringOf_1 : cX3_ringOf.data.toList.drop 23 = dktX3_ringOf_1 := dk_seg dksX3_ringOf_0 23 rfl rfl
theorem dX3_ringOf_0 : decode cX3_ringOf 0 = .ok (.iload_n 1, 1) := dk_27 (dk_at dksX3_ringOf_0 0 rfl rfl)
theorem dX3_ringOf_1 : decode cX3_ringOf 1 = .ok (.istore_n 2, 1) := dk_61 (dk_at dksX3_ringOf_0 1 rfl rfl)
theorem dX3_ringOf_2 : decode cX3_ringOf 2 = .ok (.iconst 1, 1) := dk_4 (dk_at dksX3_ringOf_0 2 rfl rfl)
theorem dX3_ringOf_3 : decode cX3_ringOf 3 = .ok (.istore_n 3, 1) := dk_62 (dk_at dksX3_ringOf_0 3 rfl rfl)
theorem dX3_ringOf_4 : decode cX3_ringOf 4 = .ok (.iload_n 3, 1) := dk_29 (dk_at dksX3_ringOf_0 4 rfl rfl)
theorem dX3_ringOf_5 : decode cX3_ringOf 5 = .ok (.bipush 8, 2) := dk_16 8 (dk_at dksX3_ringOf_0 5 rfl rfl)
theorem dX3_ringOf_7 : decode cX3_ringOf 7 = .ok (.if_icmp .gt 35, 3) := dk_163 0 35 (dk_at dksX3_ringOf_0 7 rfl rfl)
theorem dX3_ringOf_10 : decode cX3_ringOf 10 = .ok (.aload_n 0, 1) := dk_42 (dk_at dksX3_ringOf_0 10 rfl rfl)
theorem dX3_ringOf_11 : decode cX3_ringOf 11 = .ok (.getfield 47, 3) := dk_180 0 47 (dk_at dksX3_ringOf_0 11 rfl rfl)
theorem dX3_ringOf_14 : decode cX3_ringOf 14 = .ok (.iload_n 2, 1) := dk_28 (dk_at dksX3_ringOf_0 14 rfl rfl)
theorem dX3_ringOf_15 : decode cX3_ringOf 15 = .ok (.iaload, 1) := dk_46 (dk_at dksX3_ringOf_0 15 rfl rfl)
theorem dX3_ringOf_16 : decode cX3_ringOf 16 = .ok (.iconst (-1), 1) := dk_2 (dk_at dksX3_ringOf_0 16 rfl rfl)
theorem dX3_ringOf_17 : decode cX3_ringOf 17 = .ok (.if_icmp .ne 5, 3) := dk_160 0 5 (dk_at dksX3_ringOf_0 17 rfl rfl)
theorem dX3_ringOf_20 : decode cX3_ringOf 20 = .ok (.iconst 0, 1) := dk_3 (dk_at dksX3_ringOf_0 20 rfl rfl)
theorem dX3_ringOf_21 : decode cX3_ringOf 21 = .ok (.ireturn, 1) := dk_172 (dk_at dksX3_ringOf_0 21 rfl rfl)
theorem dX3_ringOf_22 : decode cX3_ringOf 22 = .ok (.aload_n 0, 1) := dk_42 (dk_at dksX3_ringOf_0 22 rfl rfl)
theorem dX3_ringOf_23 : decode cX3_ringOf 23 = .ok (.getfield 47, 3) := dk_180 0 47 (dk_at dksX3_ringOf_1 0 rfl rfl)
theorem dX3_ringOf_26 : decode cX3_ringOf 26 = .ok (.iload_n 2, 1) := dk_28 (dk_at dksX3_ringOf_1 3 rfl rfl)
theorem dX3_ringOf_27 : decode cX3_ringOf 27 = .ok (.iaload, 1) := dk_46 (dk_at dksX3_ringOf_1 4 rfl rfl)
theorem dX3_ringOf_28 : decode cX3_ringOf 28 = .ok (.istore_n 2, 1) := dk_61 (dk_at dksX3_ringOf_1 5 rfl rfl)
theorem dX3_ringOf_29 : decode cX3_ringOf 29 = .ok (.iload_n 2, 1) := dk_28 (dk_at dksX3_ringOf_1 6 rfl rfl)
theorem dX3_ringOf_30 : decode cX3_ringOf 30 = .ok (.iload_n 1, 1) := dk_27 (dk_at dksX3_ringOf_1 7 rfl rfl)
theorem dX3_ringOf_31 : decode cX3_ringOf 31 = .ok (.if_icmp .ne 5, 3) := dk_160 0 5 (dk_at dksX3_ringOf_1 8 rfl rfl)
theorem dX3_ringOf_34 : decode cX3_ringOf 34 = .ok (.iload_n 3, 1) := dk_29 (dk_at dksX3_ringOf_1 11 rfl rfl)
theorem dX3_ringOf_35 : decode cX3_ringOf 35 = .ok (.ireturn, 1) := dk_172 (dk_at dksX3_ringOf_1 12 rfl rfl)
theorem dX3_ringOf_36 : decode cX3_ringOf 36 = .ok (.iinc 3 1, 3) := dk_132 3 1 (dk_at dksX3_ringOf_1 13 rfl rfl)
theorem dX3_ringOf_39 : decode cX3_ringOf 39 = .ok (.goto (-35), 3) := dk_167 255 221 (dk_at dksX3_ringOf_1 16 rfl rfl)
theorem dX3_ringOf_42 : decode cX3_ringOf 42 = .ok (.iconst 0, 1) := dk_3 (dk_at dksX3_ringOf_1 19 rfl rfl)
theorem dX3_ringOf_43 : decode cX3_ringOf 43 = .ok (.ireturn, 1) := dk_172 (dk_at dksX3_ringOf_1 20 rfl rfl)
abbrev cX3_rings : ByteArray := prog_14_method_62_code
def yX3_rings : MethodName := ⟨RX3, "rings", "()I"⟩
def dkwX3_rings_0 : List UInt8 := [42, 3, 181, 0, 59, 42, 182, 0, 209, 154, 0, 6, 16, 254, 172, 42, 182, 0, 251, 42, 182, 1, 19, 172]
abbrev dktX3_rings_0 : List UInt8 := dkwX3_rings_0 ++ []
theorem dksX3_rings_0 : cX3_rings.data.toList.drop 0 = dktX3_rings_0 := by decide +kernel
theorem dX3_rings_0 : decode cX3_rings 0 = .ok (.aload_n 0, 1) := dk_42 (dk_at dksX3_rings_0 0 rfl rfl)
theorem dX3_rings_1 : decode cX3_rings 1 = .ok (.iconst 0, 1) := dk_3 (dk_at dksX3_rings_0 1 rfl rfl)
theorem dX3_rings_2 : decode cX3_rings 2 = .ok (.putfield 59, 3) := dk_181 0 59 (dk_at dksX3_rings_0 2 rfl rfl)
theorem dX3_rings_5 : decode cX3_rings 5 = .ok (.aload_n 0, 1) := dk_42 (dk_at dksX3_rings_0 5 rfl rfl)
theorem dX3_rings_6 : decode cX3_rings 6 = .ok (.invokevirtual 209, 3) := dk_182 0 209 (dk_at dksX3_rings_0 6 rfl rfl)
theorem dX3_rings_9 : decode cX3_rings 9 = .ok (.ifCond .ne 6, 3) := dk_154 0 6 (dk_at dksX3_rings_0 9 rfl rfl)
theorem dX3_rings_12 : decode cX3_rings 12 = .ok (.bipush (-2), 2) := dk_16 254 (dk_at dksX3_rings_0 12 rfl rfl)
theorem dX3_rings_14 : decode cX3_rings 14 = .ok (.ireturn, 1) := dk_172 (dk_at dksX3_rings_0 14 rfl rfl)
theorem dX3_rings_15 : decode cX3_rings 15 = .ok (.aload_n 0, 1) := dk_42 (dk_at dksX3_rings_0 15 rfl rfl)
theorem dX3_rings_16 : decode cX3_rings 16 = .ok (.invokevirtual 251, 3) := dk_182 0 251 (dk_at dksX3_rings_0 16 rfl rfl)
theorem dX3_rings_19 : decode cX3_rings 19 = .ok (.aload_n 0, 1) := dk_42 (dk_at dksX3_rings_0 19 rfl rfl)
theorem dX3_rings_20 : decode cX3_rings 20 = .ok (.invokevirtual 275, 3) := dk_182 1 19 (dk_at dksX3_rings_0 20 rfl rfl)
theorem dX3_rings_23 : decode cX3_rings 23 = .ok (.ireturn, 1) := dk_172 (dk_at dksX3_rings_0 23 rfl rfl)
abbrev cX3_ringsNow : ByteArray := prog_14_method_60_code
def yX3_ringsNow : MethodName := ⟨RX3, "ringsNow", "()I"⟩
def dkwX3_ringsNow_4 : List UInt8 := [167, 255, 168, 27, 172]
abbrev dktX3_ringsNow_4 : List UInt8 := dkwX3_ringsNow_4 ++ []
def dkwX3_ringsNow_3 : List UInt8 := [132, 6, 1, 167, 255, 220, 27, 21, 4, 153, 0, 7, 4, 167, 0, 4, 3, 96, 60, 132, 2, 1]
abbrev dktX3_ringsNow_3 : List UInt8 := dkwX3_ringsNow_3 ++ dktX3_ringsNow_4
def dkwX3_ringsNow_2 : List UInt8 := [42, 180, 0, 47, 21, 5, 46, 54, 5, 21, 5, 28, 161, 0, 7, 4, 167, 0, 4, 3, 54, 4]
abbrev dktX3_ringsNow_2 : List UInt8 := dkwX3_ringsNow_2 ++ dktX3_ringsNow_3
def dkwX3_ringsNow_1 : List UInt8 := [4, 167, 0, 4, 3, 54, 4, 28, 54, 5, 3, 54, 6, 21, 6, 29, 162, 0, 36, 21, 4, 153, 0, 31]
abbrev dktX3_ringsNow_1 : List UInt8 := dkwX3_ringsNow_1 ++ dktX3_ringsNow_2
def dkwX3_ringsNow_0 : List UInt8 := [3, 60, 3, 61, 28, 42, 180, 0, 34, 4, 46, 162, 0, 84, 42, 28, 182, 1, 16, 62, 29, 158, 0, 7]
abbrev dktX3_ringsNow_0 : List UInt8 := dkwX3_ringsNow_0 ++ dktX3_ringsNow_1
theorem dksX3_ringsNow_0 : cX3_ringsNow.data.toList.drop 0 = dktX3_ringsNow_0 := by decide +kernel
theorem dksX3_ringsNow_1 : cX3_ringsNow.data.toList.drop 24 = dktX3_ringsNow_1 := dk_seg dksX3_ringsNow_0 24 rfl rfl
theorem dksX3_ringsNow_2 : cX3_ringsNow.data.toList.drop 48 = dktX3_ringsNow_2 := dk_seg dksX3_ringsNow_1 24 rfl rfl
theorem dksX3_ringsNow_3 : cX3_ringsNow.data.toList.drop 70 = dktX3_ringsNow_3 := dk_seg dksX3_ringsNow_2 22 rfl rfl
theorem dksX3_ringsNow_4 : cX3_ringsNow.data.toList.drop 92 = dktX3_ringsNow_4 := dk_seg dksX3_ringsNow_3 22 rfl rfl
theorem dX3_ringsNow_0 : decode cX3_ringsNow 0 = .ok (.iconst 0, 1) := dk_3 (dk_at dksX3_ringsNow_0 0 rfl rfl)
theorem dX3_ringsNow_1 : decode cX3_ringsNow 1 = .ok (.istore_n 1, 1) := dk_60 (dk_at dksX3_ringsNow_0 1 rfl rfl)
theorem dX3_ringsNow_2 : decode cX3_ringsNow 2 = .ok (.iconst 0, 1) := dk_3 (dk_at dksX3_ringsNow_0 2 rfl rfl)
theorem dX3_ringsNow_3 : decode cX3_ringsNow 3 = .ok (.istore_n 2, 1) := dk_61 (dk_at dksX3_ringsNow_0 3 rfl rfl)
theorem dX3_ringsNow_4 : decode cX3_ringsNow 4 = .ok (.iload_n 2, 1) := dk_28 (dk_at dksX3_ringsNow_0 4 rfl rfl)
theorem dX3_ringsNow_5 : decode cX3_ringsNow 5 = .ok (.aload_n 0, 1) := dk_42 (dk_at dksX3_ringsNow_0 5 rfl rfl)
theorem dX3_ringsNow_6 : decode cX3_ringsNow 6 = .ok (.getfield 34, 3) := dk_180 0 34 (dk_at dksX3_ringsNow_0 6 rfl rfl)
theorem dX3_ringsNow_9 : decode cX3_ringsNow 9 = .ok (.iconst 1, 1) := dk_4 (dk_at dksX3_ringsNow_0 9 rfl rfl)
theorem dX3_ringsNow_10 : decode cX3_ringsNow 10 = .ok (.iaload, 1) := dk_46 (dk_at dksX3_ringsNow_0 10 rfl rfl)
theorem dX3_ringsNow_11 : decode cX3_ringsNow 11 = .ok (.if_icmp .ge 84, 3) := dk_162 0 84 (dk_at dksX3_ringsNow_0 11 rfl rfl)
theorem dX3_ringsNow_14 : decode cX3_ringsNow 14 = .ok (.aload_n 0, 1) := dk_42 (dk_at dksX3_ringsNow_0 14 rfl rfl)
theorem dX3_ringsNow_15 : decode cX3_ringsNow 15 = .ok (.iload_n 2, 1) := dk_28 (dk_at dksX3_ringsNow_0 15 rfl rfl)
theorem dX3_ringsNow_16 : decode cX3_ringsNow 16 = .ok (.invokevirtual 272, 3) := dk_182 1 16 (dk_at dksX3_ringsNow_0 16 rfl rfl)
theorem dX3_ringsNow_19 : decode cX3_ringsNow 19 = .ok (.istore_n 3, 1) := dk_62 (dk_at dksX3_ringsNow_0 19 rfl rfl)
theorem dX3_ringsNow_20 : decode cX3_ringsNow 20 = .ok (.iload_n 3, 1) := dk_29 (dk_at dksX3_ringsNow_0 20 rfl rfl)
theorem dX3_ringsNow_21 : decode cX3_ringsNow 21 = .ok (.ifCond .le 7, 3) := dk_158 0 7 (dk_at dksX3_ringsNow_0 21 rfl rfl)
theorem dX3_ringsNow_24 : decode cX3_ringsNow 24 = .ok (.iconst 1, 1) := dk_4 (dk_at dksX3_ringsNow_1 0 rfl rfl)
theorem dX3_ringsNow_25 : decode cX3_ringsNow 25 = .ok (.goto 4, 3) := dk_167 0 4 (dk_at dksX3_ringsNow_1 1 rfl rfl)
theorem dX3_ringsNow_28 : decode cX3_ringsNow 28 = .ok (.iconst 0, 1) := dk_3 (dk_at dksX3_ringsNow_1 4 rfl rfl)
theorem dX3_ringsNow_29 : decode cX3_ringsNow 29 = .ok (.istore 4, 2) := dk_54 4 (dk_at dksX3_ringsNow_1 5 rfl rfl)
theorem dX3_ringsNow_31 : decode cX3_ringsNow 31 = .ok (.iload_n 2, 1) := dk_28 (dk_at dksX3_ringsNow_1 7 rfl rfl)
theorem dX3_ringsNow_32 : decode cX3_ringsNow 32 = .ok (.istore 5, 2) := dk_54 5 (dk_at dksX3_ringsNow_1 8 rfl rfl)
theorem dX3_ringsNow_34 : decode cX3_ringsNow 34 = .ok (.iconst 0, 1) := dk_3 (dk_at dksX3_ringsNow_1 10 rfl rfl)
theorem dX3_ringsNow_35 : decode cX3_ringsNow 35 = .ok (.istore 6, 2) := dk_54 6 (dk_at dksX3_ringsNow_1 11 rfl rfl)
theorem dX3_ringsNow_37 : decode cX3_ringsNow 37 = .ok (.iload 6, 2) := dk_21 6 (dk_at dksX3_ringsNow_1 13 rfl rfl)
theorem dX3_ringsNow_39 : decode cX3_ringsNow 39 = .ok (.iload_n 3, 1) := dk_29 (dk_at dksX3_ringsNow_1 15 rfl rfl)
theorem dX3_ringsNow_40 : decode cX3_ringsNow 40 = .ok (.if_icmp .ge 36, 3) := dk_162 0 36 (dk_at dksX3_ringsNow_1 16 rfl rfl)
theorem dX3_ringsNow_43 : decode cX3_ringsNow 43 = .ok (.iload 4, 2) := dk_21 4 (dk_at dksX3_ringsNow_1 19 rfl rfl)
theorem dX3_ringsNow_45 : decode cX3_ringsNow 45 = .ok (.ifCond .eq 31, 3) := dk_153 0 31 (dk_at dksX3_ringsNow_1 21 rfl rfl)
theorem dX3_ringsNow_48 : decode cX3_ringsNow 48 = .ok (.aload_n 0, 1) := dk_42 (dk_at dksX3_ringsNow_2 0 rfl rfl)
theorem dX3_ringsNow_49 : decode cX3_ringsNow 49 = .ok (.getfield 47, 3) := dk_180 0 47 (dk_at dksX3_ringsNow_2 1 rfl rfl)
theorem dX3_ringsNow_52 : decode cX3_ringsNow 52 = .ok (.iload 5, 2) := dk_21 5 (dk_at dksX3_ringsNow_2 4 rfl rfl)
theorem dX3_ringsNow_54 : decode cX3_ringsNow 54 = .ok (.iaload, 1) := dk_46 (dk_at dksX3_ringsNow_2 6 rfl rfl)
theorem dX3_ringsNow_55 : decode cX3_ringsNow 55 = .ok (.istore 5, 2) := dk_54 5 (dk_at dksX3_ringsNow_2 7 rfl rfl)
theorem dX3_ringsNow_57 : decode cX3_ringsNow 57 = .ok (.iload 5, 2) := dk_21 5 (dk_at dksX3_ringsNow_2 9 rfl rfl)
theorem dX3_ringsNow_59 : decode cX3_ringsNow 59 = .ok (.iload_n 2, 1) := dk_28 (dk_at dksX3_ringsNow_2 11 rfl rfl)
theorem dX3_ringsNow_60 : decode cX3_ringsNow 60 = .ok (.if_icmp .lt 7, 3) := dk_161 0 7 (dk_at dksX3_ringsNow_2 12 rfl rfl)
theorem dX3_ringsNow_63 : decode cX3_ringsNow 63 = .ok (.iconst 1, 1) := dk_4 (dk_at dksX3_ringsNow_2 15 rfl rfl)
theorem dX3_ringsNow_64 : decode cX3_ringsNow 64 = .ok (.goto 4, 3) := dk_167 0 4 (dk_at dksX3_ringsNow_2 16 rfl rfl)
theorem dX3_ringsNow_67 : decode cX3_ringsNow 67 = .ok (.iconst 0, 1) := dk_3 (dk_at dksX3_ringsNow_2 19 rfl rfl)
theorem dX3_ringsNow_68 : decode cX3_ringsNow 68 = .ok (.istore 4, 2) := dk_54 4 (dk_at dksX3_ringsNow_2 20 rfl rfl)
theorem dX3_ringsNow_70 : decode cX3_ringsNow 70 = .ok (.iinc 6 1, 3) := dk_132 6 1 (dk_at dksX3_ringsNow_3 0 rfl rfl)
theorem dX3_ringsNow_73 : decode cX3_ringsNow 73 = .ok (.goto (-36), 3) := dk_167 255 220 (dk_at dksX3_ringsNow_3 3 rfl rfl)
theorem dX3_ringsNow_76 : decode cX3_ringsNow 76 = .ok (.iload_n 1, 1) := dk_27 (dk_at dksX3_ringsNow_3 6 rfl rfl)
theorem dX3_ringsNow_77 : decode cX3_ringsNow 77 = .ok (.iload 4, 2) := dk_21 4 (dk_at dksX3_ringsNow_3 7 rfl rfl)
theorem dX3_ringsNow_79 : decode cX3_ringsNow 79 = .ok (.ifCond .eq 7, 3) := dk_153 0 7 (dk_at dksX3_ringsNow_3 9 rfl rfl)
theorem dX3_ringsNow_82 : decode cX3_ringsNow 82 = .ok (.iconst 1, 1) := dk_4 (dk_at dksX3_ringsNow_3 12 rfl rfl)
theorem dX3_ringsNow_83 : decode cX3_ringsNow 83 = .ok (.goto 4, 3) := dk_167 0 4 (dk_at dksX3_ringsNow_3 13 rfl rfl)
theorem dX3_ringsNow_86 : decode cX3_ringsNow 86 = .ok (.iconst 0, 1) := dk_3 (dk_at dksX3_ringsNow_3 16 rfl rfl)
theorem dX3_ringsNow_87 : decode cX3_ringsNow 87 = .ok (.iadd, 1) := dk_96 (dk_at dksX3_ringsNow_3 17 rfl rfl)
theorem dX3_ringsNow_88 : decode cX3_ringsNow 88 = .ok (.istore_n 1, 1) := dk_60 (dk_at dksX3_ringsNow_3 18 rfl rfl)
theorem dX3_ringsNow_89 : decode cX3_ringsNow 89 = .ok (.iinc 2 1, 3) := dk_132 2 1 (dk_at dksX3_ringsNow_3 19 rfl rfl)
theorem dX3_ringsNow_92 : decode cX3_ringsNow 92 = .ok (.goto (-88), 3) := dk_167 255 168 (dk_at dksX3_ringsNow_4 0 rfl rfl)
theorem dX3_ringsNow_95 : decode cX3_ringsNow 95 = .ok (.iload_n 1, 1) := dk_27 (dk_at dksX3_ringsNow_4 3 rfl rfl)
theorem dX3_ringsNow_96 : decode cX3_ringsNow 96 = .ok (.ireturn, 1) := dk_172 (dk_at dksX3_ringsNow_4 4 rfl rfl)
abbrev cX3_chain : ByteArray := prog_14_method_65_code
def yX3_chain : MethodName := ⟨RX3, "chain", "(II)I"⟩
def dkwX3_chain_1 : List UInt8 := [182, 1, 28, 62, 29, 2, 160, 0, 7, 2, 167, 0, 9, 42, 27, 29, 182, 1, 13, 172]
abbrev dktX3_chain_1 : List UInt8 := dkwX3_chain_1 ++ []
def dkwX3_chain_0 : List UInt8 := [42, 3, 181, 0, 59, 42, 27, 28, 182, 1, 25, 154, 0, 6, 16, 254, 172, 42, 182, 0, 251, 42, 27, 28]
abbrev dktX3_chain_0 : List UInt8 := dkwX3_chain_0 ++ dktX3_chain_1
theorem dksX3_chain_0 : cX3_chain.data.toList.drop 0 = dktX3_chain_0 := by decide +kernel
theorem dksX3_chain_1 : cX3_chain.data.toList.drop 24 = dktX3_chain_1 := dk_seg dksX3_chain_0 24 rfl rfl
theorem dX3_chain_0 : decode cX3_chain 0 = .ok (.aload_n 0, 1) := dk_42 (dk_at dksX3_chain_0 0 rfl rfl)
theorem dX3_chain_1 : decode cX3_chain 1 = .ok (.iconst 0, 1) := dk_3 (dk_at dksX3_chain_0 1 rfl rfl)
theorem dX3_chain_2 : decode cX3_chain 2 = .ok (.putfield 59, 3) := dk_181 0 59 (dk_at dksX3_chain_0 2 rfl rfl)
theorem dX3_chain_5 : decode cX3_chain 5 = .ok (.aload_n 0, 1) := dk_42 (dk_at dksX3_chain_0 5 rfl rfl)
theorem dX3_chain_6 : decode cX3_chain 6 = .ok (.iload_n 1, 1) := dk_27 (dk_at dksX3_chain_0 6 rfl rfl)
theorem dX3_chain_7 : decode cX3_chain 7 = .ok (.iload_n 2, 1) := dk_28 (dk_at dksX3_chain_0 7 rfl rfl)
theorem dX3_chain_8 : decode cX3_chain 8 = .ok (.invokevirtual 281, 3) := dk_182 1 25 (dk_at dksX3_chain_0 8 rfl rfl)
theorem dX3_chain_11 : decode cX3_chain 11 = .ok (.ifCond .ne 6, 3) := dk_154 0 6 (dk_at dksX3_chain_0 11 rfl rfl)
theorem dX3_chain_14 : decode cX3_chain 14 = .ok (.bipush (-2), 2) := dk_16 254 (dk_at dksX3_chain_0 14 rfl rfl)
theorem dX3_chain_16 : decode cX3_chain 16 = .ok (.ireturn, 1) := dk_172 (dk_at dksX3_chain_0 16 rfl rfl)
theorem dX3_chain_17 : decode cX3_chain 17 = .ok (.aload_n 0, 1) := dk_42 (dk_at dksX3_chain_0 17 rfl rfl)
theorem dX3_chain_18 : decode cX3_chain 18 = .ok (.invokevirtual 251, 3) := dk_182 0 251 (dk_at dksX3_chain_0 18 rfl rfl)
theorem dX3_chain_21 : decode cX3_chain 21 = .ok (.aload_n 0, 1) := dk_42 (dk_at dksX3_chain_0 21 rfl rfl)
theorem dX3_chain_22 : decode cX3_chain 22 = .ok (.iload_n 1, 1) := dk_27 (dk_at dksX3_chain_0 22 rfl rfl)
theorem dX3_chain_23 : decode cX3_chain 23 = .ok (.iload_n 2, 1) := dk_28 (dk_at dksX3_chain_0 23 rfl rfl)
theorem dX3_chain_24 : decode cX3_chain 24 = .ok (.invokevirtual 284, 3) := dk_182 1 28 (dk_at dksX3_chain_1 0 rfl rfl)
theorem dX3_chain_27 : decode cX3_chain 27 = .ok (.istore_n 3, 1) := dk_62 (dk_at dksX3_chain_1 3 rfl rfl)
theorem dX3_chain_28 : decode cX3_chain 28 = .ok (.iload_n 3, 1) := dk_29 (dk_at dksX3_chain_1 4 rfl rfl)
theorem dX3_chain_29 : decode cX3_chain 29 = .ok (.iconst (-1), 1) := dk_2 (dk_at dksX3_chain_1 5 rfl rfl)
theorem dX3_chain_30 : decode cX3_chain 30 = .ok (.if_icmp .ne 7, 3) := dk_160 0 7 (dk_at dksX3_chain_1 6 rfl rfl)
theorem dX3_chain_33 : decode cX3_chain 33 = .ok (.iconst (-1), 1) := dk_2 (dk_at dksX3_chain_1 9 rfl rfl)
theorem dX3_chain_34 : decode cX3_chain 34 = .ok (.goto 9, 3) := dk_167 0 9 (dk_at dksX3_chain_1 10 rfl rfl)
theorem dX3_chain_37 : decode cX3_chain 37 = .ok (.aload_n 0, 1) := dk_42 (dk_at dksX3_chain_1 13 rfl rfl)
theorem dX3_chain_38 : decode cX3_chain 38 = .ok (.iload_n 1, 1) := dk_27 (dk_at dksX3_chain_1 14 rfl rfl)
theorem dX3_chain_39 : decode cX3_chain 39 = .ok (.iload_n 3, 1) := dk_29 (dk_at dksX3_chain_1 15 rfl rfl)
theorem dX3_chain_40 : decode cX3_chain 40 = .ok (.invokevirtual 269, 3) := dk_182 1 13 (dk_at dksX3_chain_1 16 rfl rfl)
theorem dX3_chain_43 : decode cX3_chain 43 = .ok (.ireturn, 1) := dk_172 (dk_at dksX3_chain_1 19 rfl rfl)
abbrev cX3_isChain : ByteArray := prog_14_method_64_code
def yX3_isChain : MethodName := ⟨RX3, "isChain", "(II)Z"⟩
def dkwX3_isChain_0 : List UInt8 := [42, 27, 133, 182, 0, 206, 153, 0, 15, 28, 133, 184, 1, 22, 153, 0, 7, 4, 167, 0, 4, 3, 172]
abbrev dktX3_isChain_0 : List UInt8 := dkwX3_isChain_0 ++ []
theorem dksX3_isChain_0 : cX3_isChain.data.toList.drop 0 = dktX3_isChain_0 := by decide +kernel
theorem dX3_isChain_0 : decode cX3_isChain 0 = .ok (.aload_n 0, 1) := dk_42 (dk_at dksX3_isChain_0 0 rfl rfl)
theorem dX3_isChain_1 : decode cX3_isChain 1 = .ok (.iload_n 1, 1) := dk_27 (dk_at dksX3_isChain_0 1 rfl rfl)
theorem dX3_isChain_2 : decode cX3_isChain 2 = .ok (.i2l, 1) := dk_133 (dk_at dksX3_isChain_0 2 rfl rfl)
theorem dX3_isChain_3 : decode cX3_isChain 3 = .ok (.invokevirtual 206, 3) := dk_182 0 206 (dk_at dksX3_isChain_0 3 rfl rfl)
theorem dX3_isChain_6 : decode cX3_isChain 6 = .ok (.ifCond .eq 15, 3) := dk_153 0 15 (dk_at dksX3_isChain_0 6 rfl rfl)
theorem dX3_isChain_9 : decode cX3_isChain 9 = .ok (.iload_n 2, 1) := dk_28 (dk_at dksX3_isChain_0 9 rfl rfl)
theorem dX3_isChain_10 : decode cX3_isChain 10 = .ok (.i2l, 1) := dk_133 (dk_at dksX3_isChain_0 10 rfl rfl)
theorem dX3_isChain_11 : decode cX3_isChain 11 = .ok (.invokestatic 278, 3) := dk_184 1 22 (dk_at dksX3_isChain_0 11 rfl rfl)
theorem dX3_isChain_14 : decode cX3_isChain 14 = .ok (.ifCond .eq 7, 3) := dk_153 0 7 (dk_at dksX3_isChain_0 14 rfl rfl)
theorem dX3_isChain_17 : decode cX3_isChain 17 = .ok (.iconst 1, 1) := dk_4 (dk_at dksX3_isChain_0 17 rfl rfl)
theorem dX3_isChain_18 : decode cX3_isChain 18 = .ok (.goto 4, 3) := dk_167 0 4 (dk_at dksX3_isChain_0 18 rfl rfl)
theorem dX3_isChain_21 : decode cX3_isChain 21 = .ok (.iconst 0, 1) := dk_3 (dk_at dksX3_isChain_0 21 rfl rfl)
theorem dX3_isChain_22 : decode cX3_isChain 22 = .ok (.ireturn, 1) := dk_172 (dk_at dksX3_isChain_0 22 rfl rfl)
abbrev cX3_isDeed : ByteArray := prog_14_method_39_code
def yX3_isDeed : MethodName := ⟨RX3, "isDeed", "(J)Z"⟩
def dkwX3_isDeed_0 : List UInt8 := [30, 9, 20, 0, 212, 184, 0, 64, 172]
abbrev dktX3_isDeed_0 : List UInt8 := dkwX3_isDeed_0 ++ []
theorem dksX3_isDeed_0 : cX3_isDeed.data.toList.drop 0 = dktX3_isDeed_0 := by decide +kernel
theorem dX3_isDeed_0 : decode cX3_isDeed 0 = .ok (.lload_n 0, 1) := dk_30 (dk_at dksX3_isDeed_0 0 rfl rfl)
theorem dX3_isDeed_1 : decode cX3_isDeed 1 = .ok (.lconst 0, 1) := dk_9 (dk_at dksX3_isDeed_0 1 rfl rfl)
theorem dX3_isDeed_2 : decode cX3_isDeed 2 = .ok (.ldc2_w 212, 3) := dk_20 0 212 (dk_at dksX3_isDeed_0 2 rfl rfl)
theorem dX3_isDeed_5 : decode cX3_isDeed 5 = .ok (.invokestatic 64, 3) := dk_184 0 64 (dk_at dksX3_isDeed_0 5 rfl rfl)
theorem dX3_isDeed_8 : decode cX3_isDeed 8 = .ok (.ireturn, 1) := dk_172 (dk_at dksX3_isDeed_0 8 rfl rfl)
abbrev cX3_doerOf : ByteArray := prog_14_method_63_code
def yX3_doerOf : MethodName := ⟨RX3, "doerOf", "(II)I"⟩
def dkwX3_doerOf_3 : List UInt8 := [172]
abbrev dktX3_doerOf_3 : List UInt8 := dkwX3_doerOf_3 ++ []
def dkwX3_doerOf_2 : List UInt8 := [159, 0, 14, 21, 5, 42, 27, 29, 182, 1, 13, 162, 0, 6, 21, 4, 62, 132, 4, 1, 167, 255, 194, 29]
abbrev dktX3_doerOf_2 : List UInt8 := dkwX3_doerOf_2 ++ dktX3_doerOf_3
def dkwX3_doerOf_1 : List UInt8 := [54, 5, 42, 21, 4, 4, 182, 0, 214, 28, 184, 0, 239, 153, 0, 28, 21, 5, 2, 159, 0, 22, 29, 2]
abbrev dktX3_doerOf_1 : List UInt8 := dkwX3_doerOf_1 ++ dktX3_doerOf_2
def dkwX3_doerOf_0 : List UInt8 := [2, 62, 3, 54, 4, 21, 4, 42, 180, 0, 34, 4, 46, 162, 0, 57, 42, 27, 21, 4, 182, 1, 13]
abbrev dktX3_doerOf_0 : List UInt8 := dkwX3_doerOf_0 ++ dktX3_doerOf_1
theorem dksX3_doerOf_0 : cX3_doerOf.data.toList.drop 0 = dktX3_doerOf_0 := by decide +kernel
theorem dksX3_doerOf_1 : cX3_doerOf.data.toList.drop 23 = dktX3_doerOf_1 := dk_seg dksX3_doerOf_0 23 rfl rfl
theorem dksX3_doerOf_2 : cX3_doerOf.data.toList.drop 47 = dktX3_doerOf_2 := dk_seg dksX3_doerOf_1 24 rfl rfl
theorem dksX3_doerOf_3 : cX3_doerOf.data.toList.drop 71 = dktX3_doerOf_3 := dk_seg dksX3_doerOf_2 24 rfl rfl
theorem dX3_doerOf_0 : decode cX3_doerOf 0 = .ok (.iconst (-1), 1) := dk_2 (dk_at dksX3_doerOf_0 0 rfl rfl)
theorem dX3_doerOf_1 : decode cX3_doerOf 1 = .ok (.istore_n 3, 1) := dk_62 (dk_at dksX3_doerOf_0 1 rfl rfl)
theorem dX3_doerOf_2 : decode cX3_doerOf 2 = .ok (.iconst 0, 1) := dk_3 (dk_at dksX3_doerOf_0 2 rfl rfl)
theorem dX3_doerOf_3 : decode cX3_doerOf 3 = .ok (.istore 4, 2) := dk_54 4 (dk_at dksX3_doerOf_0 3 rfl rfl)
theorem dX3_doerOf_5 : decode cX3_doerOf 5 = .ok (.iload 4, 2) := dk_21 4 (dk_at dksX3_doerOf_0 5 rfl rfl)
theorem dX3_doerOf_7 : decode cX3_doerOf 7 = .ok (.aload_n 0, 1) := dk_42 (dk_at dksX3_doerOf_0 7 rfl rfl)
theorem dX3_doerOf_8 : decode cX3_doerOf 8 = .ok (.getfield 34, 3) := dk_180 0 34 (dk_at dksX3_doerOf_0 8 rfl rfl)
theorem dX3_doerOf_11 : decode cX3_doerOf 11 = .ok (.iconst 1, 1) := dk_4 (dk_at dksX3_doerOf_0 11 rfl rfl)
theorem dX3_doerOf_12 : decode cX3_doerOf 12 = .ok (.iaload, 1) := dk_46 (dk_at dksX3_doerOf_0 12 rfl rfl)
theorem dX3_doerOf_13 : decode cX3_doerOf 13 = .ok (.if_icmp .ge 57, 3) := dk_162 0 57 (dk_at dksX3_doerOf_0 13 rfl rfl)
theorem dX3_doerOf_16 : decode cX3_doerOf 16 = .ok (.aload_n 0, 1) := dk_42 (dk_at dksX3_doerOf_0 16 rfl rfl)
theorem dX3_doerOf_17 : decode cX3_doerOf 17 = .ok (.iload_n 1, 1) := dk_27 (dk_at dksX3_doerOf_0 17 rfl rfl)
theorem dX3_doerOf_18 : decode cX3_doerOf 18 = .ok (.iload 4, 2) := dk_21 4 (dk_at dksX3_doerOf_0 18 rfl rfl)
theorem dX3_doerOf_20 : decode cX3_doerOf 20 = .ok (.invokevirtual 269, 3) := dk_182 1 13 (dk_at dksX3_doerOf_0 20 rfl rfl)
theorem dX3_doerOf_23 : decode cX3_doerOf 23 = .ok (.istore 5, 2) := dk_54 5 (dk_at dksX3_doerOf_1 0 rfl rfl)
theorem dX3_doerOf_25 : decode cX3_doerOf 25 = .ok (.aload_n 0, 1) := dk_42 (dk_at dksX3_doerOf_1 2 rfl rfl)
theorem dX3_doerOf_26 : decode cX3_doerOf 26 = .ok (.iload 4, 2) := dk_21 4 (dk_at dksX3_doerOf_1 3 rfl rfl)
theorem dX3_doerOf_28 : decode cX3_doerOf 28 = .ok (.iconst 1, 1) := dk_4 (dk_at dksX3_doerOf_1 5 rfl rfl)
theorem dX3_doerOf_29 : decode cX3_doerOf 29 = .ok (.invokevirtual 214, 3) := dk_182 0 214 (dk_at dksX3_doerOf_1 6 rfl rfl)
theorem dX3_doerOf_32 : decode cX3_doerOf 32 = .ok (.iload_n 2, 1) := dk_28 (dk_at dksX3_doerOf_1 9 rfl rfl)
theorem dX3_doerOf_33 : decode cX3_doerOf 33 = .ok (.invokestatic 239, 3) := dk_184 0 239 (dk_at dksX3_doerOf_1 10 rfl rfl)
theorem dX3_doerOf_36 : decode cX3_doerOf 36 = .ok (.ifCond .eq 28, 3) := dk_153 0 28 (dk_at dksX3_doerOf_1 13 rfl rfl)
theorem dX3_doerOf_39 : decode cX3_doerOf 39 = .ok (.iload 5, 2) := dk_21 5 (dk_at dksX3_doerOf_1 16 rfl rfl)
theorem dX3_doerOf_41 : decode cX3_doerOf 41 = .ok (.iconst (-1), 1) := dk_2 (dk_at dksX3_doerOf_1 18 rfl rfl)
theorem dX3_doerOf_42 : decode cX3_doerOf 42 = .ok (.if_icmp .eq 22, 3) := dk_159 0 22 (dk_at dksX3_doerOf_1 19 rfl rfl)
theorem dX3_doerOf_45 : decode cX3_doerOf 45 = .ok (.iload_n 3, 1) := dk_29 (dk_at dksX3_doerOf_1 22 rfl rfl)
theorem dX3_doerOf_46 : decode cX3_doerOf 46 = .ok (.iconst (-1), 1) := dk_2 (dk_at dksX3_doerOf_1 23 rfl rfl)
theorem dX3_doerOf_47 : decode cX3_doerOf 47 = .ok (.if_icmp .eq 14, 3) := dk_159 0 14 (dk_at dksX3_doerOf_2 0 rfl rfl)
theorem dX3_doerOf_50 : decode cX3_doerOf 50 = .ok (.iload 5, 2) := dk_21 5 (dk_at dksX3_doerOf_2 3 rfl rfl)
theorem dX3_doerOf_52 : decode cX3_doerOf 52 = .ok (.aload_n 0, 1) := dk_42 (dk_at dksX3_doerOf_2 5 rfl rfl)
theorem dX3_doerOf_53 : decode cX3_doerOf 53 = .ok (.iload_n 1, 1) := dk_27 (dk_at dksX3_doerOf_2 6 rfl rfl)
theorem dX3_doerOf_54 : decode cX3_doerOf 54 = .ok (.iload_n 3, 1) := dk_29 (dk_at dksX3_doerOf_2 7 rfl rfl)
theorem dX3_doerOf_55 : decode cX3_doerOf 55 = .ok (.invokevirtual 269, 3) := dk_182 1 13 (dk_at dksX3_doerOf_2 8 rfl rfl)
theorem dX3_doerOf_58 : decode cX3_doerOf 58 = .ok (.if_icmp .ge 6, 3) := dk_162 0 6 (dk_at dksX3_doerOf_2 11 rfl rfl)
theorem dX3_doerOf_61 : decode cX3_doerOf 61 = .ok (.iload 4, 2) := dk_21 4 (dk_at dksX3_doerOf_2 14 rfl rfl)
theorem dX3_doerOf_63 : decode cX3_doerOf 63 = .ok (.istore_n 3, 1) := dk_62 (dk_at dksX3_doerOf_2 16 rfl rfl)
theorem dX3_doerOf_64 : decode cX3_doerOf 64 = .ok (.iinc 4 1, 3) := dk_132 4 1 (dk_at dksX3_doerOf_2 17 rfl rfl)
theorem dX3_doerOf_67 : decode cX3_doerOf 67 = .ok (.goto (-62), 3) := dk_167 255 194 (dk_at dksX3_doerOf_2 20 rfl rfl)
theorem dX3_doerOf_70 : decode cX3_doerOf 70 = .ok (.iload_n 3, 1) := dk_29 (dk_at dksX3_doerOf_2 23 rfl rfl)
theorem dX3_doerOf_71 : decode cX3_doerOf 71 = .ok (.ireturn, 1) := dk_172 (dk_at dksX3_doerOf_3 0 rfl rfl)
abbrev cX3_doer : ByteArray := prog_14_method_66_code
def yX3_doer : MethodName := ⟨RX3, "doer", "(II)I"⟩
def dkwX3_doer_1 : List UInt8 := [182, 1, 28, 172]
abbrev dktX3_doer_1 : List UInt8 := dkwX3_doer_1 ++ []
def dkwX3_doer_0 : List UInt8 := [42, 3, 181, 0, 59, 42, 27, 28, 182, 1, 25, 154, 0, 6, 16, 254, 172, 42, 182, 0, 251, 42, 27, 28]
abbrev dktX3_doer_0 : List UInt8 := dkwX3_doer_0 ++ dktX3_doer_1
theorem dksX3_doer_0 : cX3_doer.data.toList.drop 0 = dktX3_doer_0 := by decide +kernel
theorem dksX3_doer_1 : cX3_doer.data.toList.drop 24 = dktX3_doer_1 := dk_seg dksX3_doer_0 24 rfl rfl
theorem dX3_doer_0 : decode cX3_doer 0 = .ok (.aload_n 0, 1) := dk_42 (dk_at dksX3_doer_0 0 rfl rfl)
theorem dX3_doer_1 : decode cX3_doer 1 = .ok (.iconst 0, 1) := dk_3 (dk_at dksX3_doer_0 1 rfl rfl)
theorem dX3_doer_2 : decode cX3_doer 2 = .ok (.putfield 59, 3) := dk_181 0 59 (dk_at dksX3_doer_0 2 rfl rfl)
theorem dX3_doer_5 : decode cX3_doer 5 = .ok (.aload_n 0, 1) := dk_42 (dk_at dksX3_doer_0 5 rfl rfl)
theorem dX3_doer_6 : decode cX3_doer 6 = .ok (.iload_n 1, 1) := dk_27 (dk_at dksX3_doer_0 6 rfl rfl)
theorem dX3_doer_7 : decode cX3_doer 7 = .ok (.iload_n 2, 1) := dk_28 (dk_at dksX3_doer_0 7 rfl rfl)
theorem dX3_doer_8 : decode cX3_doer 8 = .ok (.invokevirtual 281, 3) := dk_182 1 25 (dk_at dksX3_doer_0 8 rfl rfl)
theorem dX3_doer_11 : decode cX3_doer 11 = .ok (.ifCond .ne 6, 3) := dk_154 0 6 (dk_at dksX3_doer_0 11 rfl rfl)
theorem dX3_doer_14 : decode cX3_doer 14 = .ok (.bipush (-2), 2) := dk_16 254 (dk_at dksX3_doer_0 14 rfl rfl)
theorem dX3_doer_16 : decode cX3_doer 16 = .ok (.ireturn, 1) := dk_172 (dk_at dksX3_doer_0 16 rfl rfl)
theorem dX3_doer_17 : decode cX3_doer 17 = .ok (.aload_n 0, 1) := dk_42 (dk_at dksX3_doer_0 17 rfl rfl)
theorem dX3_doer_18 : decode cX3_doer 18 = .ok (.invokevirtual 251, 3) := dk_182 0 251 (dk_at dksX3_doer_0 18 rfl rfl)
theorem dX3_doer_21 : decode cX3_doer 21 = .ok (.aload_n 0, 1) := dk_42 (dk_at dksX3_doer_0 21 rfl rfl)
theorem dX3_doer_22 : decode cX3_doer 22 = .ok (.iload_n 1, 1) := dk_27 (dk_at dksX3_doer_0 22 rfl rfl)
theorem dX3_doer_23 : decode cX3_doer 23 = .ok (.iload_n 2, 1) := dk_28 (dk_at dksX3_doer_0 23 rfl rfl)
theorem dX3_doer_24 : decode cX3_doer 24 = .ok (.invokevirtual 284, 3) := dk_182 1 28 (dk_at dksX3_doer_1 0 rfl rfl)
theorem dX3_doer_27 : decode cX3_doer 27 = .ok (.ireturn, 1) := dk_172 (dk_at dksX3_doer_1 3 rfl rfl)
abbrev cX3_asked : ByteArray := prog_14_method_67_code
def yX3_asked : MethodName := ⟨RX3, "asked", "(III)I"⟩
def dkwX3_asked_4 : List UInt8 := [164, 0, 18, 42, 180, 0, 47, 21, 6, 46, 54, 6, 132, 7, 255, 167, 255, 238, 21, 6, 172]
abbrev dktX3_asked_4 : List UInt8 := dkwX3_asked_4 ++ []
def dkwX3_asked_3 : List UInt8 := [167, 255, 238, 29, 21, 5, 161, 0, 5, 2, 172, 21, 4, 54, 6, 21, 5, 4, 100, 54, 7, 21, 7, 29]
abbrev dktX3_asked_3 : List UInt8 := dkwX3_asked_3 ++ dktX3_asked_4
def dkwX3_asked_2 : List UInt8 := [21, 4, 46, 54, 6, 21, 6, 27, 159, 0, 18, 132, 5, 1, 42, 180, 0, 47, 21, 6, 46, 54, 6]
abbrev dktX3_asked_2 : List UInt8 := dkwX3_asked_2 ++ dktX3_asked_3
def dkwX3_asked_1 : List UInt8 := [182, 1, 28, 54, 4, 21, 4, 2, 159, 0, 7, 29, 156, 0, 5, 2, 172, 4, 54, 5, 42, 180, 0, 47]
abbrev dktX3_asked_1 : List UInt8 := dkwX3_asked_1 ++ dktX3_asked_2
def dkwX3_asked_0 : List UInt8 := [42, 3, 181, 0, 59, 42, 27, 28, 182, 1, 25, 154, 0, 6, 16, 254, 172, 42, 182, 0, 251, 42, 27, 28]
abbrev dktX3_asked_0 : List UInt8 := dkwX3_asked_0 ++ dktX3_asked_1
theorem dksX3_asked_0 : cX3_asked.data.toList.drop 0 = dktX3_asked_0 := by decide +kernel
theorem dksX3_asked_1 : cX3_asked.data.toList.drop 24 = dktX3_asked_1 := dk_seg dksX3_asked_0 24 rfl rfl
theorem dksX3_asked_2 : cX3_asked.data.toList.drop 48 = dktX3_asked_2 := dk_seg dksX3_asked_1 24 rfl rfl
theorem dksX3_asked_3 : cX3_asked.data.toList.drop 71 = dktX3_asked_3 := dk_seg dksX3_asked_2 23 rfl rfl
theorem dksX3_asked_4 : cX3_asked.data.toList.drop 95 = dktX3_asked_4 := dk_seg dksX3_asked_3 24 rfl rfl
theorem dX3_asked_0 : decode cX3_asked 0 = .ok (.aload_n 0, 1) := dk_42 (dk_at dksX3_asked_0 0 rfl rfl)
theorem dX3_asked_1 : decode cX3_asked 1 = .ok (.iconst 0, 1) := dk_3 (dk_at dksX3_asked_0 1 rfl rfl)
theorem dX3_asked_2 : decode cX3_asked 2 = .ok (.putfield 59, 3) := dk_181 0 59 (dk_at dksX3_asked_0 2 rfl rfl)
theorem dX3_asked_5 : decode cX3_asked 5 = .ok (.aload_n 0, 1) := dk_42 (dk_at dksX3_asked_0 5 rfl rfl)
theorem dX3_asked_6 : decode cX3_asked 6 = .ok (.iload_n 1, 1) := dk_27 (dk_at dksX3_asked_0 6 rfl rfl)
theorem dX3_asked_7 : decode cX3_asked 7 = .ok (.iload_n 2, 1) := dk_28 (dk_at dksX3_asked_0 7 rfl rfl)
theorem dX3_asked_8 : decode cX3_asked 8 = .ok (.invokevirtual 281, 3) := dk_182 1 25 (dk_at dksX3_asked_0 8 rfl rfl)
theorem dX3_asked_11 : decode cX3_asked 11 = .ok (.ifCond .ne 6, 3) := dk_154 0 6 (dk_at dksX3_asked_0 11 rfl rfl)
theorem dX3_asked_14 : decode cX3_asked 14 = .ok (.bipush (-2), 2) := dk_16 254 (dk_at dksX3_asked_0 14 rfl rfl)
theorem dX3_asked_16 : decode cX3_asked 16 = .ok (.ireturn, 1) := dk_172 (dk_at dksX3_asked_0 16 rfl rfl)
theorem dX3_asked_17 : decode cX3_asked 17 = .ok (.aload_n 0, 1) := dk_42 (dk_at dksX3_asked_0 17 rfl rfl)
theorem dX3_asked_18 : decode cX3_asked 18 = .ok (.invokevirtual 251, 3) := dk_182 0 251 (dk_at dksX3_asked_0 18 rfl rfl)
theorem dX3_asked_21 : decode cX3_asked 21 = .ok (.aload_n 0, 1) := dk_42 (dk_at dksX3_asked_0 21 rfl rfl)
theorem dX3_asked_22 : decode cX3_asked 22 = .ok (.iload_n 1, 1) := dk_27 (dk_at dksX3_asked_0 22 rfl rfl)
theorem dX3_asked_23 : decode cX3_asked 23 = .ok (.iload_n 2, 1) := dk_28 (dk_at dksX3_asked_0 23 rfl rfl)
theorem dX3_asked_24 : decode cX3_asked 24 = .ok (.invokevirtual 284, 3) := dk_182 1 28 (dk_at dksX3_asked_1 0 rfl rfl)
theorem dX3_asked_27 : decode cX3_asked 27 = .ok (.istore 4, 2) := dk_54 4 (dk_at dksX3_asked_1 3 rfl rfl)
theorem dX3_asked_29 : decode cX3_asked 29 = .ok (.iload 4, 2) := dk_21 4 (dk_at dksX3_asked_1 5 rfl rfl)
theorem dX3_asked_31 : decode cX3_asked 31 = .ok (.iconst (-1), 1) := dk_2 (dk_at dksX3_asked_1 7 rfl rfl)
theorem dX3_asked_32 : decode cX3_asked 32 = .ok (.if_icmp .eq 7, 3) := dk_159 0 7 (dk_at dksX3_asked_1 8 rfl rfl)
theorem dX3_asked_35 : decode cX3_asked 35 = .ok (.iload_n 3, 1) := dk_29 (dk_at dksX3_asked_1 11 rfl rfl)
theorem dX3_asked_36 : decode cX3_asked 36 = .ok (.ifCond .ge 5, 3) := dk_156 0 5 (dk_at dksX3_asked_1 12 rfl rfl)
theorem dX3_asked_39 : decode cX3_asked 39 = .ok (.iconst (-1), 1) := dk_2 (dk_at dksX3_asked_1 15 rfl rfl)
theorem dX3_asked_40 : decode cX3_asked 40 = .ok (.ireturn, 1) := dk_172 (dk_at dksX3_asked_1 16 rfl rfl)
theorem dX3_asked_41 : decode cX3_asked 41 = .ok (.iconst 1, 1) := dk_4 (dk_at dksX3_asked_1 17 rfl rfl)
theorem dX3_asked_42 : decode cX3_asked 42 = .ok (.istore 5, 2) := dk_54 5 (dk_at dksX3_asked_1 18 rfl rfl)
theorem dX3_asked_44 : decode cX3_asked 44 = .ok (.aload_n 0, 1) := dk_42 (dk_at dksX3_asked_1 20 rfl rfl)
theorem dX3_asked_45 : decode cX3_asked 45 = .ok (.getfield 47, 3) := dk_180 0 47 (dk_at dksX3_asked_1 21 rfl rfl)
theorem dX3_asked_48 : decode cX3_asked 48 = .ok (.iload 4, 2) := dk_21 4 (dk_at dksX3_asked_2 0 rfl rfl)
theorem dX3_asked_50 : decode cX3_asked 50 = .ok (.iaload, 1) := dk_46 (dk_at dksX3_asked_2 2 rfl rfl)
theorem dX3_asked_51 : decode cX3_asked 51 = .ok (.istore 6, 2) := dk_54 6 (dk_at dksX3_asked_2 3 rfl rfl)
theorem dX3_asked_53 : decode cX3_asked 53 = .ok (.iload 6, 2) := dk_21 6 (dk_at dksX3_asked_2 5 rfl rfl)
theorem dX3_asked_55 : decode cX3_asked 55 = .ok (.iload_n 1, 1) := dk_27 (dk_at dksX3_asked_2 7 rfl rfl)
theorem dX3_asked_56 : decode cX3_asked 56 = .ok (.if_icmp .eq 18, 3) := dk_159 0 18 (dk_at dksX3_asked_2 8 rfl rfl)
theorem dX3_asked_59 : decode cX3_asked 59 = .ok (.iinc 5 1, 3) := dk_132 5 1 (dk_at dksX3_asked_2 11 rfl rfl)
theorem dX3_asked_62 : decode cX3_asked 62 = .ok (.aload_n 0, 1) := dk_42 (dk_at dksX3_asked_2 14 rfl rfl)
theorem dX3_asked_63 : decode cX3_asked 63 = .ok (.getfield 47, 3) := dk_180 0 47 (dk_at dksX3_asked_2 15 rfl rfl)
theorem dX3_asked_66 : decode cX3_asked 66 = .ok (.iload 6, 2) := dk_21 6 (dk_at dksX3_asked_2 18 rfl rfl)
theorem dX3_asked_68 : decode cX3_asked 68 = .ok (.iaload, 1) := dk_46 (dk_at dksX3_asked_2 20 rfl rfl)
theorem dX3_asked_69 : decode cX3_asked 69 = .ok (.istore 6, 2) := dk_54 6 (dk_at dksX3_asked_2 21 rfl rfl)
theorem dX3_asked_71 : decode cX3_asked 71 = .ok (.goto (-18), 3) := dk_167 255 238 (dk_at dksX3_asked_3 0 rfl rfl)
theorem dX3_asked_74 : decode cX3_asked 74 = .ok (.iload_n 3, 1) := dk_29 (dk_at dksX3_asked_3 3 rfl rfl)
theorem dX3_asked_75 : decode cX3_asked 75 = .ok (.iload 5, 2) := dk_21 5 (dk_at dksX3_asked_3 4 rfl rfl)
theorem dX3_asked_77 : decode cX3_asked 77 = .ok (.if_icmp .lt 5, 3) := dk_161 0 5 (dk_at dksX3_asked_3 6 rfl rfl)
theorem dX3_asked_80 : decode cX3_asked 80 = .ok (.iconst (-1), 1) := dk_2 (dk_at dksX3_asked_3 9 rfl rfl)
theorem dX3_asked_81 : decode cX3_asked 81 = .ok (.ireturn, 1) := dk_172 (dk_at dksX3_asked_3 10 rfl rfl)
theorem dX3_asked_82 : decode cX3_asked 82 = .ok (.iload 4, 2) := dk_21 4 (dk_at dksX3_asked_3 11 rfl rfl)
theorem dX3_asked_84 : decode cX3_asked 84 = .ok (.istore 6, 2) := dk_54 6 (dk_at dksX3_asked_3 13 rfl rfl)
theorem dX3_asked_86 : decode cX3_asked 86 = .ok (.iload 5, 2) := dk_21 5 (dk_at dksX3_asked_3 15 rfl rfl)
theorem dX3_asked_88 : decode cX3_asked 88 = .ok (.iconst 1, 1) := dk_4 (dk_at dksX3_asked_3 17 rfl rfl)
theorem dX3_asked_89 : decode cX3_asked 89 = .ok (.isub, 1) := dk_100 (dk_at dksX3_asked_3 18 rfl rfl)
theorem dX3_asked_90 : decode cX3_asked 90 = .ok (.istore 7, 2) := dk_54 7 (dk_at dksX3_asked_3 19 rfl rfl)
theorem dX3_asked_92 : decode cX3_asked 92 = .ok (.iload 7, 2) := dk_21 7 (dk_at dksX3_asked_3 21 rfl rfl)
theorem dX3_asked_94 : decode cX3_asked 94 = .ok (.iload_n 3, 1) := dk_29 (dk_at dksX3_asked_3 23 rfl rfl)
theorem dX3_asked_95 : decode cX3_asked 95 = .ok (.if_icmp .le 18, 3) := dk_164 0 18 (dk_at dksX3_asked_4 0 rfl rfl)
theorem dX3_asked_98 : decode cX3_asked 98 = .ok (.aload_n 0, 1) := dk_42 (dk_at dksX3_asked_4 3 rfl rfl)
theorem dX3_asked_99 : decode cX3_asked 99 = .ok (.getfield 47, 3) := dk_180 0 47 (dk_at dksX3_asked_4 4 rfl rfl)
theorem dX3_asked_102 : decode cX3_asked 102 = .ok (.iload 6, 2) := dk_21 6 (dk_at dksX3_asked_4 7 rfl rfl)
theorem dX3_asked_104 : decode cX3_asked 104 = .ok (.iaload, 1) := dk_46 (dk_at dksX3_asked_4 9 rfl rfl)
theorem dX3_asked_105 : decode cX3_asked 105 = .ok (.istore 6, 2) := dk_54 6 (dk_at dksX3_asked_4 10 rfl rfl)
theorem dX3_asked_107 : decode cX3_asked 107 = .ok (.iinc 7 (-1), 3) := dk_132 7 255 (dk_at dksX3_asked_4 12 rfl rfl)
theorem dX3_asked_110 : decode cX3_asked 110 = .ok (.goto (-18), 3) := dk_167 255 238 (dk_at dksX3_asked_4 15 rfl rfl)
theorem dX3_asked_113 : decode cX3_asked 113 = .ok (.iload 6, 2) := dk_21 6 (dk_at dksX3_asked_4 18 rfl rfl)
theorem dX3_asked_115 : decode cX3_asked 115 = .ok (.ireturn, 1) := dk_172 (dk_at dksX3_asked_4 20 rfl rfl)
abbrev cX3_can : ByteArray := prog_14_method_68_code
def yX3_can : MethodName := ⟨RX3, "can", "(I)I"⟩
def dkwX3_can_2 : List UInt8 := [182, 1, 28, 2, 159, 0, 9, 4, 29, 120, 167, 0, 4, 3, 128, 61, 132, 3, 1, 167, 255, 214, 28, 172]
abbrev dktX3_can_2 : List UInt8 := dkwX3_can_2 ++ []
def dkwX3_can_1 : List UInt8 := [62, 29, 16, 6, 162, 0, 42, 28, 42, 27, 5, 182, 0, 214, 29, 184, 0, 239, 153, 0, 19, 42, 27, 29]
abbrev dktX3_can_1 : List UInt8 := dkwX3_can_1 ++ dktX3_can_2
def dkwX3_can_0 : List UInt8 := [42, 3, 181, 0, 59, 42, 27, 133, 182, 0, 206, 154, 0, 6, 16, 254, 172, 42, 182, 0, 251, 3, 61, 3]
abbrev dktX3_can_0 : List UInt8 := dkwX3_can_0 ++ dktX3_can_1
theorem dksX3_can_0 : cX3_can.data.toList.drop 0 = dktX3_can_0 := by decide +kernel
theorem dksX3_can_1 : cX3_can.data.toList.drop 24 = dktX3_can_1 := dk_seg dksX3_can_0 24 rfl rfl
theorem dksX3_can_2 : cX3_can.data.toList.drop 48 = dktX3_can_2 := dk_seg dksX3_can_1 24 rfl rfl
theorem dX3_can_0 : decode cX3_can 0 = .ok (.aload_n 0, 1) := dk_42 (dk_at dksX3_can_0 0 rfl rfl)
theorem dX3_can_1 : decode cX3_can 1 = .ok (.iconst 0, 1) := dk_3 (dk_at dksX3_can_0 1 rfl rfl)
theorem dX3_can_2 : decode cX3_can 2 = .ok (.putfield 59, 3) := dk_181 0 59 (dk_at dksX3_can_0 2 rfl rfl)
theorem dX3_can_5 : decode cX3_can 5 = .ok (.aload_n 0, 1) := dk_42 (dk_at dksX3_can_0 5 rfl rfl)
theorem dX3_can_6 : decode cX3_can 6 = .ok (.iload_n 1, 1) := dk_27 (dk_at dksX3_can_0 6 rfl rfl)
theorem dX3_can_7 : decode cX3_can 7 = .ok (.i2l, 1) := dk_133 (dk_at dksX3_can_0 7 rfl rfl)
theorem dX3_can_8 : decode cX3_can 8 = .ok (.invokevirtual 206, 3) := dk_182 0 206 (dk_at dksX3_can_0 8 rfl rfl)
theorem dX3_can_11 : decode cX3_can 11 = .ok (.ifCond .ne 6, 3) := dk_154 0 6 (dk_at dksX3_can_0 11 rfl rfl)
theorem dX3_can_14 : decode cX3_can 14 = .ok (.bipush (-2), 2) := dk_16 254 (dk_at dksX3_can_0 14 rfl rfl)
theorem dX3_can_16 : decode cX3_can 16 = .ok (.ireturn, 1) := dk_172 (dk_at dksX3_can_0 16 rfl rfl)
theorem dX3_can_17 : decode cX3_can 17 = .ok (.aload_n 0, 1) := dk_42 (dk_at dksX3_can_0 17 rfl rfl)
theorem dX3_can_18 : decode cX3_can 18 = .ok (.invokevirtual 251, 3) := dk_182 0 251 (dk_at dksX3_can_0 18 rfl rfl)
theorem dX3_can_21 : decode cX3_can 21 = .ok (.iconst 0, 1) := dk_3 (dk_at dksX3_can_0 21 rfl rfl)
theorem dX3_can_22 : decode cX3_can 22 = .ok (.istore_n 2, 1) := dk_61 (dk_at dksX3_can_0 22 rfl rfl)
theorem dX3_can_23 : decode cX3_can 23 = .ok (.iconst 0, 1) := dk_3 (dk_at dksX3_can_0 23 rfl rfl)
theorem dX3_can_24 : decode cX3_can 24 = .ok (.istore_n 3, 1) := dk_62 (dk_at dksX3_can_1 0 rfl rfl)
theorem dX3_can_25 : decode cX3_can 25 = .ok (.iload_n 3, 1) := dk_29 (dk_at dksX3_can_1 1 rfl rfl)
theorem dX3_can_26 : decode cX3_can 26 = .ok (.bipush 6, 2) := dk_16 6 (dk_at dksX3_can_1 2 rfl rfl)
theorem dX3_can_28 : decode cX3_can 28 = .ok (.if_icmp .ge 42, 3) := dk_162 0 42 (dk_at dksX3_can_1 4 rfl rfl)
theorem dX3_can_31 : decode cX3_can 31 = .ok (.iload_n 2, 1) := dk_28 (dk_at dksX3_can_1 7 rfl rfl)
theorem dX3_can_32 : decode cX3_can 32 = .ok (.aload_n 0, 1) := dk_42 (dk_at dksX3_can_1 8 rfl rfl)
theorem dX3_can_33 : decode cX3_can 33 = .ok (.iload_n 1, 1) := dk_27 (dk_at dksX3_can_1 9 rfl rfl)
theorem dX3_can_34 : decode cX3_can 34 = .ok (.iconst 2, 1) := dk_5 (dk_at dksX3_can_1 10 rfl rfl)
theorem dX3_can_35 : decode cX3_can 35 = .ok (.invokevirtual 214, 3) := dk_182 0 214 (dk_at dksX3_can_1 11 rfl rfl)
theorem dX3_can_38 : decode cX3_can 38 = .ok (.iload_n 3, 1) := dk_29 (dk_at dksX3_can_1 14 rfl rfl)
theorem dX3_can_39 : decode cX3_can 39 = .ok (.invokestatic 239, 3) := dk_184 0 239 (dk_at dksX3_can_1 15 rfl rfl)
theorem dX3_can_42 : decode cX3_can 42 = .ok (.ifCond .eq 19, 3) := dk_153 0 19 (dk_at dksX3_can_1 18 rfl rfl)
theorem dX3_can_45 : decode cX3_can 45 = .ok (.aload_n 0, 1) := dk_42 (dk_at dksX3_can_1 21 rfl rfl)
theorem dX3_can_46 : decode cX3_can 46 = .ok (.iload_n 1, 1) := dk_27 (dk_at dksX3_can_1 22 rfl rfl)
theorem dX3_can_47 : decode cX3_can 47 = .ok (.iload_n 3, 1) := dk_29 (dk_at dksX3_can_1 23 rfl rfl)
theorem dX3_can_48 : decode cX3_can 48 = .ok (.invokevirtual 284, 3) := dk_182 1 28 (dk_at dksX3_can_2 0 rfl rfl)
theorem dX3_can_51 : decode cX3_can 51 = .ok (.iconst (-1), 1) := dk_2 (dk_at dksX3_can_2 3 rfl rfl)
theorem dX3_can_52 : decode cX3_can 52 = .ok (.if_icmp .eq 9, 3) := dk_159 0 9 (dk_at dksX3_can_2 4 rfl rfl)
theorem dX3_can_55 : decode cX3_can 55 = .ok (.iconst 1, 1) := dk_4 (dk_at dksX3_can_2 7 rfl rfl)
theorem dX3_can_56 : decode cX3_can 56 = .ok (.iload_n 3, 1) := dk_29 (dk_at dksX3_can_2 8 rfl rfl)
theorem dX3_can_57 : decode cX3_can 57 = .ok (.ishl, 1) := dk_120 (dk_at dksX3_can_2 9 rfl rfl)
theorem dX3_can_58 : decode cX3_can 58 = .ok (.goto 4, 3) := dk_167 0 4 (dk_at dksX3_can_2 10 rfl rfl)
theorem dX3_can_61 : decode cX3_can 61 = .ok (.iconst 0, 1) := dk_3 (dk_at dksX3_can_2 13 rfl rfl)
theorem dX3_can_62 : decode cX3_can 62 = .ok (.ior, 1) := dk_128 (dk_at dksX3_can_2 14 rfl rfl)
theorem dX3_can_63 : decode cX3_can 63 = .ok (.istore_n 2, 1) := dk_61 (dk_at dksX3_can_2 15 rfl rfl)
theorem dX3_can_64 : decode cX3_can 64 = .ok (.iinc 3 1, 3) := dk_132 3 1 (dk_at dksX3_can_2 16 rfl rfl)
theorem dX3_can_67 : decode cX3_can 67 = .ok (.goto (-42), 3) := dk_167 255 214 (dk_at dksX3_can_2 19 rfl rfl)
theorem dX3_can_70 : decode cX3_can 70 = .ok (.iload_n 2, 1) := dk_28 (dk_at dksX3_can_2 22 rfl rfl)
theorem dX3_can_71 : decode cX3_can 71 = .ok (.ireturn, 1) := dk_172 (dk_at dksX3_can_2 23 rfl rfl)
abbrev cX3_why : ByteArray := prog_14_method_70_code
def yX3_why : MethodName := ⟨RX3, "why", "(III)I"⟩
def dkwX3_why_1 : List UInt8 := [172, 42, 182, 0, 251, 42, 27, 28, 29, 182, 1, 31, 172]
abbrev dktX3_why_1 : List UInt8 := dkwX3_why_1 ++ []
def dkwX3_why_0 : List UInt8 := [42, 3, 181, 0, 59, 42, 27, 28, 182, 1, 10, 153, 0, 11, 29, 133, 184, 1, 22, 154, 0, 6, 16, 254]
abbrev dktX3_why_0 : List UInt8 := dkwX3_why_0 ++ dktX3_why_1
theorem dksX3_why_0 : cX3_why.data.toList.drop 0 = dktX3_why_0 := by decide +kernel
theorem dksX3_why_1 : cX3_why.data.toList.drop 24 = dktX3_why_1 := dk_seg dksX3_why_0 24 rfl rfl
theorem dX3_why_0 : decode cX3_why 0 = .ok (.aload_n 0, 1) := dk_42 (dk_at dksX3_why_0 0 rfl rfl)
theorem dX3_why_1 : decode cX3_why 1 = .ok (.iconst 0, 1) := dk_3 (dk_at dksX3_why_0 1 rfl rfl)
theorem dX3_why_2 : decode cX3_why 2 = .ok (.putfield 59, 3) := dk_181 0 59 (dk_at dksX3_why_0 2 rfl rfl)
theorem dX3_why_5 : decode cX3_why 5 = .ok (.aload_n 0, 1) := dk_42 (dk_at dksX3_why_0 5 rfl rfl)
theorem dX3_why_6 : decode cX3_why 6 = .ok (.iload_n 1, 1) := dk_27 (dk_at dksX3_why_0 6 rfl rfl)
theorem dX3_why_7 : decode cX3_why 7 = .ok (.iload_n 2, 1) := dk_28 (dk_at dksX3_why_0 7 rfl rfl)
theorem dX3_why_8 : decode cX3_why 8 = .ok (.invokevirtual 266, 3) := dk_182 1 10 (dk_at dksX3_why_0 8 rfl rfl)
theorem dX3_why_11 : decode cX3_why 11 = .ok (.ifCond .eq 11, 3) := dk_153 0 11 (dk_at dksX3_why_0 11 rfl rfl)
theorem dX3_why_14 : decode cX3_why 14 = .ok (.iload_n 3, 1) := dk_29 (dk_at dksX3_why_0 14 rfl rfl)
theorem dX3_why_15 : decode cX3_why 15 = .ok (.i2l, 1) := dk_133 (dk_at dksX3_why_0 15 rfl rfl)
theorem dX3_why_16 : decode cX3_why 16 = .ok (.invokestatic 278, 3) := dk_184 1 22 (dk_at dksX3_why_0 16 rfl rfl)
theorem dX3_why_19 : decode cX3_why 19 = .ok (.ifCond .ne 6, 3) := dk_154 0 6 (dk_at dksX3_why_0 19 rfl rfl)
theorem dX3_why_22 : decode cX3_why 22 = .ok (.bipush (-2), 2) := dk_16 254 (dk_at dksX3_why_0 22 rfl rfl)
theorem dX3_why_24 : decode cX3_why 24 = .ok (.ireturn, 1) := dk_172 (dk_at dksX3_why_1 0 rfl rfl)
theorem dX3_why_25 : decode cX3_why 25 = .ok (.aload_n 0, 1) := dk_42 (dk_at dksX3_why_1 1 rfl rfl)
theorem dX3_why_26 : decode cX3_why 26 = .ok (.invokevirtual 251, 3) := dk_182 0 251 (dk_at dksX3_why_1 2 rfl rfl)
theorem dX3_why_29 : decode cX3_why 29 = .ok (.aload_n 0, 1) := dk_42 (dk_at dksX3_why_1 5 rfl rfl)
theorem dX3_why_30 : decode cX3_why 30 = .ok (.iload_n 1, 1) := dk_27 (dk_at dksX3_why_1 6 rfl rfl)
theorem dX3_why_31 : decode cX3_why 31 = .ok (.iload_n 2, 1) := dk_28 (dk_at dksX3_why_1 7 rfl rfl)
theorem dX3_why_32 : decode cX3_why 32 = .ok (.iload_n 3, 1) := dk_29 (dk_at dksX3_why_1 8 rfl rfl)
theorem dX3_why_33 : decode cX3_why 33 = .ok (.invokevirtual 287, 3) := dk_182 1 31 (dk_at dksX3_why_1 9 rfl rfl)
theorem dX3_why_36 : decode cX3_why 36 = .ok (.ireturn, 1) := dk_172 (dk_at dksX3_why_1 12 rfl rfl)
abbrev cX3_whyOf : ByteArray := prog_14_method_69_code
def yX3_whyOf : MethodName := ⟨RX3, "whyOf", "(III)I"⟩
def dkwX3_whyOf_2 : List UInt8 := [172]
abbrev dktX3_whyOf_2 : List UInt8 := dkwX3_whyOf_2 ++ []
def dkwX3_whyOf_1 : List UInt8 := [172, 29, 2, 159, 0, 20, 42, 28, 4, 182, 0, 214, 29, 184, 0, 239, 154, 0, 7, 6, 167, 0, 4, 3]
abbrev dktX3_whyOf_1 : List UInt8 := dkwX3_whyOf_1 ++ dktX3_whyOf_2
def dkwX3_whyOf_0 : List UInt8 := [42, 180, 0, 47, 28, 46, 27, 159, 0, 5, 4, 172, 42, 180, 0, 217, 28, 184, 0, 239, 153, 0, 5, 5]
abbrev dktX3_whyOf_0 : List UInt8 := dkwX3_whyOf_0 ++ dktX3_whyOf_1
theorem dksX3_whyOf_0 : cX3_whyOf.data.toList.drop 0 = dktX3_whyOf_0 := by decide +kernel
theorem dksX3_whyOf_1 : cX3_whyOf.data.toList.drop 24 = dktX3_whyOf_1 := dk_seg dksX3_whyOf_0 24 rfl rfl
theorem dksX3_whyOf_2 : cX3_whyOf.data.toList.drop 48 = dktX3_whyOf_2 := dk_seg dksX3_whyOf_1 24 rfl rfl
theorem dX3_whyOf_0 : decode cX3_whyOf 0 = .ok (.aload_n 0, 1) := dk_42 (dk_at dksX3_whyOf_0 0 rfl rfl)
theorem dX3_whyOf_1 : decode cX3_whyOf 1 = .ok (.getfield 47, 3) := dk_180 0 47 (dk_at dksX3_whyOf_0 1 rfl rfl)
theorem dX3_whyOf_4 : decode cX3_whyOf 4 = .ok (.iload_n 2, 1) := dk_28 (dk_at dksX3_whyOf_0 4 rfl rfl)
theorem dX3_whyOf_5 : decode cX3_whyOf 5 = .ok (.iaload, 1) := dk_46 (dk_at dksX3_whyOf_0 5 rfl rfl)
theorem dX3_whyOf_6 : decode cX3_whyOf 6 = .ok (.iload_n 1, 1) := dk_27 (dk_at dksX3_whyOf_0 6 rfl rfl)
theorem dX3_whyOf_7 : decode cX3_whyOf 7 = .ok (.if_icmp .eq 5, 3) := dk_159 0 5 (dk_at dksX3_whyOf_0 7 rfl rfl)
theorem dX3_whyOf_10 : decode cX3_whyOf 10 = .ok (.iconst 1, 1) := dk_4 (dk_at dksX3_whyOf_0 10 rfl rfl)
theorem dX3_whyOf_11 : decode cX3_whyOf 11 = .ok (.ireturn, 1) := dk_172 (dk_at dksX3_whyOf_0 11 rfl rfl)
theorem dX3_whyOf_12 : decode cX3_whyOf 12 = .ok (.aload_n 0, 1) := dk_42 (dk_at dksX3_whyOf_0 12 rfl rfl)
theorem dX3_whyOf_13 : decode cX3_whyOf 13 = .ok (.getfield 217, 3) := dk_180 0 217 (dk_at dksX3_whyOf_0 13 rfl rfl)
theorem dX3_whyOf_16 : decode cX3_whyOf 16 = .ok (.iload_n 2, 1) := dk_28 (dk_at dksX3_whyOf_0 16 rfl rfl)
theorem dX3_whyOf_17 : decode cX3_whyOf 17 = .ok (.invokestatic 239, 3) := dk_184 0 239 (dk_at dksX3_whyOf_0 17 rfl rfl)
theorem dX3_whyOf_20 : decode cX3_whyOf 20 = .ok (.ifCond .eq 5, 3) := dk_153 0 5 (dk_at dksX3_whyOf_0 20 rfl rfl)
theorem dX3_whyOf_23 : decode cX3_whyOf 23 = .ok (.iconst 2, 1) := dk_5 (dk_at dksX3_whyOf_0 23 rfl rfl)
theorem dX3_whyOf_24 : decode cX3_whyOf 24 = .ok (.ireturn, 1) := dk_172 (dk_at dksX3_whyOf_1 0 rfl rfl)
theorem dX3_whyOf_25 : decode cX3_whyOf 25 = .ok (.iload_n 3, 1) := dk_29 (dk_at dksX3_whyOf_1 1 rfl rfl)
theorem dX3_whyOf_26 : decode cX3_whyOf 26 = .ok (.iconst (-1), 1) := dk_2 (dk_at dksX3_whyOf_1 2 rfl rfl)
theorem dX3_whyOf_27 : decode cX3_whyOf 27 = .ok (.if_icmp .eq 20, 3) := dk_159 0 20 (dk_at dksX3_whyOf_1 3 rfl rfl)
theorem dX3_whyOf_30 : decode cX3_whyOf 30 = .ok (.aload_n 0, 1) := dk_42 (dk_at dksX3_whyOf_1 6 rfl rfl)
theorem dX3_whyOf_31 : decode cX3_whyOf 31 = .ok (.iload_n 2, 1) := dk_28 (dk_at dksX3_whyOf_1 7 rfl rfl)
theorem dX3_whyOf_32 : decode cX3_whyOf 32 = .ok (.iconst 1, 1) := dk_4 (dk_at dksX3_whyOf_1 8 rfl rfl)
theorem dX3_whyOf_33 : decode cX3_whyOf 33 = .ok (.invokevirtual 214, 3) := dk_182 0 214 (dk_at dksX3_whyOf_1 9 rfl rfl)
theorem dX3_whyOf_36 : decode cX3_whyOf 36 = .ok (.iload_n 3, 1) := dk_29 (dk_at dksX3_whyOf_1 12 rfl rfl)
theorem dX3_whyOf_37 : decode cX3_whyOf 37 = .ok (.invokestatic 239, 3) := dk_184 0 239 (dk_at dksX3_whyOf_1 13 rfl rfl)
theorem dX3_whyOf_40 : decode cX3_whyOf 40 = .ok (.ifCond .ne 7, 3) := dk_154 0 7 (dk_at dksX3_whyOf_1 16 rfl rfl)
theorem dX3_whyOf_43 : decode cX3_whyOf 43 = .ok (.iconst 3, 1) := dk_6 (dk_at dksX3_whyOf_1 19 rfl rfl)
theorem dX3_whyOf_44 : decode cX3_whyOf 44 = .ok (.goto 4, 3) := dk_167 0 4 (dk_at dksX3_whyOf_1 20 rfl rfl)
theorem dX3_whyOf_47 : decode cX3_whyOf 47 = .ok (.iconst 0, 1) := dk_3 (dk_at dksX3_whyOf_1 23 rfl rfl)
theorem dX3_whyOf_48 : decode cX3_whyOf 48 = .ok (.ireturn, 1) := dk_172 (dk_at dksX3_whyOf_2 0 rfl rfl)
abbrev cX3_ask : ByteArray := prog_14_method_73_code
def yX3_ask : MethodName := ⟨RX3, "ask", "(III)I"⟩
def dkwX3_ask_3 : List UInt8 := [172]
abbrev dktX3_ask_3 : List UInt8 := dkwX3_ask_3 ++ []
def dkwX3_ask_2 : List UInt8 := [172, 42, 3, 27, 28, 29, 3, 182, 1, 38, 42, 28, 182, 0, 236, 42, 180, 0, 50, 28, 46, 100, 4, 100]
abbrev dktX3_ask_2 : List UInt8 := dkwX3_ask_2 ++ dktX3_ask_3
def dkwX3_ask_1 : List UInt8 := [172, 42, 182, 0, 251, 42, 27, 28, 29, 182, 1, 31, 154, 0, 10, 42, 182, 1, 35, 153, 0, 6, 16, 251]
abbrev dktX3_ask_1 : List UInt8 := dkwX3_ask_1 ++ dktX3_ask_2
def dkwX3_ask_0 : List UInt8 := [42, 3, 181, 0, 59, 42, 27, 28, 182, 1, 10, 153, 0, 11, 29, 133, 184, 1, 22, 154, 0, 6, 16, 254]
abbrev dktX3_ask_0 : List UInt8 := dkwX3_ask_0 ++ dktX3_ask_1
theorem dksX3_ask_0 : cX3_ask.data.toList.drop 0 = dktX3_ask_0 := by decide +kernel
theorem dksX3_ask_1 : cX3_ask.data.toList.drop 24 = dktX3_ask_1 := dk_seg dksX3_ask_0 24 rfl rfl
theorem dksX3_ask_2 : cX3_ask.data.toList.drop 48 = dktX3_ask_2 := dk_seg dksX3_ask_1 24 rfl rfl
theorem dksX3_ask_3 : cX3_ask.data.toList.drop 72 = dktX3_ask_3 := dk_seg dksX3_ask_2 24 rfl rfl
theorem dX3_ask_0 : decode cX3_ask 0 = .ok (.aload_n 0, 1) := dk_42 (dk_at dksX3_ask_0 0 rfl rfl)
theorem dX3_ask_1 : decode cX3_ask 1 = .ok (.iconst 0, 1) := dk_3 (dk_at dksX3_ask_0 1 rfl rfl)
theorem dX3_ask_2 : decode cX3_ask 2 = .ok (.putfield 59, 3) := dk_181 0 59 (dk_at dksX3_ask_0 2 rfl rfl)
theorem dX3_ask_5 : decode cX3_ask 5 = .ok (.aload_n 0, 1) := dk_42 (dk_at dksX3_ask_0 5 rfl rfl)
theorem dX3_ask_6 : decode cX3_ask 6 = .ok (.iload_n 1, 1) := dk_27 (dk_at dksX3_ask_0 6 rfl rfl)
theorem dX3_ask_7 : decode cX3_ask 7 = .ok (.iload_n 2, 1) := dk_28 (dk_at dksX3_ask_0 7 rfl rfl)
theorem dX3_ask_8 : decode cX3_ask 8 = .ok (.invokevirtual 266, 3) := dk_182 1 10 (dk_at dksX3_ask_0 8 rfl rfl)
theorem dX3_ask_11 : decode cX3_ask 11 = .ok (.ifCond .eq 11, 3) := dk_153 0 11 (dk_at dksX3_ask_0 11 rfl rfl)
theorem dX3_ask_14 : decode cX3_ask 14 = .ok (.iload_n 3, 1) := dk_29 (dk_at dksX3_ask_0 14 rfl rfl)
theorem dX3_ask_15 : decode cX3_ask 15 = .ok (.i2l, 1) := dk_133 (dk_at dksX3_ask_0 15 rfl rfl)
theorem dX3_ask_16 : decode cX3_ask 16 = .ok (.invokestatic 278, 3) := dk_184 1 22 (dk_at dksX3_ask_0 16 rfl rfl)
theorem dX3_ask_19 : decode cX3_ask 19 = .ok (.ifCond .ne 6, 3) := dk_154 0 6 (dk_at dksX3_ask_0 19 rfl rfl)
theorem dX3_ask_22 : decode cX3_ask 22 = .ok (.bipush (-2), 2) := dk_16 254 (dk_at dksX3_ask_0 22 rfl rfl)
theorem dX3_ask_24 : decode cX3_ask 24 = .ok (.ireturn, 1) := dk_172 (dk_at dksX3_ask_1 0 rfl rfl)
theorem dX3_ask_25 : decode cX3_ask 25 = .ok (.aload_n 0, 1) := dk_42 (dk_at dksX3_ask_1 1 rfl rfl)
theorem dX3_ask_26 : decode cX3_ask 26 = .ok (.invokevirtual 251, 3) := dk_182 0 251 (dk_at dksX3_ask_1 2 rfl rfl)
theorem dX3_ask_29 : decode cX3_ask 29 = .ok (.aload_n 0, 1) := dk_42 (dk_at dksX3_ask_1 5 rfl rfl)
theorem dX3_ask_30 : decode cX3_ask 30 = .ok (.iload_n 1, 1) := dk_27 (dk_at dksX3_ask_1 6 rfl rfl)
theorem dX3_ask_31 : decode cX3_ask 31 = .ok (.iload_n 2, 1) := dk_28 (dk_at dksX3_ask_1 7 rfl rfl)
theorem dX3_ask_32 : decode cX3_ask 32 = .ok (.iload_n 3, 1) := dk_29 (dk_at dksX3_ask_1 8 rfl rfl)
theorem dX3_ask_33 : decode cX3_ask 33 = .ok (.invokevirtual 287, 3) := dk_182 1 31 (dk_at dksX3_ask_1 9 rfl rfl)
theorem dX3_ask_36 : decode cX3_ask 36 = .ok (.ifCond .ne 10, 3) := dk_154 0 10 (dk_at dksX3_ask_1 12 rfl rfl)
theorem dX3_ask_39 : decode cX3_ask 39 = .ok (.aload_n 0, 1) := dk_42 (dk_at dksX3_ask_1 15 rfl rfl)
theorem dX3_ask_40 : decode cX3_ask 40 = .ok (.invokevirtual 291, 3) := dk_182 1 35 (dk_at dksX3_ask_1 16 rfl rfl)
theorem dX3_ask_43 : decode cX3_ask 43 = .ok (.ifCond .eq 6, 3) := dk_153 0 6 (dk_at dksX3_ask_1 19 rfl rfl)
theorem dX3_ask_46 : decode cX3_ask 46 = .ok (.bipush (-5), 2) := dk_16 251 (dk_at dksX3_ask_1 22 rfl rfl)
theorem dX3_ask_48 : decode cX3_ask 48 = .ok (.ireturn, 1) := dk_172 (dk_at dksX3_ask_2 0 rfl rfl)
theorem dX3_ask_49 : decode cX3_ask 49 = .ok (.aload_n 0, 1) := dk_42 (dk_at dksX3_ask_2 1 rfl rfl)
theorem dX3_ask_50 : decode cX3_ask 50 = .ok (.iconst 0, 1) := dk_3 (dk_at dksX3_ask_2 2 rfl rfl)
theorem dX3_ask_51 : decode cX3_ask 51 = .ok (.iload_n 1, 1) := dk_27 (dk_at dksX3_ask_2 3 rfl rfl)
theorem dX3_ask_52 : decode cX3_ask 52 = .ok (.iload_n 2, 1) := dk_28 (dk_at dksX3_ask_2 4 rfl rfl)
theorem dX3_ask_53 : decode cX3_ask 53 = .ok (.iload_n 3, 1) := dk_29 (dk_at dksX3_ask_2 5 rfl rfl)
theorem dX3_ask_54 : decode cX3_ask 54 = .ok (.iconst 0, 1) := dk_3 (dk_at dksX3_ask_2 6 rfl rfl)
theorem dX3_ask_55 : decode cX3_ask 55 = .ok (.invokevirtual 294, 3) := dk_182 1 38 (dk_at dksX3_ask_2 7 rfl rfl)
theorem dX3_ask_58 : decode cX3_ask 58 = .ok (.aload_n 0, 1) := dk_42 (dk_at dksX3_ask_2 10 rfl rfl)
theorem dX3_ask_59 : decode cX3_ask 59 = .ok (.iload_n 2, 1) := dk_28 (dk_at dksX3_ask_2 11 rfl rfl)
theorem dX3_ask_60 : decode cX3_ask 60 = .ok (.invokevirtual 236, 3) := dk_182 0 236 (dk_at dksX3_ask_2 12 rfl rfl)
theorem dX3_ask_63 : decode cX3_ask 63 = .ok (.aload_n 0, 1) := dk_42 (dk_at dksX3_ask_2 15 rfl rfl)
theorem dX3_ask_64 : decode cX3_ask 64 = .ok (.getfield 50, 3) := dk_180 0 50 (dk_at dksX3_ask_2 16 rfl rfl)
theorem dX3_ask_67 : decode cX3_ask 67 = .ok (.iload_n 2, 1) := dk_28 (dk_at dksX3_ask_2 19 rfl rfl)
theorem dX3_ask_68 : decode cX3_ask 68 = .ok (.iaload, 1) := dk_46 (dk_at dksX3_ask_2 20 rfl rfl)
theorem dX3_ask_69 : decode cX3_ask 69 = .ok (.isub, 1) := dk_100 (dk_at dksX3_ask_2 21 rfl rfl)
theorem dX3_ask_70 : decode cX3_ask 70 = .ok (.iconst 1, 1) := dk_4 (dk_at dksX3_ask_2 22 rfl rfl)
theorem dX3_ask_71 : decode cX3_ask 71 = .ok (.isub, 1) := dk_100 (dk_at dksX3_ask_2 23 rfl rfl)
theorem dX3_ask_72 : decode cX3_ask 72 = .ok (.ireturn, 1) := dk_172 (dk_at dksX3_ask_3 0 rfl rfl)
abbrev cX3_isFull : ByteArray := prog_14_method_71_code
def yX3_isFull : MethodName := ⟨RX3, "isFull", "()Z"⟩
def dkwX3_isFull_0 : List UInt8 := [42, 180, 0, 34, 5, 46, 16, 40, 160, 0, 7, 4, 167, 0, 4, 3, 172]
abbrev dktX3_isFull_0 : List UInt8 := dkwX3_isFull_0 ++ []
theorem dksX3_isFull_0 : cX3_isFull.data.toList.drop 0 = dktX3_isFull_0 := by decide +kernel
theorem dX3_isFull_0 : decode cX3_isFull 0 = .ok (.aload_n 0, 1) := dk_42 (dk_at dksX3_isFull_0 0 rfl rfl)
theorem dX3_isFull_1 : decode cX3_isFull 1 = .ok (.getfield 34, 3) := dk_180 0 34 (dk_at dksX3_isFull_0 1 rfl rfl)
theorem dX3_isFull_4 : decode cX3_isFull 4 = .ok (.iconst 2, 1) := dk_5 (dk_at dksX3_isFull_0 4 rfl rfl)
theorem dX3_isFull_5 : decode cX3_isFull 5 = .ok (.iaload, 1) := dk_46 (dk_at dksX3_isFull_0 5 rfl rfl)
theorem dX3_isFull_6 : decode cX3_isFull 6 = .ok (.bipush 40, 2) := dk_16 40 (dk_at dksX3_isFull_0 6 rfl rfl)
theorem dX3_isFull_8 : decode cX3_isFull 8 = .ok (.if_icmp .ne 7, 3) := dk_160 0 7 (dk_at dksX3_isFull_0 8 rfl rfl)
theorem dX3_isFull_11 : decode cX3_isFull 11 = .ok (.iconst 1, 1) := dk_4 (dk_at dksX3_isFull_0 11 rfl rfl)
theorem dX3_isFull_12 : decode cX3_isFull 12 = .ok (.goto 4, 3) := dk_167 0 4 (dk_at dksX3_isFull_0 12 rfl rfl)
theorem dX3_isFull_15 : decode cX3_isFull 15 = .ok (.iconst 0, 1) := dk_3 (dk_at dksX3_isFull_0 15 rfl rfl)
theorem dX3_isFull_16 : decode cX3_isFull 16 = .ok (.ireturn, 1) := dk_172 (dk_at dksX3_isFull_0 16 rfl rfl)
abbrev cX3_acts : ByteArray := prog_14_method_72_code
def yX3_acts : MethodName := ⟨RX3, "acts", "(IIIII)V"⟩
def dkwX3_acts_2 : List UInt8 := [79, 42, 180, 0, 40, 21, 6, 7, 96, 21, 5, 79, 42, 180, 0, 34, 5, 92, 46, 4, 96, 79, 177]
abbrev dktX3_acts_2 : List UInt8 := dkwX3_acts_2 ++ []
def dkwX3_acts_1 : List UInt8 := [4, 96, 28, 79, 42, 180, 0, 40, 21, 6, 5, 96, 29, 79, 42, 180, 0, 40, 21, 6, 6, 96, 21, 4]
abbrev dktX3_acts_1 : List UInt8 := dkwX3_acts_1 ++ dktX3_acts_2
def dkwX3_acts_0 : List UInt8 := [8, 42, 180, 0, 34, 5, 46, 104, 54, 6, 42, 180, 0, 40, 21, 6, 27, 79, 42, 180, 0, 40, 21, 6]
abbrev dktX3_acts_0 : List UInt8 := dkwX3_acts_0 ++ dktX3_acts_1
theorem dksX3_acts_0 : cX3_acts.data.toList.drop 0 = dktX3_acts_0 := by decide +kernel
theorem dksX3_acts_1 : cX3_acts.data.toList.drop 24 = dktX3_acts_1 := dk_seg dksX3_acts_0 24 rfl rfl
theorem dksX3_acts_2 : cX3_acts.data.toList.drop 48 = dktX3_acts_2 := dk_seg dksX3_acts_1 24 rfl rfl
theorem dX3_acts_0 : decode cX3_acts 0 = .ok (.iconst 5, 1) := dk_8 (dk_at dksX3_acts_0 0 rfl rfl)
theorem dX3_acts_1 : decode cX3_acts 1 = .ok (.aload_n 0, 1) := dk_42 (dk_at dksX3_acts_0 1 rfl rfl)
theorem dX3_acts_2 : decode cX3_acts 2 = .ok (.getfield 34, 3) := dk_180 0 34 (dk_at dksX3_acts_0 2 rfl rfl)
theorem dX3_acts_5 : decode cX3_acts 5 = .ok (.iconst 2, 1) := dk_5 (dk_at dksX3_acts_0 5 rfl rfl)
theorem dX3_acts_6 : decode cX3_acts 6 = .ok (.iaload, 1) := dk_46 (dk_at dksX3_acts_0 6 rfl rfl)
theorem dX3_acts_7 : decode cX3_acts 7 = .ok (.imul, 1) := dk_104 (dk_at dksX3_acts_0 7 rfl rfl)
theorem dX3_acts_8 : decode cX3_acts 8 = .ok (.istore 6, 2) := dk_54 6 (dk_at dksX3_acts_0 8 rfl rfl)
theorem dX3_acts_10 : decode cX3_acts 10 = .ok (.aload_n 0, 1) := dk_42 (dk_at dksX3_acts_0 10 rfl rfl)
theorem dX3_acts_11 : decode cX3_acts 11 = .ok (.getfield 40, 3) := dk_180 0 40 (dk_at dksX3_acts_0 11 rfl rfl)
theorem dX3_acts_14 : decode cX3_acts 14 = .ok (.iload 6, 2) := dk_21 6 (dk_at dksX3_acts_0 14 rfl rfl)
theorem dX3_acts_16 : decode cX3_acts 16 = .ok (.iload_n 1, 1) := dk_27 (dk_at dksX3_acts_0 16 rfl rfl)
theorem dX3_acts_17 : decode cX3_acts 17 = .ok (.iastore, 1) := dk_79 (dk_at dksX3_acts_0 17 rfl rfl)
theorem dX3_acts_18 : decode cX3_acts 18 = .ok (.aload_n 0, 1) := dk_42 (dk_at dksX3_acts_0 18 rfl rfl)
theorem dX3_acts_19 : decode cX3_acts 19 = .ok (.getfield 40, 3) := dk_180 0 40 (dk_at dksX3_acts_0 19 rfl rfl)
theorem dX3_acts_22 : decode cX3_acts 22 = .ok (.iload 6, 2) := dk_21 6 (dk_at dksX3_acts_0 22 rfl rfl)
theorem dX3_acts_24 : decode cX3_acts 24 = .ok (.iconst 1, 1) := dk_4 (dk_at dksX3_acts_1 0 rfl rfl)
theorem dX3_acts_25 : decode cX3_acts 25 = .ok (.iadd, 1) := dk_96 (dk_at dksX3_acts_1 1 rfl rfl)
theorem dX3_acts_26 : decode cX3_acts 26 = .ok (.iload_n 2, 1) := dk_28 (dk_at dksX3_acts_1 2 rfl rfl)
theorem dX3_acts_27 : decode cX3_acts 27 = .ok (.iastore, 1) := dk_79 (dk_at dksX3_acts_1 3 rfl rfl)
theorem dX3_acts_28 : decode cX3_acts 28 = .ok (.aload_n 0, 1) := dk_42 (dk_at dksX3_acts_1 4 rfl rfl)
theorem dX3_acts_29 : decode cX3_acts 29 = .ok (.getfield 40, 3) := dk_180 0 40 (dk_at dksX3_acts_1 5 rfl rfl)
theorem dX3_acts_32 : decode cX3_acts 32 = .ok (.iload 6, 2) := dk_21 6 (dk_at dksX3_acts_1 8 rfl rfl)
theorem dX3_acts_34 : decode cX3_acts 34 = .ok (.iconst 2, 1) := dk_5 (dk_at dksX3_acts_1 10 rfl rfl)
theorem dX3_acts_35 : decode cX3_acts 35 = .ok (.iadd, 1) := dk_96 (dk_at dksX3_acts_1 11 rfl rfl)
theorem dX3_acts_36 : decode cX3_acts 36 = .ok (.iload_n 3, 1) := dk_29 (dk_at dksX3_acts_1 12 rfl rfl)
theorem dX3_acts_37 : decode cX3_acts 37 = .ok (.iastore, 1) := dk_79 (dk_at dksX3_acts_1 13 rfl rfl)
theorem dX3_acts_38 : decode cX3_acts 38 = .ok (.aload_n 0, 1) := dk_42 (dk_at dksX3_acts_1 14 rfl rfl)
theorem dX3_acts_39 : decode cX3_acts 39 = .ok (.getfield 40, 3) := dk_180 0 40 (dk_at dksX3_acts_1 15 rfl rfl)
theorem dX3_acts_42 : decode cX3_acts 42 = .ok (.iload 6, 2) := dk_21 6 (dk_at dksX3_acts_1 18 rfl rfl)
theorem dX3_acts_44 : decode cX3_acts 44 = .ok (.iconst 3, 1) := dk_6 (dk_at dksX3_acts_1 20 rfl rfl)
theorem dX3_acts_45 : decode cX3_acts 45 = .ok (.iadd, 1) := dk_96 (dk_at dksX3_acts_1 21 rfl rfl)
theorem dX3_acts_46 : decode cX3_acts 46 = .ok (.iload 4, 2) := dk_21 4 (dk_at dksX3_acts_1 22 rfl rfl)
theorem dX3_acts_48 : decode cX3_acts 48 = .ok (.iastore, 1) := dk_79 (dk_at dksX3_acts_2 0 rfl rfl)
theorem dX3_acts_49 : decode cX3_acts 49 = .ok (.aload_n 0, 1) := dk_42 (dk_at dksX3_acts_2 1 rfl rfl)
theorem dX3_acts_50 : decode cX3_acts 50 = .ok (.getfield 40, 3) := dk_180 0 40 (dk_at dksX3_acts_2 2 rfl rfl)
theorem dX3_acts_53 : decode cX3_acts 53 = .ok (.iload 6, 2) := dk_21 6 (dk_at dksX3_acts_2 5 rfl rfl)
theorem dX3_acts_55 : decode cX3_acts 55 = .ok (.iconst 4, 1) := dk_7 (dk_at dksX3_acts_2 7 rfl rfl)
theorem dX3_acts_56 : decode cX3_acts 56 = .ok (.iadd, 1) := dk_96 (dk_at dksX3_acts_2 8 rfl rfl)
theorem dX3_acts_57 : decode cX3_acts 57 = .ok (.iload 5, 2) := dk_21 5 (dk_at dksX3_acts_2 9 rfl rfl)
theorem dX3_acts_59 : decode cX3_acts 59 = .ok (.iastore, 1) := dk_79 (dk_at dksX3_acts_2 11 rfl rfl)
theorem dX3_acts_60 : decode cX3_acts 60 = .ok (.aload_n 0, 1) := dk_42 (dk_at dksX3_acts_2 12 rfl rfl)
theorem dX3_acts_61 : decode cX3_acts 61 = .ok (.getfield 34, 3) := dk_180 0 34 (dk_at dksX3_acts_2 13 rfl rfl)
theorem dX3_acts_64 : decode cX3_acts 64 = .ok (.iconst 2, 1) := dk_5 (dk_at dksX3_acts_2 16 rfl rfl)
theorem dX3_acts_65 : decode cX3_acts 65 = .ok (.dup2, 1) := dk_92 (dk_at dksX3_acts_2 17 rfl rfl)
theorem dX3_acts_66 : decode cX3_acts 66 = .ok (.iaload, 1) := dk_46 (dk_at dksX3_acts_2 18 rfl rfl)
theorem dX3_acts_67 : decode cX3_acts 67 = .ok (.iconst 1, 1) := dk_4 (dk_at dksX3_acts_2 19 rfl rfl)
theorem dX3_acts_68 : decode cX3_acts 68 = .ok (.iadd, 1) := dk_96 (dk_at dksX3_acts_2 20 rfl rfl)
theorem dX3_acts_69 : decode cX3_acts 69 = .ok (.iastore, 1) := dk_79 (dk_at dksX3_acts_2 21 rfl rfl)
theorem dX3_acts_70 : decode cX3_acts 70 = .ok (.return_, 1) := dk_177 (dk_at dksX3_acts_2 22 rfl rfl)
abbrev cX3_give : ByteArray := prog_14_method_74_code
def yX3_give : MethodName := ⟨RX3, "give", "(IIII)I"⟩
def dkwX3_give_3 : List UInt8 := [172]
abbrev dktX3_give_3 : List UInt8 := dkwX3_give_3 ++ []
def dkwX3_give_2 : List UInt8 := [160, 0, 10, 42, 182, 1, 35, 153, 0, 6, 16, 251, 172, 42, 4, 27, 28, 29, 21, 4, 182, 1, 38, 3]
abbrev dktX3_give_2 : List UInt8 := dkwX3_give_2 ++ dktX3_give_3
def dkwX3_give_1 : List UInt8 := [16, 254, 172, 42, 182, 0, 251, 42, 27, 28, 2, 182, 1, 31, 154, 0, 20, 42, 180, 0, 47, 29, 46, 28]
abbrev dktX3_give_1 : List UInt8 := dkwX3_give_1 ++ dktX3_give_2
def dkwX3_give_0 : List UInt8 := [42, 3, 181, 0, 59, 42, 27, 28, 182, 1, 10, 153, 0, 13, 42, 29, 21, 4, 182, 1, 10, 154, 0, 6]
abbrev dktX3_give_0 : List UInt8 := dkwX3_give_0 ++ dktX3_give_1
theorem dksX3_give_0 : cX3_give.data.toList.drop 0 = dktX3_give_0 := by decide +kernel
theorem dksX3_give_1 : cX3_give.data.toList.drop 24 = dktX3_give_1 := dk_seg dksX3_give_0 24 rfl rfl
theorem dksX3_give_2 : cX3_give.data.toList.drop 48 = dktX3_give_2 := dk_seg dksX3_give_1 24 rfl rfl
theorem dksX3_give_3 : cX3_give.data.toList.drop 72 = dktX3_give_3 := dk_seg dksX3_give_2 24 rfl rfl
theorem dX3_give_0 : decode cX3_give 0 = .ok (.aload_n 0, 1) := dk_42 (dk_at dksX3_give_0 0 rfl rfl)
theorem dX3_give_1 : decode cX3_give 1 = .ok (.iconst 0, 1) := dk_3 (dk_at dksX3_give_0 1 rfl rfl)
theorem dX3_give_2 : decode cX3_give 2 = .ok (.putfield 59, 3) := dk_181 0 59 (dk_at dksX3_give_0 2 rfl rfl)
theorem dX3_give_5 : decode cX3_give 5 = .ok (.aload_n 0, 1) := dk_42 (dk_at dksX3_give_0 5 rfl rfl)
theorem dX3_give_6 : decode cX3_give 6 = .ok (.iload_n 1, 1) := dk_27 (dk_at dksX3_give_0 6 rfl rfl)
theorem dX3_give_7 : decode cX3_give 7 = .ok (.iload_n 2, 1) := dk_28 (dk_at dksX3_give_0 7 rfl rfl)
theorem dX3_give_8 : decode cX3_give 8 = .ok (.invokevirtual 266, 3) := dk_182 1 10 (dk_at dksX3_give_0 8 rfl rfl)
theorem dX3_give_11 : decode cX3_give 11 = .ok (.ifCond .eq 13, 3) := dk_153 0 13 (dk_at dksX3_give_0 11 rfl rfl)
theorem dX3_give_14 : decode cX3_give 14 = .ok (.aload_n 0, 1) := dk_42 (dk_at dksX3_give_0 14 rfl rfl)
theorem dX3_give_15 : decode cX3_give 15 = .ok (.iload_n 3, 1) := dk_29 (dk_at dksX3_give_0 15 rfl rfl)
theorem dX3_give_16 : decode cX3_give 16 = .ok (.iload 4, 2) := dk_21 4 (dk_at dksX3_give_0 16 rfl rfl)
theorem dX3_give_18 : decode cX3_give 18 = .ok (.invokevirtual 266, 3) := dk_182 1 10 (dk_at dksX3_give_0 18 rfl rfl)
theorem dX3_give_21 : decode cX3_give 21 = .ok (.ifCond .ne 6, 3) := dk_154 0 6 (dk_at dksX3_give_0 21 rfl rfl)
theorem dX3_give_24 : decode cX3_give 24 = .ok (.bipush (-2), 2) := dk_16 254 (dk_at dksX3_give_1 0 rfl rfl)
theorem dX3_give_26 : decode cX3_give 26 = .ok (.ireturn, 1) := dk_172 (dk_at dksX3_give_1 2 rfl rfl)
theorem dX3_give_27 : decode cX3_give 27 = .ok (.aload_n 0, 1) := dk_42 (dk_at dksX3_give_1 3 rfl rfl)
theorem dX3_give_28 : decode cX3_give 28 = .ok (.invokevirtual 251, 3) := dk_182 0 251 (dk_at dksX3_give_1 4 rfl rfl)
theorem dX3_give_31 : decode cX3_give 31 = .ok (.aload_n 0, 1) := dk_42 (dk_at dksX3_give_1 7 rfl rfl)
theorem dX3_give_32 : decode cX3_give 32 = .ok (.iload_n 1, 1) := dk_27 (dk_at dksX3_give_1 8 rfl rfl)
theorem dX3_give_33 : decode cX3_give 33 = .ok (.iload_n 2, 1) := dk_28 (dk_at dksX3_give_1 9 rfl rfl)
theorem dX3_give_34 : decode cX3_give 34 = .ok (.iconst (-1), 1) := dk_2 (dk_at dksX3_give_1 10 rfl rfl)
theorem dX3_give_35 : decode cX3_give 35 = .ok (.invokevirtual 287, 3) := dk_182 1 31 (dk_at dksX3_give_1 11 rfl rfl)
theorem dX3_give_38 : decode cX3_give 38 = .ok (.ifCond .ne 20, 3) := dk_154 0 20 (dk_at dksX3_give_1 14 rfl rfl)
theorem dX3_give_41 : decode cX3_give 41 = .ok (.aload_n 0, 1) := dk_42 (dk_at dksX3_give_1 17 rfl rfl)
theorem dX3_give_42 : decode cX3_give 42 = .ok (.getfield 47, 3) := dk_180 0 47 (dk_at dksX3_give_1 18 rfl rfl)
theorem dX3_give_45 : decode cX3_give 45 = .ok (.iload_n 3, 1) := dk_29 (dk_at dksX3_give_1 21 rfl rfl)
theorem dX3_give_46 : decode cX3_give 46 = .ok (.iaload, 1) := dk_46 (dk_at dksX3_give_1 22 rfl rfl)
theorem dX3_give_47 : decode cX3_give 47 = .ok (.iload_n 2, 1) := dk_28 (dk_at dksX3_give_1 23 rfl rfl)
theorem dX3_give_48 : decode cX3_give 48 = .ok (.if_icmp .ne 10, 3) := dk_160 0 10 (dk_at dksX3_give_2 0 rfl rfl)
theorem dX3_give_51 : decode cX3_give 51 = .ok (.aload_n 0, 1) := dk_42 (dk_at dksX3_give_2 3 rfl rfl)
theorem dX3_give_52 : decode cX3_give 52 = .ok (.invokevirtual 291, 3) := dk_182 1 35 (dk_at dksX3_give_2 4 rfl rfl)
theorem dX3_give_55 : decode cX3_give 55 = .ok (.ifCond .eq 6, 3) := dk_153 0 6 (dk_at dksX3_give_2 7 rfl rfl)
theorem dX3_give_58 : decode cX3_give 58 = .ok (.bipush (-5), 2) := dk_16 251 (dk_at dksX3_give_2 10 rfl rfl)
theorem dX3_give_60 : decode cX3_give 60 = .ok (.ireturn, 1) := dk_172 (dk_at dksX3_give_2 12 rfl rfl)
theorem dX3_give_61 : decode cX3_give 61 = .ok (.aload_n 0, 1) := dk_42 (dk_at dksX3_give_2 13 rfl rfl)
theorem dX3_give_62 : decode cX3_give 62 = .ok (.iconst 1, 1) := dk_4 (dk_at dksX3_give_2 14 rfl rfl)
theorem dX3_give_63 : decode cX3_give 63 = .ok (.iload_n 1, 1) := dk_27 (dk_at dksX3_give_2 15 rfl rfl)
theorem dX3_give_64 : decode cX3_give 64 = .ok (.iload_n 2, 1) := dk_28 (dk_at dksX3_give_2 16 rfl rfl)
theorem dX3_give_65 : decode cX3_give 65 = .ok (.iload_n 3, 1) := dk_29 (dk_at dksX3_give_2 17 rfl rfl)
theorem dX3_give_66 : decode cX3_give 66 = .ok (.iload 4, 2) := dk_21 4 (dk_at dksX3_give_2 18 rfl rfl)
theorem dX3_give_68 : decode cX3_give 68 = .ok (.invokevirtual 294, 3) := dk_182 1 38 (dk_at dksX3_give_2 20 rfl rfl)
theorem dX3_give_71 : decode cX3_give 71 = .ok (.iconst 0, 1) := dk_3 (dk_at dksX3_give_2 23 rfl rfl)
theorem dX3_give_72 : decode cX3_give 72 = .ok (.ireturn, 1) := dk_172 (dk_at dksX3_give_3 0 rfl rfl)
abbrev cX3_swap : ByteArray := prog_14_method_75_code
def yX3_swap : MethodName := ⟨RX3, "swap", "(II)I"⟩
def dkwX3_swap_3 : List UInt8 := [42, 5, 27, 28, 3, 3, 182, 1, 38, 3, 172]
abbrev dktX3_swap_3 : List UInt8 := dkwX3_swap_3 ++ []
def dkwX3_swap_2 : List UInt8 := [180, 0, 47, 27, 46, 42, 180, 0, 47, 28, 46, 159, 0, 10, 42, 182, 1, 35, 153, 0, 6, 16, 251, 172]
abbrev dktX3_swap_2 : List UInt8 := dkwX3_swap_2 ++ dktX3_swap_3
def dkwX3_swap_1 : List UInt8 := [182, 0, 251, 42, 180, 0, 47, 27, 46, 2, 159, 0, 35, 42, 180, 0, 47, 28, 46, 2, 159, 0, 25, 42]
abbrev dktX3_swap_1 : List UInt8 := dkwX3_swap_1 ++ dktX3_swap_2
def dkwX3_swap_0 : List UInt8 := [42, 3, 181, 0, 59, 42, 27, 28, 182, 1, 10, 153, 0, 8, 27, 28, 160, 0, 6, 16, 254, 172, 42]
abbrev dktX3_swap_0 : List UInt8 := dkwX3_swap_0 ++ dktX3_swap_1
theorem dksX3_swap_0 : cX3_swap.data.toList.drop 0 = dktX3_swap_0 := by decide +kernel
theorem dksX3_swap_1 : cX3_swap.data.toList.drop 23 = dktX3_swap_1 := dk_seg dksX3_swap_0 23 rfl rfl
theorem dksX3_swap_2 : cX3_swap.data.toList.drop 47 = dktX3_swap_2 := dk_seg dksX3_swap_1 24 rfl rfl
theorem dksX3_swap_3 : cX3_swap.data.toList.drop 71 = dktX3_swap_3 := dk_seg dksX3_swap_2 24 rfl rfl
theorem dX3_swap_0 : decode cX3_swap 0 = .ok (.aload_n 0, 1) := dk_42 (dk_at dksX3_swap_0 0 rfl rfl)
theorem dX3_swap_1 : decode cX3_swap 1 = .ok (.iconst 0, 1) := dk_3 (dk_at dksX3_swap_0 1 rfl rfl)
theorem dX3_swap_2 : decode cX3_swap 2 = .ok (.putfield 59, 3) := dk_181 0 59 (dk_at dksX3_swap_0 2 rfl rfl)
theorem dX3_swap_5 : decode cX3_swap 5 = .ok (.aload_n 0, 1) := dk_42 (dk_at dksX3_swap_0 5 rfl rfl)
theorem dX3_swap_6 : decode cX3_swap 6 = .ok (.iload_n 1, 1) := dk_27 (dk_at dksX3_swap_0 6 rfl rfl)
theorem dX3_swap_7 : decode cX3_swap 7 = .ok (.iload_n 2, 1) := dk_28 (dk_at dksX3_swap_0 7 rfl rfl)
theorem dX3_swap_8 : decode cX3_swap 8 = .ok (.invokevirtual 266, 3) := dk_182 1 10 (dk_at dksX3_swap_0 8 rfl rfl)
theorem dX3_swap_11 : decode cX3_swap 11 = .ok (.ifCond .eq 8, 3) := dk_153 0 8 (dk_at dksX3_swap_0 11 rfl rfl)
theorem dX3_swap_14 : decode cX3_swap 14 = .ok (.iload_n 1, 1) := dk_27 (dk_at dksX3_swap_0 14 rfl rfl)
theorem dX3_swap_15 : decode cX3_swap 15 = .ok (.iload_n 2, 1) := dk_28 (dk_at dksX3_swap_0 15 rfl rfl)
theorem dX3_swap_16 : decode cX3_swap 16 = .ok (.if_icmp .ne 6, 3) := dk_160 0 6 (dk_at dksX3_swap_0 16 rfl rfl)
theorem dX3_swap_19 : decode cX3_swap 19 = .ok (.bipush (-2), 2) := dk_16 254 (dk_at dksX3_swap_0 19 rfl rfl)
theorem dX3_swap_21 : decode cX3_swap 21 = .ok (.ireturn, 1) := dk_172 (dk_at dksX3_swap_0 21 rfl rfl)
theorem dX3_swap_22 : decode cX3_swap 22 = .ok (.aload_n 0, 1) := dk_42 (dk_at dksX3_swap_0 22 rfl rfl)
theorem dX3_swap_23 : decode cX3_swap 23 = .ok (.invokevirtual 251, 3) := dk_182 0 251 (dk_at dksX3_swap_1 0 rfl rfl)
theorem dX3_swap_26 : decode cX3_swap 26 = .ok (.aload_n 0, 1) := dk_42 (dk_at dksX3_swap_1 3 rfl rfl)
theorem dX3_swap_27 : decode cX3_swap 27 = .ok (.getfield 47, 3) := dk_180 0 47 (dk_at dksX3_swap_1 4 rfl rfl)
theorem dX3_swap_30 : decode cX3_swap 30 = .ok (.iload_n 1, 1) := dk_27 (dk_at dksX3_swap_1 7 rfl rfl)
theorem dX3_swap_31 : decode cX3_swap 31 = .ok (.iaload, 1) := dk_46 (dk_at dksX3_swap_1 8 rfl rfl)
theorem dX3_swap_32 : decode cX3_swap 32 = .ok (.iconst (-1), 1) := dk_2 (dk_at dksX3_swap_1 9 rfl rfl)
theorem dX3_swap_33 : decode cX3_swap 33 = .ok (.if_icmp .eq 35, 3) := dk_159 0 35 (dk_at dksX3_swap_1 10 rfl rfl)
theorem dX3_swap_36 : decode cX3_swap 36 = .ok (.aload_n 0, 1) := dk_42 (dk_at dksX3_swap_1 13 rfl rfl)
theorem dX3_swap_37 : decode cX3_swap 37 = .ok (.getfield 47, 3) := dk_180 0 47 (dk_at dksX3_swap_1 14 rfl rfl)
theorem dX3_swap_40 : decode cX3_swap 40 = .ok (.iload_n 2, 1) := dk_28 (dk_at dksX3_swap_1 17 rfl rfl)
theorem dX3_swap_41 : decode cX3_swap 41 = .ok (.iaload, 1) := dk_46 (dk_at dksX3_swap_1 18 rfl rfl)
theorem dX3_swap_42 : decode cX3_swap 42 = .ok (.iconst (-1), 1) := dk_2 (dk_at dksX3_swap_1 19 rfl rfl)
theorem dX3_swap_43 : decode cX3_swap 43 = .ok (.if_icmp .eq 25, 3) := dk_159 0 25 (dk_at dksX3_swap_1 20 rfl rfl)
theorem dX3_swap_46 : decode cX3_swap 46 = .ok (.aload_n 0, 1) := dk_42 (dk_at dksX3_swap_1 23 rfl rfl)
theorem dX3_swap_47 : decode cX3_swap 47 = .ok (.getfield 47, 3) := dk_180 0 47 (dk_at dksX3_swap_2 0 rfl rfl)
theorem dX3_swap_50 : decode cX3_swap 50 = .ok (.iload_n 1, 1) := dk_27 (dk_at dksX3_swap_2 3 rfl rfl)
theorem dX3_swap_51 : decode cX3_swap 51 = .ok (.iaload, 1) := dk_46 (dk_at dksX3_swap_2 4 rfl rfl)
theorem dX3_swap_52 : decode cX3_swap 52 = .ok (.aload_n 0, 1) := dk_42 (dk_at dksX3_swap_2 5 rfl rfl)
theorem dX3_swap_53 : decode cX3_swap 53 = .ok (.getfield 47, 3) := dk_180 0 47 (dk_at dksX3_swap_2 6 rfl rfl)
theorem dX3_swap_56 : decode cX3_swap 56 = .ok (.iload_n 2, 1) := dk_28 (dk_at dksX3_swap_2 9 rfl rfl)
theorem dX3_swap_57 : decode cX3_swap 57 = .ok (.iaload, 1) := dk_46 (dk_at dksX3_swap_2 10 rfl rfl)
theorem dX3_swap_58 : decode cX3_swap 58 = .ok (.if_icmp .eq 10, 3) := dk_159 0 10 (dk_at dksX3_swap_2 11 rfl rfl)
theorem dX3_swap_61 : decode cX3_swap 61 = .ok (.aload_n 0, 1) := dk_42 (dk_at dksX3_swap_2 14 rfl rfl)
theorem dX3_swap_62 : decode cX3_swap 62 = .ok (.invokevirtual 291, 3) := dk_182 1 35 (dk_at dksX3_swap_2 15 rfl rfl)
theorem dX3_swap_65 : decode cX3_swap 65 = .ok (.ifCond .eq 6, 3) := dk_153 0 6 (dk_at dksX3_swap_2 18 rfl rfl)
theorem dX3_swap_68 : decode cX3_swap 68 = .ok (.bipush (-5), 2) := dk_16 251 (dk_at dksX3_swap_2 21 rfl rfl)
theorem dX3_swap_70 : decode cX3_swap 70 = .ok (.ireturn, 1) := dk_172 (dk_at dksX3_swap_2 23 rfl rfl)
theorem dX3_swap_71 : decode cX3_swap 71 = .ok (.aload_n 0, 1) := dk_42 (dk_at dksX3_swap_3 0 rfl rfl)
theorem dX3_swap_72 : decode cX3_swap 72 = .ok (.iconst 2, 1) := dk_5 (dk_at dksX3_swap_3 1 rfl rfl)
theorem dX3_swap_73 : decode cX3_swap 73 = .ok (.iload_n 1, 1) := dk_27 (dk_at dksX3_swap_3 2 rfl rfl)
theorem dX3_swap_74 : decode cX3_swap 74 = .ok (.iload_n 2, 1) := dk_28 (dk_at dksX3_swap_3 3 rfl rfl)
theorem dX3_swap_75 : decode cX3_swap 75 = .ok (.iconst 0, 1) := dk_3 (dk_at dksX3_swap_3 4 rfl rfl)
theorem dX3_swap_76 : decode cX3_swap 76 = .ok (.iconst 0, 1) := dk_3 (dk_at dksX3_swap_3 5 rfl rfl)
theorem dX3_swap_77 : decode cX3_swap 77 = .ok (.invokevirtual 294, 3) := dk_182 1 38 (dk_at dksX3_swap_3 6 rfl rfl)
theorem dX3_swap_80 : decode cX3_swap 80 = .ok (.iconst 0, 1) := dk_3 (dk_at dksX3_swap_3 9 rfl rfl)
theorem dX3_swap_81 : decode cX3_swap 81 = .ok (.ireturn, 1) := dk_172 (dk_at dksX3_swap_3 10 rfl rfl)
abbrev cX3_steal : ByteArray := prog_14_method_76_code
def yX3_steal : MethodName := ⟨RX3, "steal", "(II)I"⟩
def dkwX3_steal_3 : List UInt8 := [182, 1, 38, 42, 180, 0, 47, 28, 46, 172]
abbrev dktX3_steal_3 : List UInt8 := dkwX3_steal_3 ++ []
def dkwX3_steal_2 : List UInt8 := [184, 0, 239, 154, 0, 10, 42, 182, 1, 35, 153, 0, 6, 16, 251, 172, 42, 6, 27, 28, 3, 3]
abbrev dktX3_steal_2 : List UInt8 := dkwX3_steal_2 ++ dktX3_steal_3
def dkwX3_steal_1 : List UInt8 := [180, 0, 47, 28, 46, 2, 159, 0, 31, 42, 180, 0, 47, 28, 46, 27, 159, 0, 21, 42, 180, 0, 220, 28]
abbrev dktX3_steal_1 : List UInt8 := dkwX3_steal_1 ++ dktX3_steal_2
def dkwX3_steal_0 : List UInt8 := [42, 3, 181, 0, 59, 42, 27, 28, 182, 1, 10, 154, 0, 6, 16, 254, 172, 42, 182, 0, 251, 42]
abbrev dktX3_steal_0 : List UInt8 := dkwX3_steal_0 ++ dktX3_steal_1
theorem dksX3_steal_0 : cX3_steal.data.toList.drop 0 = dktX3_steal_0 := by decide +kernel
theorem dksX3_steal_1 : cX3_steal.data.toList.drop 22 = dktX3_steal_1 := dk_seg dksX3_steal_0 22 rfl rfl
theorem dksX3_steal_2 : cX3_steal.data.toList.drop 46 = dktX3_steal_2 := dk_seg dksX3_steal_1 24 rfl rfl
theorem dksX3_steal_3 : cX3_steal.data.toList.drop 68 = dktX3_steal_3 := dk_seg dksX3_steal_2 22 rfl rfl
theorem dX3_steal_0 : decode cX3_steal 0 = .ok (.aload_n 0, 1) := dk_42 (dk_at dksX3_steal_0 0 rfl rfl)
theorem dX3_steal_1 : decode cX3_steal 1 = .ok (.iconst 0, 1) := dk_3 (dk_at dksX3_steal_0 1 rfl rfl)
theorem dX3_steal_2 : decode cX3_steal 2 = .ok (.putfield 59, 3) := dk_181 0 59 (dk_at dksX3_steal_0 2 rfl rfl)
theorem dX3_steal_5 : decode cX3_steal 5 = .ok (.aload_n 0, 1) := dk_42 (dk_at dksX3_steal_0 5 rfl rfl)
theorem dX3_steal_6 : decode cX3_steal 6 = .ok (.iload_n 1, 1) := dk_27 (dk_at dksX3_steal_0 6 rfl rfl)
theorem dX3_steal_7 : decode cX3_steal 7 = .ok (.iload_n 2, 1) := dk_28 (dk_at dksX3_steal_0 7 rfl rfl)
theorem dX3_steal_8 : decode cX3_steal 8 = .ok (.invokevirtual 266, 3) := dk_182 1 10 (dk_at dksX3_steal_0 8 rfl rfl)
theorem dX3_steal_11 : decode cX3_steal 11 = .ok (.ifCond .ne 6, 3) := dk_154 0 6 (dk_at dksX3_steal_0 11 rfl rfl)
theorem dX3_steal_14 : decode cX3_steal 14 = .ok (.bipush (-2), 2) := dk_16 254 (dk_at dksX3_steal_0 14 rfl rfl)
theorem dX3_steal_16 : decode cX3_steal 16 = .ok (.ireturn, 1) := dk_172 (dk_at dksX3_steal_0 16 rfl rfl)
theorem dX3_steal_17 : decode cX3_steal 17 = .ok (.aload_n 0, 1) := dk_42 (dk_at dksX3_steal_0 17 rfl rfl)
theorem dX3_steal_18 : decode cX3_steal 18 = .ok (.invokevirtual 251, 3) := dk_182 0 251 (dk_at dksX3_steal_0 18 rfl rfl)
theorem dX3_steal_21 : decode cX3_steal 21 = .ok (.aload_n 0, 1) := dk_42 (dk_at dksX3_steal_0 21 rfl rfl)
theorem dX3_steal_22 : decode cX3_steal 22 = .ok (.getfield 47, 3) := dk_180 0 47 (dk_at dksX3_steal_1 0 rfl rfl)
theorem dX3_steal_25 : decode cX3_steal 25 = .ok (.iload_n 2, 1) := dk_28 (dk_at dksX3_steal_1 3 rfl rfl)
theorem dX3_steal_26 : decode cX3_steal 26 = .ok (.iaload, 1) := dk_46 (dk_at dksX3_steal_1 4 rfl rfl)
theorem dX3_steal_27 : decode cX3_steal 27 = .ok (.iconst (-1), 1) := dk_2 (dk_at dksX3_steal_1 5 rfl rfl)
theorem dX3_steal_28 : decode cX3_steal 28 = .ok (.if_icmp .eq 31, 3) := dk_159 0 31 (dk_at dksX3_steal_1 6 rfl rfl)
theorem dX3_steal_31 : decode cX3_steal 31 = .ok (.aload_n 0, 1) := dk_42 (dk_at dksX3_steal_1 9 rfl rfl)
theorem dX3_steal_32 : decode cX3_steal 32 = .ok (.getfield 47, 3) := dk_180 0 47 (dk_at dksX3_steal_1 10 rfl rfl)
theorem dX3_steal_35 : decode cX3_steal 35 = .ok (.iload_n 2, 1) := dk_28 (dk_at dksX3_steal_1 13 rfl rfl)
theorem dX3_steal_36 : decode cX3_steal 36 = .ok (.iaload, 1) := dk_46 (dk_at dksX3_steal_1 14 rfl rfl)
theorem dX3_steal_37 : decode cX3_steal 37 = .ok (.iload_n 1, 1) := dk_27 (dk_at dksX3_steal_1 15 rfl rfl)
theorem dX3_steal_38 : decode cX3_steal 38 = .ok (.if_icmp .eq 21, 3) := dk_159 0 21 (dk_at dksX3_steal_1 16 rfl rfl)
theorem dX3_steal_41 : decode cX3_steal 41 = .ok (.aload_n 0, 1) := dk_42 (dk_at dksX3_steal_1 19 rfl rfl)
theorem dX3_steal_42 : decode cX3_steal 42 = .ok (.getfield 220, 3) := dk_180 0 220 (dk_at dksX3_steal_1 20 rfl rfl)
theorem dX3_steal_45 : decode cX3_steal 45 = .ok (.iload_n 2, 1) := dk_28 (dk_at dksX3_steal_1 23 rfl rfl)
theorem dX3_steal_46 : decode cX3_steal 46 = .ok (.invokestatic 239, 3) := dk_184 0 239 (dk_at dksX3_steal_2 0 rfl rfl)
theorem dX3_steal_49 : decode cX3_steal 49 = .ok (.ifCond .ne 10, 3) := dk_154 0 10 (dk_at dksX3_steal_2 3 rfl rfl)
theorem dX3_steal_52 : decode cX3_steal 52 = .ok (.aload_n 0, 1) := dk_42 (dk_at dksX3_steal_2 6 rfl rfl)
theorem dX3_steal_53 : decode cX3_steal 53 = .ok (.invokevirtual 291, 3) := dk_182 1 35 (dk_at dksX3_steal_2 7 rfl rfl)
theorem dX3_steal_56 : decode cX3_steal 56 = .ok (.ifCond .eq 6, 3) := dk_153 0 6 (dk_at dksX3_steal_2 10 rfl rfl)
theorem dX3_steal_59 : decode cX3_steal 59 = .ok (.bipush (-5), 2) := dk_16 251 (dk_at dksX3_steal_2 13 rfl rfl)
theorem dX3_steal_61 : decode cX3_steal 61 = .ok (.ireturn, 1) := dk_172 (dk_at dksX3_steal_2 15 rfl rfl)
theorem dX3_steal_62 : decode cX3_steal 62 = .ok (.aload_n 0, 1) := dk_42 (dk_at dksX3_steal_2 16 rfl rfl)
theorem dX3_steal_63 : decode cX3_steal 63 = .ok (.iconst 3, 1) := dk_6 (dk_at dksX3_steal_2 17 rfl rfl)
theorem dX3_steal_64 : decode cX3_steal 64 = .ok (.iload_n 1, 1) := dk_27 (dk_at dksX3_steal_2 18 rfl rfl)
theorem dX3_steal_65 : decode cX3_steal 65 = .ok (.iload_n 2, 1) := dk_28 (dk_at dksX3_steal_2 19 rfl rfl)
theorem dX3_steal_66 : decode cX3_steal 66 = .ok (.iconst 0, 1) := dk_3 (dk_at dksX3_steal_2 20 rfl rfl)
theorem dX3_steal_67 : decode cX3_steal 67 = .ok (.iconst 0, 1) := dk_3 (dk_at dksX3_steal_2 21 rfl rfl)
theorem dX3_steal_68 : decode cX3_steal 68 = .ok (.invokevirtual 294, 3) := dk_182 1 38 (dk_at dksX3_steal_3 0 rfl rfl)
theorem dX3_steal_71 : decode cX3_steal 71 = .ok (.aload_n 0, 1) := dk_42 (dk_at dksX3_steal_3 3 rfl rfl)
theorem dX3_steal_72 : decode cX3_steal 72 = .ok (.getfield 47, 3) := dk_180 0 47 (dk_at dksX3_steal_3 4 rfl rfl)
theorem dX3_steal_75 : decode cX3_steal 75 = .ok (.iload_n 2, 1) := dk_28 (dk_at dksX3_steal_3 7 rfl rfl)
theorem dX3_steal_76 : decode cX3_steal 76 = .ok (.iaload, 1) := dk_46 (dk_at dksX3_steal_3 8 rfl rfl)
theorem dX3_steal_77 : decode cX3_steal 77 = .ok (.ireturn, 1) := dk_172 (dk_at dksX3_steal_3 9 rfl rfl)
abbrev cX3_day : ByteArray := prog_14_method_77_code
def yX3_day : MethodName := ⟨RX3, "day", "()I"⟩
def dkwX3_day_1 : List UInt8 := [153, 0, 6, 16, 251, 172, 42, 7, 3, 3, 3, 3, 182, 1, 38, 42, 180, 0, 223, 172]
abbrev dktX3_day_1 : List UInt8 := dkwX3_day_1 ++ []
def dkwX3_day_0 : List UInt8 := [42, 3, 181, 0, 59, 42, 182, 0, 209, 154, 0, 6, 16, 254, 172, 42, 182, 0, 251, 42, 182, 1, 35]
abbrev dktX3_day_0 : List UInt8 := dkwX3_day_0 ++ dktX3_day_1
theorem dksX3_day_0 : cX3_day.data.toList.drop 0 = dktX3_day_0 := by decide +kernel
theorem dksX3_day_1 : cX3_day.data.toList.drop 23 = dktX3_day_1 := dk_seg dksX3_day_0 23 rfl rfl
theorem dX3_day_0 : decode cX3_day 0 = .ok (.aload_n 0, 1) := dk_42 (dk_at dksX3_day_0 0 rfl rfl)
theorem dX3_day_1 : decode cX3_day 1 = .ok (.iconst 0, 1) := dk_3 (dk_at dksX3_day_0 1 rfl rfl)
theorem dX3_day_2 : decode cX3_day 2 = .ok (.putfield 59, 3) := dk_181 0 59 (dk_at dksX3_day_0 2 rfl rfl)
theorem dX3_day_5 : decode cX3_day 5 = .ok (.aload_n 0, 1) := dk_42 (dk_at dksX3_day_0 5 rfl rfl)
theorem dX3_day_6 : decode cX3_day 6 = .ok (.invokevirtual 209, 3) := dk_182 0 209 (dk_at dksX3_day_0 6 rfl rfl)
theorem dX3_day_9 : decode cX3_day 9 = .ok (.ifCond .ne 6, 3) := dk_154 0 6 (dk_at dksX3_day_0 9 rfl rfl)
theorem dX3_day_12 : decode cX3_day 12 = .ok (.bipush (-2), 2) := dk_16 254 (dk_at dksX3_day_0 12 rfl rfl)
theorem dX3_day_14 : decode cX3_day 14 = .ok (.ireturn, 1) := dk_172 (dk_at dksX3_day_0 14 rfl rfl)
theorem dX3_day_15 : decode cX3_day 15 = .ok (.aload_n 0, 1) := dk_42 (dk_at dksX3_day_0 15 rfl rfl)
theorem dX3_day_16 : decode cX3_day 16 = .ok (.invokevirtual 251, 3) := dk_182 0 251 (dk_at dksX3_day_0 16 rfl rfl)
theorem dX3_day_19 : decode cX3_day 19 = .ok (.aload_n 0, 1) := dk_42 (dk_at dksX3_day_0 19 rfl rfl)
theorem dX3_day_20 : decode cX3_day 20 = .ok (.invokevirtual 291, 3) := dk_182 1 35 (dk_at dksX3_day_0 20 rfl rfl)
theorem dX3_day_23 : decode cX3_day 23 = .ok (.ifCond .eq 6, 3) := dk_153 0 6 (dk_at dksX3_day_1 0 rfl rfl)
theorem dX3_day_26 : decode cX3_day 26 = .ok (.bipush (-5), 2) := dk_16 251 (dk_at dksX3_day_1 3 rfl rfl)
theorem dX3_day_28 : decode cX3_day 28 = .ok (.ireturn, 1) := dk_172 (dk_at dksX3_day_1 5 rfl rfl)
theorem dX3_day_29 : decode cX3_day 29 = .ok (.aload_n 0, 1) := dk_42 (dk_at dksX3_day_1 6 rfl rfl)
theorem dX3_day_30 : decode cX3_day 30 = .ok (.iconst 4, 1) := dk_7 (dk_at dksX3_day_1 7 rfl rfl)
theorem dX3_day_31 : decode cX3_day 31 = .ok (.iconst 0, 1) := dk_3 (dk_at dksX3_day_1 8 rfl rfl)
theorem dX3_day_32 : decode cX3_day 32 = .ok (.iconst 0, 1) := dk_3 (dk_at dksX3_day_1 9 rfl rfl)
theorem dX3_day_33 : decode cX3_day 33 = .ok (.iconst 0, 1) := dk_3 (dk_at dksX3_day_1 10 rfl rfl)
theorem dX3_day_34 : decode cX3_day 34 = .ok (.iconst 0, 1) := dk_3 (dk_at dksX3_day_1 11 rfl rfl)
theorem dX3_day_35 : decode cX3_day 35 = .ok (.invokevirtual 294, 3) := dk_182 1 38 (dk_at dksX3_day_1 12 rfl rfl)
theorem dX3_day_38 : decode cX3_day 38 = .ok (.aload_n 0, 1) := dk_42 (dk_at dksX3_day_1 15 rfl rfl)
theorem dX3_day_39 : decode cX3_day 39 = .ok (.getfield 223, 3) := dk_180 0 223 (dk_at dksX3_day_1 16 rfl rfl)
theorem dX3_day_42 : decode cX3_day 42 = .ok (.ireturn, 1) := dk_172 (dk_at dksX3_day_1 19 rfl rfl)
abbrev cX3_undo : ByteArray := prog_14_method_78_code
def yX3_undo : MethodName := ⟨RX3, "undo", "()I"⟩
def dkwX3_undo_1 : List UInt8 := [16, 251, 172, 42, 180, 0, 34, 5, 92, 46, 4, 100, 79, 42, 180, 0, 34, 5, 46, 172]
abbrev dktX3_undo_1 : List UInt8 := dkwX3_undo_1 ++ []
def dkwX3_undo_0 : List UInt8 := [42, 3, 181, 0, 59, 42, 182, 0, 209, 154, 0, 6, 16, 254, 172, 42, 180, 0, 34, 5, 46, 154, 0, 6]
abbrev dktX3_undo_0 : List UInt8 := dkwX3_undo_0 ++ dktX3_undo_1
theorem dksX3_undo_0 : cX3_undo.data.toList.drop 0 = dktX3_undo_0 := by decide +kernel
theorem dksX3_undo_1 : cX3_undo.data.toList.drop 24 = dktX3_undo_1 := dk_seg dksX3_undo_0 24 rfl rfl
theorem dX3_undo_0 : decode cX3_undo 0 = .ok (.aload_n 0, 1) := dk_42 (dk_at dksX3_undo_0 0 rfl rfl)
theorem dX3_undo_1 : decode cX3_undo 1 = .ok (.iconst 0, 1) := dk_3 (dk_at dksX3_undo_0 1 rfl rfl)
theorem dX3_undo_2 : decode cX3_undo 2 = .ok (.putfield 59, 3) := dk_181 0 59 (dk_at dksX3_undo_0 2 rfl rfl)
theorem dX3_undo_5 : decode cX3_undo 5 = .ok (.aload_n 0, 1) := dk_42 (dk_at dksX3_undo_0 5 rfl rfl)
theorem dX3_undo_6 : decode cX3_undo 6 = .ok (.invokevirtual 209, 3) := dk_182 0 209 (dk_at dksX3_undo_0 6 rfl rfl)
theorem dX3_undo_9 : decode cX3_undo 9 = .ok (.ifCond .ne 6, 3) := dk_154 0 6 (dk_at dksX3_undo_0 9 rfl rfl)
theorem dX3_undo_12 : decode cX3_undo 12 = .ok (.bipush (-2), 2) := dk_16 254 (dk_at dksX3_undo_0 12 rfl rfl)
theorem dX3_undo_14 : decode cX3_undo 14 = .ok (.ireturn, 1) := dk_172 (dk_at dksX3_undo_0 14 rfl rfl)
theorem dX3_undo_15 : decode cX3_undo 15 = .ok (.aload_n 0, 1) := dk_42 (dk_at dksX3_undo_0 15 rfl rfl)
theorem dX3_undo_16 : decode cX3_undo 16 = .ok (.getfield 34, 3) := dk_180 0 34 (dk_at dksX3_undo_0 16 rfl rfl)
theorem dX3_undo_19 : decode cX3_undo 19 = .ok (.iconst 2, 1) := dk_5 (dk_at dksX3_undo_0 19 rfl rfl)
theorem dX3_undo_20 : decode cX3_undo 20 = .ok (.iaload, 1) := dk_46 (dk_at dksX3_undo_0 20 rfl rfl)
theorem dX3_undo_21 : decode cX3_undo 21 = .ok (.ifCond .ne 6, 3) := dk_154 0 6 (dk_at dksX3_undo_0 21 rfl rfl)
theorem dX3_undo_24 : decode cX3_undo 24 = .ok (.bipush (-5), 2) := dk_16 251 (dk_at dksX3_undo_1 0 rfl rfl)
theorem dX3_undo_26 : decode cX3_undo 26 = .ok (.ireturn, 1) := dk_172 (dk_at dksX3_undo_1 2 rfl rfl)
theorem dX3_undo_27 : decode cX3_undo 27 = .ok (.aload_n 0, 1) := dk_42 (dk_at dksX3_undo_1 3 rfl rfl)
theorem dX3_undo_28 : decode cX3_undo 28 = .ok (.getfield 34, 3) := dk_180 0 34 (dk_at dksX3_undo_1 4 rfl rfl)
theorem dX3_undo_31 : decode cX3_undo 31 = .ok (.iconst 2, 1) := dk_5 (dk_at dksX3_undo_1 7 rfl rfl)
theorem dX3_undo_32 : decode cX3_undo 32 = .ok (.dup2, 1) := dk_92 (dk_at dksX3_undo_1 8 rfl rfl)
theorem dX3_undo_33 : decode cX3_undo 33 = .ok (.iaload, 1) := dk_46 (dk_at dksX3_undo_1 9 rfl rfl)
theorem dX3_undo_34 : decode cX3_undo 34 = .ok (.iconst 1, 1) := dk_4 (dk_at dksX3_undo_1 10 rfl rfl)
theorem dX3_undo_35 : decode cX3_undo 35 = .ok (.isub, 1) := dk_100 (dk_at dksX3_undo_1 11 rfl rfl)
theorem dX3_undo_36 : decode cX3_undo 36 = .ok (.iastore, 1) := dk_79 (dk_at dksX3_undo_1 12 rfl rfl)
theorem dX3_undo_37 : decode cX3_undo 37 = .ok (.aload_n 0, 1) := dk_42 (dk_at dksX3_undo_1 13 rfl rfl)
theorem dX3_undo_38 : decode cX3_undo 38 = .ok (.getfield 34, 3) := dk_180 0 34 (dk_at dksX3_undo_1 14 rfl rfl)
theorem dX3_undo_41 : decode cX3_undo 41 = .ok (.iconst 2, 1) := dk_5 (dk_at dksX3_undo_1 17 rfl rfl)
theorem dX3_undo_42 : decode cX3_undo 42 = .ok (.iaload, 1) := dk_46 (dk_at dksX3_undo_1 18 rfl rfl)
theorem dX3_undo_43 : decode cX3_undo 43 = .ok (.ireturn, 1) := dk_172 (dk_at dksX3_undo_1 19 rfl rfl)
abbrev cX3_anew : ByteArray := prog_14_method_79_code
def yX3_anew : MethodName := ⟨RX3, "anew", "()I"⟩
def dkwX3_anew_1 : List UInt8 := [180, 0, 34, 5, 3, 79, 27, 172]
abbrev dktX3_anew_1 : List UInt8 := dkwX3_anew_1 ++ []
def dkwX3_anew_0 : List UInt8 := [42, 3, 181, 0, 59, 42, 182, 0, 209, 154, 0, 6, 16, 254, 172, 42, 180, 0, 34, 5, 46, 60, 42]
abbrev dktX3_anew_0 : List UInt8 := dkwX3_anew_0 ++ dktX3_anew_1
theorem dksX3_anew_0 : cX3_anew.data.toList.drop 0 = dktX3_anew_0 := by decide +kernel
theorem dksX3_anew_1 : cX3_anew.data.toList.drop 23 = dktX3_anew_1 := dk_seg dksX3_anew_0 23 rfl rfl
theorem dX3_anew_0 : decode cX3_anew 0 = .ok (.aload_n 0, 1) := dk_42 (dk_at dksX3_anew_0 0 rfl rfl)
theorem dX3_anew_1 : decode cX3_anew 1 = .ok (.iconst 0, 1) := dk_3 (dk_at dksX3_anew_0 1 rfl rfl)
theorem dX3_anew_2 : decode cX3_anew 2 = .ok (.putfield 59, 3) := dk_181 0 59 (dk_at dksX3_anew_0 2 rfl rfl)
theorem dX3_anew_5 : decode cX3_anew 5 = .ok (.aload_n 0, 1) := dk_42 (dk_at dksX3_anew_0 5 rfl rfl)
theorem dX3_anew_6 : decode cX3_anew 6 = .ok (.invokevirtual 209, 3) := dk_182 0 209 (dk_at dksX3_anew_0 6 rfl rfl)
theorem dX3_anew_9 : decode cX3_anew 9 = .ok (.ifCond .ne 6, 3) := dk_154 0 6 (dk_at dksX3_anew_0 9 rfl rfl)
theorem dX3_anew_12 : decode cX3_anew 12 = .ok (.bipush (-2), 2) := dk_16 254 (dk_at dksX3_anew_0 12 rfl rfl)
theorem dX3_anew_14 : decode cX3_anew 14 = .ok (.ireturn, 1) := dk_172 (dk_at dksX3_anew_0 14 rfl rfl)
theorem dX3_anew_15 : decode cX3_anew 15 = .ok (.aload_n 0, 1) := dk_42 (dk_at dksX3_anew_0 15 rfl rfl)
theorem dX3_anew_16 : decode cX3_anew 16 = .ok (.getfield 34, 3) := dk_180 0 34 (dk_at dksX3_anew_0 16 rfl rfl)
theorem dX3_anew_19 : decode cX3_anew 19 = .ok (.iconst 2, 1) := dk_5 (dk_at dksX3_anew_0 19 rfl rfl)
theorem dX3_anew_20 : decode cX3_anew 20 = .ok (.iaload, 1) := dk_46 (dk_at dksX3_anew_0 20 rfl rfl)
theorem dX3_anew_21 : decode cX3_anew 21 = .ok (.istore_n 1, 1) := dk_60 (dk_at dksX3_anew_0 21 rfl rfl)
theorem dX3_anew_22 : decode cX3_anew 22 = .ok (.aload_n 0, 1) := dk_42 (dk_at dksX3_anew_0 22 rfl rfl)
theorem dX3_anew_23 : decode cX3_anew 23 = .ok (.getfield 34, 3) := dk_180 0 34 (dk_at dksX3_anew_1 0 rfl rfl)
theorem dX3_anew_26 : decode cX3_anew 26 = .ok (.iconst 2, 1) := dk_5 (dk_at dksX3_anew_1 3 rfl rfl)
theorem dX3_anew_27 : decode cX3_anew 27 = .ok (.iconst 0, 1) := dk_3 (dk_at dksX3_anew_1 4 rfl rfl)
theorem dX3_anew_28 : decode cX3_anew 28 = .ok (.iastore, 1) := dk_79 (dk_at dksX3_anew_1 5 rfl rfl)
theorem dX3_anew_29 : decode cX3_anew 29 = .ok (.iload_n 1, 1) := dk_27 (dk_at dksX3_anew_1 6 rfl rfl)
theorem dX3_anew_30 : decode cX3_anew 30 = .ok (.ireturn, 1) := dk_172 (dk_at dksX3_anew_1 7 rfl rfl)
abbrev cX3_now : ByteArray := prog_14_method_80_code
def yX3_now : MethodName := ⟨RX3, "now", "(I)I"⟩
def dkwX3_now_2 : List UInt8 := [180, 0, 217, 167, 0, 19, 27, 5, 160, 0, 10, 42, 180, 0, 220, 167, 0, 7, 42, 180, 0, 226, 172]
abbrev dktX3_now_2 : List UInt8 := dkwX3_now_2 ++ []
def dkwX3_now_1 : List UInt8 := [16, 254, 172, 42, 182, 0, 251, 27, 154, 0, 10, 42, 180, 0, 223, 167, 0, 31, 27, 4, 160, 0, 10, 42]
abbrev dktX3_now_1 : List UInt8 := dkwX3_now_1 ++ dktX3_now_2
def dkwX3_now_0 : List UInt8 := [42, 3, 181, 0, 59, 42, 182, 0, 209, 153, 0, 15, 27, 133, 9, 20, 0, 62, 184, 0, 64, 154, 0, 6]
abbrev dktX3_now_0 : List UInt8 := dkwX3_now_0 ++ dktX3_now_1
theorem dksX3_now_0 : cX3_now.data.toList.drop 0 = dktX3_now_0 := by decide +kernel
theorem dksX3_now_1 : cX3_now.data.toList.drop 24 = dktX3_now_1 := dk_seg dksX3_now_0 24 rfl rfl
theorem dksX3_now_2 : cX3_now.data.toList.drop 48 = dktX3_now_2 := dk_seg dksX3_now_1 24 rfl rfl
theorem dX3_now_0 : decode cX3_now 0 = .ok (.aload_n 0, 1) := dk_42 (dk_at dksX3_now_0 0 rfl rfl)
theorem dX3_now_1 : decode cX3_now 1 = .ok (.iconst 0, 1) := dk_3 (dk_at dksX3_now_0 1 rfl rfl)
theorem dX3_now_2 : decode cX3_now 2 = .ok (.putfield 59, 3) := dk_181 0 59 (dk_at dksX3_now_0 2 rfl rfl)
theorem dX3_now_5 : decode cX3_now 5 = .ok (.aload_n 0, 1) := dk_42 (dk_at dksX3_now_0 5 rfl rfl)
theorem dX3_now_6 : decode cX3_now 6 = .ok (.invokevirtual 209, 3) := dk_182 0 209 (dk_at dksX3_now_0 6 rfl rfl)
theorem dX3_now_9 : decode cX3_now 9 = .ok (.ifCond .eq 15, 3) := dk_153 0 15 (dk_at dksX3_now_0 9 rfl rfl)
theorem dX3_now_12 : decode cX3_now 12 = .ok (.iload_n 1, 1) := dk_27 (dk_at dksX3_now_0 12 rfl rfl)
theorem dX3_now_13 : decode cX3_now 13 = .ok (.i2l, 1) := dk_133 (dk_at dksX3_now_0 13 rfl rfl)
theorem dX3_now_14 : decode cX3_now 14 = .ok (.lconst 0, 1) := dk_9 (dk_at dksX3_now_0 14 rfl rfl)
theorem dX3_now_15 : decode cX3_now 15 = .ok (.ldc2_w 62, 3) := dk_20 0 62 (dk_at dksX3_now_0 15 rfl rfl)
theorem dX3_now_18 : decode cX3_now 18 = .ok (.invokestatic 64, 3) := dk_184 0 64 (dk_at dksX3_now_0 18 rfl rfl)
theorem dX3_now_21 : decode cX3_now 21 = .ok (.ifCond .ne 6, 3) := dk_154 0 6 (dk_at dksX3_now_0 21 rfl rfl)
theorem dX3_now_24 : decode cX3_now 24 = .ok (.bipush (-2), 2) := dk_16 254 (dk_at dksX3_now_1 0 rfl rfl)
theorem dX3_now_26 : decode cX3_now 26 = .ok (.ireturn, 1) := dk_172 (dk_at dksX3_now_1 2 rfl rfl)
theorem dX3_now_27 : decode cX3_now 27 = .ok (.aload_n 0, 1) := dk_42 (dk_at dksX3_now_1 3 rfl rfl)
theorem dX3_now_28 : decode cX3_now 28 = .ok (.invokevirtual 251, 3) := dk_182 0 251 (dk_at dksX3_now_1 4 rfl rfl)
theorem dX3_now_31 : decode cX3_now 31 = .ok (.iload_n 1, 1) := dk_27 (dk_at dksX3_now_1 7 rfl rfl)
theorem dX3_now_32 : decode cX3_now 32 = .ok (.ifCond .ne 10, 3) := dk_154 0 10 (dk_at dksX3_now_1 8 rfl rfl)
theorem dX3_now_35 : decode cX3_now 35 = .ok (.aload_n 0, 1) := dk_42 (dk_at dksX3_now_1 11 rfl rfl)
theorem dX3_now_36 : decode cX3_now 36 = .ok (.getfield 223, 3) := dk_180 0 223 (dk_at dksX3_now_1 12 rfl rfl)
theorem dX3_now_39 : decode cX3_now 39 = .ok (.goto 31, 3) := dk_167 0 31 (dk_at dksX3_now_1 15 rfl rfl)
theorem dX3_now_42 : decode cX3_now 42 = .ok (.iload_n 1, 1) := dk_27 (dk_at dksX3_now_1 18 rfl rfl)
theorem dX3_now_43 : decode cX3_now 43 = .ok (.iconst 1, 1) := dk_4 (dk_at dksX3_now_1 19 rfl rfl)
theorem dX3_now_44 : decode cX3_now 44 = .ok (.if_icmp .ne 10, 3) := dk_160 0 10 (dk_at dksX3_now_1 20 rfl rfl)
theorem dX3_now_47 : decode cX3_now 47 = .ok (.aload_n 0, 1) := dk_42 (dk_at dksX3_now_1 23 rfl rfl)
theorem dX3_now_48 : decode cX3_now 48 = .ok (.getfield 217, 3) := dk_180 0 217 (dk_at dksX3_now_2 0 rfl rfl)
theorem dX3_now_51 : decode cX3_now 51 = .ok (.goto 19, 3) := dk_167 0 19 (dk_at dksX3_now_2 3 rfl rfl)
theorem dX3_now_54 : decode cX3_now 54 = .ok (.iload_n 1, 1) := dk_27 (dk_at dksX3_now_2 6 rfl rfl)
theorem dX3_now_55 : decode cX3_now 55 = .ok (.iconst 2, 1) := dk_5 (dk_at dksX3_now_2 7 rfl rfl)
theorem dX3_now_56 : decode cX3_now 56 = .ok (.if_icmp .ne 10, 3) := dk_160 0 10 (dk_at dksX3_now_2 8 rfl rfl)
theorem dX3_now_59 : decode cX3_now 59 = .ok (.aload_n 0, 1) := dk_42 (dk_at dksX3_now_2 11 rfl rfl)
theorem dX3_now_60 : decode cX3_now 60 = .ok (.getfield 220, 3) := dk_180 0 220 (dk_at dksX3_now_2 12 rfl rfl)
theorem dX3_now_63 : decode cX3_now 63 = .ok (.goto 7, 3) := dk_167 0 7 (dk_at dksX3_now_2 15 rfl rfl)
theorem dX3_now_66 : decode cX3_now 66 = .ok (.aload_n 0, 1) := dk_42 (dk_at dksX3_now_2 18 rfl rfl)
theorem dX3_now_67 : decode cX3_now 67 = .ok (.getfield 226, 3) := dk_180 0 226 (dk_at dksX3_now_2 19 rfl rfl)
theorem dX3_now_70 : decode cX3_now 70 = .ok (.ireturn, 1) := dk_172 (dk_at dksX3_now_2 22 rfl rfl)
abbrev cX3_own : ByteArray := prog_14_method_82_code
def yX3_own : MethodName := ⟨RX3, "own", "()I"⟩
def dkwX3_own_1 : List UInt8 := [153, 0, 17, 42, 180, 0, 34, 4, 46, 42, 182, 1, 19, 100, 167, 0, 4, 2, 172]
abbrev dktX3_own_1 : List UInt8 := dkwX3_own_1 ++ []
def dkwX3_own_0 : List UInt8 := [42, 3, 181, 0, 59, 42, 182, 0, 209, 154, 0, 6, 16, 254, 172, 42, 182, 0, 251, 42, 182, 1, 44]
abbrev dktX3_own_0 : List UInt8 := dkwX3_own_0 ++ dktX3_own_1
theorem dksX3_own_0 : cX3_own.data.toList.drop 0 = dktX3_own_0 := by decide +kernel
theorem dksX3_own_1 : cX3_own.data.toList.drop 23 = dktX3_own_1 := dk_seg dksX3_own_0 23 rfl rfl
theorem dX3_own_0 : decode cX3_own 0 = .ok (.aload_n 0, 1) := dk_42 (dk_at dksX3_own_0 0 rfl rfl)
theorem dX3_own_1 : decode cX3_own 1 = .ok (.iconst 0, 1) := dk_3 (dk_at dksX3_own_0 1 rfl rfl)
theorem dX3_own_2 : decode cX3_own 2 = .ok (.putfield 59, 3) := dk_181 0 59 (dk_at dksX3_own_0 2 rfl rfl)
theorem dX3_own_5 : decode cX3_own 5 = .ok (.aload_n 0, 1) := dk_42 (dk_at dksX3_own_0 5 rfl rfl)
theorem dX3_own_6 : decode cX3_own 6 = .ok (.invokevirtual 209, 3) := dk_182 0 209 (dk_at dksX3_own_0 6 rfl rfl)
theorem dX3_own_9 : decode cX3_own 9 = .ok (.ifCond .ne 6, 3) := dk_154 0 6 (dk_at dksX3_own_0 9 rfl rfl)
theorem dX3_own_12 : decode cX3_own 12 = .ok (.bipush (-2), 2) := dk_16 254 (dk_at dksX3_own_0 12 rfl rfl)
theorem dX3_own_14 : decode cX3_own 14 = .ok (.ireturn, 1) := dk_172 (dk_at dksX3_own_0 14 rfl rfl)
theorem dX3_own_15 : decode cX3_own 15 = .ok (.aload_n 0, 1) := dk_42 (dk_at dksX3_own_0 15 rfl rfl)
theorem dX3_own_16 : decode cX3_own 16 = .ok (.invokevirtual 251, 3) := dk_182 0 251 (dk_at dksX3_own_0 16 rfl rfl)
theorem dX3_own_19 : decode cX3_own 19 = .ok (.aload_n 0, 1) := dk_42 (dk_at dksX3_own_0 19 rfl rfl)
theorem dX3_own_20 : decode cX3_own 20 = .ok (.invokevirtual 300, 3) := dk_182 1 44 (dk_at dksX3_own_0 20 rfl rfl)
theorem dX3_own_23 : decode cX3_own 23 = .ok (.ifCond .eq 17, 3) := dk_153 0 17 (dk_at dksX3_own_1 0 rfl rfl)
theorem dX3_own_26 : decode cX3_own 26 = .ok (.aload_n 0, 1) := dk_42 (dk_at dksX3_own_1 3 rfl rfl)
theorem dX3_own_27 : decode cX3_own 27 = .ok (.getfield 34, 3) := dk_180 0 34 (dk_at dksX3_own_1 4 rfl rfl)
theorem dX3_own_30 : decode cX3_own 30 = .ok (.iconst 1, 1) := dk_4 (dk_at dksX3_own_1 7 rfl rfl)
theorem dX3_own_31 : decode cX3_own 31 = .ok (.iaload, 1) := dk_46 (dk_at dksX3_own_1 8 rfl rfl)
theorem dX3_own_32 : decode cX3_own 32 = .ok (.aload_n 0, 1) := dk_42 (dk_at dksX3_own_1 9 rfl rfl)
theorem dX3_own_33 : decode cX3_own 33 = .ok (.invokevirtual 275, 3) := dk_182 1 19 (dk_at dksX3_own_1 10 rfl rfl)
theorem dX3_own_36 : decode cX3_own 36 = .ok (.isub, 1) := dk_100 (dk_at dksX3_own_1 13 rfl rfl)
theorem dX3_own_37 : decode cX3_own 37 = .ok (.goto 4, 3) := dk_167 0 4 (dk_at dksX3_own_1 14 rfl rfl)
theorem dX3_own_40 : decode cX3_own 40 = .ok (.iconst (-1), 1) := dk_2 (dk_at dksX3_own_1 17 rfl rfl)
theorem dX3_own_41 : decode cX3_own 41 = .ok (.ireturn, 1) := dk_172 (dk_at dksX3_own_1 18 rfl rfl)
abbrev cX3_areEven : ByteArray := prog_14_method_81_code
def yX3_areEven : MethodName := ⟨RX3, "areEven", "()Z"⟩
def dkwX3_areEven_1 : List UInt8 := [3, 172, 132, 1, 1, 167, 255, 229, 4, 172]
abbrev dktX3_areEven_1 : List UInt8 := dkwX3_areEven_1 ++ []
def dkwX3_areEven_0 : List UInt8 := [3, 60, 27, 42, 180, 0, 34, 4, 46, 162, 0, 23, 42, 27, 182, 0, 254, 184, 1, 41, 4, 159, 0, 5]
abbrev dktX3_areEven_0 : List UInt8 := dkwX3_areEven_0 ++ dktX3_areEven_1
theorem dksX3_areEven_0 : cX3_areEven.data.toList.drop 0 = dktX3_areEven_0 := by decide +kernel
theorem dksX3_areEven_1 : cX3_areEven.data.toList.drop 24 = dktX3_areEven_1 := dk_seg dksX3_areEven_0 24 rfl rfl
theorem dX3_areEven_0 : decode cX3_areEven 0 = .ok (.iconst 0, 1) := dk_3 (dk_at dksX3_areEven_0 0 rfl rfl)
theorem dX3_areEven_1 : decode cX3_areEven 1 = .ok (.istore_n 1, 1) := dk_60 (dk_at dksX3_areEven_0 1 rfl rfl)
theorem dX3_areEven_2 : decode cX3_areEven 2 = .ok (.iload_n 1, 1) := dk_27 (dk_at dksX3_areEven_0 2 rfl rfl)
theorem dX3_areEven_3 : decode cX3_areEven 3 = .ok (.aload_n 0, 1) := dk_42 (dk_at dksX3_areEven_0 3 rfl rfl)
theorem dX3_areEven_4 : decode cX3_areEven 4 = .ok (.getfield 34, 3) := dk_180 0 34 (dk_at dksX3_areEven_0 4 rfl rfl)
theorem dX3_areEven_7 : decode cX3_areEven 7 = .ok (.iconst 1, 1) := dk_4 (dk_at dksX3_areEven_0 7 rfl rfl)
theorem dX3_areEven_8 : decode cX3_areEven 8 = .ok (.iaload, 1) := dk_46 (dk_at dksX3_areEven_0 8 rfl rfl)
theorem dX3_areEven_9 : decode cX3_areEven 9 = .ok (.if_icmp .ge 23, 3) := dk_162 0 23 (dk_at dksX3_areEven_0 9 rfl rfl)
theorem dX3_areEven_12 : decode cX3_areEven 12 = .ok (.aload_n 0, 1) := dk_42 (dk_at dksX3_areEven_0 12 rfl rfl)
theorem dX3_areEven_13 : decode cX3_areEven 13 = .ok (.iload_n 1, 1) := dk_27 (dk_at dksX3_areEven_0 13 rfl rfl)
theorem dX3_areEven_14 : decode cX3_areEven 14 = .ok (.invokevirtual 254, 3) := dk_182 0 254 (dk_at dksX3_areEven_0 14 rfl rfl)
theorem dX3_areEven_17 : decode cX3_areEven 17 = .ok (.invokestatic 297, 3) := dk_184 1 41 (dk_at dksX3_areEven_0 17 rfl rfl)
theorem dX3_areEven_20 : decode cX3_areEven 20 = .ok (.iconst 1, 1) := dk_4 (dk_at dksX3_areEven_0 20 rfl rfl)
theorem dX3_areEven_21 : decode cX3_areEven 21 = .ok (.if_icmp .eq 5, 3) := dk_159 0 5 (dk_at dksX3_areEven_0 21 rfl rfl)
theorem dX3_areEven_24 : decode cX3_areEven 24 = .ok (.iconst 0, 1) := dk_3 (dk_at dksX3_areEven_1 0 rfl rfl)
theorem dX3_areEven_25 : decode cX3_areEven 25 = .ok (.ireturn, 1) := dk_172 (dk_at dksX3_areEven_1 1 rfl rfl)
theorem dX3_areEven_26 : decode cX3_areEven 26 = .ok (.iinc 1 1, 3) := dk_132 1 1 (dk_at dksX3_areEven_1 2 rfl rfl)
theorem dX3_areEven_29 : decode cX3_areEven 29 = .ok (.goto (-27), 3) := dk_167 255 229 (dk_at dksX3_areEven_1 5 rfl rfl)
theorem dX3_areEven_32 : decode cX3_areEven 32 = .ok (.iconst 1, 1) := dk_4 (dk_at dksX3_areEven_1 8 rfl rfl)
theorem dX3_areEven_33 : decode cX3_areEven 33 = .ok (.ireturn, 1) := dk_172 (dk_at dksX3_areEven_1 9 rfl rfl)
abbrev cX3_sizeOf : ByteArray := prog_14_method_41_code
def yX3_sizeOf : MethodName := ⟨RX3, "sizeOf", "(I)I"⟩
def dkwX3_sizeOf_0 : List UInt8 := [3, 60, 26, 61, 28, 153, 0, 15, 132, 1, 1, 28, 28, 4, 100, 126, 61, 167, 255, 243, 27, 172]
abbrev dktX3_sizeOf_0 : List UInt8 := dkwX3_sizeOf_0 ++ []
theorem dksX3_sizeOf_0 : cX3_sizeOf.data.toList.drop 0 = dktX3_sizeOf_0 := by decide +kernel
theorem dX3_sizeOf_0 : decode cX3_sizeOf 0 = .ok (.iconst 0, 1) := dk_3 (dk_at dksX3_sizeOf_0 0 rfl rfl)
theorem dX3_sizeOf_1 : decode cX3_sizeOf 1 = .ok (.istore_n 1, 1) := dk_60 (dk_at dksX3_sizeOf_0 1 rfl rfl)
theorem dX3_sizeOf_2 : decode cX3_sizeOf 2 = .ok (.iload_n 0, 1) := dk_26 (dk_at dksX3_sizeOf_0 2 rfl rfl)
theorem dX3_sizeOf_3 : decode cX3_sizeOf 3 = .ok (.istore_n 2, 1) := dk_61 (dk_at dksX3_sizeOf_0 3 rfl rfl)
theorem dX3_sizeOf_4 : decode cX3_sizeOf 4 = .ok (.iload_n 2, 1) := dk_28 (dk_at dksX3_sizeOf_0 4 rfl rfl)
theorem dX3_sizeOf_5 : decode cX3_sizeOf 5 = .ok (.ifCond .eq 15, 3) := dk_153 0 15 (dk_at dksX3_sizeOf_0 5 rfl rfl)
theorem dX3_sizeOf_8 : decode cX3_sizeOf 8 = .ok (.iinc 1 1, 3) := dk_132 1 1 (dk_at dksX3_sizeOf_0 8 rfl rfl)
theorem dX3_sizeOf_11 : decode cX3_sizeOf 11 = .ok (.iload_n 2, 1) := dk_28 (dk_at dksX3_sizeOf_0 11 rfl rfl)
theorem dX3_sizeOf_12 : decode cX3_sizeOf 12 = .ok (.iload_n 2, 1) := dk_28 (dk_at dksX3_sizeOf_0 12 rfl rfl)
theorem dX3_sizeOf_13 : decode cX3_sizeOf 13 = .ok (.iconst 1, 1) := dk_4 (dk_at dksX3_sizeOf_0 13 rfl rfl)
theorem dX3_sizeOf_14 : decode cX3_sizeOf 14 = .ok (.isub, 1) := dk_100 (dk_at dksX3_sizeOf_0 14 rfl rfl)
theorem dX3_sizeOf_15 : decode cX3_sizeOf 15 = .ok (.iand, 1) := dk_126 (dk_at dksX3_sizeOf_0 15 rfl rfl)
theorem dX3_sizeOf_16 : decode cX3_sizeOf 16 = .ok (.istore_n 2, 1) := dk_61 (dk_at dksX3_sizeOf_0 16 rfl rfl)
theorem dX3_sizeOf_17 : decode cX3_sizeOf 17 = .ok (.goto (-13), 3) := dk_167 255 243 (dk_at dksX3_sizeOf_0 17 rfl rfl)
theorem dX3_sizeOf_20 : decode cX3_sizeOf 20 = .ok (.iload_n 1, 1) := dk_27 (dk_at dksX3_sizeOf_0 20 rfl rfl)
theorem dX3_sizeOf_21 : decode cX3_sizeOf 21 = .ok (.ireturn, 1) := dk_172 (dk_at dksX3_sizeOf_0 21 rfl rfl)
abbrev cX3_first : ByteArray := prog_14_method_83_code
def yX3_first : MethodName := ⟨RX3, "first", "(I)I"⟩
def dkwX3_first_4 : List UInt8 := [167, 255, 203, 2, 172]
abbrev dktX3_first_4 : List UInt8 := dkwX3_first_4 ++ []
def dkwX3_first_3 : List UInt8 := [159, 0, 13, 27, 154, 0, 7, 28, 167, 0, 4, 29, 172, 132, 3, 1, 167, 255, 223, 132, 2, 1]
abbrev dktX3_first_3 : List UInt8 := dkwX3_first_3 ++ dktX3_first_4
def dkwX3_first_2 : List UInt8 := [162, 0, 49, 28, 4, 96, 62, 29, 42, 180, 0, 34, 4, 46, 162, 0, 29, 42, 28, 29, 182, 1, 13, 2]
abbrev dktX3_first_2 : List UInt8 := dkwX3_first_2 ++ dktX3_first_3
def dkwX3_first_1 : List UInt8 := [172, 42, 182, 0, 251, 42, 182, 1, 44, 154, 0, 5, 2, 172, 3, 61, 28, 42, 180, 0, 34, 4, 46]
abbrev dktX3_first_1 : List UInt8 := dkwX3_first_1 ++ dktX3_first_2
def dkwX3_first_0 : List UInt8 := [42, 3, 181, 0, 59, 42, 182, 0, 209, 153, 0, 13, 27, 133, 9, 10, 184, 0, 64, 154, 0, 6, 16, 254]
abbrev dktX3_first_0 : List UInt8 := dkwX3_first_0 ++ dktX3_first_1
theorem dksX3_first_0 : cX3_first.data.toList.drop 0 = dktX3_first_0 := by decide +kernel
theorem dksX3_first_1 : cX3_first.data.toList.drop 24 = dktX3_first_1 := dk_seg dksX3_first_0 24 rfl rfl
theorem dksX3_first_2 : cX3_first.data.toList.drop 47 = dktX3_first_2 := dk_seg dksX3_first_1 23 rfl rfl
theorem dksX3_first_3 : cX3_first.data.toList.drop 71 = dktX3_first_3 := dk_seg dksX3_first_2 24 rfl rfl
theorem dksX3_first_4 : cX3_first.data.toList.drop 93 = dktX3_first_4 := dk_seg dksX3_first_3 22 rfl rfl
theorem dX3_first_0 : decode cX3_first 0 = .ok (.aload_n 0, 1) := dk_42 (dk_at dksX3_first_0 0 rfl rfl)
theorem dX3_first_1 : decode cX3_first 1 = .ok (.iconst 0, 1) := dk_3 (dk_at dksX3_first_0 1 rfl rfl)
theorem dX3_first_2 : decode cX3_first 2 = .ok (.putfield 59, 3) := dk_181 0 59 (dk_at dksX3_first_0 2 rfl rfl)
theorem dX3_first_5 : decode cX3_first 5 = .ok (.aload_n 0, 1) := dk_42 (dk_at dksX3_first_0 5 rfl rfl)
theorem dX3_first_6 : decode cX3_first 6 = .ok (.invokevirtual 209, 3) := dk_182 0 209 (dk_at dksX3_first_0 6 rfl rfl)
theorem dX3_first_9 : decode cX3_first 9 = .ok (.ifCond .eq 13, 3) := dk_153 0 13 (dk_at dksX3_first_0 9 rfl rfl)
theorem dX3_first_12 : decode cX3_first 12 = .ok (.iload_n 1, 1) := dk_27 (dk_at dksX3_first_0 12 rfl rfl)
theorem dX3_first_13 : decode cX3_first 13 = .ok (.i2l, 1) := dk_133 (dk_at dksX3_first_0 13 rfl rfl)
theorem dX3_first_14 : decode cX3_first 14 = .ok (.lconst 0, 1) := dk_9 (dk_at dksX3_first_0 14 rfl rfl)
theorem dX3_first_15 : decode cX3_first 15 = .ok (.lconst 1, 1) := dk_10 (dk_at dksX3_first_0 15 rfl rfl)
theorem dX3_first_16 : decode cX3_first 16 = .ok (.invokestatic 64, 3) := dk_184 0 64 (dk_at dksX3_first_0 16 rfl rfl)
theorem dX3_first_19 : decode cX3_first 19 = .ok (.ifCond .ne 6, 3) := dk_154 0 6 (dk_at dksX3_first_0 19 rfl rfl)
theorem dX3_first_22 : decode cX3_first 22 = .ok (.bipush (-2), 2) := dk_16 254 (dk_at dksX3_first_0 22 rfl rfl)
theorem dX3_first_24 : decode cX3_first 24 = .ok (.ireturn, 1) := dk_172 (dk_at dksX3_first_1 0 rfl rfl)
theorem dX3_first_25 : decode cX3_first 25 = .ok (.aload_n 0, 1) := dk_42 (dk_at dksX3_first_1 1 rfl rfl)
theorem dX3_first_26 : decode cX3_first 26 = .ok (.invokevirtual 251, 3) := dk_182 0 251 (dk_at dksX3_first_1 2 rfl rfl)
theorem dX3_first_29 : decode cX3_first 29 = .ok (.aload_n 0, 1) := dk_42 (dk_at dksX3_first_1 5 rfl rfl)
theorem dX3_first_30 : decode cX3_first 30 = .ok (.invokevirtual 300, 3) := dk_182 1 44 (dk_at dksX3_first_1 6 rfl rfl)
theorem dX3_first_33 : decode cX3_first 33 = .ok (.ifCond .ne 5, 3) := dk_154 0 5 (dk_at dksX3_first_1 9 rfl rfl)
theorem dX3_first_36 : decode cX3_first 36 = .ok (.iconst (-1), 1) := dk_2 (dk_at dksX3_first_1 12 rfl rfl)
theorem dX3_first_37 : decode cX3_first 37 = .ok (.ireturn, 1) := dk_172 (dk_at dksX3_first_1 13 rfl rfl)
theorem dX3_first_38 : decode cX3_first 38 = .ok (.iconst 0, 1) := dk_3 (dk_at dksX3_first_1 14 rfl rfl)
theorem dX3_first_39 : decode cX3_first 39 = .ok (.istore_n 2, 1) := dk_61 (dk_at dksX3_first_1 15 rfl rfl)
theorem dX3_first_40 : decode cX3_first 40 = .ok (.iload_n 2, 1) := dk_28 (dk_at dksX3_first_1 16 rfl rfl)
theorem dX3_first_41 : decode cX3_first 41 = .ok (.aload_n 0, 1) := dk_42 (dk_at dksX3_first_1 17 rfl rfl)
theorem dX3_first_42 : decode cX3_first 42 = .ok (.getfield 34, 3) := dk_180 0 34 (dk_at dksX3_first_1 18 rfl rfl)
theorem dX3_first_45 : decode cX3_first 45 = .ok (.iconst 1, 1) := dk_4 (dk_at dksX3_first_1 21 rfl rfl)
theorem dX3_first_46 : decode cX3_first 46 = .ok (.iaload, 1) := dk_46 (dk_at dksX3_first_1 22 rfl rfl)
theorem dX3_first_47 : decode cX3_first 47 = .ok (.if_icmp .ge 49, 3) := dk_162 0 49 (dk_at dksX3_first_2 0 rfl rfl)
theorem dX3_first_50 : decode cX3_first 50 = .ok (.iload_n 2, 1) := dk_28 (dk_at dksX3_first_2 3 rfl rfl)
theorem dX3_first_51 : decode cX3_first 51 = .ok (.iconst 1, 1) := dk_4 (dk_at dksX3_first_2 4 rfl rfl)
theorem dX3_first_52 : decode cX3_first 52 = .ok (.iadd, 1) := dk_96 (dk_at dksX3_first_2 5 rfl rfl)
theorem dX3_first_53 : decode cX3_first 53 = .ok (.istore_n 3, 1) := dk_62 (dk_at dksX3_first_2 6 rfl rfl)
theorem dX3_first_54 : decode cX3_first 54 = .ok (.iload_n 3, 1) := dk_29 (dk_at dksX3_first_2 7 rfl rfl)
theorem dX3_first_55 : decode cX3_first 55 = .ok (.aload_n 0, 1) := dk_42 (dk_at dksX3_first_2 8 rfl rfl)
theorem dX3_first_56 : decode cX3_first 56 = .ok (.getfield 34, 3) := dk_180 0 34 (dk_at dksX3_first_2 9 rfl rfl)
theorem dX3_first_59 : decode cX3_first 59 = .ok (.iconst 1, 1) := dk_4 (dk_at dksX3_first_2 12 rfl rfl)
theorem dX3_first_60 : decode cX3_first 60 = .ok (.iaload, 1) := dk_46 (dk_at dksX3_first_2 13 rfl rfl)
theorem dX3_first_61 : decode cX3_first 61 = .ok (.if_icmp .ge 29, 3) := dk_162 0 29 (dk_at dksX3_first_2 14 rfl rfl)
theorem dX3_first_64 : decode cX3_first 64 = .ok (.aload_n 0, 1) := dk_42 (dk_at dksX3_first_2 17 rfl rfl)
theorem dX3_first_65 : decode cX3_first 65 = .ok (.iload_n 2, 1) := dk_28 (dk_at dksX3_first_2 18 rfl rfl)
theorem dX3_first_66 : decode cX3_first 66 = .ok (.iload_n 3, 1) := dk_29 (dk_at dksX3_first_2 19 rfl rfl)
theorem dX3_first_67 : decode cX3_first 67 = .ok (.invokevirtual 269, 3) := dk_182 1 13 (dk_at dksX3_first_2 20 rfl rfl)
theorem dX3_first_70 : decode cX3_first 70 = .ok (.iconst (-1), 1) := dk_2 (dk_at dksX3_first_2 23 rfl rfl)
theorem dX3_first_71 : decode cX3_first 71 = .ok (.if_icmp .eq 13, 3) := dk_159 0 13 (dk_at dksX3_first_3 0 rfl rfl)
theorem dX3_first_74 : decode cX3_first 74 = .ok (.iload_n 1, 1) := dk_27 (dk_at dksX3_first_3 3 rfl rfl)
theorem dX3_first_75 : decode cX3_first 75 = .ok (.ifCond .ne 7, 3) := dk_154 0 7 (dk_at dksX3_first_3 4 rfl rfl)
theorem dX3_first_78 : decode cX3_first 78 = .ok (.iload_n 2, 1) := dk_28 (dk_at dksX3_first_3 7 rfl rfl)
theorem dX3_first_79 : decode cX3_first 79 = .ok (.goto 4, 3) := dk_167 0 4 (dk_at dksX3_first_3 8 rfl rfl)
theorem dX3_first_82 : decode cX3_first 82 = .ok (.iload_n 3, 1) := dk_29 (dk_at dksX3_first_3 11 rfl rfl)
theorem dX3_first_83 : decode cX3_first 83 = .ok (.ireturn, 1) := dk_172 (dk_at dksX3_first_3 12 rfl rfl)
theorem dX3_first_84 : decode cX3_first 84 = .ok (.iinc 3 1, 3) := dk_132 3 1 (dk_at dksX3_first_3 13 rfl rfl)
theorem dX3_first_87 : decode cX3_first 87 = .ok (.goto (-33), 3) := dk_167 255 223 (dk_at dksX3_first_3 16 rfl rfl)
theorem dX3_first_90 : decode cX3_first 90 = .ok (.iinc 2 1, 3) := dk_132 2 1 (dk_at dksX3_first_3 19 rfl rfl)
theorem dX3_first_93 : decode cX3_first 93 = .ok (.goto (-53), 3) := dk_167 255 203 (dk_at dksX3_first_4 0 rfl rfl)
theorem dX3_first_96 : decode cX3_first 96 = .ok (.iconst (-1), 1) := dk_2 (dk_at dksX3_first_4 3 rfl rfl)
theorem dX3_first_97 : decode cX3_first 97 = .ok (.ireturn, 1) := dk_172 (dk_at dksX3_first_4 4 rfl rfl)
abbrev cX3_work : ByteArray := prog_14_method_86_code
def yX3_work : MethodName := ⟨RX3, "work", "()I"⟩
def dkwX3_work_2 : List UInt8 := [182, 0, 214, 46, 96, 60, 132, 2, 1, 167, 255, 224, 27, 172]
abbrev dktX3_work_2 : List UInt8 := dkwX3_work_2 ++ []
def dkwX3_work_1 : List UInt8 := [42, 180, 0, 34, 4, 46, 162, 0, 28, 42, 28, 182, 1, 50, 27, 42, 180, 0, 56, 42, 28, 5]
abbrev dktX3_work_1 : List UInt8 := dkwX3_work_1 ++ dktX3_work_2
def dkwX3_work_0 : List UInt8 := [42, 3, 181, 0, 59, 42, 182, 0, 209, 154, 0, 6, 16, 254, 172, 42, 182, 0, 251, 3, 60, 3, 61, 28]
abbrev dktX3_work_0 : List UInt8 := dkwX3_work_0 ++ dktX3_work_1
theorem dksX3_work_0 : cX3_work.data.toList.drop 0 = dktX3_work_0 := by decide +kernel
theorem dksX3_work_1 : cX3_work.data.toList.drop 24 = dktX3_work_1 := dk_seg dksX3_work_0 24 rfl rfl
theorem dksX3_work_2 : cX3_work.data.toList.drop 46 = dktX3_work_2 := dk_seg dksX3_work_1 22 rfl rfl
theorem dX3_work_0 : decode cX3_work 0 = .ok (.aload_n 0, 1) := dk_42 (dk_at dksX3_work_0 0 rfl rfl)
theorem dX3_work_1 : decode cX3_work 1 = .ok (.iconst 0, 1) := dk_3 (dk_at dksX3_work_0 1 rfl rfl)
theorem dX3_work_2 : decode cX3_work 2 = .ok (.putfield 59, 3) := dk_181 0 59 (dk_at dksX3_work_0 2 rfl rfl)
theorem dX3_work_5 : decode cX3_work 5 = .ok (.aload_n 0, 1) := dk_42 (dk_at dksX3_work_0 5 rfl rfl)
theorem dX3_work_6 : decode cX3_work 6 = .ok (.invokevirtual 209, 3) := dk_182 0 209 (dk_at dksX3_work_0 6 rfl rfl)
theorem dX3_work_9 : decode cX3_work 9 = .ok (.ifCond .ne 6, 3) := dk_154 0 6 (dk_at dksX3_work_0 9 rfl rfl)
theorem dX3_work_12 : decode cX3_work 12 = .ok (.bipush (-2), 2) := dk_16 254 (dk_at dksX3_work_0 12 rfl rfl)
theorem dX3_work_14 : decode cX3_work 14 = .ok (.ireturn, 1) := dk_172 (dk_at dksX3_work_0 14 rfl rfl)
theorem dX3_work_15 : decode cX3_work 15 = .ok (.aload_n 0, 1) := dk_42 (dk_at dksX3_work_0 15 rfl rfl)
theorem dX3_work_16 : decode cX3_work 16 = .ok (.invokevirtual 251, 3) := dk_182 0 251 (dk_at dksX3_work_0 16 rfl rfl)
theorem dX3_work_19 : decode cX3_work 19 = .ok (.iconst 0, 1) := dk_3 (dk_at dksX3_work_0 19 rfl rfl)
theorem dX3_work_20 : decode cX3_work 20 = .ok (.istore_n 1, 1) := dk_60 (dk_at dksX3_work_0 20 rfl rfl)
theorem dX3_work_21 : decode cX3_work 21 = .ok (.iconst 0, 1) := dk_3 (dk_at dksX3_work_0 21 rfl rfl)
theorem dX3_work_22 : decode cX3_work 22 = .ok (.istore_n 2, 1) := dk_61 (dk_at dksX3_work_0 22 rfl rfl)
theorem dX3_work_23 : decode cX3_work 23 = .ok (.iload_n 2, 1) := dk_28 (dk_at dksX3_work_0 23 rfl rfl)
theorem dX3_work_24 : decode cX3_work 24 = .ok (.aload_n 0, 1) := dk_42 (dk_at dksX3_work_1 0 rfl rfl)
theorem dX3_work_25 : decode cX3_work 25 = .ok (.getfield 34, 3) := dk_180 0 34 (dk_at dksX3_work_1 1 rfl rfl)
theorem dX3_work_28 : decode cX3_work 28 = .ok (.iconst 1, 1) := dk_4 (dk_at dksX3_work_1 4 rfl rfl)
theorem dX3_work_29 : decode cX3_work 29 = .ok (.iaload, 1) := dk_46 (dk_at dksX3_work_1 5 rfl rfl)
theorem dX3_work_30 : decode cX3_work 30 = .ok (.if_icmp .ge 28, 3) := dk_162 0 28 (dk_at dksX3_work_1 6 rfl rfl)
theorem dX3_work_33 : decode cX3_work 33 = .ok (.aload_n 0, 1) := dk_42 (dk_at dksX3_work_1 9 rfl rfl)
theorem dX3_work_34 : decode cX3_work 34 = .ok (.iload_n 2, 1) := dk_28 (dk_at dksX3_work_1 10 rfl rfl)
theorem dX3_work_35 : decode cX3_work 35 = .ok (.invokevirtual 306, 3) := dk_182 1 50 (dk_at dksX3_work_1 11 rfl rfl)
theorem dX3_work_38 : decode cX3_work 38 = .ok (.iload_n 1, 1) := dk_27 (dk_at dksX3_work_1 14 rfl rfl)
theorem dX3_work_39 : decode cX3_work 39 = .ok (.aload_n 0, 1) := dk_42 (dk_at dksX3_work_1 15 rfl rfl)
theorem dX3_work_40 : decode cX3_work 40 = .ok (.getfield 56, 3) := dk_180 0 56 (dk_at dksX3_work_1 16 rfl rfl)
theorem dX3_work_43 : decode cX3_work 43 = .ok (.aload_n 0, 1) := dk_42 (dk_at dksX3_work_1 19 rfl rfl)
theorem dX3_work_44 : decode cX3_work 44 = .ok (.iload_n 2, 1) := dk_28 (dk_at dksX3_work_1 20 rfl rfl)
theorem dX3_work_45 : decode cX3_work 45 = .ok (.iconst 2, 1) := dk_5 (dk_at dksX3_work_1 21 rfl rfl)
theorem dX3_work_46 : decode cX3_work 46 = .ok (.invokevirtual 214, 3) := dk_182 0 214 (dk_at dksX3_work_2 0 rfl rfl)
theorem dX3_work_49 : decode cX3_work 49 = .ok (.iaload, 1) := dk_46 (dk_at dksX3_work_2 3 rfl rfl)
theorem dX3_work_50 : decode cX3_work 50 = .ok (.iadd, 1) := dk_96 (dk_at dksX3_work_2 4 rfl rfl)
theorem dX3_work_51 : decode cX3_work 51 = .ok (.istore_n 1, 1) := dk_60 (dk_at dksX3_work_2 5 rfl rfl)
theorem dX3_work_52 : decode cX3_work 52 = .ok (.iinc 2 1, 3) := dk_132 2 1 (dk_at dksX3_work_2 6 rfl rfl)
theorem dX3_work_55 : decode cX3_work 55 = .ok (.goto (-32), 3) := dk_167 255 224 (dk_at dksX3_work_2 9 rfl rfl)
theorem dX3_work_58 : decode cX3_work 58 = .ok (.iload_n 1, 1) := dk_27 (dk_at dksX3_work_2 12 rfl rfl)
theorem dX3_work_59 : decode cX3_work 59 = .ok (.ireturn, 1) := dk_172 (dk_at dksX3_work_2 13 rfl rfl)
abbrev cX3_laysWork : ByteArray := prog_14_method_85_code
def yX3_laysWork : MethodName := ⟨RX3, "laysWork", "(I)V"⟩
def dkwX3_laysWork_7 : List UInt8 := [167, 255, 140, 132, 2, 255, 167, 255, 128, 177]
abbrev dktX3_laysWork_7 : List UInt8 := dkwX3_laysWork_7 ++ []
def dkwX3_laysWork_6 : List UInt8 := [132, 6, 1, 167, 255, 192, 42, 180, 0, 56, 16, 64, 28, 104, 29, 96, 21, 4, 79, 132, 3, 1]
abbrev dktX3_laysWork_6 : List UInt8 := dkwX3_laysWork_6 ++ dktX3_laysWork_7
def dkwX3_laysWork_5 : List UInt8 := [96, 167, 0, 4, 3, 54, 7, 21, 7, 21, 4, 164, 0, 8, 21, 7, 167, 0, 5, 21, 4, 54, 4]
abbrev dktX3_laysWork_5 : List UInt8 := dkwX3_laysWork_5 ++ dktX3_laysWork_6
def dkwX3_laysWork_4 : List UInt8 := [153, 0, 28, 4, 42, 180, 0, 56, 16, 64, 28, 4, 96, 104, 29, 4, 21, 6, 120, 2, 130, 126, 96, 46]
abbrev dktX3_laysWork_4 : List UInt8 := dkwX3_laysWork_4 ++ dktX3_laysWork_5
def dkwX3_laysWork_3 : List UInt8 := [182, 1, 47, 54, 5, 3, 54, 6, 21, 6, 16, 6, 162, 0, 63, 21, 5, 21, 6, 184, 0, 239]
abbrev dktX3_laysWork_3 : List UInt8 := dkwX3_laysWork_3 ++ dktX3_laysWork_4
def dkwX3_laysWork_2 : List UInt8 := [16, 64, 162, 0, 116, 42, 180, 0, 56, 16, 64, 28, 4, 96, 104, 29, 96, 46, 54, 4, 42, 28, 27, 29]
abbrev dktX3_laysWork_2 : List UInt8 := dkwX3_laysWork_2 ++ dktX3_laysWork_3
def dkwX3_laysWork_1 : List UInt8 := [79, 132, 2, 1, 167, 255, 230, 42, 180, 0, 34, 4, 46, 4, 100, 61, 28, 155, 0, 130, 3, 62, 29]
abbrev dktX3_laysWork_1 : List UInt8 := dkwX3_laysWork_1 ++ dktX3_laysWork_2
def dkwX3_laysWork_0 : List UInt8 := [3, 61, 28, 16, 64, 162, 0, 26, 42, 180, 0, 56, 16, 64, 42, 180, 0, 34, 4, 46, 104, 28, 96, 3]
abbrev dktX3_laysWork_0 : List UInt8 := dkwX3_laysWork_0 ++ dktX3_laysWork_1
theorem dksX3_laysWork_0 : cX3_laysWork.data.toList.drop 0 = dktX3_laysWork_0 := by decide +kernel
theorem dksX3_laysWork_1 : cX3_laysWork.data.toList.drop 24 = dktX3_laysWork_1 := dk_seg dksX3_laysWork_0 24 rfl rfl
theorem dksX3_laysWork_2 : cX3_laysWork.data.toList.drop 47 = dktX3_laysWork_2 := dk_seg dksX3_laysWork_1 23 rfl rfl
theorem dksX3_laysWork_3 : cX3_laysWork.data.toList.drop 71 = dktX3_laysWork_3 := dk_seg dksX3_laysWork_2 24 rfl rfl
theorem dksX3_laysWork_4 : cX3_laysWork.data.toList.drop 93 = dktX3_laysWork_4 := dk_seg dksX3_laysWork_3 22 rfl rfl
theorem dksX3_laysWork_5 : cX3_laysWork.data.toList.drop 117 = dktX3_laysWork_5 := dk_seg dksX3_laysWork_4 24 rfl rfl
theorem dksX3_laysWork_6 : cX3_laysWork.data.toList.drop 140 = dktX3_laysWork_6 := dk_seg dksX3_laysWork_5 23 rfl rfl
theorem dksX3_laysWork_7 : cX3_laysWork.data.toList.drop 162 = dktX3_laysWork_7 := dk_seg dksX3_laysWork_6 22 rfl rfl
theorem dX3_laysWork_0 : decode cX3_laysWork 0 = .ok (.iconst 0, 1) := dk_3 (dk_at dksX3_laysWork_0 0 rfl rfl)
theorem dX3_laysWork_1 : decode cX3_laysWork 1 = .ok (.istore_n 2, 1) := dk_61 (dk_at dksX3_laysWork_0 1 rfl rfl)
theorem dX3_laysWork_2 : decode cX3_laysWork 2 = .ok (.iload_n 2, 1) := dk_28 (dk_at dksX3_laysWork_0 2 rfl rfl)
theorem dX3_laysWork_3 : decode cX3_laysWork 3 = .ok (.bipush 64, 2) := dk_16 64 (dk_at dksX3_laysWork_0 3 rfl rfl)
theorem dX3_laysWork_5 : decode cX3_laysWork 5 = .ok (.if_icmp .ge 26, 3) := dk_162 0 26 (dk_at dksX3_laysWork_0 5 rfl rfl)
theorem dX3_laysWork_8 : decode cX3_laysWork 8 = .ok (.aload_n 0, 1) := dk_42 (dk_at dksX3_laysWork_0 8 rfl rfl)
theorem dX3_laysWork_9 : decode cX3_laysWork 9 = .ok (.getfield 56, 3) := dk_180 0 56 (dk_at dksX3_laysWork_0 9 rfl rfl)
theorem dX3_laysWork_12 : decode cX3_laysWork 12 = .ok (.bipush 64, 2) := dk_16 64 (dk_at dksX3_laysWork_0 12 rfl rfl)
theorem dX3_laysWork_14 : decode cX3_laysWork 14 = .ok (.aload_n 0, 1) := dk_42 (dk_at dksX3_laysWork_0 14 rfl rfl)
theorem dX3_laysWork_15 : decode cX3_laysWork 15 = .ok (.getfield 34, 3) := dk_180 0 34 (dk_at dksX3_laysWork_0 15 rfl rfl)
theorem dX3_laysWork_18 : decode cX3_laysWork 18 = .ok (.iconst 1, 1) := dk_4 (dk_at dksX3_laysWork_0 18 rfl rfl)
theorem dX3_laysWork_19 : decode cX3_laysWork 19 = .ok (.iaload, 1) := dk_46 (dk_at dksX3_laysWork_0 19 rfl rfl)
theorem dX3_laysWork_20 : decode cX3_laysWork 20 = .ok (.imul, 1) := dk_104 (dk_at dksX3_laysWork_0 20 rfl rfl)
theorem dX3_laysWork_21 : decode cX3_laysWork 21 = .ok (.iload_n 2, 1) := dk_28 (dk_at dksX3_laysWork_0 21 rfl rfl)
theorem dX3_laysWork_22 : decode cX3_laysWork 22 = .ok (.iadd, 1) := dk_96 (dk_at dksX3_laysWork_0 22 rfl rfl)
theorem dX3_laysWork_23 : decode cX3_laysWork 23 = .ok (.iconst 0, 1) := dk_3 (dk_at dksX3_laysWork_0 23 rfl rfl)
theorem dX3_laysWork_24 : decode cX3_laysWork 24 = .ok (.iastore, 1) := dk_79 (dk_at dksX3_laysWork_1 0 rfl rfl)
theorem dX3_laysWork_25 : decode cX3_laysWork 25 = .ok (.iinc 2 1, 3) := dk_132 2 1 (dk_at dksX3_laysWork_1 1 rfl rfl)
theorem dX3_laysWork_28 : decode cX3_laysWork 28 = .ok (.goto (-26), 3) := dk_167 255 230 (dk_at dksX3_laysWork_1 4 rfl rfl)
theorem dX3_laysWork_31 : decode cX3_laysWork 31 = .ok (.aload_n 0, 1) := dk_42 (dk_at dksX3_laysWork_1 7 rfl rfl)
theorem dX3_laysWork_32 : decode cX3_laysWork 32 = .ok (.getfield 34, 3) := dk_180 0 34 (dk_at dksX3_laysWork_1 8 rfl rfl)
theorem dX3_laysWork_35 : decode cX3_laysWork 35 = .ok (.iconst 1, 1) := dk_4 (dk_at dksX3_laysWork_1 11 rfl rfl)
theorem dX3_laysWork_36 : decode cX3_laysWork 36 = .ok (.iaload, 1) := dk_46 (dk_at dksX3_laysWork_1 12 rfl rfl)
theorem dX3_laysWork_37 : decode cX3_laysWork 37 = .ok (.iconst 1, 1) := dk_4 (dk_at dksX3_laysWork_1 13 rfl rfl)
theorem dX3_laysWork_38 : decode cX3_laysWork 38 = .ok (.isub, 1) := dk_100 (dk_at dksX3_laysWork_1 14 rfl rfl)
theorem dX3_laysWork_39 : decode cX3_laysWork 39 = .ok (.istore_n 2, 1) := dk_61 (dk_at dksX3_laysWork_1 15 rfl rfl)
theorem dX3_laysWork_40 : decode cX3_laysWork 40 = .ok (.iload_n 2, 1) := dk_28 (dk_at dksX3_laysWork_1 16 rfl rfl)
theorem dX3_laysWork_41 : decode cX3_laysWork 41 = .ok (.ifCond .lt 130, 3) := dk_155 0 130 (dk_at dksX3_laysWork_1 17 rfl rfl)
theorem dX3_laysWork_44 : decode cX3_laysWork 44 = .ok (.iconst 0, 1) := dk_3 (dk_at dksX3_laysWork_1 20 rfl rfl)
theorem dX3_laysWork_45 : decode cX3_laysWork 45 = .ok (.istore_n 3, 1) := dk_62 (dk_at dksX3_laysWork_1 21 rfl rfl)
theorem dX3_laysWork_46 : decode cX3_laysWork 46 = .ok (.iload_n 3, 1) := dk_29 (dk_at dksX3_laysWork_1 22 rfl rfl)
theorem dX3_laysWork_47 : decode cX3_laysWork 47 = .ok (.bipush 64, 2) := dk_16 64 (dk_at dksX3_laysWork_2 0 rfl rfl)
theorem dX3_laysWork_49 : decode cX3_laysWork 49 = .ok (.if_icmp .ge 116, 3) := dk_162 0 116 (dk_at dksX3_laysWork_2 2 rfl rfl)
theorem dX3_laysWork_52 : decode cX3_laysWork 52 = .ok (.aload_n 0, 1) := dk_42 (dk_at dksX3_laysWork_2 5 rfl rfl)
theorem dX3_laysWork_53 : decode cX3_laysWork 53 = .ok (.getfield 56, 3) := dk_180 0 56 (dk_at dksX3_laysWork_2 6 rfl rfl)
theorem dX3_laysWork_56 : decode cX3_laysWork 56 = .ok (.bipush 64, 2) := dk_16 64 (dk_at dksX3_laysWork_2 9 rfl rfl)
theorem dX3_laysWork_58 : decode cX3_laysWork 58 = .ok (.iload_n 2, 1) := dk_28 (dk_at dksX3_laysWork_2 11 rfl rfl)
theorem dX3_laysWork_59 : decode cX3_laysWork 59 = .ok (.iconst 1, 1) := dk_4 (dk_at dksX3_laysWork_2 12 rfl rfl)
theorem dX3_laysWork_60 : decode cX3_laysWork 60 = .ok (.iadd, 1) := dk_96 (dk_at dksX3_laysWork_2 13 rfl rfl)
theorem dX3_laysWork_61 : decode cX3_laysWork 61 = .ok (.imul, 1) := dk_104 (dk_at dksX3_laysWork_2 14 rfl rfl)
theorem dX3_laysWork_62 : decode cX3_laysWork 62 = .ok (.iload_n 3, 1) := dk_29 (dk_at dksX3_laysWork_2 15 rfl rfl)
theorem dX3_laysWork_63 : decode cX3_laysWork 63 = .ok (.iadd, 1) := dk_96 (dk_at dksX3_laysWork_2 16 rfl rfl)
theorem dX3_laysWork_64 : decode cX3_laysWork 64 = .ok (.iaload, 1) := dk_46 (dk_at dksX3_laysWork_2 17 rfl rfl)
theorem dX3_laysWork_65 : decode cX3_laysWork 65 = .ok (.istore 4, 2) := dk_54 4 (dk_at dksX3_laysWork_2 18 rfl rfl)
theorem dX3_laysWork_67 : decode cX3_laysWork 67 = .ok (.aload_n 0, 1) := dk_42 (dk_at dksX3_laysWork_2 20 rfl rfl)
theorem dX3_laysWork_68 : decode cX3_laysWork 68 = .ok (.iload_n 2, 1) := dk_28 (dk_at dksX3_laysWork_2 21 rfl rfl)
theorem dX3_laysWork_69 : decode cX3_laysWork 69 = .ok (.iload_n 1, 1) := dk_27 (dk_at dksX3_laysWork_2 22 rfl rfl)
theorem dX3_laysWork_70 : decode cX3_laysWork 70 = .ok (.iload_n 3, 1) := dk_29 (dk_at dksX3_laysWork_2 23 rfl rfl)
theorem dX3_laysWork_71 : decode cX3_laysWork 71 = .ok (.invokevirtual 303, 3) := dk_182 1 47 (dk_at dksX3_laysWork_3 0 rfl rfl)
theorem dX3_laysWork_74 : decode cX3_laysWork 74 = .ok (.istore 5, 2) := dk_54 5 (dk_at dksX3_laysWork_3 3 rfl rfl)
theorem dX3_laysWork_76 : decode cX3_laysWork 76 = .ok (.iconst 0, 1) := dk_3 (dk_at dksX3_laysWork_3 5 rfl rfl)
theorem dX3_laysWork_77 : decode cX3_laysWork 77 = .ok (.istore 6, 2) := dk_54 6 (dk_at dksX3_laysWork_3 6 rfl rfl)
theorem dX3_laysWork_79 : decode cX3_laysWork 79 = .ok (.iload 6, 2) := dk_21 6 (dk_at dksX3_laysWork_3 8 rfl rfl)
theorem dX3_laysWork_81 : decode cX3_laysWork 81 = .ok (.bipush 6, 2) := dk_16 6 (dk_at dksX3_laysWork_3 10 rfl rfl)
theorem dX3_laysWork_83 : decode cX3_laysWork 83 = .ok (.if_icmp .ge 63, 3) := dk_162 0 63 (dk_at dksX3_laysWork_3 12 rfl rfl)
theorem dX3_laysWork_86 : decode cX3_laysWork 86 = .ok (.iload 5, 2) := dk_21 5 (dk_at dksX3_laysWork_3 15 rfl rfl)
theorem dX3_laysWork_88 : decode cX3_laysWork 88 = .ok (.iload 6, 2) := dk_21 6 (dk_at dksX3_laysWork_3 17 rfl rfl)
theorem dX3_laysWork_90 : decode cX3_laysWork 90 = .ok (.invokestatic 239, 3) := dk_184 0 239 (dk_at dksX3_laysWork_3 19 rfl rfl)
theorem dX3_laysWork_93 : decode cX3_laysWork 93 = .ok (.ifCond .eq 28, 3) := dk_153 0 28 (dk_at dksX3_laysWork_4 0 rfl rfl)
theorem dX3_laysWork_96 : decode cX3_laysWork 96 = .ok (.iconst 1, 1) := dk_4 (dk_at dksX3_laysWork_4 3 rfl rfl)
theorem dX3_laysWork_97 : decode cX3_laysWork 97 = .ok (.aload_n 0, 1) := dk_42 (dk_at dksX3_laysWork_4 4 rfl rfl)
theorem dX3_laysWork_98 : decode cX3_laysWork 98 = .ok (.getfield 56, 3) := dk_180 0 56 (dk_at dksX3_laysWork_4 5 rfl rfl)
theorem dX3_laysWork_101 : decode cX3_laysWork 101 = .ok (.bipush 64, 2) := dk_16 64 (dk_at dksX3_laysWork_4 8 rfl rfl)
theorem dX3_laysWork_103 : decode cX3_laysWork 103 = .ok (.iload_n 2, 1) := dk_28 (dk_at dksX3_laysWork_4 10 rfl rfl)
theorem dX3_laysWork_104 : decode cX3_laysWork 104 = .ok (.iconst 1, 1) := dk_4 (dk_at dksX3_laysWork_4 11 rfl rfl)
theorem dX3_laysWork_105 : decode cX3_laysWork 105 = .ok (.iadd, 1) := dk_96 (dk_at dksX3_laysWork_4 12 rfl rfl)
theorem dX3_laysWork_106 : decode cX3_laysWork 106 = .ok (.imul, 1) := dk_104 (dk_at dksX3_laysWork_4 13 rfl rfl)
theorem dX3_laysWork_107 : decode cX3_laysWork 107 = .ok (.iload_n 3, 1) := dk_29 (dk_at dksX3_laysWork_4 14 rfl rfl)
theorem dX3_laysWork_108 : decode cX3_laysWork 108 = .ok (.iconst 1, 1) := dk_4 (dk_at dksX3_laysWork_4 15 rfl rfl)
theorem dX3_laysWork_109 : decode cX3_laysWork 109 = .ok (.iload 6, 2) := dk_21 6 (dk_at dksX3_laysWork_4 16 rfl rfl)
theorem dX3_laysWork_111 : decode cX3_laysWork 111 = .ok (.ishl, 1) := dk_120 (dk_at dksX3_laysWork_4 18 rfl rfl)
theorem dX3_laysWork_112 : decode cX3_laysWork 112 = .ok (.iconst (-1), 1) := dk_2 (dk_at dksX3_laysWork_4 19 rfl rfl)
theorem dX3_laysWork_113 : decode cX3_laysWork 113 = .ok (.ixor, 1) := dk_130 (dk_at dksX3_laysWork_4 20 rfl rfl)
theorem dX3_laysWork_114 : decode cX3_laysWork 114 = .ok (.iand, 1) := dk_126 (dk_at dksX3_laysWork_4 21 rfl rfl)
theorem dX3_laysWork_115 : decode cX3_laysWork 115 = .ok (.iadd, 1) := dk_96 (dk_at dksX3_laysWork_4 22 rfl rfl)
theorem dX3_laysWork_116 : decode cX3_laysWork 116 = .ok (.iaload, 1) := dk_46 (dk_at dksX3_laysWork_4 23 rfl rfl)
theorem dX3_laysWork_117 : decode cX3_laysWork 117 = .ok (.iadd, 1) := dk_96 (dk_at dksX3_laysWork_5 0 rfl rfl)
theorem dX3_laysWork_118 : decode cX3_laysWork 118 = .ok (.goto 4, 3) := dk_167 0 4 (dk_at dksX3_laysWork_5 1 rfl rfl)
theorem dX3_laysWork_121 : decode cX3_laysWork 121 = .ok (.iconst 0, 1) := dk_3 (dk_at dksX3_laysWork_5 4 rfl rfl)
theorem dX3_laysWork_122 : decode cX3_laysWork 122 = .ok (.istore 7, 2) := dk_54 7 (dk_at dksX3_laysWork_5 5 rfl rfl)
theorem dX3_laysWork_124 : decode cX3_laysWork 124 = .ok (.iload 7, 2) := dk_21 7 (dk_at dksX3_laysWork_5 7 rfl rfl)
theorem dX3_laysWork_126 : decode cX3_laysWork 126 = .ok (.iload 4, 2) := dk_21 4 (dk_at dksX3_laysWork_5 9 rfl rfl)
theorem dX3_laysWork_128 : decode cX3_laysWork 128 = .ok (.if_icmp .le 8, 3) := dk_164 0 8 (dk_at dksX3_laysWork_5 11 rfl rfl)
theorem dX3_laysWork_131 : decode cX3_laysWork 131 = .ok (.iload 7, 2) := dk_21 7 (dk_at dksX3_laysWork_5 14 rfl rfl)
theorem dX3_laysWork_133 : decode cX3_laysWork 133 = .ok (.goto 5, 3) := dk_167 0 5 (dk_at dksX3_laysWork_5 16 rfl rfl)
theorem dX3_laysWork_136 : decode cX3_laysWork 136 = .ok (.iload 4, 2) := dk_21 4 (dk_at dksX3_laysWork_5 19 rfl rfl)
theorem dX3_laysWork_138 : decode cX3_laysWork 138 = .ok (.istore 4, 2) := dk_54 4 (dk_at dksX3_laysWork_5 21 rfl rfl)
theorem dX3_laysWork_140 : decode cX3_laysWork 140 = .ok (.iinc 6 1, 3) := dk_132 6 1 (dk_at dksX3_laysWork_6 0 rfl rfl)
theorem dX3_laysWork_143 : decode cX3_laysWork 143 = .ok (.goto (-64), 3) := dk_167 255 192 (dk_at dksX3_laysWork_6 3 rfl rfl)
theorem dX3_laysWork_146 : decode cX3_laysWork 146 = .ok (.aload_n 0, 1) := dk_42 (dk_at dksX3_laysWork_6 6 rfl rfl)
theorem dX3_laysWork_147 : decode cX3_laysWork 147 = .ok (.getfield 56, 3) := dk_180 0 56 (dk_at dksX3_laysWork_6 7 rfl rfl)
theorem dX3_laysWork_150 : decode cX3_laysWork 150 = .ok (.bipush 64, 2) := dk_16 64 (dk_at dksX3_laysWork_6 10 rfl rfl)
theorem dX3_laysWork_152 : decode cX3_laysWork 152 = .ok (.iload_n 2, 1) := dk_28 (dk_at dksX3_laysWork_6 12 rfl rfl)
theorem dX3_laysWork_153 : decode cX3_laysWork 153 = .ok (.imul, 1) := dk_104 (dk_at dksX3_laysWork_6 13 rfl rfl)
theorem dX3_laysWork_154 : decode cX3_laysWork 154 = .ok (.iload_n 3, 1) := dk_29 (dk_at dksX3_laysWork_6 14 rfl rfl)
theorem dX3_laysWork_155 : decode cX3_laysWork 155 = .ok (.iadd, 1) := dk_96 (dk_at dksX3_laysWork_6 15 rfl rfl)
theorem dX3_laysWork_156 : decode cX3_laysWork 156 = .ok (.iload 4, 2) := dk_21 4 (dk_at dksX3_laysWork_6 16 rfl rfl)
theorem dX3_laysWork_158 : decode cX3_laysWork 158 = .ok (.iastore, 1) := dk_79 (dk_at dksX3_laysWork_6 18 rfl rfl)
theorem dX3_laysWork_159 : decode cX3_laysWork 159 = .ok (.iinc 3 1, 3) := dk_132 3 1 (dk_at dksX3_laysWork_6 19 rfl rfl)
theorem dX3_laysWork_162 : decode cX3_laysWork 162 = .ok (.goto (-116), 3) := dk_167 255 140 (dk_at dksX3_laysWork_7 0 rfl rfl)
theorem dX3_laysWork_165 : decode cX3_laysWork 165 = .ok (.iinc 2 (-1), 3) := dk_132 2 255 (dk_at dksX3_laysWork_7 3 rfl rfl)
theorem dX3_laysWork_168 : decode cX3_laysWork 168 = .ok (.goto (-128), 3) := dk_167 255 128 (dk_at dksX3_laysWork_7 6 rfl rfl)
theorem dX3_laysWork_171 : decode cX3_laysWork 171 = .ok (.return_, 1) := dk_177 (dk_at dksX3_laysWork_7 9 rfl rfl)
abbrev cX3_mayDo : ByteArray := prog_14_method_84_code
def yX3_mayDo : MethodName := ⟨RX3, "mayDo", "(III)I"⟩
def dkwX3_mayDo_1 : List UInt8 := [182, 0, 214, 29, 126, 167, 0, 4, 3, 172]
abbrev dktX3_mayDo_1 : List UInt8 := dkwX3_mayDo_1 ++ []
def dkwX3_mayDo_0 : List UInt8 := [42, 180, 0, 47, 27, 46, 28, 160, 0, 25, 42, 180, 0, 217, 27, 184, 0, 239, 154, 0, 14, 42, 27, 4]
abbrev dktX3_mayDo_0 : List UInt8 := dkwX3_mayDo_0 ++ dktX3_mayDo_1
theorem dksX3_mayDo_0 : cX3_mayDo.data.toList.drop 0 = dktX3_mayDo_0 := by decide +kernel
theorem dksX3_mayDo_1 : cX3_mayDo.data.toList.drop 24 = dktX3_mayDo_1 := dk_seg dksX3_mayDo_0 24 rfl rfl
theorem dX3_mayDo_0 : decode cX3_mayDo 0 = .ok (.aload_n 0, 1) := dk_42 (dk_at dksX3_mayDo_0 0 rfl rfl)
theorem dX3_mayDo_1 : decode cX3_mayDo 1 = .ok (.getfield 47, 3) := dk_180 0 47 (dk_at dksX3_mayDo_0 1 rfl rfl)
theorem dX3_mayDo_4 : decode cX3_mayDo 4 = .ok (.iload_n 1, 1) := dk_27 (dk_at dksX3_mayDo_0 4 rfl rfl)
theorem dX3_mayDo_5 : decode cX3_mayDo 5 = .ok (.iaload, 1) := dk_46 (dk_at dksX3_mayDo_0 5 rfl rfl)
theorem dX3_mayDo_6 : decode cX3_mayDo 6 = .ok (.iload_n 2, 1) := dk_28 (dk_at dksX3_mayDo_0 6 rfl rfl)
theorem dX3_mayDo_7 : decode cX3_mayDo 7 = .ok (.if_icmp .ne 25, 3) := dk_160 0 25 (dk_at dksX3_mayDo_0 7 rfl rfl)
theorem dX3_mayDo_10 : decode cX3_mayDo 10 = .ok (.aload_n 0, 1) := dk_42 (dk_at dksX3_mayDo_0 10 rfl rfl)
theorem dX3_mayDo_11 : decode cX3_mayDo 11 = .ok (.getfield 217, 3) := dk_180 0 217 (dk_at dksX3_mayDo_0 11 rfl rfl)
theorem dX3_mayDo_14 : decode cX3_mayDo 14 = .ok (.iload_n 1, 1) := dk_27 (dk_at dksX3_mayDo_0 14 rfl rfl)
theorem dX3_mayDo_15 : decode cX3_mayDo 15 = .ok (.invokestatic 239, 3) := dk_184 0 239 (dk_at dksX3_mayDo_0 15 rfl rfl)
theorem dX3_mayDo_18 : decode cX3_mayDo 18 = .ok (.ifCond .ne 14, 3) := dk_154 0 14 (dk_at dksX3_mayDo_0 18 rfl rfl)
theorem dX3_mayDo_21 : decode cX3_mayDo 21 = .ok (.aload_n 0, 1) := dk_42 (dk_at dksX3_mayDo_0 21 rfl rfl)
theorem dX3_mayDo_22 : decode cX3_mayDo 22 = .ok (.iload_n 1, 1) := dk_27 (dk_at dksX3_mayDo_0 22 rfl rfl)
theorem dX3_mayDo_23 : decode cX3_mayDo 23 = .ok (.iconst 1, 1) := dk_4 (dk_at dksX3_mayDo_0 23 rfl rfl)
theorem dX3_mayDo_24 : decode cX3_mayDo 24 = .ok (.invokevirtual 214, 3) := dk_182 0 214 (dk_at dksX3_mayDo_1 0 rfl rfl)
theorem dX3_mayDo_27 : decode cX3_mayDo 27 = .ok (.iload_n 3, 1) := dk_29 (dk_at dksX3_mayDo_1 3 rfl rfl)
theorem dX3_mayDo_28 : decode cX3_mayDo 28 = .ok (.iand, 1) := dk_126 (dk_at dksX3_mayDo_1 4 rfl rfl)
theorem dX3_mayDo_29 : decode cX3_mayDo 29 = .ok (.goto 4, 3) := dk_167 0 4 (dk_at dksX3_mayDo_1 5 rfl rfl)
theorem dX3_mayDo_32 : decode cX3_mayDo 32 = .ok (.iconst 0, 1) := dk_3 (dk_at dksX3_mayDo_1 8 rfl rfl)
theorem dX3_mayDo_33 : decode cX3_mayDo 33 = .ok (.ireturn, 1) := dk_172 (dk_at dksX3_mayDo_1 9 rfl rfl)
abbrev cX3_works : ByteArray := prog_14_method_87_code
def yX3_works : MethodName := ⟨RX3, "works", "(I)I"⟩
def dkwX3_works_7 : List UInt8 := [126, 62, 132, 4, 1, 167, 255, 137, 2, 172]
abbrev dktX3_works_7 : List UInt8 := dkwX3_works_7 ++ []
def dkwX3_works_6 : List UInt8 := [160, 0, 7, 2, 167, 0, 5, 21, 6, 172, 21, 6, 16, 6, 162, 0, 12, 29, 4, 21, 6, 120, 2, 130]
abbrev dktX3_works_6 : List UInt8 := dkwX3_works_6 ++ dktX3_works_7
def dkwX3_works_5 : List UInt8 := [104, 29, 96, 46, 159, 0, 9, 132, 6, 1, 167, 255, 198, 21, 4, 27, 160, 0, 17, 21, 6, 16, 6]
abbrev dktX3_works_5 : List UInt8 := dkwX3_works_5 ++ dktX3_works_6
def dkwX3_works_4 : List UInt8 := [21, 4, 4, 96, 104, 29, 4, 21, 6, 120, 2, 130, 126, 96, 46, 96, 42, 180, 0, 56, 16, 64, 21, 4]
abbrev dktX3_works_4 : List UInt8 := dkwX3_works_4 ++ dktX3_works_5
def dkwX3_works_3 : List UInt8 := [21, 6, 16, 6, 162, 0, 57, 21, 5, 21, 6, 184, 0, 239, 153, 0, 41, 4, 42, 180, 0, 56, 16, 64]
abbrev dktX3_works_3 : List UInt8 := dkwX3_works_3 ++ dktX3_works_4
def dkwX3_works_2 : List UInt8 := [62, 3, 54, 4, 21, 4, 27, 163, 0, 119, 42, 21, 4, 28, 29, 182, 1, 47, 54, 5, 3, 54, 6]
abbrev dktX3_works_2 : List UInt8 := dkwX3_works_2 ++ dktX3_works_3
def dkwX3_works_1 : List UInt8 := [180, 0, 47, 27, 46, 61, 28, 2, 160, 0, 5, 2, 172, 42, 28, 182, 1, 50, 42, 28, 5, 182, 0, 214]
abbrev dktX3_works_1 : List UInt8 := dkwX3_works_1 ++ dktX3_works_2
def dkwX3_works_0 : List UInt8 := [42, 3, 181, 0, 59, 42, 27, 133, 182, 0, 206, 154, 0, 6, 16, 254, 172, 42, 182, 0, 251, 42]
abbrev dktX3_works_0 : List UInt8 := dkwX3_works_0 ++ dktX3_works_1
theorem dksX3_works_0 : cX3_works.data.toList.drop 0 = dktX3_works_0 := by decide +kernel
theorem dksX3_works_1 : cX3_works.data.toList.drop 22 = dktX3_works_1 := dk_seg dksX3_works_0 22 rfl rfl
theorem dksX3_works_2 : cX3_works.data.toList.drop 46 = dktX3_works_2 := dk_seg dksX3_works_1 24 rfl rfl
theorem dksX3_works_3 : cX3_works.data.toList.drop 69 = dktX3_works_3 := dk_seg dksX3_works_2 23 rfl rfl
theorem dksX3_works_4 : cX3_works.data.toList.drop 93 = dktX3_works_4 := dk_seg dksX3_works_3 24 rfl rfl
theorem dksX3_works_5 : cX3_works.data.toList.drop 117 = dktX3_works_5 := dk_seg dksX3_works_4 24 rfl rfl
theorem dksX3_works_6 : cX3_works.data.toList.drop 140 = dktX3_works_6 := dk_seg dksX3_works_5 23 rfl rfl
theorem dksX3_works_7 : cX3_works.data.toList.drop 164 = dktX3_works_7 := dk_seg dksX3_works_6 24 rfl rfl
theorem dX3_works_0 : decode cX3_works 0 = .ok (.aload_n 0, 1) := dk_42 (dk_at dksX3_works_0 0 rfl rfl)
theorem dX3_works_1 : decode cX3_works 1 = .ok (.iconst 0, 1) := dk_3 (dk_at dksX3_works_0 1 rfl rfl)
theorem dX3_works_2 : decode cX3_works 2 = .ok (.putfield 59, 3) := dk_181 0 59 (dk_at dksX3_works_0 2 rfl rfl)
theorem dX3_works_5 : decode cX3_works 5 = .ok (.aload_n 0, 1) := dk_42 (dk_at dksX3_works_0 5 rfl rfl)
theorem dX3_works_6 : decode cX3_works 6 = .ok (.iload_n 1, 1) := dk_27 (dk_at dksX3_works_0 6 rfl rfl)
theorem dX3_works_7 : decode cX3_works 7 = .ok (.i2l, 1) := dk_133 (dk_at dksX3_works_0 7 rfl rfl)
theorem dX3_works_8 : decode cX3_works 8 = .ok (.invokevirtual 206, 3) := dk_182 0 206 (dk_at dksX3_works_0 8 rfl rfl)
theorem dX3_works_11 : decode cX3_works 11 = .ok (.ifCond .ne 6, 3) := dk_154 0 6 (dk_at dksX3_works_0 11 rfl rfl)
theorem dX3_works_14 : decode cX3_works 14 = .ok (.bipush (-2), 2) := dk_16 254 (dk_at dksX3_works_0 14 rfl rfl)
theorem dX3_works_16 : decode cX3_works 16 = .ok (.ireturn, 1) := dk_172 (dk_at dksX3_works_0 16 rfl rfl)
theorem dX3_works_17 : decode cX3_works 17 = .ok (.aload_n 0, 1) := dk_42 (dk_at dksX3_works_0 17 rfl rfl)
theorem dX3_works_18 : decode cX3_works 18 = .ok (.invokevirtual 251, 3) := dk_182 0 251 (dk_at dksX3_works_0 18 rfl rfl)
theorem dX3_works_21 : decode cX3_works 21 = .ok (.aload_n 0, 1) := dk_42 (dk_at dksX3_works_0 21 rfl rfl)
theorem dX3_works_22 : decode cX3_works 22 = .ok (.getfield 47, 3) := dk_180 0 47 (dk_at dksX3_works_1 0 rfl rfl)
theorem dX3_works_25 : decode cX3_works 25 = .ok (.iload_n 1, 1) := dk_27 (dk_at dksX3_works_1 3 rfl rfl)
theorem dX3_works_26 : decode cX3_works 26 = .ok (.iaload, 1) := dk_46 (dk_at dksX3_works_1 4 rfl rfl)
theorem dX3_works_27 : decode cX3_works 27 = .ok (.istore_n 2, 1) := dk_61 (dk_at dksX3_works_1 5 rfl rfl)
theorem dX3_works_28 : decode cX3_works 28 = .ok (.iload_n 2, 1) := dk_28 (dk_at dksX3_works_1 6 rfl rfl)
theorem dX3_works_29 : decode cX3_works 29 = .ok (.iconst (-1), 1) := dk_2 (dk_at dksX3_works_1 7 rfl rfl)
theorem dX3_works_30 : decode cX3_works 30 = .ok (.if_icmp .ne 5, 3) := dk_160 0 5 (dk_at dksX3_works_1 8 rfl rfl)
theorem dX3_works_33 : decode cX3_works 33 = .ok (.iconst (-1), 1) := dk_2 (dk_at dksX3_works_1 11 rfl rfl)
theorem dX3_works_34 : decode cX3_works 34 = .ok (.ireturn, 1) := dk_172 (dk_at dksX3_works_1 12 rfl rfl)
theorem dX3_works_35 : decode cX3_works 35 = .ok (.aload_n 0, 1) := dk_42 (dk_at dksX3_works_1 13 rfl rfl)
theorem dX3_works_36 : decode cX3_works 36 = .ok (.iload_n 2, 1) := dk_28 (dk_at dksX3_works_1 14 rfl rfl)
theorem dX3_works_37 : decode cX3_works 37 = .ok (.invokevirtual 306, 3) := dk_182 1 50 (dk_at dksX3_works_1 15 rfl rfl)
theorem dX3_works_40 : decode cX3_works 40 = .ok (.aload_n 0, 1) := dk_42 (dk_at dksX3_works_1 18 rfl rfl)
theorem dX3_works_41 : decode cX3_works 41 = .ok (.iload_n 2, 1) := dk_28 (dk_at dksX3_works_1 19 rfl rfl)
theorem dX3_works_42 : decode cX3_works 42 = .ok (.iconst 2, 1) := dk_5 (dk_at dksX3_works_1 20 rfl rfl)
theorem dX3_works_43 : decode cX3_works 43 = .ok (.invokevirtual 214, 3) := dk_182 0 214 (dk_at dksX3_works_1 21 rfl rfl)
theorem dX3_works_46 : decode cX3_works 46 = .ok (.istore_n 3, 1) := dk_62 (dk_at dksX3_works_2 0 rfl rfl)
theorem dX3_works_47 : decode cX3_works 47 = .ok (.iconst 0, 1) := dk_3 (dk_at dksX3_works_2 1 rfl rfl)
theorem dX3_works_48 : decode cX3_works 48 = .ok (.istore 4, 2) := dk_54 4 (dk_at dksX3_works_2 2 rfl rfl)
theorem dX3_works_50 : decode cX3_works 50 = .ok (.iload 4, 2) := dk_21 4 (dk_at dksX3_works_2 4 rfl rfl)
theorem dX3_works_52 : decode cX3_works 52 = .ok (.iload_n 1, 1) := dk_27 (dk_at dksX3_works_2 6 rfl rfl)
theorem dX3_works_53 : decode cX3_works 53 = .ok (.if_icmp .gt 119, 3) := dk_163 0 119 (dk_at dksX3_works_2 7 rfl rfl)
theorem dX3_works_56 : decode cX3_works 56 = .ok (.aload_n 0, 1) := dk_42 (dk_at dksX3_works_2 10 rfl rfl)
theorem dX3_works_57 : decode cX3_works 57 = .ok (.iload 4, 2) := dk_21 4 (dk_at dksX3_works_2 11 rfl rfl)
theorem dX3_works_59 : decode cX3_works 59 = .ok (.iload_n 2, 1) := dk_28 (dk_at dksX3_works_2 13 rfl rfl)
theorem dX3_works_60 : decode cX3_works 60 = .ok (.iload_n 3, 1) := dk_29 (dk_at dksX3_works_2 14 rfl rfl)
theorem dX3_works_61 : decode cX3_works 61 = .ok (.invokevirtual 303, 3) := dk_182 1 47 (dk_at dksX3_works_2 15 rfl rfl)
theorem dX3_works_64 : decode cX3_works 64 = .ok (.istore 5, 2) := dk_54 5 (dk_at dksX3_works_2 18 rfl rfl)
theorem dX3_works_66 : decode cX3_works 66 = .ok (.iconst 0, 1) := dk_3 (dk_at dksX3_works_2 20 rfl rfl)
theorem dX3_works_67 : decode cX3_works 67 = .ok (.istore 6, 2) := dk_54 6 (dk_at dksX3_works_2 21 rfl rfl)
theorem dX3_works_69 : decode cX3_works 69 = .ok (.iload 6, 2) := dk_21 6 (dk_at dksX3_works_3 0 rfl rfl)
theorem dX3_works_71 : decode cX3_works 71 = .ok (.bipush 6, 2) := dk_16 6 (dk_at dksX3_works_3 2 rfl rfl)
theorem dX3_works_73 : decode cX3_works 73 = .ok (.if_icmp .ge 57, 3) := dk_162 0 57 (dk_at dksX3_works_3 4 rfl rfl)
theorem dX3_works_76 : decode cX3_works 76 = .ok (.iload 5, 2) := dk_21 5 (dk_at dksX3_works_3 7 rfl rfl)
theorem dX3_works_78 : decode cX3_works 78 = .ok (.iload 6, 2) := dk_21 6 (dk_at dksX3_works_3 9 rfl rfl)
theorem dX3_works_80 : decode cX3_works 80 = .ok (.invokestatic 239, 3) := dk_184 0 239 (dk_at dksX3_works_3 11 rfl rfl)
theorem dX3_works_83 : decode cX3_works 83 = .ok (.ifCond .eq 41, 3) := dk_153 0 41 (dk_at dksX3_works_3 14 rfl rfl)
theorem dX3_works_86 : decode cX3_works 86 = .ok (.iconst 1, 1) := dk_4 (dk_at dksX3_works_3 17 rfl rfl)
theorem dX3_works_87 : decode cX3_works 87 = .ok (.aload_n 0, 1) := dk_42 (dk_at dksX3_works_3 18 rfl rfl)
theorem dX3_works_88 : decode cX3_works 88 = .ok (.getfield 56, 3) := dk_180 0 56 (dk_at dksX3_works_3 19 rfl rfl)
theorem dX3_works_91 : decode cX3_works 91 = .ok (.bipush 64, 2) := dk_16 64 (dk_at dksX3_works_3 22 rfl rfl)
theorem dX3_works_93 : decode cX3_works 93 = .ok (.iload 4, 2) := dk_21 4 (dk_at dksX3_works_4 0 rfl rfl)
theorem dX3_works_95 : decode cX3_works 95 = .ok (.iconst 1, 1) := dk_4 (dk_at dksX3_works_4 2 rfl rfl)
theorem dX3_works_96 : decode cX3_works 96 = .ok (.iadd, 1) := dk_96 (dk_at dksX3_works_4 3 rfl rfl)
theorem dX3_works_97 : decode cX3_works 97 = .ok (.imul, 1) := dk_104 (dk_at dksX3_works_4 4 rfl rfl)
theorem dX3_works_98 : decode cX3_works 98 = .ok (.iload_n 3, 1) := dk_29 (dk_at dksX3_works_4 5 rfl rfl)
theorem dX3_works_99 : decode cX3_works 99 = .ok (.iconst 1, 1) := dk_4 (dk_at dksX3_works_4 6 rfl rfl)
theorem dX3_works_100 : decode cX3_works 100 = .ok (.iload 6, 2) := dk_21 6 (dk_at dksX3_works_4 7 rfl rfl)
theorem dX3_works_102 : decode cX3_works 102 = .ok (.ishl, 1) := dk_120 (dk_at dksX3_works_4 9 rfl rfl)
theorem dX3_works_103 : decode cX3_works 103 = .ok (.iconst (-1), 1) := dk_2 (dk_at dksX3_works_4 10 rfl rfl)
theorem dX3_works_104 : decode cX3_works 104 = .ok (.ixor, 1) := dk_130 (dk_at dksX3_works_4 11 rfl rfl)
theorem dX3_works_105 : decode cX3_works 105 = .ok (.iand, 1) := dk_126 (dk_at dksX3_works_4 12 rfl rfl)
theorem dX3_works_106 : decode cX3_works 106 = .ok (.iadd, 1) := dk_96 (dk_at dksX3_works_4 13 rfl rfl)
theorem dX3_works_107 : decode cX3_works 107 = .ok (.iaload, 1) := dk_46 (dk_at dksX3_works_4 14 rfl rfl)
theorem dX3_works_108 : decode cX3_works 108 = .ok (.iadd, 1) := dk_96 (dk_at dksX3_works_4 15 rfl rfl)
theorem dX3_works_109 : decode cX3_works 109 = .ok (.aload_n 0, 1) := dk_42 (dk_at dksX3_works_4 16 rfl rfl)
theorem dX3_works_110 : decode cX3_works 110 = .ok (.getfield 56, 3) := dk_180 0 56 (dk_at dksX3_works_4 17 rfl rfl)
theorem dX3_works_113 : decode cX3_works 113 = .ok (.bipush 64, 2) := dk_16 64 (dk_at dksX3_works_4 20 rfl rfl)
theorem dX3_works_115 : decode cX3_works 115 = .ok (.iload 4, 2) := dk_21 4 (dk_at dksX3_works_4 22 rfl rfl)
theorem dX3_works_117 : decode cX3_works 117 = .ok (.imul, 1) := dk_104 (dk_at dksX3_works_5 0 rfl rfl)
theorem dX3_works_118 : decode cX3_works 118 = .ok (.iload_n 3, 1) := dk_29 (dk_at dksX3_works_5 1 rfl rfl)
theorem dX3_works_119 : decode cX3_works 119 = .ok (.iadd, 1) := dk_96 (dk_at dksX3_works_5 2 rfl rfl)
theorem dX3_works_120 : decode cX3_works 120 = .ok (.iaload, 1) := dk_46 (dk_at dksX3_works_5 3 rfl rfl)
theorem dX3_works_121 : decode cX3_works 121 = .ok (.if_icmp .eq 9, 3) := dk_159 0 9 (dk_at dksX3_works_5 4 rfl rfl)
theorem dX3_works_124 : decode cX3_works 124 = .ok (.iinc 6 1, 3) := dk_132 6 1 (dk_at dksX3_works_5 7 rfl rfl)
theorem dX3_works_127 : decode cX3_works 127 = .ok (.goto (-58), 3) := dk_167 255 198 (dk_at dksX3_works_5 10 rfl rfl)
theorem dX3_works_130 : decode cX3_works 130 = .ok (.iload 4, 2) := dk_21 4 (dk_at dksX3_works_5 13 rfl rfl)
theorem dX3_works_132 : decode cX3_works 132 = .ok (.iload_n 1, 1) := dk_27 (dk_at dksX3_works_5 15 rfl rfl)
theorem dX3_works_133 : decode cX3_works 133 = .ok (.if_icmp .ne 17, 3) := dk_160 0 17 (dk_at dksX3_works_5 16 rfl rfl)
theorem dX3_works_136 : decode cX3_works 136 = .ok (.iload 6, 2) := dk_21 6 (dk_at dksX3_works_5 19 rfl rfl)
theorem dX3_works_138 : decode cX3_works 138 = .ok (.bipush 6, 2) := dk_16 6 (dk_at dksX3_works_5 21 rfl rfl)
theorem dX3_works_140 : decode cX3_works 140 = .ok (.if_icmp .ne 7, 3) := dk_160 0 7 (dk_at dksX3_works_6 0 rfl rfl)
theorem dX3_works_143 : decode cX3_works 143 = .ok (.iconst (-1), 1) := dk_2 (dk_at dksX3_works_6 3 rfl rfl)
theorem dX3_works_144 : decode cX3_works 144 = .ok (.goto 5, 3) := dk_167 0 5 (dk_at dksX3_works_6 4 rfl rfl)
theorem dX3_works_147 : decode cX3_works 147 = .ok (.iload 6, 2) := dk_21 6 (dk_at dksX3_works_6 7 rfl rfl)
theorem dX3_works_149 : decode cX3_works 149 = .ok (.ireturn, 1) := dk_172 (dk_at dksX3_works_6 9 rfl rfl)
theorem dX3_works_150 : decode cX3_works 150 = .ok (.iload 6, 2) := dk_21 6 (dk_at dksX3_works_6 10 rfl rfl)
theorem dX3_works_152 : decode cX3_works 152 = .ok (.bipush 6, 2) := dk_16 6 (dk_at dksX3_works_6 12 rfl rfl)
theorem dX3_works_154 : decode cX3_works 154 = .ok (.if_icmp .ge 12, 3) := dk_162 0 12 (dk_at dksX3_works_6 14 rfl rfl)
theorem dX3_works_157 : decode cX3_works 157 = .ok (.iload_n 3, 1) := dk_29 (dk_at dksX3_works_6 17 rfl rfl)
theorem dX3_works_158 : decode cX3_works 158 = .ok (.iconst 1, 1) := dk_4 (dk_at dksX3_works_6 18 rfl rfl)
theorem dX3_works_159 : decode cX3_works 159 = .ok (.iload 6, 2) := dk_21 6 (dk_at dksX3_works_6 19 rfl rfl)
theorem dX3_works_161 : decode cX3_works 161 = .ok (.ishl, 1) := dk_120 (dk_at dksX3_works_6 21 rfl rfl)
theorem dX3_works_162 : decode cX3_works 162 = .ok (.iconst (-1), 1) := dk_2 (dk_at dksX3_works_6 22 rfl rfl)
theorem dX3_works_163 : decode cX3_works 163 = .ok (.ixor, 1) := dk_130 (dk_at dksX3_works_6 23 rfl rfl)
theorem dX3_works_164 : decode cX3_works 164 = .ok (.iand, 1) := dk_126 (dk_at dksX3_works_7 0 rfl rfl)
theorem dX3_works_165 : decode cX3_works 165 = .ok (.istore_n 3, 1) := dk_62 (dk_at dksX3_works_7 1 rfl rfl)
theorem dX3_works_166 : decode cX3_works 166 = .ok (.iinc 4 1, 3) := dk_132 4 1 (dk_at dksX3_works_7 2 rfl rfl)
theorem dX3_works_169 : decode cX3_works 169 = .ok (.goto (-119), 3) := dk_167 255 137 (dk_at dksX3_works_7 5 rfl rfl)
theorem dX3_works_172 : decode cX3_works 172 = .ok (.iconst (-1), 1) := dk_2 (dk_at dksX3_works_7 8 rfl rfl)
theorem dX3_works_173 : decode cX3_works 173 = .ok (.ireturn, 1) := dk_172 (dk_at dksX3_works_7 9 rfl rfl)
abbrev cX3_cover : ByteArray := prog_14_method_93_code
def yX3_cover : MethodName := ⟨RX3, "cover", "(I)I"⟩
def dkwX3_cover_1 : List UInt8 := [160, 0, 7, 2, 167, 0, 7, 28, 184, 1, 41, 172]
abbrev dktX3_cover_1 : List UInt8 := dkwX3_cover_1 ++ []
def dkwX3_cover_0 : List UInt8 := [42, 3, 181, 0, 59, 42, 27, 182, 1, 61, 154, 0, 6, 16, 254, 172, 42, 27, 182, 1, 64, 61, 28, 2]
abbrev dktX3_cover_0 : List UInt8 := dkwX3_cover_0 ++ dktX3_cover_1
theorem dksX3_cover_0 : cX3_cover.data.toList.drop 0 = dktX3_cover_0 := by decide +kernel
theorem dksX3_cover_1 : cX3_cover.data.toList.drop 24 = dktX3_cover_1 := dk_seg dksX3_cover_0 24 rfl rfl
theorem dX3_cover_0 : decode cX3_cover 0 = .ok (.aload_n 0, 1) := dk_42 (dk_at dksX3_cover_0 0 rfl rfl)
theorem dX3_cover_1 : decode cX3_cover 1 = .ok (.iconst 0, 1) := dk_3 (dk_at dksX3_cover_0 1 rfl rfl)
theorem dX3_cover_2 : decode cX3_cover 2 = .ok (.putfield 59, 3) := dk_181 0 59 (dk_at dksX3_cover_0 2 rfl rfl)
theorem dX3_cover_5 : decode cX3_cover 5 = .ok (.aload_n 0, 1) := dk_42 (dk_at dksX3_cover_0 5 rfl rfl)
theorem dX3_cover_6 : decode cX3_cover 6 = .ok (.iload_n 1, 1) := dk_27 (dk_at dksX3_cover_0 6 rfl rfl)
theorem dX3_cover_7 : decode cX3_cover 7 = .ok (.invokevirtual 317, 3) := dk_182 1 61 (dk_at dksX3_cover_0 7 rfl rfl)
theorem dX3_cover_10 : decode cX3_cover 10 = .ok (.ifCond .ne 6, 3) := dk_154 0 6 (dk_at dksX3_cover_0 10 rfl rfl)
theorem dX3_cover_13 : decode cX3_cover 13 = .ok (.bipush (-2), 2) := dk_16 254 (dk_at dksX3_cover_0 13 rfl rfl)
theorem dX3_cover_15 : decode cX3_cover 15 = .ok (.ireturn, 1) := dk_172 (dk_at dksX3_cover_0 15 rfl rfl)
theorem dX3_cover_16 : decode cX3_cover 16 = .ok (.aload_n 0, 1) := dk_42 (dk_at dksX3_cover_0 16 rfl rfl)
theorem dX3_cover_17 : decode cX3_cover 17 = .ok (.iload_n 1, 1) := dk_27 (dk_at dksX3_cover_0 17 rfl rfl)
theorem dX3_cover_18 : decode cX3_cover 18 = .ok (.invokevirtual 320, 3) := dk_182 1 64 (dk_at dksX3_cover_0 18 rfl rfl)
theorem dX3_cover_21 : decode cX3_cover 21 = .ok (.istore_n 2, 1) := dk_61 (dk_at dksX3_cover_0 21 rfl rfl)
theorem dX3_cover_22 : decode cX3_cover 22 = .ok (.iload_n 2, 1) := dk_28 (dk_at dksX3_cover_0 22 rfl rfl)
theorem dX3_cover_23 : decode cX3_cover 23 = .ok (.iconst (-1), 1) := dk_2 (dk_at dksX3_cover_0 23 rfl rfl)
theorem dX3_cover_24 : decode cX3_cover 24 = .ok (.if_icmp .ne 7, 3) := dk_160 0 7 (dk_at dksX3_cover_1 0 rfl rfl)
theorem dX3_cover_27 : decode cX3_cover 27 = .ok (.iconst (-1), 1) := dk_2 (dk_at dksX3_cover_1 3 rfl rfl)
theorem dX3_cover_28 : decode cX3_cover 28 = .ok (.goto 7, 3) := dk_167 0 7 (dk_at dksX3_cover_1 4 rfl rfl)
theorem dX3_cover_31 : decode cX3_cover 31 = .ok (.iload_n 2, 1) := dk_28 (dk_at dksX3_cover_1 7 rfl rfl)
theorem dX3_cover_32 : decode cX3_cover 32 = .ok (.invokestatic 297, 3) := dk_184 1 41 (dk_at dksX3_cover_1 8 rfl rfl)
theorem dX3_cover_35 : decode cX3_cover 35 = .ok (.ireturn, 1) := dk_172 (dk_at dksX3_cover_1 11 rfl rfl)
abbrev cX3_areDeeds : ByteArray := prog_14_method_91_code
def yX3_areDeeds : MethodName := ⟨RX3, "areDeeds", "(I)Z"⟩
def dkwX3_areDeeds_1 : List UInt8 := [172]
abbrev dktX3_areDeeds_1 : List UInt8 := dkwX3_areDeeds_1 ++ []
def dkwX3_areDeeds_0 : List UInt8 := [42, 182, 0, 209, 153, 0, 19, 27, 133, 9, 20, 1, 53, 184, 0, 64, 153, 0, 7, 4, 167, 0, 4, 3]
abbrev dktX3_areDeeds_0 : List UInt8 := dkwX3_areDeeds_0 ++ dktX3_areDeeds_1
theorem dksX3_areDeeds_0 : cX3_areDeeds.data.toList.drop 0 = dktX3_areDeeds_0 := by decide +kernel
theorem dksX3_areDeeds_1 : cX3_areDeeds.data.toList.drop 24 = dktX3_areDeeds_1 := dk_seg dksX3_areDeeds_0 24 rfl rfl
theorem dX3_areDeeds_0 : decode cX3_areDeeds 0 = .ok (.aload_n 0, 1) := dk_42 (dk_at dksX3_areDeeds_0 0 rfl rfl)
theorem dX3_areDeeds_1 : decode cX3_areDeeds 1 = .ok (.invokevirtual 209, 3) := dk_182 0 209 (dk_at dksX3_areDeeds_0 1 rfl rfl)
theorem dX3_areDeeds_4 : decode cX3_areDeeds 4 = .ok (.ifCond .eq 19, 3) := dk_153 0 19 (dk_at dksX3_areDeeds_0 4 rfl rfl)
theorem dX3_areDeeds_7 : decode cX3_areDeeds 7 = .ok (.iload_n 1, 1) := dk_27 (dk_at dksX3_areDeeds_0 7 rfl rfl)
theorem dX3_areDeeds_8 : decode cX3_areDeeds 8 = .ok (.i2l, 1) := dk_133 (dk_at dksX3_areDeeds_0 8 rfl rfl)
theorem dX3_areDeeds_9 : decode cX3_areDeeds 9 = .ok (.lconst 0, 1) := dk_9 (dk_at dksX3_areDeeds_0 9 rfl rfl)
theorem dX3_areDeeds_10 : decode cX3_areDeeds 10 = .ok (.ldc2_w 309, 3) := dk_20 1 53 (dk_at dksX3_areDeeds_0 10 rfl rfl)
theorem dX3_areDeeds_13 : decode cX3_areDeeds 13 = .ok (.invokestatic 64, 3) := dk_184 0 64 (dk_at dksX3_areDeeds_0 13 rfl rfl)
theorem dX3_areDeeds_16 : decode cX3_areDeeds 16 = .ok (.ifCond .eq 7, 3) := dk_153 0 7 (dk_at dksX3_areDeeds_0 16 rfl rfl)
theorem dX3_areDeeds_19 : decode cX3_areDeeds 19 = .ok (.iconst 1, 1) := dk_4 (dk_at dksX3_areDeeds_0 19 rfl rfl)
theorem dX3_areDeeds_20 : decode cX3_areDeeds 20 = .ok (.goto 4, 3) := dk_167 0 4 (dk_at dksX3_areDeeds_0 20 rfl rfl)
theorem dX3_areDeeds_23 : decode cX3_areDeeds 23 = .ok (.iconst 0, 1) := dk_3 (dk_at dksX3_areDeeds_0 23 rfl rfl)
theorem dX3_areDeeds_24 : decode cX3_areDeeds 24 = .ok (.ireturn, 1) := dk_172 (dk_at dksX3_areDeeds_1 0 rfl rfl)
abbrev cX3_coversOf : ByteArray := prog_14_method_92_code
def yX3_coversOf : MethodName := ⟨RX3, "coversOf", "(I)I"⟩
def dkwX3_coversOf_2 : List UInt8 := [2, 130, 126, 154, 0, 5, 29, 61, 132, 3, 1, 167, 255, 207, 28, 172]
abbrev dktX3_coversOf_2 : List UInt8 := dkwX3_coversOf_2 ++ []
def dkwX3_coversOf_1 : List UInt8 := [159, 0, 14, 29, 184, 1, 41, 28, 184, 1, 41, 162, 0, 21, 27, 42, 42, 29, 182, 1, 55, 182, 1, 58]
abbrev dktX3_coversOf_1 : List UInt8 := dkwX3_coversOf_1 ++ dktX3_coversOf_2
def dkwX3_coversOf_0 : List UInt8 := [42, 182, 0, 251, 2, 61, 3, 62, 29, 4, 42, 180, 0, 34, 4, 46, 120, 162, 0, 43, 28, 2]
abbrev dktX3_coversOf_0 : List UInt8 := dkwX3_coversOf_0 ++ dktX3_coversOf_1
theorem dksX3_coversOf_0 : cX3_coversOf.data.toList.drop 0 = dktX3_coversOf_0 := by decide +kernel
theorem dksX3_coversOf_1 : cX3_coversOf.data.toList.drop 22 = dktX3_coversOf_1 := dk_seg dksX3_coversOf_0 22 rfl rfl
theorem dksX3_coversOf_2 : cX3_coversOf.data.toList.drop 46 = dktX3_coversOf_2 := dk_seg dksX3_coversOf_1 24 rfl rfl
theorem dX3_coversOf_0 : decode cX3_coversOf 0 = .ok (.aload_n 0, 1) := dk_42 (dk_at dksX3_coversOf_0 0 rfl rfl)
theorem dX3_coversOf_1 : decode cX3_coversOf 1 = .ok (.invokevirtual 251, 3) := dk_182 0 251 (dk_at dksX3_coversOf_0 1 rfl rfl)
theorem dX3_coversOf_4 : decode cX3_coversOf 4 = .ok (.iconst (-1), 1) := dk_2 (dk_at dksX3_coversOf_0 4 rfl rfl)
theorem dX3_coversOf_5 : decode cX3_coversOf 5 = .ok (.istore_n 2, 1) := dk_61 (dk_at dksX3_coversOf_0 5 rfl rfl)
theorem dX3_coversOf_6 : decode cX3_coversOf 6 = .ok (.iconst 0, 1) := dk_3 (dk_at dksX3_coversOf_0 6 rfl rfl)
theorem dX3_coversOf_7 : decode cX3_coversOf 7 = .ok (.istore_n 3, 1) := dk_62 (dk_at dksX3_coversOf_0 7 rfl rfl)
theorem dX3_coversOf_8 : decode cX3_coversOf 8 = .ok (.iload_n 3, 1) := dk_29 (dk_at dksX3_coversOf_0 8 rfl rfl)
theorem dX3_coversOf_9 : decode cX3_coversOf 9 = .ok (.iconst 1, 1) := dk_4 (dk_at dksX3_coversOf_0 9 rfl rfl)
theorem dX3_coversOf_10 : decode cX3_coversOf 10 = .ok (.aload_n 0, 1) := dk_42 (dk_at dksX3_coversOf_0 10 rfl rfl)
theorem dX3_coversOf_11 : decode cX3_coversOf 11 = .ok (.getfield 34, 3) := dk_180 0 34 (dk_at dksX3_coversOf_0 11 rfl rfl)
theorem dX3_coversOf_14 : decode cX3_coversOf 14 = .ok (.iconst 1, 1) := dk_4 (dk_at dksX3_coversOf_0 14 rfl rfl)
theorem dX3_coversOf_15 : decode cX3_coversOf 15 = .ok (.iaload, 1) := dk_46 (dk_at dksX3_coversOf_0 15 rfl rfl)
theorem dX3_coversOf_16 : decode cX3_coversOf 16 = .ok (.ishl, 1) := dk_120 (dk_at dksX3_coversOf_0 16 rfl rfl)
theorem dX3_coversOf_17 : decode cX3_coversOf 17 = .ok (.if_icmp .ge 43, 3) := dk_162 0 43 (dk_at dksX3_coversOf_0 17 rfl rfl)
theorem dX3_coversOf_20 : decode cX3_coversOf 20 = .ok (.iload_n 2, 1) := dk_28 (dk_at dksX3_coversOf_0 20 rfl rfl)
theorem dX3_coversOf_21 : decode cX3_coversOf 21 = .ok (.iconst (-1), 1) := dk_2 (dk_at dksX3_coversOf_0 21 rfl rfl)
theorem dX3_coversOf_22 : decode cX3_coversOf 22 = .ok (.if_icmp .eq 14, 3) := dk_159 0 14 (dk_at dksX3_coversOf_1 0 rfl rfl)
theorem dX3_coversOf_25 : decode cX3_coversOf 25 = .ok (.iload_n 3, 1) := dk_29 (dk_at dksX3_coversOf_1 3 rfl rfl)
theorem dX3_coversOf_26 : decode cX3_coversOf 26 = .ok (.invokestatic 297, 3) := dk_184 1 41 (dk_at dksX3_coversOf_1 4 rfl rfl)
theorem dX3_coversOf_29 : decode cX3_coversOf 29 = .ok (.iload_n 2, 1) := dk_28 (dk_at dksX3_coversOf_1 7 rfl rfl)
theorem dX3_coversOf_30 : decode cX3_coversOf 30 = .ok (.invokestatic 297, 3) := dk_184 1 41 (dk_at dksX3_coversOf_1 8 rfl rfl)
theorem dX3_coversOf_33 : decode cX3_coversOf 33 = .ok (.if_icmp .ge 21, 3) := dk_162 0 21 (dk_at dksX3_coversOf_1 11 rfl rfl)
theorem dX3_coversOf_36 : decode cX3_coversOf 36 = .ok (.iload_n 1, 1) := dk_27 (dk_at dksX3_coversOf_1 14 rfl rfl)
theorem dX3_coversOf_37 : decode cX3_coversOf 37 = .ok (.aload_n 0, 1) := dk_42 (dk_at dksX3_coversOf_1 15 rfl rfl)
theorem dX3_coversOf_38 : decode cX3_coversOf 38 = .ok (.aload_n 0, 1) := dk_42 (dk_at dksX3_coversOf_1 16 rfl rfl)
theorem dX3_coversOf_39 : decode cX3_coversOf 39 = .ok (.iload_n 3, 1) := dk_29 (dk_at dksX3_coversOf_1 17 rfl rfl)
theorem dX3_coversOf_40 : decode cX3_coversOf 40 = .ok (.invokevirtual 311, 3) := dk_182 1 55 (dk_at dksX3_coversOf_1 18 rfl rfl)
theorem dX3_coversOf_43 : decode cX3_coversOf 43 = .ok (.invokevirtual 314, 3) := dk_182 1 58 (dk_at dksX3_coversOf_1 21 rfl rfl)
theorem dX3_coversOf_46 : decode cX3_coversOf 46 = .ok (.iconst (-1), 1) := dk_2 (dk_at dksX3_coversOf_2 0 rfl rfl)
theorem dX3_coversOf_47 : decode cX3_coversOf 47 = .ok (.ixor, 1) := dk_130 (dk_at dksX3_coversOf_2 1 rfl rfl)
theorem dX3_coversOf_48 : decode cX3_coversOf 48 = .ok (.iand, 1) := dk_126 (dk_at dksX3_coversOf_2 2 rfl rfl)
theorem dX3_coversOf_49 : decode cX3_coversOf 49 = .ok (.ifCond .ne 5, 3) := dk_154 0 5 (dk_at dksX3_coversOf_2 3 rfl rfl)
theorem dX3_coversOf_52 : decode cX3_coversOf 52 = .ok (.iload_n 3, 1) := dk_29 (dk_at dksX3_coversOf_2 6 rfl rfl)
theorem dX3_coversOf_53 : decode cX3_coversOf 53 = .ok (.istore_n 2, 1) := dk_61 (dk_at dksX3_coversOf_2 7 rfl rfl)
theorem dX3_coversOf_54 : decode cX3_coversOf 54 = .ok (.iinc 3 1, 3) := dk_132 3 1 (dk_at dksX3_coversOf_2 8 rfl rfl)
theorem dX3_coversOf_57 : decode cX3_coversOf 57 = .ok (.goto (-49), 3) := dk_167 255 207 (dk_at dksX3_coversOf_2 11 rfl rfl)
theorem dX3_coversOf_60 : decode cX3_coversOf 60 = .ok (.iload_n 2, 1) := dk_28 (dk_at dksX3_coversOf_2 14 rfl rfl)
theorem dX3_coversOf_61 : decode cX3_coversOf 61 = .ok (.ireturn, 1) := dk_172 (dk_at dksX3_coversOf_2 15 rfl rfl)
abbrev cX3_handsOf : ByteArray := prog_14_method_89_code
def yX3_handsOf : MethodName := ⟨RX3, "handsOf", "(I)I"⟩
def dkwX3_handsOf_1 : List UInt8 := [29, 182, 0, 254, 167, 0, 4, 3, 128, 61, 132, 3, 1, 167, 255, 223, 28, 172]
abbrev dktX3_handsOf_1 : List UInt8 := dkwX3_handsOf_1 ++ []
def dkwX3_handsOf_0 : List UInt8 := [3, 61, 3, 62, 29, 42, 180, 0, 34, 4, 46, 162, 0, 29, 28, 27, 29, 184, 0, 239, 153, 0, 11, 42]
abbrev dktX3_handsOf_0 : List UInt8 := dkwX3_handsOf_0 ++ dktX3_handsOf_1
theorem dksX3_handsOf_0 : cX3_handsOf.data.toList.drop 0 = dktX3_handsOf_0 := by decide +kernel
theorem dksX3_handsOf_1 : cX3_handsOf.data.toList.drop 24 = dktX3_handsOf_1 := dk_seg dksX3_handsOf_0 24 rfl rfl
theorem dX3_handsOf_0 : decode cX3_handsOf 0 = .ok (.iconst 0, 1) := dk_3 (dk_at dksX3_handsOf_0 0 rfl rfl)
theorem dX3_handsOf_1 : decode cX3_handsOf 1 = .ok (.istore_n 2, 1) := dk_61 (dk_at dksX3_handsOf_0 1 rfl rfl)
theorem dX3_handsOf_2 : decode cX3_handsOf 2 = .ok (.iconst 0, 1) := dk_3 (dk_at dksX3_handsOf_0 2 rfl rfl)
theorem dX3_handsOf_3 : decode cX3_handsOf 3 = .ok (.istore_n 3, 1) := dk_62 (dk_at dksX3_handsOf_0 3 rfl rfl)
theorem dX3_handsOf_4 : decode cX3_handsOf 4 = .ok (.iload_n 3, 1) := dk_29 (dk_at dksX3_handsOf_0 4 rfl rfl)
theorem dX3_handsOf_5 : decode cX3_handsOf 5 = .ok (.aload_n 0, 1) := dk_42 (dk_at dksX3_handsOf_0 5 rfl rfl)
theorem dX3_handsOf_6 : decode cX3_handsOf 6 = .ok (.getfield 34, 3) := dk_180 0 34 (dk_at dksX3_handsOf_0 6 rfl rfl)
theorem dX3_handsOf_9 : decode cX3_handsOf 9 = .ok (.iconst 1, 1) := dk_4 (dk_at dksX3_handsOf_0 9 rfl rfl)
theorem dX3_handsOf_10 : decode cX3_handsOf 10 = .ok (.iaload, 1) := dk_46 (dk_at dksX3_handsOf_0 10 rfl rfl)
theorem dX3_handsOf_11 : decode cX3_handsOf 11 = .ok (.if_icmp .ge 29, 3) := dk_162 0 29 (dk_at dksX3_handsOf_0 11 rfl rfl)
theorem dX3_handsOf_14 : decode cX3_handsOf 14 = .ok (.iload_n 2, 1) := dk_28 (dk_at dksX3_handsOf_0 14 rfl rfl)
theorem dX3_handsOf_15 : decode cX3_handsOf 15 = .ok (.iload_n 1, 1) := dk_27 (dk_at dksX3_handsOf_0 15 rfl rfl)
theorem dX3_handsOf_16 : decode cX3_handsOf 16 = .ok (.iload_n 3, 1) := dk_29 (dk_at dksX3_handsOf_0 16 rfl rfl)
theorem dX3_handsOf_17 : decode cX3_handsOf 17 = .ok (.invokestatic 239, 3) := dk_184 0 239 (dk_at dksX3_handsOf_0 17 rfl rfl)
theorem dX3_handsOf_20 : decode cX3_handsOf 20 = .ok (.ifCond .eq 11, 3) := dk_153 0 11 (dk_at dksX3_handsOf_0 20 rfl rfl)
theorem dX3_handsOf_23 : decode cX3_handsOf 23 = .ok (.aload_n 0, 1) := dk_42 (dk_at dksX3_handsOf_0 23 rfl rfl)
theorem dX3_handsOf_24 : decode cX3_handsOf 24 = .ok (.iload_n 3, 1) := dk_29 (dk_at dksX3_handsOf_1 0 rfl rfl)
theorem dX3_handsOf_25 : decode cX3_handsOf 25 = .ok (.invokevirtual 254, 3) := dk_182 0 254 (dk_at dksX3_handsOf_1 1 rfl rfl)
theorem dX3_handsOf_28 : decode cX3_handsOf 28 = .ok (.goto 4, 3) := dk_167 0 4 (dk_at dksX3_handsOf_1 4 rfl rfl)
theorem dX3_handsOf_31 : decode cX3_handsOf 31 = .ok (.iconst 0, 1) := dk_3 (dk_at dksX3_handsOf_1 7 rfl rfl)
theorem dX3_handsOf_32 : decode cX3_handsOf 32 = .ok (.ior, 1) := dk_128 (dk_at dksX3_handsOf_1 8 rfl rfl)
theorem dX3_handsOf_33 : decode cX3_handsOf 33 = .ok (.istore_n 2, 1) := dk_61 (dk_at dksX3_handsOf_1 9 rfl rfl)
theorem dX3_handsOf_34 : decode cX3_handsOf 34 = .ok (.iinc 3 1, 3) := dk_132 3 1 (dk_at dksX3_handsOf_1 10 rfl rfl)
theorem dX3_handsOf_37 : decode cX3_handsOf 37 = .ok (.goto (-33), 3) := dk_167 255 223 (dk_at dksX3_handsOf_1 13 rfl rfl)
theorem dX3_handsOf_40 : decode cX3_handsOf 40 = .ok (.iload_n 2, 1) := dk_28 (dk_at dksX3_handsOf_1 16 rfl rfl)
theorem dX3_handsOf_41 : decode cX3_handsOf 41 = .ok (.ireturn, 1) := dk_172 (dk_at dksX3_handsOf_1 17 rfl rfl)
abbrev cX3_doneBy : ByteArray := prog_14_method_88_code
def yX3_doneBy : MethodName := ⟨RX3, "doneBy", "(I)I"⟩
def dkwX3_doneBy_1 : List UInt8 := [29, 4, 182, 0, 214, 167, 0, 4, 3, 128, 61, 132, 3, 1, 167, 255, 222, 28, 172]
abbrev dktX3_doneBy_1 : List UInt8 := dkwX3_doneBy_1 ++ []
def dkwX3_doneBy_0 : List UInt8 := [3, 61, 3, 62, 29, 42, 180, 0, 34, 4, 46, 162, 0, 30, 28, 27, 29, 184, 0, 239, 153, 0, 12, 42]
abbrev dktX3_doneBy_0 : List UInt8 := dkwX3_doneBy_0 ++ dktX3_doneBy_1
theorem dksX3_doneBy_0 : cX3_doneBy.data.toList.drop 0 = dktX3_doneBy_0 := by decide +kernel
theorem dksX3_doneBy_1 : cX3_doneBy.data.toList.drop 24 = dktX3_doneBy_1 := dk_seg dksX3_doneBy_0 24 rfl rfl
theorem dX3_doneBy_0 : decode cX3_doneBy 0 = .ok (.iconst 0, 1) := dk_3 (dk_at dksX3_doneBy_0 0 rfl rfl)
theorem dX3_doneBy_1 : decode cX3_doneBy 1 = .ok (.istore_n 2, 1) := dk_61 (dk_at dksX3_doneBy_0 1 rfl rfl)
theorem dX3_doneBy_2 : decode cX3_doneBy 2 = .ok (.iconst 0, 1) := dk_3 (dk_at dksX3_doneBy_0 2 rfl rfl)
theorem dX3_doneBy_3 : decode cX3_doneBy 3 = .ok (.istore_n 3, 1) := dk_62 (dk_at dksX3_doneBy_0 3 rfl rfl)
theorem dX3_doneBy_4 : decode cX3_doneBy 4 = .ok (.iload_n 3, 1) := dk_29 (dk_at dksX3_doneBy_0 4 rfl rfl)
theorem dX3_doneBy_5 : decode cX3_doneBy 5 = .ok (.aload_n 0, 1) := dk_42 (dk_at dksX3_doneBy_0 5 rfl rfl)
theorem dX3_doneBy_6 : decode cX3_doneBy 6 = .ok (.getfield 34, 3) := dk_180 0 34 (dk_at dksX3_doneBy_0 6 rfl rfl)
theorem dX3_doneBy_9 : decode cX3_doneBy 9 = .ok (.iconst 1, 1) := dk_4 (dk_at dksX3_doneBy_0 9 rfl rfl)
theorem dX3_doneBy_10 : decode cX3_doneBy 10 = .ok (.iaload, 1) := dk_46 (dk_at dksX3_doneBy_0 10 rfl rfl)
theorem dX3_doneBy_11 : decode cX3_doneBy 11 = .ok (.if_icmp .ge 30, 3) := dk_162 0 30 (dk_at dksX3_doneBy_0 11 rfl rfl)
theorem dX3_doneBy_14 : decode cX3_doneBy 14 = .ok (.iload_n 2, 1) := dk_28 (dk_at dksX3_doneBy_0 14 rfl rfl)
theorem dX3_doneBy_15 : decode cX3_doneBy 15 = .ok (.iload_n 1, 1) := dk_27 (dk_at dksX3_doneBy_0 15 rfl rfl)
theorem dX3_doneBy_16 : decode cX3_doneBy 16 = .ok (.iload_n 3, 1) := dk_29 (dk_at dksX3_doneBy_0 16 rfl rfl)
theorem dX3_doneBy_17 : decode cX3_doneBy 17 = .ok (.invokestatic 239, 3) := dk_184 0 239 (dk_at dksX3_doneBy_0 17 rfl rfl)
theorem dX3_doneBy_20 : decode cX3_doneBy 20 = .ok (.ifCond .eq 12, 3) := dk_153 0 12 (dk_at dksX3_doneBy_0 20 rfl rfl)
theorem dX3_doneBy_23 : decode cX3_doneBy 23 = .ok (.aload_n 0, 1) := dk_42 (dk_at dksX3_doneBy_0 23 rfl rfl)
theorem dX3_doneBy_24 : decode cX3_doneBy 24 = .ok (.iload_n 3, 1) := dk_29 (dk_at dksX3_doneBy_1 0 rfl rfl)
theorem dX3_doneBy_25 : decode cX3_doneBy 25 = .ok (.iconst 1, 1) := dk_4 (dk_at dksX3_doneBy_1 1 rfl rfl)
theorem dX3_doneBy_26 : decode cX3_doneBy 26 = .ok (.invokevirtual 214, 3) := dk_182 0 214 (dk_at dksX3_doneBy_1 2 rfl rfl)
theorem dX3_doneBy_29 : decode cX3_doneBy 29 = .ok (.goto 4, 3) := dk_167 0 4 (dk_at dksX3_doneBy_1 5 rfl rfl)
theorem dX3_doneBy_32 : decode cX3_doneBy 32 = .ok (.iconst 0, 1) := dk_3 (dk_at dksX3_doneBy_1 8 rfl rfl)
theorem dX3_doneBy_33 : decode cX3_doneBy 33 = .ok (.ior, 1) := dk_128 (dk_at dksX3_doneBy_1 9 rfl rfl)
theorem dX3_doneBy_34 : decode cX3_doneBy 34 = .ok (.istore_n 2, 1) := dk_61 (dk_at dksX3_doneBy_1 10 rfl rfl)
theorem dX3_doneBy_35 : decode cX3_doneBy 35 = .ok (.iinc 3 1, 3) := dk_132 3 1 (dk_at dksX3_doneBy_1 11 rfl rfl)
theorem dX3_doneBy_38 : decode cX3_doneBy 38 = .ok (.goto (-34), 3) := dk_167 255 222 (dk_at dksX3_doneBy_1 14 rfl rfl)
theorem dX3_doneBy_41 : decode cX3_doneBy 41 = .ok (.iload_n 2, 1) := dk_28 (dk_at dksX3_doneBy_1 17 rfl rfl)
theorem dX3_doneBy_42 : decode cX3_doneBy 42 = .ok (.ireturn, 1) := dk_172 (dk_at dksX3_doneBy_1 18 rfl rfl)
abbrev cX3_covers : ByteArray := prog_14_method_94_code
def yX3_covers : MethodName := ⟨RX3, "covers", "(I)I"⟩
def dkwX3_covers_0 : List UInt8 := [42, 3, 181, 0, 59, 42, 27, 182, 1, 61, 153, 0, 11, 42, 27, 182, 1, 64, 167, 0, 5, 16, 254, 172]
abbrev dktX3_covers_0 : List UInt8 := dkwX3_covers_0 ++ []
theorem dksX3_covers_0 : cX3_covers.data.toList.drop 0 = dktX3_covers_0 := by decide +kernel
theorem dX3_covers_0 : decode cX3_covers 0 = .ok (.aload_n 0, 1) := dk_42 (dk_at dksX3_covers_0 0 rfl rfl)
theorem dX3_covers_1 : decode cX3_covers 1 = .ok (.iconst 0, 1) := dk_3 (dk_at dksX3_covers_0 1 rfl rfl)
theorem dX3_covers_2 : decode cX3_covers 2 = .ok (.putfield 59, 3) := dk_181 0 59 (dk_at dksX3_covers_0 2 rfl rfl)
theorem dX3_covers_5 : decode cX3_covers 5 = .ok (.aload_n 0, 1) := dk_42 (dk_at dksX3_covers_0 5 rfl rfl)
theorem dX3_covers_6 : decode cX3_covers 6 = .ok (.iload_n 1, 1) := dk_27 (dk_at dksX3_covers_0 6 rfl rfl)
theorem dX3_covers_7 : decode cX3_covers 7 = .ok (.invokevirtual 317, 3) := dk_182 1 61 (dk_at dksX3_covers_0 7 rfl rfl)
theorem dX3_covers_10 : decode cX3_covers 10 = .ok (.ifCond .eq 11, 3) := dk_153 0 11 (dk_at dksX3_covers_0 10 rfl rfl)
theorem dX3_covers_13 : decode cX3_covers 13 = .ok (.aload_n 0, 1) := dk_42 (dk_at dksX3_covers_0 13 rfl rfl)
theorem dX3_covers_14 : decode cX3_covers 14 = .ok (.iload_n 1, 1) := dk_27 (dk_at dksX3_covers_0 14 rfl rfl)
theorem dX3_covers_15 : decode cX3_covers 15 = .ok (.invokevirtual 320, 3) := dk_182 1 64 (dk_at dksX3_covers_0 15 rfl rfl)
theorem dX3_covers_18 : decode cX3_covers 18 = .ok (.goto 5, 3) := dk_167 0 5 (dk_at dksX3_covers_0 18 rfl rfl)
theorem dX3_covers_21 : decode cX3_covers 21 = .ok (.bipush (-2), 2) := dk_16 254 (dk_at dksX3_covers_0 21 rfl rfl)
theorem dX3_covers_23 : decode cX3_covers 23 = .ok (.ireturn, 1) := dk_172 (dk_at dksX3_covers_0 23 rfl rfl)
abbrev cX3_buy : ByteArray := prog_14_method_96_code
def yX3_buy : MethodName := ⟨RX3, "buy", "(I)I"⟩
def dkwX3_buy_1 : List UInt8 := [160, 0, 7, 2, 167, 0, 8, 42, 28, 182, 1, 67, 172]
abbrev dktX3_buy_1 : List UInt8 := dkwX3_buy_1 ++ []
def dkwX3_buy_0 : List UInt8 := [42, 3, 181, 0, 59, 42, 27, 182, 1, 61, 154, 0, 6, 16, 254, 172, 42, 27, 182, 1, 70, 61, 28, 2]
abbrev dktX3_buy_0 : List UInt8 := dkwX3_buy_0 ++ dktX3_buy_1
theorem dksX3_buy_0 : cX3_buy.data.toList.drop 0 = dktX3_buy_0 := by decide +kernel
theorem dksX3_buy_1 : cX3_buy.data.toList.drop 24 = dktX3_buy_1 := dk_seg dksX3_buy_0 24 rfl rfl
theorem dX3_buy_0 : decode cX3_buy 0 = .ok (.aload_n 0, 1) := dk_42 (dk_at dksX3_buy_0 0 rfl rfl)
theorem dX3_buy_1 : decode cX3_buy 1 = .ok (.iconst 0, 1) := dk_3 (dk_at dksX3_buy_0 1 rfl rfl)
theorem dX3_buy_2 : decode cX3_buy 2 = .ok (.putfield 59, 3) := dk_181 0 59 (dk_at dksX3_buy_0 2 rfl rfl)
theorem dX3_buy_5 : decode cX3_buy 5 = .ok (.aload_n 0, 1) := dk_42 (dk_at dksX3_buy_0 5 rfl rfl)
theorem dX3_buy_6 : decode cX3_buy 6 = .ok (.iload_n 1, 1) := dk_27 (dk_at dksX3_buy_0 6 rfl rfl)
theorem dX3_buy_7 : decode cX3_buy 7 = .ok (.invokevirtual 317, 3) := dk_182 1 61 (dk_at dksX3_buy_0 7 rfl rfl)
theorem dX3_buy_10 : decode cX3_buy 10 = .ok (.ifCond .ne 6, 3) := dk_154 0 6 (dk_at dksX3_buy_0 10 rfl rfl)
theorem dX3_buy_13 : decode cX3_buy 13 = .ok (.bipush (-2), 2) := dk_16 254 (dk_at dksX3_buy_0 13 rfl rfl)
theorem dX3_buy_15 : decode cX3_buy 15 = .ok (.ireturn, 1) := dk_172 (dk_at dksX3_buy_0 15 rfl rfl)
theorem dX3_buy_16 : decode cX3_buy 16 = .ok (.aload_n 0, 1) := dk_42 (dk_at dksX3_buy_0 16 rfl rfl)
theorem dX3_buy_17 : decode cX3_buy 17 = .ok (.iload_n 1, 1) := dk_27 (dk_at dksX3_buy_0 17 rfl rfl)
theorem dX3_buy_18 : decode cX3_buy 18 = .ok (.invokevirtual 326, 3) := dk_182 1 70 (dk_at dksX3_buy_0 18 rfl rfl)
theorem dX3_buy_21 : decode cX3_buy 21 = .ok (.istore_n 2, 1) := dk_61 (dk_at dksX3_buy_0 21 rfl rfl)
theorem dX3_buy_22 : decode cX3_buy 22 = .ok (.iload_n 2, 1) := dk_28 (dk_at dksX3_buy_0 22 rfl rfl)
theorem dX3_buy_23 : decode cX3_buy 23 = .ok (.iconst (-1), 1) := dk_2 (dk_at dksX3_buy_0 23 rfl rfl)
theorem dX3_buy_24 : decode cX3_buy 24 = .ok (.if_icmp .ne 7, 3) := dk_160 0 7 (dk_at dksX3_buy_1 0 rfl rfl)
theorem dX3_buy_27 : decode cX3_buy 27 = .ok (.iconst (-1), 1) := dk_2 (dk_at dksX3_buy_1 3 rfl rfl)
theorem dX3_buy_28 : decode cX3_buy 28 = .ok (.goto 8, 3) := dk_167 0 8 (dk_at dksX3_buy_1 4 rfl rfl)
theorem dX3_buy_31 : decode cX3_buy 31 = .ok (.aload_n 0, 1) := dk_42 (dk_at dksX3_buy_1 7 rfl rfl)
theorem dX3_buy_32 : decode cX3_buy 32 = .ok (.iload_n 2, 1) := dk_28 (dk_at dksX3_buy_1 8 rfl rfl)
theorem dX3_buy_33 : decode cX3_buy 33 = .ok (.invokevirtual 323, 3) := dk_182 1 67 (dk_at dksX3_buy_1 9 rfl rfl)
theorem dX3_buy_36 : decode cX3_buy 36 = .ok (.ireturn, 1) := dk_172 (dk_at dksX3_buy_1 12 rfl rfl)
abbrev cX3_boughtOf : ByteArray := prog_14_method_95_code
def yX3_boughtOf : MethodName := ⟨RX3, "boughtOf", "(I)I"⟩
def dkwX3_boughtOf_2 : List UInt8 := [61, 132, 3, 1, 167, 255, 209, 28, 172]
abbrev dktX3_boughtOf_2 : List UInt8 := dkwX3_boughtOf_2 ++ []
def dkwX3_boughtOf_1 : List UInt8 := [182, 1, 67, 42, 28, 182, 1, 67, 162, 0, 17, 27, 42, 29, 182, 1, 58, 2, 130, 126, 154, 0, 5, 29]
abbrev dktX3_boughtOf_1 : List UInt8 := dkwX3_boughtOf_1 ++ dktX3_boughtOf_2
def dkwX3_boughtOf_0 : List UInt8 := [2, 61, 3, 62, 29, 4, 42, 180, 0, 34, 4, 46, 120, 162, 0, 41, 28, 2, 159, 0, 16, 42, 29]
abbrev dktX3_boughtOf_0 : List UInt8 := dkwX3_boughtOf_0 ++ dktX3_boughtOf_1
theorem dksX3_boughtOf_0 : cX3_boughtOf.data.toList.drop 0 = dktX3_boughtOf_0 := by decide +kernel
theorem dksX3_boughtOf_1 : cX3_boughtOf.data.toList.drop 23 = dktX3_boughtOf_1 := dk_seg dksX3_boughtOf_0 23 rfl rfl
theorem dksX3_boughtOf_2 : cX3_boughtOf.data.toList.drop 47 = dktX3_boughtOf_2 := dk_seg dksX3_boughtOf_1 24 rfl rfl
theorem dX3_boughtOf_0 : decode cX3_boughtOf 0 = .ok (.iconst (-1), 1) := dk_2 (dk_at dksX3_boughtOf_0 0 rfl rfl)
theorem dX3_boughtOf_1 : decode cX3_boughtOf 1 = .ok (.istore_n 2, 1) := dk_61 (dk_at dksX3_boughtOf_0 1 rfl rfl)
theorem dX3_boughtOf_2 : decode cX3_boughtOf 2 = .ok (.iconst 0, 1) := dk_3 (dk_at dksX3_boughtOf_0 2 rfl rfl)
theorem dX3_boughtOf_3 : decode cX3_boughtOf 3 = .ok (.istore_n 3, 1) := dk_62 (dk_at dksX3_boughtOf_0 3 rfl rfl)
theorem dX3_boughtOf_4 : decode cX3_boughtOf 4 = .ok (.iload_n 3, 1) := dk_29 (dk_at dksX3_boughtOf_0 4 rfl rfl)
theorem dX3_boughtOf_5 : decode cX3_boughtOf 5 = .ok (.iconst 1, 1) := dk_4 (dk_at dksX3_boughtOf_0 5 rfl rfl)
theorem dX3_boughtOf_6 : decode cX3_boughtOf 6 = .ok (.aload_n 0, 1) := dk_42 (dk_at dksX3_boughtOf_0 6 rfl rfl)
theorem dX3_boughtOf_7 : decode cX3_boughtOf 7 = .ok (.getfield 34, 3) := dk_180 0 34 (dk_at dksX3_boughtOf_0 7 rfl rfl)
theorem dX3_boughtOf_10 : decode cX3_boughtOf 10 = .ok (.iconst 1, 1) := dk_4 (dk_at dksX3_boughtOf_0 10 rfl rfl)
theorem dX3_boughtOf_11 : decode cX3_boughtOf 11 = .ok (.iaload, 1) := dk_46 (dk_at dksX3_boughtOf_0 11 rfl rfl)
theorem dX3_boughtOf_12 : decode cX3_boughtOf 12 = .ok (.ishl, 1) := dk_120 (dk_at dksX3_boughtOf_0 12 rfl rfl)
theorem dX3_boughtOf_13 : decode cX3_boughtOf 13 = .ok (.if_icmp .ge 41, 3) := dk_162 0 41 (dk_at dksX3_boughtOf_0 13 rfl rfl)
theorem dX3_boughtOf_16 : decode cX3_boughtOf 16 = .ok (.iload_n 2, 1) := dk_28 (dk_at dksX3_boughtOf_0 16 rfl rfl)
theorem dX3_boughtOf_17 : decode cX3_boughtOf 17 = .ok (.iconst (-1), 1) := dk_2 (dk_at dksX3_boughtOf_0 17 rfl rfl)
theorem dX3_boughtOf_18 : decode cX3_boughtOf 18 = .ok (.if_icmp .eq 16, 3) := dk_159 0 16 (dk_at dksX3_boughtOf_0 18 rfl rfl)
theorem dX3_boughtOf_21 : decode cX3_boughtOf 21 = .ok (.aload_n 0, 1) := dk_42 (dk_at dksX3_boughtOf_0 21 rfl rfl)
theorem dX3_boughtOf_22 : decode cX3_boughtOf 22 = .ok (.iload_n 3, 1) := dk_29 (dk_at dksX3_boughtOf_0 22 rfl rfl)
theorem dX3_boughtOf_23 : decode cX3_boughtOf 23 = .ok (.invokevirtual 323, 3) := dk_182 1 67 (dk_at dksX3_boughtOf_1 0 rfl rfl)
theorem dX3_boughtOf_26 : decode cX3_boughtOf 26 = .ok (.aload_n 0, 1) := dk_42 (dk_at dksX3_boughtOf_1 3 rfl rfl)
theorem dX3_boughtOf_27 : decode cX3_boughtOf 27 = .ok (.iload_n 2, 1) := dk_28 (dk_at dksX3_boughtOf_1 4 rfl rfl)
theorem dX3_boughtOf_28 : decode cX3_boughtOf 28 = .ok (.invokevirtual 323, 3) := dk_182 1 67 (dk_at dksX3_boughtOf_1 5 rfl rfl)
theorem dX3_boughtOf_31 : decode cX3_boughtOf 31 = .ok (.if_icmp .ge 17, 3) := dk_162 0 17 (dk_at dksX3_boughtOf_1 8 rfl rfl)
theorem dX3_boughtOf_34 : decode cX3_boughtOf 34 = .ok (.iload_n 1, 1) := dk_27 (dk_at dksX3_boughtOf_1 11 rfl rfl)
theorem dX3_boughtOf_35 : decode cX3_boughtOf 35 = .ok (.aload_n 0, 1) := dk_42 (dk_at dksX3_boughtOf_1 12 rfl rfl)
theorem dX3_boughtOf_36 : decode cX3_boughtOf 36 = .ok (.iload_n 3, 1) := dk_29 (dk_at dksX3_boughtOf_1 13 rfl rfl)
theorem dX3_boughtOf_37 : decode cX3_boughtOf 37 = .ok (.invokevirtual 314, 3) := dk_182 1 58 (dk_at dksX3_boughtOf_1 14 rfl rfl)
theorem dX3_boughtOf_40 : decode cX3_boughtOf 40 = .ok (.iconst (-1), 1) := dk_2 (dk_at dksX3_boughtOf_1 17 rfl rfl)
theorem dX3_boughtOf_41 : decode cX3_boughtOf 41 = .ok (.ixor, 1) := dk_130 (dk_at dksX3_boughtOf_1 18 rfl rfl)
theorem dX3_boughtOf_42 : decode cX3_boughtOf 42 = .ok (.iand, 1) := dk_126 (dk_at dksX3_boughtOf_1 19 rfl rfl)
theorem dX3_boughtOf_43 : decode cX3_boughtOf 43 = .ok (.ifCond .ne 5, 3) := dk_154 0 5 (dk_at dksX3_boughtOf_1 20 rfl rfl)
theorem dX3_boughtOf_46 : decode cX3_boughtOf 46 = .ok (.iload_n 3, 1) := dk_29 (dk_at dksX3_boughtOf_1 23 rfl rfl)
theorem dX3_boughtOf_47 : decode cX3_boughtOf 47 = .ok (.istore_n 2, 1) := dk_61 (dk_at dksX3_boughtOf_2 0 rfl rfl)
theorem dX3_boughtOf_48 : decode cX3_boughtOf 48 = .ok (.iinc 3 1, 3) := dk_132 3 1 (dk_at dksX3_boughtOf_2 1 rfl rfl)
theorem dX3_boughtOf_51 : decode cX3_boughtOf 51 = .ok (.goto (-47), 3) := dk_167 255 209 (dk_at dksX3_boughtOf_2 4 rfl rfl)
theorem dX3_boughtOf_54 : decode cX3_boughtOf 54 = .ok (.iload_n 2, 1) := dk_28 (dk_at dksX3_boughtOf_2 7 rfl rfl)
theorem dX3_boughtOf_55 : decode cX3_boughtOf 55 = .ok (.ireturn, 1) := dk_172 (dk_at dksX3_boughtOf_2 8 rfl rfl)
abbrev cX3_worthOf : ByteArray := prog_14_method_90_code
def yX3_worthOf : MethodName := ⟨RX3, "worthOf", "(I)I"⟩
def dkwX3_worthOf_1 : List UInt8 := [29, 3, 182, 0, 214, 167, 0, 4, 3, 96, 61, 132, 3, 1, 167, 255, 222, 28, 172]
abbrev dktX3_worthOf_1 : List UInt8 := dkwX3_worthOf_1 ++ []
def dkwX3_worthOf_0 : List UInt8 := [3, 61, 3, 62, 29, 42, 180, 0, 34, 4, 46, 162, 0, 30, 28, 27, 29, 184, 0, 239, 153, 0, 12, 42]
abbrev dktX3_worthOf_0 : List UInt8 := dkwX3_worthOf_0 ++ dktX3_worthOf_1
theorem dksX3_worthOf_0 : cX3_worthOf.data.toList.drop 0 = dktX3_worthOf_0 := by decide +kernel
theorem dksX3_worthOf_1 : cX3_worthOf.data.toList.drop 24 = dktX3_worthOf_1 := dk_seg dksX3_worthOf_0 24 rfl rfl
theorem dX3_worthOf_0 : decode cX3_worthOf 0 = .ok (.iconst 0, 1) := dk_3 (dk_at dksX3_worthOf_0 0 rfl rfl)
theorem dX3_worthOf_1 : decode cX3_worthOf 1 = .ok (.istore_n 2, 1) := dk_61 (dk_at dksX3_worthOf_0 1 rfl rfl)
theorem dX3_worthOf_2 : decode cX3_worthOf 2 = .ok (.iconst 0, 1) := dk_3 (dk_at dksX3_worthOf_0 2 rfl rfl)
theorem dX3_worthOf_3 : decode cX3_worthOf 3 = .ok (.istore_n 3, 1) := dk_62 (dk_at dksX3_worthOf_0 3 rfl rfl)
theorem dX3_worthOf_4 : decode cX3_worthOf 4 = .ok (.iload_n 3, 1) := dk_29 (dk_at dksX3_worthOf_0 4 rfl rfl)
theorem dX3_worthOf_5 : decode cX3_worthOf 5 = .ok (.aload_n 0, 1) := dk_42 (dk_at dksX3_worthOf_0 5 rfl rfl)
theorem dX3_worthOf_6 : decode cX3_worthOf 6 = .ok (.getfield 34, 3) := dk_180 0 34 (dk_at dksX3_worthOf_0 6 rfl rfl)
theorem dX3_worthOf_9 : decode cX3_worthOf 9 = .ok (.iconst 1, 1) := dk_4 (dk_at dksX3_worthOf_0 9 rfl rfl)
theorem dX3_worthOf_10 : decode cX3_worthOf 10 = .ok (.iaload, 1) := dk_46 (dk_at dksX3_worthOf_0 10 rfl rfl)
theorem dX3_worthOf_11 : decode cX3_worthOf 11 = .ok (.if_icmp .ge 30, 3) := dk_162 0 30 (dk_at dksX3_worthOf_0 11 rfl rfl)
theorem dX3_worthOf_14 : decode cX3_worthOf 14 = .ok (.iload_n 2, 1) := dk_28 (dk_at dksX3_worthOf_0 14 rfl rfl)
theorem dX3_worthOf_15 : decode cX3_worthOf 15 = .ok (.iload_n 1, 1) := dk_27 (dk_at dksX3_worthOf_0 15 rfl rfl)
theorem dX3_worthOf_16 : decode cX3_worthOf 16 = .ok (.iload_n 3, 1) := dk_29 (dk_at dksX3_worthOf_0 16 rfl rfl)
theorem dX3_worthOf_17 : decode cX3_worthOf 17 = .ok (.invokestatic 239, 3) := dk_184 0 239 (dk_at dksX3_worthOf_0 17 rfl rfl)
theorem dX3_worthOf_20 : decode cX3_worthOf 20 = .ok (.ifCond .eq 12, 3) := dk_153 0 12 (dk_at dksX3_worthOf_0 20 rfl rfl)
theorem dX3_worthOf_23 : decode cX3_worthOf 23 = .ok (.aload_n 0, 1) := dk_42 (dk_at dksX3_worthOf_0 23 rfl rfl)
theorem dX3_worthOf_24 : decode cX3_worthOf 24 = .ok (.iload_n 3, 1) := dk_29 (dk_at dksX3_worthOf_1 0 rfl rfl)
theorem dX3_worthOf_25 : decode cX3_worthOf 25 = .ok (.iconst 0, 1) := dk_3 (dk_at dksX3_worthOf_1 1 rfl rfl)
theorem dX3_worthOf_26 : decode cX3_worthOf 26 = .ok (.invokevirtual 214, 3) := dk_182 0 214 (dk_at dksX3_worthOf_1 2 rfl rfl)
theorem dX3_worthOf_29 : decode cX3_worthOf 29 = .ok (.goto 4, 3) := dk_167 0 4 (dk_at dksX3_worthOf_1 5 rfl rfl)
theorem dX3_worthOf_32 : decode cX3_worthOf 32 = .ok (.iconst 0, 1) := dk_3 (dk_at dksX3_worthOf_1 8 rfl rfl)
theorem dX3_worthOf_33 : decode cX3_worthOf 33 = .ok (.iadd, 1) := dk_96 (dk_at dksX3_worthOf_1 9 rfl rfl)
theorem dX3_worthOf_34 : decode cX3_worthOf 34 = .ok (.istore_n 2, 1) := dk_61 (dk_at dksX3_worthOf_1 10 rfl rfl)
theorem dX3_worthOf_35 : decode cX3_worthOf 35 = .ok (.iinc 3 1, 3) := dk_132 3 1 (dk_at dksX3_worthOf_1 11 rfl rfl)
theorem dX3_worthOf_38 : decode cX3_worthOf 38 = .ok (.goto (-34), 3) := dk_167 255 222 (dk_at dksX3_worthOf_1 14 rfl rfl)
theorem dX3_worthOf_41 : decode cX3_worthOf 41 = .ok (.iload_n 2, 1) := dk_28 (dk_at dksX3_worthOf_1 17 rfl rfl)
theorem dX3_worthOf_42 : decode cX3_worthOf 42 = .ok (.ireturn, 1) := dk_172 (dk_at dksX3_worthOf_1 18 rfl rfl)
abbrev cX3_bought : ByteArray := prog_14_method_97_code
def yX3_bought : MethodName := ⟨RX3, "bought", "(I)I"⟩
def dkwX3_bought_0 : List UInt8 := [42, 3, 181, 0, 59, 42, 27, 182, 1, 61, 153, 0, 11, 42, 27, 182, 1, 70, 167, 0, 5, 16, 254, 172]
abbrev dktX3_bought_0 : List UInt8 := dkwX3_bought_0 ++ []
theorem dksX3_bought_0 : cX3_bought.data.toList.drop 0 = dktX3_bought_0 := by decide +kernel
theorem dX3_bought_0 : decode cX3_bought 0 = .ok (.aload_n 0, 1) := dk_42 (dk_at dksX3_bought_0 0 rfl rfl)
theorem dX3_bought_1 : decode cX3_bought 1 = .ok (.iconst 0, 1) := dk_3 (dk_at dksX3_bought_0 1 rfl rfl)
theorem dX3_bought_2 : decode cX3_bought 2 = .ok (.putfield 59, 3) := dk_181 0 59 (dk_at dksX3_bought_0 2 rfl rfl)
theorem dX3_bought_5 : decode cX3_bought 5 = .ok (.aload_n 0, 1) := dk_42 (dk_at dksX3_bought_0 5 rfl rfl)
theorem dX3_bought_6 : decode cX3_bought 6 = .ok (.iload_n 1, 1) := dk_27 (dk_at dksX3_bought_0 6 rfl rfl)
theorem dX3_bought_7 : decode cX3_bought 7 = .ok (.invokevirtual 317, 3) := dk_182 1 61 (dk_at dksX3_bought_0 7 rfl rfl)
theorem dX3_bought_10 : decode cX3_bought 10 = .ok (.ifCond .eq 11, 3) := dk_153 0 11 (dk_at dksX3_bought_0 10 rfl rfl)
theorem dX3_bought_13 : decode cX3_bought 13 = .ok (.aload_n 0, 1) := dk_42 (dk_at dksX3_bought_0 13 rfl rfl)
theorem dX3_bought_14 : decode cX3_bought 14 = .ok (.iload_n 1, 1) := dk_27 (dk_at dksX3_bought_0 14 rfl rfl)
theorem dX3_bought_15 : decode cX3_bought 15 = .ok (.invokevirtual 326, 3) := dk_182 1 70 (dk_at dksX3_bought_0 15 rfl rfl)
theorem dX3_bought_18 : decode cX3_bought 18 = .ok (.goto 5, 3) := dk_167 0 5 (dk_at dksX3_bought_0 18 rfl rfl)
theorem dX3_bought_21 : decode cX3_bought 21 = .ok (.bipush (-2), 2) := dk_16 254 (dk_at dksX3_bought_0 21 rfl rfl)
theorem dX3_bought_23 : decode cX3_bought 23 = .ok (.ireturn, 1) := dk_172 (dk_at dksX3_bought_0 23 rfl rfl)
abbrev cX3_deeds : ByteArray := prog_14_method_99_code
def yX3_deeds : MethodName := ⟨RX3, "deeds", "(I)I"⟩
def dkwX3_deeds_1 : List UInt8 := [42, 42, 27, 182, 1, 75, 182, 1, 58, 184, 1, 41, 167, 0, 5, 16, 254, 172]
abbrev dktX3_deeds_1 : List UInt8 := dkwX3_deeds_1 ++ []
def dkwX3_deeds_0 : List UInt8 := [42, 3, 181, 0, 59, 42, 182, 0, 209, 153, 0, 30, 27, 133, 9, 20, 1, 73, 184, 0, 64, 153, 0, 18]
abbrev dktX3_deeds_0 : List UInt8 := dkwX3_deeds_0 ++ dktX3_deeds_1
theorem dksX3_deeds_0 : cX3_deeds.data.toList.drop 0 = dktX3_deeds_0 := by decide +kernel
theorem dksX3_deeds_1 : cX3_deeds.data.toList.drop 24 = dktX3_deeds_1 := dk_seg dksX3_deeds_0 24 rfl rfl
theorem dX3_deeds_0 : decode cX3_deeds 0 = .ok (.aload_n 0, 1) := dk_42 (dk_at dksX3_deeds_0 0 rfl rfl)
theorem dX3_deeds_1 : decode cX3_deeds 1 = .ok (.iconst 0, 1) := dk_3 (dk_at dksX3_deeds_0 1 rfl rfl)
theorem dX3_deeds_2 : decode cX3_deeds 2 = .ok (.putfield 59, 3) := dk_181 0 59 (dk_at dksX3_deeds_0 2 rfl rfl)
theorem dX3_deeds_5 : decode cX3_deeds 5 = .ok (.aload_n 0, 1) := dk_42 (dk_at dksX3_deeds_0 5 rfl rfl)
theorem dX3_deeds_6 : decode cX3_deeds 6 = .ok (.invokevirtual 209, 3) := dk_182 0 209 (dk_at dksX3_deeds_0 6 rfl rfl)
theorem dX3_deeds_9 : decode cX3_deeds 9 = .ok (.ifCond .eq 30, 3) := dk_153 0 30 (dk_at dksX3_deeds_0 9 rfl rfl)
theorem dX3_deeds_12 : decode cX3_deeds 12 = .ok (.iload_n 1, 1) := dk_27 (dk_at dksX3_deeds_0 12 rfl rfl)
theorem dX3_deeds_13 : decode cX3_deeds 13 = .ok (.i2l, 1) := dk_133 (dk_at dksX3_deeds_0 13 rfl rfl)
theorem dX3_deeds_14 : decode cX3_deeds 14 = .ok (.lconst 0, 1) := dk_9 (dk_at dksX3_deeds_0 14 rfl rfl)
theorem dX3_deeds_15 : decode cX3_deeds 15 = .ok (.ldc2_w 329, 3) := dk_20 1 73 (dk_at dksX3_deeds_0 15 rfl rfl)
theorem dX3_deeds_18 : decode cX3_deeds 18 = .ok (.invokestatic 64, 3) := dk_184 0 64 (dk_at dksX3_deeds_0 18 rfl rfl)
theorem dX3_deeds_21 : decode cX3_deeds 21 = .ok (.ifCond .eq 18, 3) := dk_153 0 18 (dk_at dksX3_deeds_0 21 rfl rfl)
theorem dX3_deeds_24 : decode cX3_deeds 24 = .ok (.aload_n 0, 1) := dk_42 (dk_at dksX3_deeds_1 0 rfl rfl)
theorem dX3_deeds_25 : decode cX3_deeds 25 = .ok (.aload_n 0, 1) := dk_42 (dk_at dksX3_deeds_1 1 rfl rfl)
theorem dX3_deeds_26 : decode cX3_deeds 26 = .ok (.iload_n 1, 1) := dk_27 (dk_at dksX3_deeds_1 2 rfl rfl)
theorem dX3_deeds_27 : decode cX3_deeds 27 = .ok (.invokevirtual 331, 3) := dk_182 1 75 (dk_at dksX3_deeds_1 3 rfl rfl)
theorem dX3_deeds_30 : decode cX3_deeds 30 = .ok (.invokevirtual 314, 3) := dk_182 1 58 (dk_at dksX3_deeds_1 6 rfl rfl)
theorem dX3_deeds_33 : decode cX3_deeds 33 = .ok (.invokestatic 297, 3) := dk_184 1 41 (dk_at dksX3_deeds_1 9 rfl rfl)
theorem dX3_deeds_36 : decode cX3_deeds 36 = .ok (.goto 5, 3) := dk_167 0 5 (dk_at dksX3_deeds_1 12 rfl rfl)
theorem dX3_deeds_39 : decode cX3_deeds 39 = .ok (.bipush (-2), 2) := dk_16 254 (dk_at dksX3_deeds_1 15 rfl rfl)
theorem dX3_deeds_41 : decode cX3_deeds 41 = .ok (.ireturn, 1) := dk_172 (dk_at dksX3_deeds_1 17 rfl rfl)
abbrev cX3_hiredOf : ByteArray := prog_14_method_98_code
def yX3_hiredOf : MethodName := ⟨RX3, "hiredOf", "(I)I"⟩
def dkwX3_hiredOf_2 : List UInt8 := [132, 3, 1, 167, 255, 211, 28, 172]
abbrev dktX3_hiredOf_2 : List UInt8 := dkwX3_hiredOf_2 ++ []
def dkwX3_hiredOf_1 : List UInt8 := [163, 0, 24, 42, 29, 182, 1, 58, 184, 1, 41, 42, 28, 182, 1, 58, 184, 1, 41, 164, 0, 5, 29, 61]
abbrev dktX3_hiredOf_1 : List UInt8 := dkwX3_hiredOf_1 ++ dktX3_hiredOf_2
def dkwX3_hiredOf_0 : List UInt8 := [3, 61, 3, 62, 29, 4, 42, 180, 0, 34, 4, 46, 120, 162, 0, 39, 42, 29, 182, 1, 67, 27]
abbrev dktX3_hiredOf_0 : List UInt8 := dkwX3_hiredOf_0 ++ dktX3_hiredOf_1
theorem dksX3_hiredOf_0 : cX3_hiredOf.data.toList.drop 0 = dktX3_hiredOf_0 := by decide +kernel
theorem dksX3_hiredOf_1 : cX3_hiredOf.data.toList.drop 22 = dktX3_hiredOf_1 := dk_seg dksX3_hiredOf_0 22 rfl rfl
theorem dksX3_hiredOf_2 : cX3_hiredOf.data.toList.drop 46 = dktX3_hiredOf_2 := dk_seg dksX3_hiredOf_1 24 rfl rfl
theorem dX3_hiredOf_0 : decode cX3_hiredOf 0 = .ok (.iconst 0, 1) := dk_3 (dk_at dksX3_hiredOf_0 0 rfl rfl)
theorem dX3_hiredOf_1 : decode cX3_hiredOf 1 = .ok (.istore_n 2, 1) := dk_61 (dk_at dksX3_hiredOf_0 1 rfl rfl)
theorem dX3_hiredOf_2 : decode cX3_hiredOf 2 = .ok (.iconst 0, 1) := dk_3 (dk_at dksX3_hiredOf_0 2 rfl rfl)
theorem dX3_hiredOf_3 : decode cX3_hiredOf 3 = .ok (.istore_n 3, 1) := dk_62 (dk_at dksX3_hiredOf_0 3 rfl rfl)
theorem dX3_hiredOf_4 : decode cX3_hiredOf 4 = .ok (.iload_n 3, 1) := dk_29 (dk_at dksX3_hiredOf_0 4 rfl rfl)
theorem dX3_hiredOf_5 : decode cX3_hiredOf 5 = .ok (.iconst 1, 1) := dk_4 (dk_at dksX3_hiredOf_0 5 rfl rfl)
theorem dX3_hiredOf_6 : decode cX3_hiredOf 6 = .ok (.aload_n 0, 1) := dk_42 (dk_at dksX3_hiredOf_0 6 rfl rfl)
theorem dX3_hiredOf_7 : decode cX3_hiredOf 7 = .ok (.getfield 34, 3) := dk_180 0 34 (dk_at dksX3_hiredOf_0 7 rfl rfl)
theorem dX3_hiredOf_10 : decode cX3_hiredOf 10 = .ok (.iconst 1, 1) := dk_4 (dk_at dksX3_hiredOf_0 10 rfl rfl)
theorem dX3_hiredOf_11 : decode cX3_hiredOf 11 = .ok (.iaload, 1) := dk_46 (dk_at dksX3_hiredOf_0 11 rfl rfl)
theorem dX3_hiredOf_12 : decode cX3_hiredOf 12 = .ok (.ishl, 1) := dk_120 (dk_at dksX3_hiredOf_0 12 rfl rfl)
theorem dX3_hiredOf_13 : decode cX3_hiredOf 13 = .ok (.if_icmp .ge 39, 3) := dk_162 0 39 (dk_at dksX3_hiredOf_0 13 rfl rfl)
theorem dX3_hiredOf_16 : decode cX3_hiredOf 16 = .ok (.aload_n 0, 1) := dk_42 (dk_at dksX3_hiredOf_0 16 rfl rfl)
theorem dX3_hiredOf_17 : decode cX3_hiredOf 17 = .ok (.iload_n 3, 1) := dk_29 (dk_at dksX3_hiredOf_0 17 rfl rfl)
theorem dX3_hiredOf_18 : decode cX3_hiredOf 18 = .ok (.invokevirtual 323, 3) := dk_182 1 67 (dk_at dksX3_hiredOf_0 18 rfl rfl)
theorem dX3_hiredOf_21 : decode cX3_hiredOf 21 = .ok (.iload_n 1, 1) := dk_27 (dk_at dksX3_hiredOf_0 21 rfl rfl)
theorem dX3_hiredOf_22 : decode cX3_hiredOf 22 = .ok (.if_icmp .gt 24, 3) := dk_163 0 24 (dk_at dksX3_hiredOf_1 0 rfl rfl)
theorem dX3_hiredOf_25 : decode cX3_hiredOf 25 = .ok (.aload_n 0, 1) := dk_42 (dk_at dksX3_hiredOf_1 3 rfl rfl)
theorem dX3_hiredOf_26 : decode cX3_hiredOf 26 = .ok (.iload_n 3, 1) := dk_29 (dk_at dksX3_hiredOf_1 4 rfl rfl)
theorem dX3_hiredOf_27 : decode cX3_hiredOf 27 = .ok (.invokevirtual 314, 3) := dk_182 1 58 (dk_at dksX3_hiredOf_1 5 rfl rfl)
theorem dX3_hiredOf_30 : decode cX3_hiredOf 30 = .ok (.invokestatic 297, 3) := dk_184 1 41 (dk_at dksX3_hiredOf_1 8 rfl rfl)
theorem dX3_hiredOf_33 : decode cX3_hiredOf 33 = .ok (.aload_n 0, 1) := dk_42 (dk_at dksX3_hiredOf_1 11 rfl rfl)
theorem dX3_hiredOf_34 : decode cX3_hiredOf 34 = .ok (.iload_n 2, 1) := dk_28 (dk_at dksX3_hiredOf_1 12 rfl rfl)
theorem dX3_hiredOf_35 : decode cX3_hiredOf 35 = .ok (.invokevirtual 314, 3) := dk_182 1 58 (dk_at dksX3_hiredOf_1 13 rfl rfl)
theorem dX3_hiredOf_38 : decode cX3_hiredOf 38 = .ok (.invokestatic 297, 3) := dk_184 1 41 (dk_at dksX3_hiredOf_1 16 rfl rfl)
theorem dX3_hiredOf_41 : decode cX3_hiredOf 41 = .ok (.if_icmp .le 5, 3) := dk_164 0 5 (dk_at dksX3_hiredOf_1 19 rfl rfl)
theorem dX3_hiredOf_44 : decode cX3_hiredOf 44 = .ok (.iload_n 3, 1) := dk_29 (dk_at dksX3_hiredOf_1 22 rfl rfl)
theorem dX3_hiredOf_45 : decode cX3_hiredOf 45 = .ok (.istore_n 2, 1) := dk_61 (dk_at dksX3_hiredOf_1 23 rfl rfl)
theorem dX3_hiredOf_46 : decode cX3_hiredOf 46 = .ok (.iinc 3 1, 3) := dk_132 3 1 (dk_at dksX3_hiredOf_2 0 rfl rfl)
theorem dX3_hiredOf_49 : decode cX3_hiredOf 49 = .ok (.goto (-45), 3) := dk_167 255 211 (dk_at dksX3_hiredOf_2 3 rfl rfl)
theorem dX3_hiredOf_52 : decode cX3_hiredOf 52 = .ok (.iload_n 2, 1) := dk_28 (dk_at dksX3_hiredOf_2 6 rfl rfl)
theorem dX3_hiredOf_53 : decode cX3_hiredOf 53 = .ok (.ireturn, 1) := dk_172 (dk_at dksX3_hiredOf_2 7 rfl rfl)
abbrev cX3_hired : ByteArray := prog_14_method_100_code
def yX3_hired : MethodName := ⟨RX3, "hired", "(I)I"⟩
def dkwX3_hired_1 : List UInt8 := [42, 27, 182, 1, 75, 167, 0, 5, 16, 254, 172]
abbrev dktX3_hired_1 : List UInt8 := dkwX3_hired_1 ++ []
def dkwX3_hired_0 : List UInt8 := [42, 3, 181, 0, 59, 42, 182, 0, 209, 153, 0, 23, 27, 133, 9, 20, 1, 73, 184, 0, 64, 153, 0, 11]
abbrev dktX3_hired_0 : List UInt8 := dkwX3_hired_0 ++ dktX3_hired_1
theorem dksX3_hired_0 : cX3_hired.data.toList.drop 0 = dktX3_hired_0 := by decide +kernel
theorem dksX3_hired_1 : cX3_hired.data.toList.drop 24 = dktX3_hired_1 := dk_seg dksX3_hired_0 24 rfl rfl
theorem dX3_hired_0 : decode cX3_hired 0 = .ok (.aload_n 0, 1) := dk_42 (dk_at dksX3_hired_0 0 rfl rfl)
theorem dX3_hired_1 : decode cX3_hired 1 = .ok (.iconst 0, 1) := dk_3 (dk_at dksX3_hired_0 1 rfl rfl)
theorem dX3_hired_2 : decode cX3_hired 2 = .ok (.putfield 59, 3) := dk_181 0 59 (dk_at dksX3_hired_0 2 rfl rfl)
theorem dX3_hired_5 : decode cX3_hired 5 = .ok (.aload_n 0, 1) := dk_42 (dk_at dksX3_hired_0 5 rfl rfl)
theorem dX3_hired_6 : decode cX3_hired 6 = .ok (.invokevirtual 209, 3) := dk_182 0 209 (dk_at dksX3_hired_0 6 rfl rfl)
theorem dX3_hired_9 : decode cX3_hired 9 = .ok (.ifCond .eq 23, 3) := dk_153 0 23 (dk_at dksX3_hired_0 9 rfl rfl)
theorem dX3_hired_12 : decode cX3_hired 12 = .ok (.iload_n 1, 1) := dk_27 (dk_at dksX3_hired_0 12 rfl rfl)
theorem dX3_hired_13 : decode cX3_hired 13 = .ok (.i2l, 1) := dk_133 (dk_at dksX3_hired_0 13 rfl rfl)
theorem dX3_hired_14 : decode cX3_hired 14 = .ok (.lconst 0, 1) := dk_9 (dk_at dksX3_hired_0 14 rfl rfl)
theorem dX3_hired_15 : decode cX3_hired 15 = .ok (.ldc2_w 329, 3) := dk_20 1 73 (dk_at dksX3_hired_0 15 rfl rfl)
theorem dX3_hired_18 : decode cX3_hired 18 = .ok (.invokestatic 64, 3) := dk_184 0 64 (dk_at dksX3_hired_0 18 rfl rfl)
theorem dX3_hired_21 : decode cX3_hired 21 = .ok (.ifCond .eq 11, 3) := dk_153 0 11 (dk_at dksX3_hired_0 21 rfl rfl)
theorem dX3_hired_24 : decode cX3_hired 24 = .ok (.aload_n 0, 1) := dk_42 (dk_at dksX3_hired_1 0 rfl rfl)
theorem dX3_hired_25 : decode cX3_hired 25 = .ok (.iload_n 1, 1) := dk_27 (dk_at dksX3_hired_1 1 rfl rfl)
theorem dX3_hired_26 : decode cX3_hired 26 = .ok (.invokevirtual 331, 3) := dk_182 1 75 (dk_at dksX3_hired_1 2 rfl rfl)
theorem dX3_hired_29 : decode cX3_hired 29 = .ok (.goto 5, 3) := dk_167 0 5 (dk_at dksX3_hired_1 5 rfl rfl)
theorem dX3_hired_32 : decode cX3_hired 32 = .ok (.bipush (-2), 2) := dk_16 254 (dk_at dksX3_hired_1 8 rfl rfl)
theorem dX3_hired_34 : decode cX3_hired 34 = .ok (.ireturn, 1) := dk_172 (dk_at dksX3_hired_1 10 rfl rfl)
abbrev cX3_suspects : ByteArray := prog_14_method_104_code
def yX3_suspects : MethodName := ⟨RX3, "suspects", "(I)I"⟩
def dkwX3_suspects_1 : List UInt8 := [182, 1, 81, 182, 1, 84, 172]
abbrev dktX3_suspects_1 : List UInt8 := dkwX3_suspects_1 ++ []
def dkwX3_suspects_0 : List UInt8 := [42, 3, 181, 0, 59, 42, 27, 182, 1, 78, 61, 28, 153, 0, 7, 28, 167, 0, 12, 42, 42, 27]
abbrev dktX3_suspects_0 : List UInt8 := dkwX3_suspects_0 ++ dktX3_suspects_1
theorem dksX3_suspects_0 : cX3_suspects.data.toList.drop 0 = dktX3_suspects_0 := by decide +kernel
theorem dksX3_suspects_1 : cX3_suspects.data.toList.drop 22 = dktX3_suspects_1 := dk_seg dksX3_suspects_0 22 rfl rfl
theorem dX3_suspects_0 : decode cX3_suspects 0 = .ok (.aload_n 0, 1) := dk_42 (dk_at dksX3_suspects_0 0 rfl rfl)
theorem dX3_suspects_1 : decode cX3_suspects 1 = .ok (.iconst 0, 1) := dk_3 (dk_at dksX3_suspects_0 1 rfl rfl)
theorem dX3_suspects_2 : decode cX3_suspects 2 = .ok (.putfield 59, 3) := dk_181 0 59 (dk_at dksX3_suspects_0 2 rfl rfl)
theorem dX3_suspects_5 : decode cX3_suspects 5 = .ok (.aload_n 0, 1) := dk_42 (dk_at dksX3_suspects_0 5 rfl rfl)
theorem dX3_suspects_6 : decode cX3_suspects 6 = .ok (.iload_n 1, 1) := dk_27 (dk_at dksX3_suspects_0 6 rfl rfl)
theorem dX3_suspects_7 : decode cX3_suspects 7 = .ok (.invokevirtual 334, 3) := dk_182 1 78 (dk_at dksX3_suspects_0 7 rfl rfl)
theorem dX3_suspects_10 : decode cX3_suspects 10 = .ok (.istore_n 2, 1) := dk_61 (dk_at dksX3_suspects_0 10 rfl rfl)
theorem dX3_suspects_11 : decode cX3_suspects 11 = .ok (.iload_n 2, 1) := dk_28 (dk_at dksX3_suspects_0 11 rfl rfl)
theorem dX3_suspects_12 : decode cX3_suspects 12 = .ok (.ifCond .eq 7, 3) := dk_153 0 7 (dk_at dksX3_suspects_0 12 rfl rfl)
theorem dX3_suspects_15 : decode cX3_suspects 15 = .ok (.iload_n 2, 1) := dk_28 (dk_at dksX3_suspects_0 15 rfl rfl)
theorem dX3_suspects_16 : decode cX3_suspects 16 = .ok (.goto 12, 3) := dk_167 0 12 (dk_at dksX3_suspects_0 16 rfl rfl)
theorem dX3_suspects_19 : decode cX3_suspects 19 = .ok (.aload_n 0, 1) := dk_42 (dk_at dksX3_suspects_0 19 rfl rfl)
theorem dX3_suspects_20 : decode cX3_suspects 20 = .ok (.aload_n 0, 1) := dk_42 (dk_at dksX3_suspects_0 20 rfl rfl)
theorem dX3_suspects_21 : decode cX3_suspects 21 = .ok (.iload_n 1, 1) := dk_27 (dk_at dksX3_suspects_0 21 rfl rfl)
theorem dX3_suspects_22 : decode cX3_suspects 22 = .ok (.invokevirtual 337, 3) := dk_182 1 81 (dk_at dksX3_suspects_1 0 rfl rfl)
theorem dX3_suspects_25 : decode cX3_suspects 25 = .ok (.invokevirtual 340, 3) := dk_182 1 84 (dk_at dksX3_suspects_1 3 rfl rfl)
theorem dX3_suspects_28 : decode cX3_suspects 28 = .ok (.ireturn, 1) := dk_172 (dk_at dksX3_suspects_1 6 rfl rfl)
abbrev cX3_whyNot : ByteArray := prog_14_method_101_code
def yX3_whyNot : MethodName := ⟨RX3, "whyNot", "(I)I"⟩
def dkwX3_whyNot_2 : List UInt8 := [27, 104, 28, 96, 47, 184, 1, 22, 154, 0, 6, 16, 254, 172, 132, 2, 1, 167, 255, 223, 3, 172]
abbrev dktX3_whyNot_2 : List UInt8 := dkwX3_whyNot_2 ++ []
def dkwX3_whyNot_1 : List UInt8 := [160, 0, 6, 16, 250, 172, 3, 61, 28, 42, 180, 0, 13, 27, 46, 162, 0, 29, 42, 180, 0, 16, 16, 60]
abbrev dktX3_whyNot_1 : List UInt8 := dkwX3_whyNot_1 ++ dktX3_whyNot_2
def dkwX3_whyNot_0 : List UInt8 := [27, 184, 0, 68, 153, 0, 10, 42, 182, 0, 209, 154, 0, 6, 16, 254, 172, 42, 180, 0, 7, 27, 46, 2]
abbrev dktX3_whyNot_0 : List UInt8 := dkwX3_whyNot_0 ++ dktX3_whyNot_1
theorem dksX3_whyNot_0 : cX3_whyNot.data.toList.drop 0 = dktX3_whyNot_0 := by decide +kernel
theorem dksX3_whyNot_1 : cX3_whyNot.data.toList.drop 24 = dktX3_whyNot_1 := dk_seg dksX3_whyNot_0 24 rfl rfl
theorem dksX3_whyNot_2 : cX3_whyNot.data.toList.drop 48 = dktX3_whyNot_2 := dk_seg dksX3_whyNot_1 24 rfl rfl
theorem dX3_whyNot_0 : decode cX3_whyNot 0 = .ok (.iload_n 1, 1) := dk_27 (dk_at dksX3_whyNot_0 0 rfl rfl)
theorem dX3_whyNot_1 : decode cX3_whyNot 1 = .ok (.invokestatic 68, 3) := dk_184 0 68 (dk_at dksX3_whyNot_0 1 rfl rfl)
theorem dX3_whyNot_4 : decode cX3_whyNot 4 = .ok (.ifCond .eq 10, 3) := dk_153 0 10 (dk_at dksX3_whyNot_0 4 rfl rfl)
theorem dX3_whyNot_7 : decode cX3_whyNot 7 = .ok (.aload_n 0, 1) := dk_42 (dk_at dksX3_whyNot_0 7 rfl rfl)
theorem dX3_whyNot_8 : decode cX3_whyNot 8 = .ok (.invokevirtual 209, 3) := dk_182 0 209 (dk_at dksX3_whyNot_0 8 rfl rfl)
theorem dX3_whyNot_11 : decode cX3_whyNot 11 = .ok (.ifCond .ne 6, 3) := dk_154 0 6 (dk_at dksX3_whyNot_0 11 rfl rfl)
theorem dX3_whyNot_14 : decode cX3_whyNot 14 = .ok (.bipush (-2), 2) := dk_16 254 (dk_at dksX3_whyNot_0 14 rfl rfl)
theorem dX3_whyNot_16 : decode cX3_whyNot 16 = .ok (.ireturn, 1) := dk_172 (dk_at dksX3_whyNot_0 16 rfl rfl)
theorem dX3_whyNot_17 : decode cX3_whyNot 17 = .ok (.aload_n 0, 1) := dk_42 (dk_at dksX3_whyNot_0 17 rfl rfl)
theorem dX3_whyNot_18 : decode cX3_whyNot 18 = .ok (.getfield 7, 3) := dk_180 0 7 (dk_at dksX3_whyNot_0 18 rfl rfl)
theorem dX3_whyNot_21 : decode cX3_whyNot 21 = .ok (.iload_n 1, 1) := dk_27 (dk_at dksX3_whyNot_0 21 rfl rfl)
theorem dX3_whyNot_22 : decode cX3_whyNot 22 = .ok (.iaload, 1) := dk_46 (dk_at dksX3_whyNot_0 22 rfl rfl)
theorem dX3_whyNot_23 : decode cX3_whyNot 23 = .ok (.iconst (-1), 1) := dk_2 (dk_at dksX3_whyNot_0 23 rfl rfl)
theorem dX3_whyNot_24 : decode cX3_whyNot 24 = .ok (.if_icmp .ne 6, 3) := dk_160 0 6 (dk_at dksX3_whyNot_1 0 rfl rfl)
theorem dX3_whyNot_27 : decode cX3_whyNot 27 = .ok (.bipush (-6), 2) := dk_16 250 (dk_at dksX3_whyNot_1 3 rfl rfl)
theorem dX3_whyNot_29 : decode cX3_whyNot 29 = .ok (.ireturn, 1) := dk_172 (dk_at dksX3_whyNot_1 5 rfl rfl)
theorem dX3_whyNot_30 : decode cX3_whyNot 30 = .ok (.iconst 0, 1) := dk_3 (dk_at dksX3_whyNot_1 6 rfl rfl)
theorem dX3_whyNot_31 : decode cX3_whyNot 31 = .ok (.istore_n 2, 1) := dk_61 (dk_at dksX3_whyNot_1 7 rfl rfl)
theorem dX3_whyNot_32 : decode cX3_whyNot 32 = .ok (.iload_n 2, 1) := dk_28 (dk_at dksX3_whyNot_1 8 rfl rfl)
theorem dX3_whyNot_33 : decode cX3_whyNot 33 = .ok (.aload_n 0, 1) := dk_42 (dk_at dksX3_whyNot_1 9 rfl rfl)
theorem dX3_whyNot_34 : decode cX3_whyNot 34 = .ok (.getfield 13, 3) := dk_180 0 13 (dk_at dksX3_whyNot_1 10 rfl rfl)
theorem dX3_whyNot_37 : decode cX3_whyNot 37 = .ok (.iload_n 1, 1) := dk_27 (dk_at dksX3_whyNot_1 13 rfl rfl)
theorem dX3_whyNot_38 : decode cX3_whyNot 38 = .ok (.iaload, 1) := dk_46 (dk_at dksX3_whyNot_1 14 rfl rfl)
theorem dX3_whyNot_39 : decode cX3_whyNot 39 = .ok (.if_icmp .ge 29, 3) := dk_162 0 29 (dk_at dksX3_whyNot_1 15 rfl rfl)
theorem dX3_whyNot_42 : decode cX3_whyNot 42 = .ok (.aload_n 0, 1) := dk_42 (dk_at dksX3_whyNot_1 18 rfl rfl)
theorem dX3_whyNot_43 : decode cX3_whyNot 43 = .ok (.getfield 16, 3) := dk_180 0 16 (dk_at dksX3_whyNot_1 19 rfl rfl)
theorem dX3_whyNot_46 : decode cX3_whyNot 46 = .ok (.bipush 60, 2) := dk_16 60 (dk_at dksX3_whyNot_1 22 rfl rfl)
theorem dX3_whyNot_48 : decode cX3_whyNot 48 = .ok (.iload_n 1, 1) := dk_27 (dk_at dksX3_whyNot_2 0 rfl rfl)
theorem dX3_whyNot_49 : decode cX3_whyNot 49 = .ok (.imul, 1) := dk_104 (dk_at dksX3_whyNot_2 1 rfl rfl)
theorem dX3_whyNot_50 : decode cX3_whyNot 50 = .ok (.iload_n 2, 1) := dk_28 (dk_at dksX3_whyNot_2 2 rfl rfl)
theorem dX3_whyNot_51 : decode cX3_whyNot 51 = .ok (.iadd, 1) := dk_96 (dk_at dksX3_whyNot_2 3 rfl rfl)
theorem dX3_whyNot_52 : decode cX3_whyNot 52 = .ok (.laload, 1) := dk_47 (dk_at dksX3_whyNot_2 4 rfl rfl)
theorem dX3_whyNot_53 : decode cX3_whyNot 53 = .ok (.invokestatic 278, 3) := dk_184 1 22 (dk_at dksX3_whyNot_2 5 rfl rfl)
theorem dX3_whyNot_56 : decode cX3_whyNot 56 = .ok (.ifCond .ne 6, 3) := dk_154 0 6 (dk_at dksX3_whyNot_2 8 rfl rfl)
theorem dX3_whyNot_59 : decode cX3_whyNot 59 = .ok (.bipush (-2), 2) := dk_16 254 (dk_at dksX3_whyNot_2 11 rfl rfl)
theorem dX3_whyNot_61 : decode cX3_whyNot 61 = .ok (.ireturn, 1) := dk_172 (dk_at dksX3_whyNot_2 13 rfl rfl)
theorem dX3_whyNot_62 : decode cX3_whyNot 62 = .ok (.iinc 2 1, 3) := dk_132 2 1 (dk_at dksX3_whyNot_2 14 rfl rfl)
theorem dX3_whyNot_65 : decode cX3_whyNot 65 = .ok (.goto (-33), 3) := dk_167 255 223 (dk_at dksX3_whyNot_2 17 rfl rfl)
theorem dX3_whyNot_68 : decode cX3_whyNot 68 = .ok (.iconst 0, 1) := dk_3 (dk_at dksX3_whyNot_2 20 rfl rfl)
theorem dX3_whyNot_69 : decode cX3_whyNot 69 = .ok (.ireturn, 1) := dk_172 (dk_at dksX3_whyNot_2 21 rfl rfl)
abbrev cX3_rowOf : ByteArray := prog_14_method_102_code
def yX3_rowOf : MethodName := ⟨RX3, "rowOf", "(I)I"⟩
def dkwX3_rowOf_1 : List UInt8 := [29, 96, 47, 136, 120, 128, 61, 132, 3, 1, 167, 255, 226, 28, 172]
abbrev dktX3_rowOf_1 : List UInt8 := dkwX3_rowOf_1 ++ []
def dkwX3_rowOf_0 : List UInt8 := [3, 61, 3, 62, 29, 42, 180, 0, 13, 27, 46, 162, 0, 26, 28, 4, 42, 180, 0, 16, 16, 60, 27, 104]
abbrev dktX3_rowOf_0 : List UInt8 := dkwX3_rowOf_0 ++ dktX3_rowOf_1
theorem dksX3_rowOf_0 : cX3_rowOf.data.toList.drop 0 = dktX3_rowOf_0 := by decide +kernel
theorem dksX3_rowOf_1 : cX3_rowOf.data.toList.drop 24 = dktX3_rowOf_1 := dk_seg dksX3_rowOf_0 24 rfl rfl
theorem dX3_rowOf_0 : decode cX3_rowOf 0 = .ok (.iconst 0, 1) := dk_3 (dk_at dksX3_rowOf_0 0 rfl rfl)
theorem dX3_rowOf_1 : decode cX3_rowOf 1 = .ok (.istore_n 2, 1) := dk_61 (dk_at dksX3_rowOf_0 1 rfl rfl)
theorem dX3_rowOf_2 : decode cX3_rowOf 2 = .ok (.iconst 0, 1) := dk_3 (dk_at dksX3_rowOf_0 2 rfl rfl)
theorem dX3_rowOf_3 : decode cX3_rowOf 3 = .ok (.istore_n 3, 1) := dk_62 (dk_at dksX3_rowOf_0 3 rfl rfl)
theorem dX3_rowOf_4 : decode cX3_rowOf 4 = .ok (.iload_n 3, 1) := dk_29 (dk_at dksX3_rowOf_0 4 rfl rfl)
theorem dX3_rowOf_5 : decode cX3_rowOf 5 = .ok (.aload_n 0, 1) := dk_42 (dk_at dksX3_rowOf_0 5 rfl rfl)
theorem dX3_rowOf_6 : decode cX3_rowOf 6 = .ok (.getfield 13, 3) := dk_180 0 13 (dk_at dksX3_rowOf_0 6 rfl rfl)
theorem dX3_rowOf_9 : decode cX3_rowOf 9 = .ok (.iload_n 1, 1) := dk_27 (dk_at dksX3_rowOf_0 9 rfl rfl)
theorem dX3_rowOf_10 : decode cX3_rowOf 10 = .ok (.iaload, 1) := dk_46 (dk_at dksX3_rowOf_0 10 rfl rfl)
theorem dX3_rowOf_11 : decode cX3_rowOf 11 = .ok (.if_icmp .ge 26, 3) := dk_162 0 26 (dk_at dksX3_rowOf_0 11 rfl rfl)
theorem dX3_rowOf_14 : decode cX3_rowOf 14 = .ok (.iload_n 2, 1) := dk_28 (dk_at dksX3_rowOf_0 14 rfl rfl)
theorem dX3_rowOf_15 : decode cX3_rowOf 15 = .ok (.iconst 1, 1) := dk_4 (dk_at dksX3_rowOf_0 15 rfl rfl)
theorem dX3_rowOf_16 : decode cX3_rowOf 16 = .ok (.aload_n 0, 1) := dk_42 (dk_at dksX3_rowOf_0 16 rfl rfl)
theorem dX3_rowOf_17 : decode cX3_rowOf 17 = .ok (.getfield 16, 3) := dk_180 0 16 (dk_at dksX3_rowOf_0 17 rfl rfl)
theorem dX3_rowOf_20 : decode cX3_rowOf 20 = .ok (.bipush 60, 2) := dk_16 60 (dk_at dksX3_rowOf_0 20 rfl rfl)
theorem dX3_rowOf_22 : decode cX3_rowOf 22 = .ok (.iload_n 1, 1) := dk_27 (dk_at dksX3_rowOf_0 22 rfl rfl)
theorem dX3_rowOf_23 : decode cX3_rowOf 23 = .ok (.imul, 1) := dk_104 (dk_at dksX3_rowOf_0 23 rfl rfl)
theorem dX3_rowOf_24 : decode cX3_rowOf 24 = .ok (.iload_n 3, 1) := dk_29 (dk_at dksX3_rowOf_1 0 rfl rfl)
theorem dX3_rowOf_25 : decode cX3_rowOf 25 = .ok (.iadd, 1) := dk_96 (dk_at dksX3_rowOf_1 1 rfl rfl)
theorem dX3_rowOf_26 : decode cX3_rowOf 26 = .ok (.laload, 1) := dk_47 (dk_at dksX3_rowOf_1 2 rfl rfl)
theorem dX3_rowOf_27 : decode cX3_rowOf 27 = .ok (.l2i, 1) := dk_136 (dk_at dksX3_rowOf_1 3 rfl rfl)
theorem dX3_rowOf_28 : decode cX3_rowOf 28 = .ok (.ishl, 1) := dk_120 (dk_at dksX3_rowOf_1 4 rfl rfl)
theorem dX3_rowOf_29 : decode cX3_rowOf 29 = .ok (.ior, 1) := dk_128 (dk_at dksX3_rowOf_1 5 rfl rfl)
theorem dX3_rowOf_30 : decode cX3_rowOf 30 = .ok (.istore_n 2, 1) := dk_61 (dk_at dksX3_rowOf_1 6 rfl rfl)
theorem dX3_rowOf_31 : decode cX3_rowOf 31 = .ok (.iinc 3 1, 3) := dk_132 3 1 (dk_at dksX3_rowOf_1 7 rfl rfl)
theorem dX3_rowOf_34 : decode cX3_rowOf 34 = .ok (.goto (-30), 3) := dk_167 255 226 (dk_at dksX3_rowOf_1 10 rfl rfl)
theorem dX3_rowOf_37 : decode cX3_rowOf 37 = .ok (.iload_n 2, 1) := dk_28 (dk_at dksX3_rowOf_1 13 rfl rfl)
theorem dX3_rowOf_38 : decode cX3_rowOf 38 = .ok (.ireturn, 1) := dk_172 (dk_at dksX3_rowOf_1 14 rfl rfl)
abbrev cX3_wishing : ByteArray := prog_14_method_103_code
def yX3_wishing : MethodName := ⟨RX3, "wishing", "(I)I"⟩
def dkwX3_wishing_1 : List UInt8 := [126, 154, 0, 9, 4, 29, 120, 167, 0, 4, 3, 128, 61, 132, 3, 1, 167, 255, 220, 28, 172]
abbrev dktX3_wishing_1 : List UInt8 := dkwX3_wishing_1 ++ []
def dkwX3_wishing_0 : List UInt8 := [3, 61, 3, 62, 29, 42, 180, 0, 34, 4, 46, 162, 0, 32, 28, 27, 42, 29, 5, 182, 0, 214, 2, 130]
abbrev dktX3_wishing_0 : List UInt8 := dkwX3_wishing_0 ++ dktX3_wishing_1
theorem dksX3_wishing_0 : cX3_wishing.data.toList.drop 0 = dktX3_wishing_0 := by decide +kernel
theorem dksX3_wishing_1 : cX3_wishing.data.toList.drop 24 = dktX3_wishing_1 := dk_seg dksX3_wishing_0 24 rfl rfl
theorem dX3_wishing_0 : decode cX3_wishing 0 = .ok (.iconst 0, 1) := dk_3 (dk_at dksX3_wishing_0 0 rfl rfl)
theorem dX3_wishing_1 : decode cX3_wishing 1 = .ok (.istore_n 2, 1) := dk_61 (dk_at dksX3_wishing_0 1 rfl rfl)
theorem dX3_wishing_2 : decode cX3_wishing 2 = .ok (.iconst 0, 1) := dk_3 (dk_at dksX3_wishing_0 2 rfl rfl)
theorem dX3_wishing_3 : decode cX3_wishing 3 = .ok (.istore_n 3, 1) := dk_62 (dk_at dksX3_wishing_0 3 rfl rfl)
theorem dX3_wishing_4 : decode cX3_wishing 4 = .ok (.iload_n 3, 1) := dk_29 (dk_at dksX3_wishing_0 4 rfl rfl)
theorem dX3_wishing_5 : decode cX3_wishing 5 = .ok (.aload_n 0, 1) := dk_42 (dk_at dksX3_wishing_0 5 rfl rfl)
theorem dX3_wishing_6 : decode cX3_wishing 6 = .ok (.getfield 34, 3) := dk_180 0 34 (dk_at dksX3_wishing_0 6 rfl rfl)
theorem dX3_wishing_9 : decode cX3_wishing 9 = .ok (.iconst 1, 1) := dk_4 (dk_at dksX3_wishing_0 9 rfl rfl)
theorem dX3_wishing_10 : decode cX3_wishing 10 = .ok (.iaload, 1) := dk_46 (dk_at dksX3_wishing_0 10 rfl rfl)
theorem dX3_wishing_11 : decode cX3_wishing 11 = .ok (.if_icmp .ge 32, 3) := dk_162 0 32 (dk_at dksX3_wishing_0 11 rfl rfl)
theorem dX3_wishing_14 : decode cX3_wishing 14 = .ok (.iload_n 2, 1) := dk_28 (dk_at dksX3_wishing_0 14 rfl rfl)
theorem dX3_wishing_15 : decode cX3_wishing 15 = .ok (.iload_n 1, 1) := dk_27 (dk_at dksX3_wishing_0 15 rfl rfl)
theorem dX3_wishing_16 : decode cX3_wishing 16 = .ok (.aload_n 0, 1) := dk_42 (dk_at dksX3_wishing_0 16 rfl rfl)
theorem dX3_wishing_17 : decode cX3_wishing 17 = .ok (.iload_n 3, 1) := dk_29 (dk_at dksX3_wishing_0 17 rfl rfl)
theorem dX3_wishing_18 : decode cX3_wishing 18 = .ok (.iconst 2, 1) := dk_5 (dk_at dksX3_wishing_0 18 rfl rfl)
theorem dX3_wishing_19 : decode cX3_wishing 19 = .ok (.invokevirtual 214, 3) := dk_182 0 214 (dk_at dksX3_wishing_0 19 rfl rfl)
theorem dX3_wishing_22 : decode cX3_wishing 22 = .ok (.iconst (-1), 1) := dk_2 (dk_at dksX3_wishing_0 22 rfl rfl)
theorem dX3_wishing_23 : decode cX3_wishing 23 = .ok (.ixor, 1) := dk_130 (dk_at dksX3_wishing_0 23 rfl rfl)
theorem dX3_wishing_24 : decode cX3_wishing 24 = .ok (.iand, 1) := dk_126 (dk_at dksX3_wishing_1 0 rfl rfl)
theorem dX3_wishing_25 : decode cX3_wishing 25 = .ok (.ifCond .ne 9, 3) := dk_154 0 9 (dk_at dksX3_wishing_1 1 rfl rfl)
theorem dX3_wishing_28 : decode cX3_wishing 28 = .ok (.iconst 1, 1) := dk_4 (dk_at dksX3_wishing_1 4 rfl rfl)
theorem dX3_wishing_29 : decode cX3_wishing 29 = .ok (.iload_n 3, 1) := dk_29 (dk_at dksX3_wishing_1 5 rfl rfl)
theorem dX3_wishing_30 : decode cX3_wishing 30 = .ok (.ishl, 1) := dk_120 (dk_at dksX3_wishing_1 6 rfl rfl)
theorem dX3_wishing_31 : decode cX3_wishing 31 = .ok (.goto 4, 3) := dk_167 0 4 (dk_at dksX3_wishing_1 7 rfl rfl)
theorem dX3_wishing_34 : decode cX3_wishing 34 = .ok (.iconst 0, 1) := dk_3 (dk_at dksX3_wishing_1 10 rfl rfl)
theorem dX3_wishing_35 : decode cX3_wishing 35 = .ok (.ior, 1) := dk_128 (dk_at dksX3_wishing_1 11 rfl rfl)
theorem dX3_wishing_36 : decode cX3_wishing 36 = .ok (.istore_n 2, 1) := dk_61 (dk_at dksX3_wishing_1 12 rfl rfl)
theorem dX3_wishing_37 : decode cX3_wishing 37 = .ok (.iinc 3 1, 3) := dk_132 3 1 (dk_at dksX3_wishing_1 13 rfl rfl)
theorem dX3_wishing_40 : decode cX3_wishing 40 = .ok (.goto (-36), 3) := dk_167 255 220 (dk_at dksX3_wishing_1 16 rfl rfl)
theorem dX3_wishing_43 : decode cX3_wishing 43 = .ok (.iload_n 2, 1) := dk_28 (dk_at dksX3_wishing_1 19 rfl rfl)
theorem dX3_wishing_44 : decode cX3_wishing 44 = .ok (.ireturn, 1) := dk_172 (dk_at dksX3_wishing_1 20 rfl rfl)
abbrev cX3_watch : ByteArray := prog_14_method_106_code
def yX3_watch : MethodName := ⟨RX3, "watch", "(I)I"⟩
def dkwX3_watch_1 : List UInt8 := [180, 1, 87, 172]
abbrev dktX3_watch_1 : List UInt8 := dkwX3_watch_1 ++ []
def dkwX3_watch_0 : List UInt8 := [42, 3, 181, 0, 59, 42, 27, 182, 1, 78, 61, 28, 153, 0, 5, 28, 172, 42, 27, 182, 1, 93, 42]
abbrev dktX3_watch_0 : List UInt8 := dkwX3_watch_0 ++ dktX3_watch_1
theorem dksX3_watch_0 : cX3_watch.data.toList.drop 0 = dktX3_watch_0 := by decide +kernel
theorem dksX3_watch_1 : cX3_watch.data.toList.drop 23 = dktX3_watch_1 := dk_seg dksX3_watch_0 23 rfl rfl
theorem dX3_watch_0 : decode cX3_watch 0 = .ok (.aload_n 0, 1) := dk_42 (dk_at dksX3_watch_0 0 rfl rfl)
theorem dX3_watch_1 : decode cX3_watch 1 = .ok (.iconst 0, 1) := dk_3 (dk_at dksX3_watch_0 1 rfl rfl)
theorem dX3_watch_2 : decode cX3_watch 2 = .ok (.putfield 59, 3) := dk_181 0 59 (dk_at dksX3_watch_0 2 rfl rfl)
theorem dX3_watch_5 : decode cX3_watch 5 = .ok (.aload_n 0, 1) := dk_42 (dk_at dksX3_watch_0 5 rfl rfl)
theorem dX3_watch_6 : decode cX3_watch 6 = .ok (.iload_n 1, 1) := dk_27 (dk_at dksX3_watch_0 6 rfl rfl)
theorem dX3_watch_7 : decode cX3_watch 7 = .ok (.invokevirtual 334, 3) := dk_182 1 78 (dk_at dksX3_watch_0 7 rfl rfl)
theorem dX3_watch_10 : decode cX3_watch 10 = .ok (.istore_n 2, 1) := dk_61 (dk_at dksX3_watch_0 10 rfl rfl)
theorem dX3_watch_11 : decode cX3_watch 11 = .ok (.iload_n 2, 1) := dk_28 (dk_at dksX3_watch_0 11 rfl rfl)
theorem dX3_watch_12 : decode cX3_watch 12 = .ok (.ifCond .eq 5, 3) := dk_153 0 5 (dk_at dksX3_watch_0 12 rfl rfl)
theorem dX3_watch_15 : decode cX3_watch 15 = .ok (.iload_n 2, 1) := dk_28 (dk_at dksX3_watch_0 15 rfl rfl)
theorem dX3_watch_16 : decode cX3_watch 16 = .ok (.ireturn, 1) := dk_172 (dk_at dksX3_watch_0 16 rfl rfl)
theorem dX3_watch_17 : decode cX3_watch 17 = .ok (.aload_n 0, 1) := dk_42 (dk_at dksX3_watch_0 17 rfl rfl)
theorem dX3_watch_18 : decode cX3_watch 18 = .ok (.iload_n 1, 1) := dk_27 (dk_at dksX3_watch_0 18 rfl rfl)
theorem dX3_watch_19 : decode cX3_watch 19 = .ok (.invokevirtual 349, 3) := dk_182 1 93 (dk_at dksX3_watch_0 19 rfl rfl)
theorem dX3_watch_22 : decode cX3_watch 22 = .ok (.aload_n 0, 1) := dk_42 (dk_at dksX3_watch_0 22 rfl rfl)
theorem dX3_watch_23 : decode cX3_watch 23 = .ok (.getfield 343, 3) := dk_180 1 87 (dk_at dksX3_watch_1 0 rfl rfl)
theorem dX3_watch_26 : decode cX3_watch 26 = .ok (.ireturn, 1) := dk_172 (dk_at dksX3_watch_1 3 rfl rfl)
abbrev cX3_laysWatch : ByteArray := prog_14_method_105_code
def yX3_laysWatch : MethodName := ⟨RX3, "laysWatch", "(I)V"⟩
def dkwX3_laysWatch_4 : List UInt8 := [181, 1, 90, 132, 4, 1, 167, 255, 187, 177]
abbrev dktX3_laysWatch_4 : List UInt8 := dkwX3_laysWatch_4 ++ []
def dkwX3_laysWatch_3 : List UInt8 := [54, 6, 21, 6, 42, 180, 1, 90, 161, 0, 6, 167, 0, 15, 42, 21, 4, 181, 1, 87, 42, 21, 6]
abbrev dktX3_laysWatch_3 : List UInt8 := dkwX3_laysWatch_3 ++ dktX3_laysWatch_4
def dkwX3_laysWatch_2 : List UInt8 := [184, 1, 41, 54, 5, 21, 5, 29, 21, 5, 100, 164, 0, 8, 21, 5, 167, 0, 7, 29, 21, 5, 100]
abbrev dktX3_laysWatch_2 : List UInt8 := dkwX3_laysWatch_2 ++ dktX3_laysWatch_3
def dkwX3_laysWatch_1 : List UInt8 := [181, 1, 90, 3, 54, 4, 21, 4, 16, 6, 162, 0, 68, 42, 28, 4, 21, 4, 120, 128, 182, 1, 84]
abbrev dktX3_laysWatch_1 : List UInt8 := dkwX3_laysWatch_1 ++ dktX3_laysWatch_2
def dkwX3_laysWatch_0 : List UInt8 := [42, 27, 182, 1, 81, 61, 42, 28, 182, 1, 84, 184, 1, 41, 62, 42, 2, 181, 1, 87, 42, 29]
abbrev dktX3_laysWatch_0 : List UInt8 := dkwX3_laysWatch_0 ++ dktX3_laysWatch_1
theorem dksX3_laysWatch_0 : cX3_laysWatch.data.toList.drop 0 = dktX3_laysWatch_0 := by decide +kernel
theorem dksX3_laysWatch_1 : cX3_laysWatch.data.toList.drop 22 = dktX3_laysWatch_1 := dk_seg dksX3_laysWatch_0 22 rfl rfl
theorem dksX3_laysWatch_2 : cX3_laysWatch.data.toList.drop 45 = dktX3_laysWatch_2 := dk_seg dksX3_laysWatch_1 23 rfl rfl
theorem dksX3_laysWatch_3 : cX3_laysWatch.data.toList.drop 68 = dktX3_laysWatch_3 := dk_seg dksX3_laysWatch_2 23 rfl rfl
theorem dksX3_laysWatch_4 : cX3_laysWatch.data.toList.drop 91 = dktX3_laysWatch_4 := dk_seg dksX3_laysWatch_3 23 rfl rfl
theorem dX3_laysWatch_0 : decode cX3_laysWatch 0 = .ok (.aload_n 0, 1) := dk_42 (dk_at dksX3_laysWatch_0 0 rfl rfl)
theorem dX3_laysWatch_1 : decode cX3_laysWatch 1 = .ok (.iload_n 1, 1) := dk_27 (dk_at dksX3_laysWatch_0 1 rfl rfl)
theorem dX3_laysWatch_2 : decode cX3_laysWatch 2 = .ok (.invokevirtual 337, 3) := dk_182 1 81 (dk_at dksX3_laysWatch_0 2 rfl rfl)
theorem dX3_laysWatch_5 : decode cX3_laysWatch 5 = .ok (.istore_n 2, 1) := dk_61 (dk_at dksX3_laysWatch_0 5 rfl rfl)
theorem dX3_laysWatch_6 : decode cX3_laysWatch 6 = .ok (.aload_n 0, 1) := dk_42 (dk_at dksX3_laysWatch_0 6 rfl rfl)
theorem dX3_laysWatch_7 : decode cX3_laysWatch 7 = .ok (.iload_n 2, 1) := dk_28 (dk_at dksX3_laysWatch_0 7 rfl rfl)
theorem dX3_laysWatch_8 : decode cX3_laysWatch 8 = .ok (.invokevirtual 340, 3) := dk_182 1 84 (dk_at dksX3_laysWatch_0 8 rfl rfl)
theorem dX3_laysWatch_11 : decode cX3_laysWatch 11 = .ok (.invokestatic 297, 3) := dk_184 1 41 (dk_at dksX3_laysWatch_0 11 rfl rfl)
theorem dX3_laysWatch_14 : decode cX3_laysWatch 14 = .ok (.istore_n 3, 1) := dk_62 (dk_at dksX3_laysWatch_0 14 rfl rfl)
theorem dX3_laysWatch_15 : decode cX3_laysWatch 15 = .ok (.aload_n 0, 1) := dk_42 (dk_at dksX3_laysWatch_0 15 rfl rfl)
theorem dX3_laysWatch_16 : decode cX3_laysWatch 16 = .ok (.iconst (-1), 1) := dk_2 (dk_at dksX3_laysWatch_0 16 rfl rfl)
theorem dX3_laysWatch_17 : decode cX3_laysWatch 17 = .ok (.putfield 343, 3) := dk_181 1 87 (dk_at dksX3_laysWatch_0 17 rfl rfl)
theorem dX3_laysWatch_20 : decode cX3_laysWatch 20 = .ok (.aload_n 0, 1) := dk_42 (dk_at dksX3_laysWatch_0 20 rfl rfl)
theorem dX3_laysWatch_21 : decode cX3_laysWatch 21 = .ok (.iload_n 3, 1) := dk_29 (dk_at dksX3_laysWatch_0 21 rfl rfl)
theorem dX3_laysWatch_22 : decode cX3_laysWatch 22 = .ok (.putfield 346, 3) := dk_181 1 90 (dk_at dksX3_laysWatch_1 0 rfl rfl)
theorem dX3_laysWatch_25 : decode cX3_laysWatch 25 = .ok (.iconst 0, 1) := dk_3 (dk_at dksX3_laysWatch_1 3 rfl rfl)
theorem dX3_laysWatch_26 : decode cX3_laysWatch 26 = .ok (.istore 4, 2) := dk_54 4 (dk_at dksX3_laysWatch_1 4 rfl rfl)
theorem dX3_laysWatch_28 : decode cX3_laysWatch 28 = .ok (.iload 4, 2) := dk_21 4 (dk_at dksX3_laysWatch_1 6 rfl rfl)
theorem dX3_laysWatch_30 : decode cX3_laysWatch 30 = .ok (.bipush 6, 2) := dk_16 6 (dk_at dksX3_laysWatch_1 8 rfl rfl)
theorem dX3_laysWatch_32 : decode cX3_laysWatch 32 = .ok (.if_icmp .ge 68, 3) := dk_162 0 68 (dk_at dksX3_laysWatch_1 10 rfl rfl)
theorem dX3_laysWatch_35 : decode cX3_laysWatch 35 = .ok (.aload_n 0, 1) := dk_42 (dk_at dksX3_laysWatch_1 13 rfl rfl)
theorem dX3_laysWatch_36 : decode cX3_laysWatch 36 = .ok (.iload_n 2, 1) := dk_28 (dk_at dksX3_laysWatch_1 14 rfl rfl)
theorem dX3_laysWatch_37 : decode cX3_laysWatch 37 = .ok (.iconst 1, 1) := dk_4 (dk_at dksX3_laysWatch_1 15 rfl rfl)
theorem dX3_laysWatch_38 : decode cX3_laysWatch 38 = .ok (.iload 4, 2) := dk_21 4 (dk_at dksX3_laysWatch_1 16 rfl rfl)
theorem dX3_laysWatch_40 : decode cX3_laysWatch 40 = .ok (.ishl, 1) := dk_120 (dk_at dksX3_laysWatch_1 18 rfl rfl)
theorem dX3_laysWatch_41 : decode cX3_laysWatch 41 = .ok (.ior, 1) := dk_128 (dk_at dksX3_laysWatch_1 19 rfl rfl)
theorem dX3_laysWatch_42 : decode cX3_laysWatch 42 = .ok (.invokevirtual 340, 3) := dk_182 1 84 (dk_at dksX3_laysWatch_1 20 rfl rfl)
theorem dX3_laysWatch_45 : decode cX3_laysWatch 45 = .ok (.invokestatic 297, 3) := dk_184 1 41 (dk_at dksX3_laysWatch_2 0 rfl rfl)
theorem dX3_laysWatch_48 : decode cX3_laysWatch 48 = .ok (.istore 5, 2) := dk_54 5 (dk_at dksX3_laysWatch_2 3 rfl rfl)
theorem dX3_laysWatch_50 : decode cX3_laysWatch 50 = .ok (.iload 5, 2) := dk_21 5 (dk_at dksX3_laysWatch_2 5 rfl rfl)
theorem dX3_laysWatch_52 : decode cX3_laysWatch 52 = .ok (.iload_n 3, 1) := dk_29 (dk_at dksX3_laysWatch_2 7 rfl rfl)
theorem dX3_laysWatch_53 : decode cX3_laysWatch 53 = .ok (.iload 5, 2) := dk_21 5 (dk_at dksX3_laysWatch_2 8 rfl rfl)
theorem dX3_laysWatch_55 : decode cX3_laysWatch 55 = .ok (.isub, 1) := dk_100 (dk_at dksX3_laysWatch_2 10 rfl rfl)
theorem dX3_laysWatch_56 : decode cX3_laysWatch 56 = .ok (.if_icmp .le 8, 3) := dk_164 0 8 (dk_at dksX3_laysWatch_2 11 rfl rfl)
theorem dX3_laysWatch_59 : decode cX3_laysWatch 59 = .ok (.iload 5, 2) := dk_21 5 (dk_at dksX3_laysWatch_2 14 rfl rfl)
theorem dX3_laysWatch_61 : decode cX3_laysWatch 61 = .ok (.goto 7, 3) := dk_167 0 7 (dk_at dksX3_laysWatch_2 16 rfl rfl)
theorem dX3_laysWatch_64 : decode cX3_laysWatch 64 = .ok (.iload_n 3, 1) := dk_29 (dk_at dksX3_laysWatch_2 19 rfl rfl)
theorem dX3_laysWatch_65 : decode cX3_laysWatch 65 = .ok (.iload 5, 2) := dk_21 5 (dk_at dksX3_laysWatch_2 20 rfl rfl)
theorem dX3_laysWatch_67 : decode cX3_laysWatch 67 = .ok (.isub, 1) := dk_100 (dk_at dksX3_laysWatch_2 22 rfl rfl)
theorem dX3_laysWatch_68 : decode cX3_laysWatch 68 = .ok (.istore 6, 2) := dk_54 6 (dk_at dksX3_laysWatch_3 0 rfl rfl)
theorem dX3_laysWatch_70 : decode cX3_laysWatch 70 = .ok (.iload 6, 2) := dk_21 6 (dk_at dksX3_laysWatch_3 2 rfl rfl)
theorem dX3_laysWatch_72 : decode cX3_laysWatch 72 = .ok (.aload_n 0, 1) := dk_42 (dk_at dksX3_laysWatch_3 4 rfl rfl)
theorem dX3_laysWatch_73 : decode cX3_laysWatch 73 = .ok (.getfield 346, 3) := dk_180 1 90 (dk_at dksX3_laysWatch_3 5 rfl rfl)
theorem dX3_laysWatch_76 : decode cX3_laysWatch 76 = .ok (.if_icmp .lt 6, 3) := dk_161 0 6 (dk_at dksX3_laysWatch_3 8 rfl rfl)
theorem dX3_laysWatch_79 : decode cX3_laysWatch 79 = .ok (.goto 15, 3) := dk_167 0 15 (dk_at dksX3_laysWatch_3 11 rfl rfl)
theorem dX3_laysWatch_82 : decode cX3_laysWatch 82 = .ok (.aload_n 0, 1) := dk_42 (dk_at dksX3_laysWatch_3 14 rfl rfl)
theorem dX3_laysWatch_83 : decode cX3_laysWatch 83 = .ok (.iload 4, 2) := dk_21 4 (dk_at dksX3_laysWatch_3 15 rfl rfl)
theorem dX3_laysWatch_85 : decode cX3_laysWatch 85 = .ok (.putfield 343, 3) := dk_181 1 87 (dk_at dksX3_laysWatch_3 17 rfl rfl)
theorem dX3_laysWatch_88 : decode cX3_laysWatch 88 = .ok (.aload_n 0, 1) := dk_42 (dk_at dksX3_laysWatch_3 20 rfl rfl)
theorem dX3_laysWatch_89 : decode cX3_laysWatch 89 = .ok (.iload 6, 2) := dk_21 6 (dk_at dksX3_laysWatch_3 21 rfl rfl)
theorem dX3_laysWatch_91 : decode cX3_laysWatch 91 = .ok (.putfield 346, 3) := dk_181 1 90 (dk_at dksX3_laysWatch_4 0 rfl rfl)
theorem dX3_laysWatch_94 : decode cX3_laysWatch 94 = .ok (.iinc 4 1, 3) := dk_132 4 1 (dk_at dksX3_laysWatch_4 3 rfl rfl)
theorem dX3_laysWatch_97 : decode cX3_laysWatch 97 = .ok (.goto (-69), 3) := dk_167 255 187 (dk_at dksX3_laysWatch_4 6 rfl rfl)
theorem dX3_laysWatch_100 : decode cX3_laysWatch 100 = .ok (.return_, 1) := dk_177 (dk_at dksX3_laysWatch_4 9 rfl rfl)
abbrev cX3_leaves : ByteArray := prog_14_method_107_code
def yX3_leaves : MethodName := ⟨RX3, "leaves", "(I)I"⟩
def dkwX3_leaves_1 : List UInt8 := [180, 1, 90, 172]
abbrev dktX3_leaves_1 : List UInt8 := dkwX3_leaves_1 ++ []
def dkwX3_leaves_0 : List UInt8 := [42, 3, 181, 0, 59, 42, 27, 182, 1, 78, 61, 28, 153, 0, 5, 28, 172, 42, 27, 182, 1, 93, 42]
abbrev dktX3_leaves_0 : List UInt8 := dkwX3_leaves_0 ++ dktX3_leaves_1
theorem dksX3_leaves_0 : cX3_leaves.data.toList.drop 0 = dktX3_leaves_0 := by decide +kernel
theorem dksX3_leaves_1 : cX3_leaves.data.toList.drop 23 = dktX3_leaves_1 := dk_seg dksX3_leaves_0 23 rfl rfl
theorem dX3_leaves_0 : decode cX3_leaves 0 = .ok (.aload_n 0, 1) := dk_42 (dk_at dksX3_leaves_0 0 rfl rfl)
theorem dX3_leaves_1 : decode cX3_leaves 1 = .ok (.iconst 0, 1) := dk_3 (dk_at dksX3_leaves_0 1 rfl rfl)
theorem dX3_leaves_2 : decode cX3_leaves 2 = .ok (.putfield 59, 3) := dk_181 0 59 (dk_at dksX3_leaves_0 2 rfl rfl)
theorem dX3_leaves_5 : decode cX3_leaves 5 = .ok (.aload_n 0, 1) := dk_42 (dk_at dksX3_leaves_0 5 rfl rfl)
theorem dX3_leaves_6 : decode cX3_leaves 6 = .ok (.iload_n 1, 1) := dk_27 (dk_at dksX3_leaves_0 6 rfl rfl)
theorem dX3_leaves_7 : decode cX3_leaves 7 = .ok (.invokevirtual 334, 3) := dk_182 1 78 (dk_at dksX3_leaves_0 7 rfl rfl)
theorem dX3_leaves_10 : decode cX3_leaves 10 = .ok (.istore_n 2, 1) := dk_61 (dk_at dksX3_leaves_0 10 rfl rfl)
theorem dX3_leaves_11 : decode cX3_leaves 11 = .ok (.iload_n 2, 1) := dk_28 (dk_at dksX3_leaves_0 11 rfl rfl)
theorem dX3_leaves_12 : decode cX3_leaves 12 = .ok (.ifCond .eq 5, 3) := dk_153 0 5 (dk_at dksX3_leaves_0 12 rfl rfl)
theorem dX3_leaves_15 : decode cX3_leaves 15 = .ok (.iload_n 2, 1) := dk_28 (dk_at dksX3_leaves_0 15 rfl rfl)
theorem dX3_leaves_16 : decode cX3_leaves 16 = .ok (.ireturn, 1) := dk_172 (dk_at dksX3_leaves_0 16 rfl rfl)
theorem dX3_leaves_17 : decode cX3_leaves 17 = .ok (.aload_n 0, 1) := dk_42 (dk_at dksX3_leaves_0 17 rfl rfl)
theorem dX3_leaves_18 : decode cX3_leaves 18 = .ok (.iload_n 1, 1) := dk_27 (dk_at dksX3_leaves_0 18 rfl rfl)
theorem dX3_leaves_19 : decode cX3_leaves 19 = .ok (.invokevirtual 349, 3) := dk_182 1 93 (dk_at dksX3_leaves_0 19 rfl rfl)
theorem dX3_leaves_22 : decode cX3_leaves 22 = .ok (.aload_n 0, 1) := dk_42 (dk_at dksX3_leaves_0 22 rfl rfl)
theorem dX3_leaves_23 : decode cX3_leaves 23 = .ok (.getfield 346, 3) := dk_180 1 90 (dk_at dksX3_leaves_1 0 rfl rfl)
theorem dX3_leaves_26 : decode cX3_leaves 26 = .ok (.ireturn, 1) := dk_172 (dk_at dksX3_leaves_1 3 rfl rfl)
abbrev cX3_proof : ByteArray := prog_14_method_108_code
def yX3_proof : MethodName := ⟨RX3, "proof", "(I)I"⟩
def dkwX3_proof_3 : List UInt8 := [21, 5, 184, 1, 41, 54, 4, 132, 5, 1, 167, 255, 206, 21, 4, 172]
abbrev dktX3_proof_3 : List UInt8 := dkwX3_proof_3 ++ []
def dkwX3_proof_2 : List UInt8 := [42, 21, 5, 182, 1, 84, 42, 29, 182, 1, 84, 160, 0, 20, 21, 5, 184, 1, 41, 21, 4, 162, 0, 10]
abbrev dktX3_proof_2 : List UInt8 := dkwX3_proof_2 ++ dktX3_proof_3
def dkwX3_proof_1 : List UInt8 := [184, 1, 41, 54, 4, 3, 54, 5, 21, 5, 16, 64, 162, 0, 49, 21, 5, 29, 2, 130, 126, 154, 0, 34]
abbrev dktX3_proof_1 : List UInt8 := dkwX3_proof_1 ++ dktX3_proof_2
def dkwX3_proof_0 : List UInt8 := [42, 3, 181, 0, 59, 42, 27, 182, 1, 78, 61, 28, 153, 0, 5, 28, 172, 42, 27, 182, 1, 81, 62, 29]
abbrev dktX3_proof_0 : List UInt8 := dkwX3_proof_0 ++ dktX3_proof_1
theorem dksX3_proof_0 : cX3_proof.data.toList.drop 0 = dktX3_proof_0 := by decide +kernel
theorem dksX3_proof_1 : cX3_proof.data.toList.drop 24 = dktX3_proof_1 := dk_seg dksX3_proof_0 24 rfl rfl
theorem dksX3_proof_2 : cX3_proof.data.toList.drop 48 = dktX3_proof_2 := dk_seg dksX3_proof_1 24 rfl rfl
theorem dksX3_proof_3 : cX3_proof.data.toList.drop 72 = dktX3_proof_3 := dk_seg dksX3_proof_2 24 rfl rfl
theorem dX3_proof_0 : decode cX3_proof 0 = .ok (.aload_n 0, 1) := dk_42 (dk_at dksX3_proof_0 0 rfl rfl)
theorem dX3_proof_1 : decode cX3_proof 1 = .ok (.iconst 0, 1) := dk_3 (dk_at dksX3_proof_0 1 rfl rfl)
theorem dX3_proof_2 : decode cX3_proof 2 = .ok (.putfield 59, 3) := dk_181 0 59 (dk_at dksX3_proof_0 2 rfl rfl)
theorem dX3_proof_5 : decode cX3_proof 5 = .ok (.aload_n 0, 1) := dk_42 (dk_at dksX3_proof_0 5 rfl rfl)
theorem dX3_proof_6 : decode cX3_proof 6 = .ok (.iload_n 1, 1) := dk_27 (dk_at dksX3_proof_0 6 rfl rfl)
theorem dX3_proof_7 : decode cX3_proof 7 = .ok (.invokevirtual 334, 3) := dk_182 1 78 (dk_at dksX3_proof_0 7 rfl rfl)
theorem dX3_proof_10 : decode cX3_proof 10 = .ok (.istore_n 2, 1) := dk_61 (dk_at dksX3_proof_0 10 rfl rfl)
theorem dX3_proof_11 : decode cX3_proof 11 = .ok (.iload_n 2, 1) := dk_28 (dk_at dksX3_proof_0 11 rfl rfl)
theorem dX3_proof_12 : decode cX3_proof 12 = .ok (.ifCond .eq 5, 3) := dk_153 0 5 (dk_at dksX3_proof_0 12 rfl rfl)
theorem dX3_proof_15 : decode cX3_proof 15 = .ok (.iload_n 2, 1) := dk_28 (dk_at dksX3_proof_0 15 rfl rfl)
theorem dX3_proof_16 : decode cX3_proof 16 = .ok (.ireturn, 1) := dk_172 (dk_at dksX3_proof_0 16 rfl rfl)
theorem dX3_proof_17 : decode cX3_proof 17 = .ok (.aload_n 0, 1) := dk_42 (dk_at dksX3_proof_0 17 rfl rfl)
theorem dX3_proof_18 : decode cX3_proof 18 = .ok (.iload_n 1, 1) := dk_27 (dk_at dksX3_proof_0 18 rfl rfl)
theorem dX3_proof_19 : decode cX3_proof 19 = .ok (.invokevirtual 337, 3) := dk_182 1 81 (dk_at dksX3_proof_0 19 rfl rfl)
theorem dX3_proof_22 : decode cX3_proof 22 = .ok (.istore_n 3, 1) := dk_62 (dk_at dksX3_proof_0 22 rfl rfl)
theorem dX3_proof_23 : decode cX3_proof 23 = .ok (.iload_n 3, 1) := dk_29 (dk_at dksX3_proof_0 23 rfl rfl)
theorem dX3_proof_24 : decode cX3_proof 24 = .ok (.invokestatic 297, 3) := dk_184 1 41 (dk_at dksX3_proof_1 0 rfl rfl)
theorem dX3_proof_27 : decode cX3_proof 27 = .ok (.istore 4, 2) := dk_54 4 (dk_at dksX3_proof_1 3 rfl rfl)
theorem dX3_proof_29 : decode cX3_proof 29 = .ok (.iconst 0, 1) := dk_3 (dk_at dksX3_proof_1 5 rfl rfl)
theorem dX3_proof_30 : decode cX3_proof 30 = .ok (.istore 5, 2) := dk_54 5 (dk_at dksX3_proof_1 6 rfl rfl)
theorem dX3_proof_32 : decode cX3_proof 32 = .ok (.iload 5, 2) := dk_21 5 (dk_at dksX3_proof_1 8 rfl rfl)
theorem dX3_proof_34 : decode cX3_proof 34 = .ok (.bipush 64, 2) := dk_16 64 (dk_at dksX3_proof_1 10 rfl rfl)
theorem dX3_proof_36 : decode cX3_proof 36 = .ok (.if_icmp .ge 49, 3) := dk_162 0 49 (dk_at dksX3_proof_1 12 rfl rfl)
theorem dX3_proof_39 : decode cX3_proof 39 = .ok (.iload 5, 2) := dk_21 5 (dk_at dksX3_proof_1 15 rfl rfl)
theorem dX3_proof_41 : decode cX3_proof 41 = .ok (.iload_n 3, 1) := dk_29 (dk_at dksX3_proof_1 17 rfl rfl)
theorem dX3_proof_42 : decode cX3_proof 42 = .ok (.iconst (-1), 1) := dk_2 (dk_at dksX3_proof_1 18 rfl rfl)
theorem dX3_proof_43 : decode cX3_proof 43 = .ok (.ixor, 1) := dk_130 (dk_at dksX3_proof_1 19 rfl rfl)
theorem dX3_proof_44 : decode cX3_proof 44 = .ok (.iand, 1) := dk_126 (dk_at dksX3_proof_1 20 rfl rfl)
theorem dX3_proof_45 : decode cX3_proof 45 = .ok (.ifCond .ne 34, 3) := dk_154 0 34 (dk_at dksX3_proof_1 21 rfl rfl)
theorem dX3_proof_48 : decode cX3_proof 48 = .ok (.aload_n 0, 1) := dk_42 (dk_at dksX3_proof_2 0 rfl rfl)
theorem dX3_proof_49 : decode cX3_proof 49 = .ok (.iload 5, 2) := dk_21 5 (dk_at dksX3_proof_2 1 rfl rfl)
theorem dX3_proof_51 : decode cX3_proof 51 = .ok (.invokevirtual 340, 3) := dk_182 1 84 (dk_at dksX3_proof_2 3 rfl rfl)
theorem dX3_proof_54 : decode cX3_proof 54 = .ok (.aload_n 0, 1) := dk_42 (dk_at dksX3_proof_2 6 rfl rfl)
theorem dX3_proof_55 : decode cX3_proof 55 = .ok (.iload_n 3, 1) := dk_29 (dk_at dksX3_proof_2 7 rfl rfl)
theorem dX3_proof_56 : decode cX3_proof 56 = .ok (.invokevirtual 340, 3) := dk_182 1 84 (dk_at dksX3_proof_2 8 rfl rfl)
theorem dX3_proof_59 : decode cX3_proof 59 = .ok (.if_icmp .ne 20, 3) := dk_160 0 20 (dk_at dksX3_proof_2 11 rfl rfl)
theorem dX3_proof_62 : decode cX3_proof 62 = .ok (.iload 5, 2) := dk_21 5 (dk_at dksX3_proof_2 14 rfl rfl)
theorem dX3_proof_64 : decode cX3_proof 64 = .ok (.invokestatic 297, 3) := dk_184 1 41 (dk_at dksX3_proof_2 16 rfl rfl)
theorem dX3_proof_67 : decode cX3_proof 67 = .ok (.iload 4, 2) := dk_21 4 (dk_at dksX3_proof_2 19 rfl rfl)
theorem dX3_proof_69 : decode cX3_proof 69 = .ok (.if_icmp .ge 10, 3) := dk_162 0 10 (dk_at dksX3_proof_2 21 rfl rfl)
theorem dX3_proof_72 : decode cX3_proof 72 = .ok (.iload 5, 2) := dk_21 5 (dk_at dksX3_proof_3 0 rfl rfl)
theorem dX3_proof_74 : decode cX3_proof 74 = .ok (.invokestatic 297, 3) := dk_184 1 41 (dk_at dksX3_proof_3 2 rfl rfl)
theorem dX3_proof_77 : decode cX3_proof 77 = .ok (.istore 4, 2) := dk_54 4 (dk_at dksX3_proof_3 5 rfl rfl)
theorem dX3_proof_79 : decode cX3_proof 79 = .ok (.iinc 5 1, 3) := dk_132 5 1 (dk_at dksX3_proof_3 7 rfl rfl)
theorem dX3_proof_82 : decode cX3_proof 82 = .ok (.goto (-50), 3) := dk_167 255 206 (dk_at dksX3_proof_3 10 rfl rfl)
theorem dX3_proof_85 : decode cX3_proof 85 = .ok (.iload 4, 2) := dk_21 4 (dk_at dksX3_proof_3 13 rfl rfl)
theorem dX3_proof_87 : decode cX3_proof 87 = .ok (.ireturn, 1) := dk_172 (dk_at dksX3_proof_3 15 rfl rfl)
abbrev cX3_duel : ByteArray := prog_14_method_111_code
def yX3_duel : MethodName := ⟨RX3, "duel", "(III)I"⟩
def dkwX3_duel_6 : List UInt8 := [21, 5, 21, 4, 21, 5, 184, 1, 96, 108, 172]
abbrev dktX3_duel_6 : List UInt8 := dkwX3_duel_6 ++ []
def dkwX3_duel_5 : List UInt8 := [132, 4, 1, 132, 7, 1, 167, 255, 200, 132, 6, 1, 167, 255, 180, 29, 154, 0, 8, 21, 4, 167, 0, 5]
abbrev dktX3_duel_5 : List UInt8 := dkwX3_duel_5 ++ dktX3_duel_6
def dkwX3_duel_4 : List UInt8 := [21, 7, 46, 28, 160, 0, 23, 42, 21, 6, 3, 182, 0, 214, 42, 21, 7, 3, 182, 0, 214, 164, 0, 6]
abbrev dktX3_duel_4 : List UInt8 := dkwX3_duel_4 ++ dktX3_duel_5
def dkwX3_duel_3 : List UInt8 := [180, 0, 34, 4, 46, 162, 0, 51, 42, 180, 0, 47, 21, 6, 46, 27, 160, 0, 34, 42, 180, 0, 47]
abbrev dktX3_duel_3 : List UInt8 := dkwX3_duel_3 ++ dktX3_duel_4
def dkwX3_duel_2 : List UInt8 := [54, 5, 3, 54, 6, 21, 6, 42, 180, 0, 34, 4, 46, 162, 0, 71, 3, 54, 7, 21, 7, 42]
abbrev dktX3_duel_2 : List UInt8 := dkwX3_duel_2 ++ dktX3_duel_3
def dkwX3_duel_1 : List UInt8 := [16, 254, 172, 3, 54, 4, 42, 27, 182, 0, 254, 184, 1, 41, 42, 28, 182, 0, 254, 184, 1, 41, 104]
abbrev dktX3_duel_1 : List UInt8 := dkwX3_duel_1 ++ dktX3_duel_2
def dkwX3_duel_0 : List UInt8 := [42, 3, 181, 0, 59, 42, 27, 28, 182, 1, 99, 153, 0, 13, 29, 133, 9, 10, 184, 0, 64, 154, 0, 6]
abbrev dktX3_duel_0 : List UInt8 := dkwX3_duel_0 ++ dktX3_duel_1
theorem dksX3_duel_0 : cX3_duel.data.toList.drop 0 = dktX3_duel_0 := by decide +kernel
theorem dksX3_duel_1 : cX3_duel.data.toList.drop 24 = dktX3_duel_1 := dk_seg dksX3_duel_0 24 rfl rfl
theorem dksX3_duel_2 : cX3_duel.data.toList.drop 47 = dktX3_duel_2 := dk_seg dksX3_duel_1 23 rfl rfl
theorem dksX3_duel_3 : cX3_duel.data.toList.drop 69 = dktX3_duel_3 := dk_seg dksX3_duel_2 22 rfl rfl
theorem dksX3_duel_4 : cX3_duel.data.toList.drop 92 = dktX3_duel_4 := dk_seg dksX3_duel_3 23 rfl rfl
theorem dksX3_duel_5 : cX3_duel.data.toList.drop 116 = dktX3_duel_5 := dk_seg dksX3_duel_4 24 rfl rfl
theorem dksX3_duel_6 : cX3_duel.data.toList.drop 140 = dktX3_duel_6 := dk_seg dksX3_duel_5 24 rfl rfl
theorem dX3_duel_0 : decode cX3_duel 0 = .ok (.aload_n 0, 1) := dk_42 (dk_at dksX3_duel_0 0 rfl rfl)
theorem dX3_duel_1 : decode cX3_duel 1 = .ok (.iconst 0, 1) := dk_3 (dk_at dksX3_duel_0 1 rfl rfl)
theorem dX3_duel_2 : decode cX3_duel 2 = .ok (.putfield 59, 3) := dk_181 0 59 (dk_at dksX3_duel_0 2 rfl rfl)
theorem dX3_duel_5 : decode cX3_duel 5 = .ok (.aload_n 0, 1) := dk_42 (dk_at dksX3_duel_0 5 rfl rfl)
theorem dX3_duel_6 : decode cX3_duel 6 = .ok (.iload_n 1, 1) := dk_27 (dk_at dksX3_duel_0 6 rfl rfl)
theorem dX3_duel_7 : decode cX3_duel 7 = .ok (.iload_n 2, 1) := dk_28 (dk_at dksX3_duel_0 7 rfl rfl)
theorem dX3_duel_8 : decode cX3_duel 8 = .ok (.invokevirtual 355, 3) := dk_182 1 99 (dk_at dksX3_duel_0 8 rfl rfl)
theorem dX3_duel_11 : decode cX3_duel 11 = .ok (.ifCond .eq 13, 3) := dk_153 0 13 (dk_at dksX3_duel_0 11 rfl rfl)
theorem dX3_duel_14 : decode cX3_duel 14 = .ok (.iload_n 3, 1) := dk_29 (dk_at dksX3_duel_0 14 rfl rfl)
theorem dX3_duel_15 : decode cX3_duel 15 = .ok (.i2l, 1) := dk_133 (dk_at dksX3_duel_0 15 rfl rfl)
theorem dX3_duel_16 : decode cX3_duel 16 = .ok (.lconst 0, 1) := dk_9 (dk_at dksX3_duel_0 16 rfl rfl)
theorem dX3_duel_17 : decode cX3_duel 17 = .ok (.lconst 1, 1) := dk_10 (dk_at dksX3_duel_0 17 rfl rfl)
theorem dX3_duel_18 : decode cX3_duel 18 = .ok (.invokestatic 64, 3) := dk_184 0 64 (dk_at dksX3_duel_0 18 rfl rfl)
theorem dX3_duel_21 : decode cX3_duel 21 = .ok (.ifCond .ne 6, 3) := dk_154 0 6 (dk_at dksX3_duel_0 21 rfl rfl)
theorem dX3_duel_24 : decode cX3_duel 24 = .ok (.bipush (-2), 2) := dk_16 254 (dk_at dksX3_duel_1 0 rfl rfl)
theorem dX3_duel_26 : decode cX3_duel 26 = .ok (.ireturn, 1) := dk_172 (dk_at dksX3_duel_1 2 rfl rfl)
theorem dX3_duel_27 : decode cX3_duel 27 = .ok (.iconst 0, 1) := dk_3 (dk_at dksX3_duel_1 3 rfl rfl)
theorem dX3_duel_28 : decode cX3_duel 28 = .ok (.istore 4, 2) := dk_54 4 (dk_at dksX3_duel_1 4 rfl rfl)
theorem dX3_duel_30 : decode cX3_duel 30 = .ok (.aload_n 0, 1) := dk_42 (dk_at dksX3_duel_1 6 rfl rfl)
theorem dX3_duel_31 : decode cX3_duel 31 = .ok (.iload_n 1, 1) := dk_27 (dk_at dksX3_duel_1 7 rfl rfl)
theorem dX3_duel_32 : decode cX3_duel 32 = .ok (.invokevirtual 254, 3) := dk_182 0 254 (dk_at dksX3_duel_1 8 rfl rfl)
theorem dX3_duel_35 : decode cX3_duel 35 = .ok (.invokestatic 297, 3) := dk_184 1 41 (dk_at dksX3_duel_1 11 rfl rfl)
theorem dX3_duel_38 : decode cX3_duel 38 = .ok (.aload_n 0, 1) := dk_42 (dk_at dksX3_duel_1 14 rfl rfl)
theorem dX3_duel_39 : decode cX3_duel 39 = .ok (.iload_n 2, 1) := dk_28 (dk_at dksX3_duel_1 15 rfl rfl)
theorem dX3_duel_40 : decode cX3_duel 40 = .ok (.invokevirtual 254, 3) := dk_182 0 254 (dk_at dksX3_duel_1 16 rfl rfl)
theorem dX3_duel_43 : decode cX3_duel 43 = .ok (.invokestatic 297, 3) := dk_184 1 41 (dk_at dksX3_duel_1 19 rfl rfl)
theorem dX3_duel_46 : decode cX3_duel 46 = .ok (.imul, 1) := dk_104 (dk_at dksX3_duel_1 22 rfl rfl)
theorem dX3_duel_47 : decode cX3_duel 47 = .ok (.istore 5, 2) := dk_54 5 (dk_at dksX3_duel_2 0 rfl rfl)
theorem dX3_duel_49 : decode cX3_duel 49 = .ok (.iconst 0, 1) := dk_3 (dk_at dksX3_duel_2 2 rfl rfl)
theorem dX3_duel_50 : decode cX3_duel 50 = .ok (.istore 6, 2) := dk_54 6 (dk_at dksX3_duel_2 3 rfl rfl)
theorem dX3_duel_52 : decode cX3_duel 52 = .ok (.iload 6, 2) := dk_21 6 (dk_at dksX3_duel_2 5 rfl rfl)
theorem dX3_duel_54 : decode cX3_duel 54 = .ok (.aload_n 0, 1) := dk_42 (dk_at dksX3_duel_2 7 rfl rfl)
theorem dX3_duel_55 : decode cX3_duel 55 = .ok (.getfield 34, 3) := dk_180 0 34 (dk_at dksX3_duel_2 8 rfl rfl)
theorem dX3_duel_58 : decode cX3_duel 58 = .ok (.iconst 1, 1) := dk_4 (dk_at dksX3_duel_2 11 rfl rfl)
theorem dX3_duel_59 : decode cX3_duel 59 = .ok (.iaload, 1) := dk_46 (dk_at dksX3_duel_2 12 rfl rfl)
theorem dX3_duel_60 : decode cX3_duel 60 = .ok (.if_icmp .ge 71, 3) := dk_162 0 71 (dk_at dksX3_duel_2 13 rfl rfl)
theorem dX3_duel_63 : decode cX3_duel 63 = .ok (.iconst 0, 1) := dk_3 (dk_at dksX3_duel_2 16 rfl rfl)
theorem dX3_duel_64 : decode cX3_duel 64 = .ok (.istore 7, 2) := dk_54 7 (dk_at dksX3_duel_2 17 rfl rfl)
theorem dX3_duel_66 : decode cX3_duel 66 = .ok (.iload 7, 2) := dk_21 7 (dk_at dksX3_duel_2 19 rfl rfl)
theorem dX3_duel_68 : decode cX3_duel 68 = .ok (.aload_n 0, 1) := dk_42 (dk_at dksX3_duel_2 21 rfl rfl)
theorem dX3_duel_69 : decode cX3_duel 69 = .ok (.getfield 34, 3) := dk_180 0 34 (dk_at dksX3_duel_3 0 rfl rfl)
theorem dX3_duel_72 : decode cX3_duel 72 = .ok (.iconst 1, 1) := dk_4 (dk_at dksX3_duel_3 3 rfl rfl)
theorem dX3_duel_73 : decode cX3_duel 73 = .ok (.iaload, 1) := dk_46 (dk_at dksX3_duel_3 4 rfl rfl)
theorem dX3_duel_74 : decode cX3_duel 74 = .ok (.if_icmp .ge 51, 3) := dk_162 0 51 (dk_at dksX3_duel_3 5 rfl rfl)
theorem dX3_duel_77 : decode cX3_duel 77 = .ok (.aload_n 0, 1) := dk_42 (dk_at dksX3_duel_3 8 rfl rfl)
theorem dX3_duel_78 : decode cX3_duel 78 = .ok (.getfield 47, 3) := dk_180 0 47 (dk_at dksX3_duel_3 9 rfl rfl)
theorem dX3_duel_81 : decode cX3_duel 81 = .ok (.iload 6, 2) := dk_21 6 (dk_at dksX3_duel_3 12 rfl rfl)
theorem dX3_duel_83 : decode cX3_duel 83 = .ok (.iaload, 1) := dk_46 (dk_at dksX3_duel_3 14 rfl rfl)
theorem dX3_duel_84 : decode cX3_duel 84 = .ok (.iload_n 1, 1) := dk_27 (dk_at dksX3_duel_3 15 rfl rfl)
theorem dX3_duel_85 : decode cX3_duel 85 = .ok (.if_icmp .ne 34, 3) := dk_160 0 34 (dk_at dksX3_duel_3 16 rfl rfl)
theorem dX3_duel_88 : decode cX3_duel 88 = .ok (.aload_n 0, 1) := dk_42 (dk_at dksX3_duel_3 19 rfl rfl)
theorem dX3_duel_89 : decode cX3_duel 89 = .ok (.getfield 47, 3) := dk_180 0 47 (dk_at dksX3_duel_3 20 rfl rfl)
theorem dX3_duel_92 : decode cX3_duel 92 = .ok (.iload 7, 2) := dk_21 7 (dk_at dksX3_duel_4 0 rfl rfl)
theorem dX3_duel_94 : decode cX3_duel 94 = .ok (.iaload, 1) := dk_46 (dk_at dksX3_duel_4 2 rfl rfl)
theorem dX3_duel_95 : decode cX3_duel 95 = .ok (.iload_n 2, 1) := dk_28 (dk_at dksX3_duel_4 3 rfl rfl)
theorem dX3_duel_96 : decode cX3_duel 96 = .ok (.if_icmp .ne 23, 3) := dk_160 0 23 (dk_at dksX3_duel_4 4 rfl rfl)
theorem dX3_duel_99 : decode cX3_duel 99 = .ok (.aload_n 0, 1) := dk_42 (dk_at dksX3_duel_4 7 rfl rfl)
theorem dX3_duel_100 : decode cX3_duel 100 = .ok (.iload 6, 2) := dk_21 6 (dk_at dksX3_duel_4 8 rfl rfl)
theorem dX3_duel_102 : decode cX3_duel 102 = .ok (.iconst 0, 1) := dk_3 (dk_at dksX3_duel_4 10 rfl rfl)
theorem dX3_duel_103 : decode cX3_duel 103 = .ok (.invokevirtual 214, 3) := dk_182 0 214 (dk_at dksX3_duel_4 11 rfl rfl)
theorem dX3_duel_106 : decode cX3_duel 106 = .ok (.aload_n 0, 1) := dk_42 (dk_at dksX3_duel_4 14 rfl rfl)
theorem dX3_duel_107 : decode cX3_duel 107 = .ok (.iload 7, 2) := dk_21 7 (dk_at dksX3_duel_4 15 rfl rfl)
theorem dX3_duel_109 : decode cX3_duel 109 = .ok (.iconst 0, 1) := dk_3 (dk_at dksX3_duel_4 17 rfl rfl)
theorem dX3_duel_110 : decode cX3_duel 110 = .ok (.invokevirtual 214, 3) := dk_182 0 214 (dk_at dksX3_duel_4 18 rfl rfl)
theorem dX3_duel_113 : decode cX3_duel 113 = .ok (.if_icmp .le 6, 3) := dk_164 0 6 (dk_at dksX3_duel_4 21 rfl rfl)
theorem dX3_duel_116 : decode cX3_duel 116 = .ok (.iinc 4 1, 3) := dk_132 4 1 (dk_at dksX3_duel_5 0 rfl rfl)
theorem dX3_duel_119 : decode cX3_duel 119 = .ok (.iinc 7 1, 3) := dk_132 7 1 (dk_at dksX3_duel_5 3 rfl rfl)
theorem dX3_duel_122 : decode cX3_duel 122 = .ok (.goto (-56), 3) := dk_167 255 200 (dk_at dksX3_duel_5 6 rfl rfl)
theorem dX3_duel_125 : decode cX3_duel 125 = .ok (.iinc 6 1, 3) := dk_132 6 1 (dk_at dksX3_duel_5 9 rfl rfl)
theorem dX3_duel_128 : decode cX3_duel 128 = .ok (.goto (-76), 3) := dk_167 255 180 (dk_at dksX3_duel_5 12 rfl rfl)
theorem dX3_duel_131 : decode cX3_duel 131 = .ok (.iload_n 3, 1) := dk_29 (dk_at dksX3_duel_5 15 rfl rfl)
theorem dX3_duel_132 : decode cX3_duel 132 = .ok (.ifCond .ne 8, 3) := dk_154 0 8 (dk_at dksX3_duel_5 16 rfl rfl)
theorem dX3_duel_135 : decode cX3_duel 135 = .ok (.iload 4, 2) := dk_21 4 (dk_at dksX3_duel_5 19 rfl rfl)
theorem dX3_duel_137 : decode cX3_duel 137 = .ok (.goto 5, 3) := dk_167 0 5 (dk_at dksX3_duel_5 21 rfl rfl)
theorem dX3_duel_140 : decode cX3_duel 140 = .ok (.iload 5, 2) := dk_21 5 (dk_at dksX3_duel_6 0 rfl rfl)
theorem dX3_duel_142 : decode cX3_duel 142 = .ok (.iload 4, 2) := dk_21 4 (dk_at dksX3_duel_6 2 rfl rfl)
theorem dX3_duel_144 : decode cX3_duel 144 = .ok (.iload 5, 2) := dk_21 5 (dk_at dksX3_duel_6 4 rfl rfl)
theorem dX3_duel_146 : decode cX3_duel 146 = .ok (.invokestatic 352, 3) := dk_184 1 96 (dk_at dksX3_duel_6 6 rfl rfl)
theorem dX3_duel_149 : decode cX3_duel 149 = .ok (.idiv, 1) := dk_108 (dk_at dksX3_duel_6 9 rfl rfl)
theorem dX3_duel_150 : decode cX3_duel 150 = .ok (.ireturn, 1) := dk_172 (dk_at dksX3_duel_6 10 rfl rfl)
abbrev cX3_isDuel : ByteArray := prog_14_method_109_code
def yX3_isDuel : MethodName := ⟨RX3, "isDuel", "(II)Z"⟩
def dkwX3_isDuel_1 : List UInt8 := [182, 0, 254, 153, 0, 15, 42, 28, 182, 0, 254, 153, 0, 7, 4, 167, 0, 4, 3, 172]
abbrev dktX3_isDuel_1 : List UInt8 := dkwX3_isDuel_1 ++ []
def dkwX3_isDuel_0 : List UInt8 := [42, 27, 28, 182, 1, 10, 153, 0, 8, 27, 28, 160, 0, 5, 3, 172, 42, 182, 0, 251, 42, 27]
abbrev dktX3_isDuel_0 : List UInt8 := dkwX3_isDuel_0 ++ dktX3_isDuel_1
theorem dksX3_isDuel_0 : cX3_isDuel.data.toList.drop 0 = dktX3_isDuel_0 := by decide +kernel
theorem dksX3_isDuel_1 : cX3_isDuel.data.toList.drop 22 = dktX3_isDuel_1 := dk_seg dksX3_isDuel_0 22 rfl rfl
theorem dX3_isDuel_0 : decode cX3_isDuel 0 = .ok (.aload_n 0, 1) := dk_42 (dk_at dksX3_isDuel_0 0 rfl rfl)
theorem dX3_isDuel_1 : decode cX3_isDuel 1 = .ok (.iload_n 1, 1) := dk_27 (dk_at dksX3_isDuel_0 1 rfl rfl)
theorem dX3_isDuel_2 : decode cX3_isDuel 2 = .ok (.iload_n 2, 1) := dk_28 (dk_at dksX3_isDuel_0 2 rfl rfl)
theorem dX3_isDuel_3 : decode cX3_isDuel 3 = .ok (.invokevirtual 266, 3) := dk_182 1 10 (dk_at dksX3_isDuel_0 3 rfl rfl)
theorem dX3_isDuel_6 : decode cX3_isDuel 6 = .ok (.ifCond .eq 8, 3) := dk_153 0 8 (dk_at dksX3_isDuel_0 6 rfl rfl)
theorem dX3_isDuel_9 : decode cX3_isDuel 9 = .ok (.iload_n 1, 1) := dk_27 (dk_at dksX3_isDuel_0 9 rfl rfl)
theorem dX3_isDuel_10 : decode cX3_isDuel 10 = .ok (.iload_n 2, 1) := dk_28 (dk_at dksX3_isDuel_0 10 rfl rfl)
theorem dX3_isDuel_11 : decode cX3_isDuel 11 = .ok (.if_icmp .ne 5, 3) := dk_160 0 5 (dk_at dksX3_isDuel_0 11 rfl rfl)
theorem dX3_isDuel_14 : decode cX3_isDuel 14 = .ok (.iconst 0, 1) := dk_3 (dk_at dksX3_isDuel_0 14 rfl rfl)
theorem dX3_isDuel_15 : decode cX3_isDuel 15 = .ok (.ireturn, 1) := dk_172 (dk_at dksX3_isDuel_0 15 rfl rfl)
theorem dX3_isDuel_16 : decode cX3_isDuel 16 = .ok (.aload_n 0, 1) := dk_42 (dk_at dksX3_isDuel_0 16 rfl rfl)
theorem dX3_isDuel_17 : decode cX3_isDuel 17 = .ok (.invokevirtual 251, 3) := dk_182 0 251 (dk_at dksX3_isDuel_0 17 rfl rfl)
theorem dX3_isDuel_20 : decode cX3_isDuel 20 = .ok (.aload_n 0, 1) := dk_42 (dk_at dksX3_isDuel_0 20 rfl rfl)
theorem dX3_isDuel_21 : decode cX3_isDuel 21 = .ok (.iload_n 1, 1) := dk_27 (dk_at dksX3_isDuel_0 21 rfl rfl)
theorem dX3_isDuel_22 : decode cX3_isDuel 22 = .ok (.invokevirtual 254, 3) := dk_182 0 254 (dk_at dksX3_isDuel_1 0 rfl rfl)
theorem dX3_isDuel_25 : decode cX3_isDuel 25 = .ok (.ifCond .eq 15, 3) := dk_153 0 15 (dk_at dksX3_isDuel_1 3 rfl rfl)
theorem dX3_isDuel_28 : decode cX3_isDuel 28 = .ok (.aload_n 0, 1) := dk_42 (dk_at dksX3_isDuel_1 6 rfl rfl)
theorem dX3_isDuel_29 : decode cX3_isDuel 29 = .ok (.iload_n 2, 1) := dk_28 (dk_at dksX3_isDuel_1 7 rfl rfl)
theorem dX3_isDuel_30 : decode cX3_isDuel 30 = .ok (.invokevirtual 254, 3) := dk_182 0 254 (dk_at dksX3_isDuel_1 8 rfl rfl)
theorem dX3_isDuel_33 : decode cX3_isDuel 33 = .ok (.ifCond .eq 7, 3) := dk_153 0 7 (dk_at dksX3_isDuel_1 11 rfl rfl)
theorem dX3_isDuel_36 : decode cX3_isDuel 36 = .ok (.iconst 1, 1) := dk_4 (dk_at dksX3_isDuel_1 14 rfl rfl)
theorem dX3_isDuel_37 : decode cX3_isDuel 37 = .ok (.goto 4, 3) := dk_167 0 4 (dk_at dksX3_isDuel_1 15 rfl rfl)
theorem dX3_isDuel_40 : decode cX3_isDuel 40 = .ok (.iconst 0, 1) := dk_3 (dk_at dksX3_isDuel_1 18 rfl rfl)
theorem dX3_isDuel_41 : decode cX3_isDuel 41 = .ok (.ireturn, 1) := dk_172 (dk_at dksX3_isDuel_1 19 rfl rfl)
abbrev cX3_common : ByteArray := prog_14_method_110_code
def yX3_common : MethodName := ⟨RX3, "common", "(II)I"⟩
def dkwX3_common_0 : List UInt8 := [27, 154, 0, 7, 26, 167, 0, 10, 27, 26, 27, 112, 184, 1, 96, 172]
abbrev dktX3_common_0 : List UInt8 := dkwX3_common_0 ++ []
theorem dksX3_common_0 : cX3_common.data.toList.drop 0 = dktX3_common_0 := by decide +kernel
theorem dX3_common_0 : decode cX3_common 0 = .ok (.iload_n 1, 1) := dk_27 (dk_at dksX3_common_0 0 rfl rfl)
theorem dX3_common_1 : decode cX3_common 1 = .ok (.ifCond .ne 7, 3) := dk_154 0 7 (dk_at dksX3_common_0 1 rfl rfl)
theorem dX3_common_4 : decode cX3_common 4 = .ok (.iload_n 0, 1) := dk_26 (dk_at dksX3_common_0 4 rfl rfl)
theorem dX3_common_5 : decode cX3_common 5 = .ok (.goto 10, 3) := dk_167 0 10 (dk_at dksX3_common_0 5 rfl rfl)
theorem dX3_common_8 : decode cX3_common 8 = .ok (.iload_n 1, 1) := dk_27 (dk_at dksX3_common_0 8 rfl rfl)
theorem dX3_common_9 : decode cX3_common 9 = .ok (.iload_n 0, 1) := dk_26 (dk_at dksX3_common_0 9 rfl rfl)
theorem dX3_common_10 : decode cX3_common 10 = .ok (.iload_n 1, 1) := dk_27 (dk_at dksX3_common_0 10 rfl rfl)
theorem dX3_common_11 : decode cX3_common 11 = .ok (.irem, 1) := dk_112 (dk_at dksX3_common_0 11 rfl rfl)
theorem dX3_common_12 : decode cX3_common 12 = .ok (.invokestatic 352, 3) := dk_184 1 96 (dk_at dksX3_common_0 12 rfl rfl)
theorem dX3_common_15 : decode cX3_common 15 = .ok (.ireturn, 1) := dk_172 (dk_at dksX3_common_0 15 rfl rfl)
abbrev cX3_lay : ByteArray := prog_14_method_115_code
def yX3_lay : MethodName := ⟨RX3, "lay", "(II)I"⟩
def dkwX3_lay_1 : List UInt8 := [62, 42, 29, 42, 29, 28, 182, 1, 105, 182, 1, 102, 172]
abbrev dktX3_lay_1 : List UInt8 := dkwX3_lay_1 ++ []
def dkwX3_lay_0 : List UInt8 := [42, 3, 181, 0, 59, 42, 27, 28, 182, 1, 99, 154, 0, 7, 17, 252, 24, 172, 42, 27, 28, 182, 1, 108]
abbrev dktX3_lay_0 : List UInt8 := dkwX3_lay_0 ++ dktX3_lay_1
theorem dksX3_lay_0 : cX3_lay.data.toList.drop 0 = dktX3_lay_0 := by decide +kernel
theorem dksX3_lay_1 : cX3_lay.data.toList.drop 24 = dktX3_lay_1 := dk_seg dksX3_lay_0 24 rfl rfl
theorem dX3_lay_0 : decode cX3_lay 0 = .ok (.aload_n 0, 1) := dk_42 (dk_at dksX3_lay_0 0 rfl rfl)
theorem dX3_lay_1 : decode cX3_lay 1 = .ok (.iconst 0, 1) := dk_3 (dk_at dksX3_lay_0 1 rfl rfl)
theorem dX3_lay_2 : decode cX3_lay 2 = .ok (.putfield 59, 3) := dk_181 0 59 (dk_at dksX3_lay_0 2 rfl rfl)
theorem dX3_lay_5 : decode cX3_lay 5 = .ok (.aload_n 0, 1) := dk_42 (dk_at dksX3_lay_0 5 rfl rfl)
theorem dX3_lay_6 : decode cX3_lay 6 = .ok (.iload_n 1, 1) := dk_27 (dk_at dksX3_lay_0 6 rfl rfl)
theorem dX3_lay_7 : decode cX3_lay 7 = .ok (.iload_n 2, 1) := dk_28 (dk_at dksX3_lay_0 7 rfl rfl)
theorem dX3_lay_8 : decode cX3_lay 8 = .ok (.invokevirtual 355, 3) := dk_182 1 99 (dk_at dksX3_lay_0 8 rfl rfl)
theorem dX3_lay_11 : decode cX3_lay 11 = .ok (.ifCond .ne 7, 3) := dk_154 0 7 (dk_at dksX3_lay_0 11 rfl rfl)
theorem dX3_lay_14 : decode cX3_lay 14 = .ok (.sipush (-1000), 3) := dk_17 252 24 (dk_at dksX3_lay_0 14 rfl rfl)
theorem dX3_lay_17 : decode cX3_lay 17 = .ok (.ireturn, 1) := dk_172 (dk_at dksX3_lay_0 17 rfl rfl)
theorem dX3_lay_18 : decode cX3_lay 18 = .ok (.aload_n 0, 1) := dk_42 (dk_at dksX3_lay_0 18 rfl rfl)
theorem dX3_lay_19 : decode cX3_lay 19 = .ok (.iload_n 1, 1) := dk_27 (dk_at dksX3_lay_0 19 rfl rfl)
theorem dX3_lay_20 : decode cX3_lay 20 = .ok (.iload_n 2, 1) := dk_28 (dk_at dksX3_lay_0 20 rfl rfl)
theorem dX3_lay_21 : decode cX3_lay 21 = .ok (.invokevirtual 364, 3) := dk_182 1 108 (dk_at dksX3_lay_0 21 rfl rfl)
theorem dX3_lay_24 : decode cX3_lay 24 = .ok (.istore_n 3, 1) := dk_62 (dk_at dksX3_lay_1 0 rfl rfl)
theorem dX3_lay_25 : decode cX3_lay 25 = .ok (.aload_n 0, 1) := dk_42 (dk_at dksX3_lay_1 1 rfl rfl)
theorem dX3_lay_26 : decode cX3_lay 26 = .ok (.iload_n 3, 1) := dk_29 (dk_at dksX3_lay_1 2 rfl rfl)
theorem dX3_lay_27 : decode cX3_lay 27 = .ok (.aload_n 0, 1) := dk_42 (dk_at dksX3_lay_1 3 rfl rfl)
theorem dX3_lay_28 : decode cX3_lay 28 = .ok (.iload_n 3, 1) := dk_29 (dk_at dksX3_lay_1 4 rfl rfl)
theorem dX3_lay_29 : decode cX3_lay 29 = .ok (.iload_n 2, 1) := dk_28 (dk_at dksX3_lay_1 5 rfl rfl)
theorem dX3_lay_30 : decode cX3_lay 30 = .ok (.invokevirtual 361, 3) := dk_182 1 105 (dk_at dksX3_lay_1 6 rfl rfl)
theorem dX3_lay_33 : decode cX3_lay 33 = .ok (.invokevirtual 358, 3) := dk_182 1 102 (dk_at dksX3_lay_1 9 rfl rfl)
theorem dX3_lay_36 : decode cX3_lay 36 = .ok (.ireturn, 1) := dk_172 (dk_at dksX3_lay_1 12 rfl rfl)
abbrev cX3_laidBy : ByteArray := prog_14_method_114_code
def yX3_laidBy : MethodName := ⟨RX3, "laidBy", "(II)I"⟩
def dkwX3_laidBy_2 : List UInt8 := [29, 28, 182, 1, 105, 182, 1, 102, 164, 0, 6, 21, 4, 62, 132, 4, 1, 167, 255, 196, 29, 172]
abbrev dktX3_laidBy_2 : List UInt8 := dkwX3_laidBy_2 ++ []
def dkwX3_laidBy_1 : List UInt8 := [160, 0, 38, 29, 2, 159, 0, 30, 42, 21, 4, 42, 21, 4, 28, 182, 1, 105, 182, 1, 102, 42, 29, 42]
abbrev dktX3_laidBy_1 : List UInt8 := dkwX3_laidBy_1 ++ dktX3_laidBy_2
def dkwX3_laidBy_0 : List UInt8 := [2, 62, 3, 54, 4, 21, 4, 42, 180, 0, 34, 4, 46, 162, 0, 55, 42, 180, 0, 47, 21, 4, 46, 27]
abbrev dktX3_laidBy_0 : List UInt8 := dkwX3_laidBy_0 ++ dktX3_laidBy_1
theorem dksX3_laidBy_0 : cX3_laidBy.data.toList.drop 0 = dktX3_laidBy_0 := by decide +kernel
theorem dksX3_laidBy_1 : cX3_laidBy.data.toList.drop 24 = dktX3_laidBy_1 := dk_seg dksX3_laidBy_0 24 rfl rfl
theorem dksX3_laidBy_2 : cX3_laidBy.data.toList.drop 48 = dktX3_laidBy_2 := dk_seg dksX3_laidBy_1 24 rfl rfl
theorem dX3_laidBy_0 : decode cX3_laidBy 0 = .ok (.iconst (-1), 1) := dk_2 (dk_at dksX3_laidBy_0 0 rfl rfl)
theorem dX3_laidBy_1 : decode cX3_laidBy 1 = .ok (.istore_n 3, 1) := dk_62 (dk_at dksX3_laidBy_0 1 rfl rfl)
theorem dX3_laidBy_2 : decode cX3_laidBy 2 = .ok (.iconst 0, 1) := dk_3 (dk_at dksX3_laidBy_0 2 rfl rfl)
theorem dX3_laidBy_3 : decode cX3_laidBy 3 = .ok (.istore 4, 2) := dk_54 4 (dk_at dksX3_laidBy_0 3 rfl rfl)
theorem dX3_laidBy_5 : decode cX3_laidBy 5 = .ok (.iload 4, 2) := dk_21 4 (dk_at dksX3_laidBy_0 5 rfl rfl)
theorem dX3_laidBy_7 : decode cX3_laidBy 7 = .ok (.aload_n 0, 1) := dk_42 (dk_at dksX3_laidBy_0 7 rfl rfl)
theorem dX3_laidBy_8 : decode cX3_laidBy 8 = .ok (.getfield 34, 3) := dk_180 0 34 (dk_at dksX3_laidBy_0 8 rfl rfl)
theorem dX3_laidBy_11 : decode cX3_laidBy 11 = .ok (.iconst 1, 1) := dk_4 (dk_at dksX3_laidBy_0 11 rfl rfl)
theorem dX3_laidBy_12 : decode cX3_laidBy 12 = .ok (.iaload, 1) := dk_46 (dk_at dksX3_laidBy_0 12 rfl rfl)
theorem dX3_laidBy_13 : decode cX3_laidBy 13 = .ok (.if_icmp .ge 55, 3) := dk_162 0 55 (dk_at dksX3_laidBy_0 13 rfl rfl)
theorem dX3_laidBy_16 : decode cX3_laidBy 16 = .ok (.aload_n 0, 1) := dk_42 (dk_at dksX3_laidBy_0 16 rfl rfl)
theorem dX3_laidBy_17 : decode cX3_laidBy 17 = .ok (.getfield 47, 3) := dk_180 0 47 (dk_at dksX3_laidBy_0 17 rfl rfl)
theorem dX3_laidBy_20 : decode cX3_laidBy 20 = .ok (.iload 4, 2) := dk_21 4 (dk_at dksX3_laidBy_0 20 rfl rfl)
theorem dX3_laidBy_22 : decode cX3_laidBy 22 = .ok (.iaload, 1) := dk_46 (dk_at dksX3_laidBy_0 22 rfl rfl)
theorem dX3_laidBy_23 : decode cX3_laidBy 23 = .ok (.iload_n 1, 1) := dk_27 (dk_at dksX3_laidBy_0 23 rfl rfl)
theorem dX3_laidBy_24 : decode cX3_laidBy 24 = .ok (.if_icmp .ne 38, 3) := dk_160 0 38 (dk_at dksX3_laidBy_1 0 rfl rfl)
theorem dX3_laidBy_27 : decode cX3_laidBy 27 = .ok (.iload_n 3, 1) := dk_29 (dk_at dksX3_laidBy_1 3 rfl rfl)
theorem dX3_laidBy_28 : decode cX3_laidBy 28 = .ok (.iconst (-1), 1) := dk_2 (dk_at dksX3_laidBy_1 4 rfl rfl)
theorem dX3_laidBy_29 : decode cX3_laidBy 29 = .ok (.if_icmp .eq 30, 3) := dk_159 0 30 (dk_at dksX3_laidBy_1 5 rfl rfl)
theorem dX3_laidBy_32 : decode cX3_laidBy 32 = .ok (.aload_n 0, 1) := dk_42 (dk_at dksX3_laidBy_1 8 rfl rfl)
theorem dX3_laidBy_33 : decode cX3_laidBy 33 = .ok (.iload 4, 2) := dk_21 4 (dk_at dksX3_laidBy_1 9 rfl rfl)
theorem dX3_laidBy_35 : decode cX3_laidBy 35 = .ok (.aload_n 0, 1) := dk_42 (dk_at dksX3_laidBy_1 11 rfl rfl)
theorem dX3_laidBy_36 : decode cX3_laidBy 36 = .ok (.iload 4, 2) := dk_21 4 (dk_at dksX3_laidBy_1 12 rfl rfl)
theorem dX3_laidBy_38 : decode cX3_laidBy 38 = .ok (.iload_n 2, 1) := dk_28 (dk_at dksX3_laidBy_1 14 rfl rfl)
theorem dX3_laidBy_39 : decode cX3_laidBy 39 = .ok (.invokevirtual 361, 3) := dk_182 1 105 (dk_at dksX3_laidBy_1 15 rfl rfl)
theorem dX3_laidBy_42 : decode cX3_laidBy 42 = .ok (.invokevirtual 358, 3) := dk_182 1 102 (dk_at dksX3_laidBy_1 18 rfl rfl)
theorem dX3_laidBy_45 : decode cX3_laidBy 45 = .ok (.aload_n 0, 1) := dk_42 (dk_at dksX3_laidBy_1 21 rfl rfl)
theorem dX3_laidBy_46 : decode cX3_laidBy 46 = .ok (.iload_n 3, 1) := dk_29 (dk_at dksX3_laidBy_1 22 rfl rfl)
theorem dX3_laidBy_47 : decode cX3_laidBy 47 = .ok (.aload_n 0, 1) := dk_42 (dk_at dksX3_laidBy_1 23 rfl rfl)
theorem dX3_laidBy_48 : decode cX3_laidBy 48 = .ok (.iload_n 3, 1) := dk_29 (dk_at dksX3_laidBy_2 0 rfl rfl)
theorem dX3_laidBy_49 : decode cX3_laidBy 49 = .ok (.iload_n 2, 1) := dk_28 (dk_at dksX3_laidBy_2 1 rfl rfl)
theorem dX3_laidBy_50 : decode cX3_laidBy 50 = .ok (.invokevirtual 361, 3) := dk_182 1 105 (dk_at dksX3_laidBy_2 2 rfl rfl)
theorem dX3_laidBy_53 : decode cX3_laidBy 53 = .ok (.invokevirtual 358, 3) := dk_182 1 102 (dk_at dksX3_laidBy_2 5 rfl rfl)
theorem dX3_laidBy_56 : decode cX3_laidBy 56 = .ok (.if_icmp .le 6, 3) := dk_164 0 6 (dk_at dksX3_laidBy_2 8 rfl rfl)
theorem dX3_laidBy_59 : decode cX3_laidBy 59 = .ok (.iload 4, 2) := dk_21 4 (dk_at dksX3_laidBy_2 11 rfl rfl)
theorem dX3_laidBy_61 : decode cX3_laidBy 61 = .ok (.istore_n 3, 1) := dk_62 (dk_at dksX3_laidBy_2 13 rfl rfl)
theorem dX3_laidBy_62 : decode cX3_laidBy 62 = .ok (.iinc 4 1, 3) := dk_132 4 1 (dk_at dksX3_laidBy_2 14 rfl rfl)
theorem dX3_laidBy_65 : decode cX3_laidBy 65 = .ok (.goto (-60), 3) := dk_167 255 196 (dk_at dksX3_laidBy_2 17 rfl rfl)
theorem dX3_laidBy_68 : decode cX3_laidBy 68 = .ok (.iload_n 3, 1) := dk_29 (dk_at dksX3_laidBy_2 20 rfl rfl)
theorem dX3_laidBy_69 : decode cX3_laidBy 69 = .ok (.ireturn, 1) := dk_172 (dk_at dksX3_laidBy_2 21 rfl rfl)
abbrev cX3_replyTo : ByteArray := prog_14_method_113_code
def yX3_replyTo : MethodName := ⟨RX3, "replyTo", "(II)I"⟩
def dkwX3_replyTo_2 : List UInt8 := [21, 4, 62, 132, 4, 1, 167, 255, 207, 29, 172]
abbrev dktX3_replyTo_2 : List UInt8 := dkwX3_replyTo_2 ++ []
def dkwX3_replyTo_1 : List UInt8 := [160, 0, 27, 29, 2, 159, 0, 19, 42, 27, 21, 4, 182, 1, 102, 42, 27, 29, 182, 1, 102, 162, 0, 6]
abbrev dktX3_replyTo_1 : List UInt8 := dkwX3_replyTo_1 ++ dktX3_replyTo_2
def dkwX3_replyTo_0 : List UInt8 := [2, 62, 3, 54, 4, 21, 4, 42, 180, 0, 34, 4, 46, 162, 0, 44, 42, 180, 0, 47, 21, 4, 46, 28]
abbrev dktX3_replyTo_0 : List UInt8 := dkwX3_replyTo_0 ++ dktX3_replyTo_1
theorem dksX3_replyTo_0 : cX3_replyTo.data.toList.drop 0 = dktX3_replyTo_0 := by decide +kernel
theorem dksX3_replyTo_1 : cX3_replyTo.data.toList.drop 24 = dktX3_replyTo_1 := dk_seg dksX3_replyTo_0 24 rfl rfl
theorem dksX3_replyTo_2 : cX3_replyTo.data.toList.drop 48 = dktX3_replyTo_2 := dk_seg dksX3_replyTo_1 24 rfl rfl
theorem dX3_replyTo_0 : decode cX3_replyTo 0 = .ok (.iconst (-1), 1) := dk_2 (dk_at dksX3_replyTo_0 0 rfl rfl)
theorem dX3_replyTo_1 : decode cX3_replyTo 1 = .ok (.istore_n 3, 1) := dk_62 (dk_at dksX3_replyTo_0 1 rfl rfl)
theorem dX3_replyTo_2 : decode cX3_replyTo 2 = .ok (.iconst 0, 1) := dk_3 (dk_at dksX3_replyTo_0 2 rfl rfl)
theorem dX3_replyTo_3 : decode cX3_replyTo 3 = .ok (.istore 4, 2) := dk_54 4 (dk_at dksX3_replyTo_0 3 rfl rfl)
theorem dX3_replyTo_5 : decode cX3_replyTo 5 = .ok (.iload 4, 2) := dk_21 4 (dk_at dksX3_replyTo_0 5 rfl rfl)
theorem dX3_replyTo_7 : decode cX3_replyTo 7 = .ok (.aload_n 0, 1) := dk_42 (dk_at dksX3_replyTo_0 7 rfl rfl)
theorem dX3_replyTo_8 : decode cX3_replyTo 8 = .ok (.getfield 34, 3) := dk_180 0 34 (dk_at dksX3_replyTo_0 8 rfl rfl)
theorem dX3_replyTo_11 : decode cX3_replyTo 11 = .ok (.iconst 1, 1) := dk_4 (dk_at dksX3_replyTo_0 11 rfl rfl)
theorem dX3_replyTo_12 : decode cX3_replyTo 12 = .ok (.iaload, 1) := dk_46 (dk_at dksX3_replyTo_0 12 rfl rfl)
theorem dX3_replyTo_13 : decode cX3_replyTo 13 = .ok (.if_icmp .ge 44, 3) := dk_162 0 44 (dk_at dksX3_replyTo_0 13 rfl rfl)
theorem dX3_replyTo_16 : decode cX3_replyTo 16 = .ok (.aload_n 0, 1) := dk_42 (dk_at dksX3_replyTo_0 16 rfl rfl)
theorem dX3_replyTo_17 : decode cX3_replyTo 17 = .ok (.getfield 47, 3) := dk_180 0 47 (dk_at dksX3_replyTo_0 17 rfl rfl)
theorem dX3_replyTo_20 : decode cX3_replyTo 20 = .ok (.iload 4, 2) := dk_21 4 (dk_at dksX3_replyTo_0 20 rfl rfl)
theorem dX3_replyTo_22 : decode cX3_replyTo 22 = .ok (.iaload, 1) := dk_46 (dk_at dksX3_replyTo_0 22 rfl rfl)
theorem dX3_replyTo_23 : decode cX3_replyTo 23 = .ok (.iload_n 2, 1) := dk_28 (dk_at dksX3_replyTo_0 23 rfl rfl)
theorem dX3_replyTo_24 : decode cX3_replyTo 24 = .ok (.if_icmp .ne 27, 3) := dk_160 0 27 (dk_at dksX3_replyTo_1 0 rfl rfl)
theorem dX3_replyTo_27 : decode cX3_replyTo 27 = .ok (.iload_n 3, 1) := dk_29 (dk_at dksX3_replyTo_1 3 rfl rfl)
theorem dX3_replyTo_28 : decode cX3_replyTo 28 = .ok (.iconst (-1), 1) := dk_2 (dk_at dksX3_replyTo_1 4 rfl rfl)
theorem dX3_replyTo_29 : decode cX3_replyTo 29 = .ok (.if_icmp .eq 19, 3) := dk_159 0 19 (dk_at dksX3_replyTo_1 5 rfl rfl)
theorem dX3_replyTo_32 : decode cX3_replyTo 32 = .ok (.aload_n 0, 1) := dk_42 (dk_at dksX3_replyTo_1 8 rfl rfl)
theorem dX3_replyTo_33 : decode cX3_replyTo 33 = .ok (.iload_n 1, 1) := dk_27 (dk_at dksX3_replyTo_1 9 rfl rfl)
theorem dX3_replyTo_34 : decode cX3_replyTo 34 = .ok (.iload 4, 2) := dk_21 4 (dk_at dksX3_replyTo_1 10 rfl rfl)
theorem dX3_replyTo_36 : decode cX3_replyTo 36 = .ok (.invokevirtual 358, 3) := dk_182 1 102 (dk_at dksX3_replyTo_1 12 rfl rfl)
theorem dX3_replyTo_39 : decode cX3_replyTo 39 = .ok (.aload_n 0, 1) := dk_42 (dk_at dksX3_replyTo_1 15 rfl rfl)
theorem dX3_replyTo_40 : decode cX3_replyTo 40 = .ok (.iload_n 1, 1) := dk_27 (dk_at dksX3_replyTo_1 16 rfl rfl)
theorem dX3_replyTo_41 : decode cX3_replyTo 41 = .ok (.iload_n 3, 1) := dk_29 (dk_at dksX3_replyTo_1 17 rfl rfl)
theorem dX3_replyTo_42 : decode cX3_replyTo 42 = .ok (.invokevirtual 358, 3) := dk_182 1 102 (dk_at dksX3_replyTo_1 18 rfl rfl)
theorem dX3_replyTo_45 : decode cX3_replyTo 45 = .ok (.if_icmp .ge 6, 3) := dk_162 0 6 (dk_at dksX3_replyTo_1 21 rfl rfl)
theorem dX3_replyTo_48 : decode cX3_replyTo 48 = .ok (.iload 4, 2) := dk_21 4 (dk_at dksX3_replyTo_2 0 rfl rfl)
theorem dX3_replyTo_50 : decode cX3_replyTo 50 = .ok (.istore_n 3, 1) := dk_62 (dk_at dksX3_replyTo_2 2 rfl rfl)
theorem dX3_replyTo_51 : decode cX3_replyTo 51 = .ok (.iinc 4 1, 3) := dk_132 4 1 (dk_at dksX3_replyTo_2 3 rfl rfl)
theorem dX3_replyTo_54 : decode cX3_replyTo 54 = .ok (.goto (-49), 3) := dk_167 255 207 (dk_at dksX3_replyTo_2 6 rfl rfl)
theorem dX3_replyTo_57 : decode cX3_replyTo 57 = .ok (.iload_n 3, 1) := dk_29 (dk_at dksX3_replyTo_2 9 rfl rfl)
theorem dX3_replyTo_58 : decode cX3_replyTo 58 = .ok (.ireturn, 1) := dk_172 (dk_at dksX3_replyTo_2 10 rfl rfl)
abbrev cX3_wonBy : ByteArray := prog_14_method_112_code
def yX3_wonBy : MethodName := ⟨RX3, "wonBy", "(II)I"⟩
def dkwX3_wonBy_2 : List UInt8 := [167, 0, 4, 3, 172]
abbrev dktX3_wonBy_2 : List UInt8 := dkwX3_wonBy_2 ++ []
def dkwX3_wonBy_1 : List UInt8 := [42, 27, 3, 182, 0, 214, 42, 28, 3, 182, 0, 214, 162, 0, 13, 42, 27, 3, 182, 0, 214, 116]
abbrev dktX3_wonBy_1 : List UInt8 := dkwX3_wonBy_1 ++ dktX3_wonBy_2
def dkwX3_wonBy_0 : List UInt8 := [42, 27, 3, 182, 0, 214, 42, 28, 3, 182, 0, 214, 164, 0, 12, 42, 28, 3, 182, 0, 214, 167, 0, 29]
abbrev dktX3_wonBy_0 : List UInt8 := dkwX3_wonBy_0 ++ dktX3_wonBy_1
theorem dksX3_wonBy_0 : cX3_wonBy.data.toList.drop 0 = dktX3_wonBy_0 := by decide +kernel
theorem dksX3_wonBy_1 : cX3_wonBy.data.toList.drop 24 = dktX3_wonBy_1 := dk_seg dksX3_wonBy_0 24 rfl rfl
theorem dksX3_wonBy_2 : cX3_wonBy.data.toList.drop 46 = dktX3_wonBy_2 := dk_seg dksX3_wonBy_1 22 rfl rfl
theorem dX3_wonBy_0 : decode cX3_wonBy 0 = .ok (.aload_n 0, 1) := dk_42 (dk_at dksX3_wonBy_0 0 rfl rfl)
theorem dX3_wonBy_1 : decode cX3_wonBy 1 = .ok (.iload_n 1, 1) := dk_27 (dk_at dksX3_wonBy_0 1 rfl rfl)
theorem dX3_wonBy_2 : decode cX3_wonBy 2 = .ok (.iconst 0, 1) := dk_3 (dk_at dksX3_wonBy_0 2 rfl rfl)
theorem dX3_wonBy_3 : decode cX3_wonBy 3 = .ok (.invokevirtual 214, 3) := dk_182 0 214 (dk_at dksX3_wonBy_0 3 rfl rfl)
theorem dX3_wonBy_6 : decode cX3_wonBy 6 = .ok (.aload_n 0, 1) := dk_42 (dk_at dksX3_wonBy_0 6 rfl rfl)
theorem dX3_wonBy_7 : decode cX3_wonBy 7 = .ok (.iload_n 2, 1) := dk_28 (dk_at dksX3_wonBy_0 7 rfl rfl)
theorem dX3_wonBy_8 : decode cX3_wonBy 8 = .ok (.iconst 0, 1) := dk_3 (dk_at dksX3_wonBy_0 8 rfl rfl)
theorem dX3_wonBy_9 : decode cX3_wonBy 9 = .ok (.invokevirtual 214, 3) := dk_182 0 214 (dk_at dksX3_wonBy_0 9 rfl rfl)
theorem dX3_wonBy_12 : decode cX3_wonBy 12 = .ok (.if_icmp .le 12, 3) := dk_164 0 12 (dk_at dksX3_wonBy_0 12 rfl rfl)
theorem dX3_wonBy_15 : decode cX3_wonBy 15 = .ok (.aload_n 0, 1) := dk_42 (dk_at dksX3_wonBy_0 15 rfl rfl)
theorem dX3_wonBy_16 : decode cX3_wonBy 16 = .ok (.iload_n 2, 1) := dk_28 (dk_at dksX3_wonBy_0 16 rfl rfl)
theorem dX3_wonBy_17 : decode cX3_wonBy 17 = .ok (.iconst 0, 1) := dk_3 (dk_at dksX3_wonBy_0 17 rfl rfl)
theorem dX3_wonBy_18 : decode cX3_wonBy 18 = .ok (.invokevirtual 214, 3) := dk_182 0 214 (dk_at dksX3_wonBy_0 18 rfl rfl)
theorem dX3_wonBy_21 : decode cX3_wonBy 21 = .ok (.goto 29, 3) := dk_167 0 29 (dk_at dksX3_wonBy_0 21 rfl rfl)
theorem dX3_wonBy_24 : decode cX3_wonBy 24 = .ok (.aload_n 0, 1) := dk_42 (dk_at dksX3_wonBy_1 0 rfl rfl)
theorem dX3_wonBy_25 : decode cX3_wonBy 25 = .ok (.iload_n 1, 1) := dk_27 (dk_at dksX3_wonBy_1 1 rfl rfl)
theorem dX3_wonBy_26 : decode cX3_wonBy 26 = .ok (.iconst 0, 1) := dk_3 (dk_at dksX3_wonBy_1 2 rfl rfl)
theorem dX3_wonBy_27 : decode cX3_wonBy 27 = .ok (.invokevirtual 214, 3) := dk_182 0 214 (dk_at dksX3_wonBy_1 3 rfl rfl)
theorem dX3_wonBy_30 : decode cX3_wonBy 30 = .ok (.aload_n 0, 1) := dk_42 (dk_at dksX3_wonBy_1 6 rfl rfl)
theorem dX3_wonBy_31 : decode cX3_wonBy 31 = .ok (.iload_n 2, 1) := dk_28 (dk_at dksX3_wonBy_1 7 rfl rfl)
theorem dX3_wonBy_32 : decode cX3_wonBy 32 = .ok (.iconst 0, 1) := dk_3 (dk_at dksX3_wonBy_1 8 rfl rfl)
theorem dX3_wonBy_33 : decode cX3_wonBy 33 = .ok (.invokevirtual 214, 3) := dk_182 0 214 (dk_at dksX3_wonBy_1 9 rfl rfl)
theorem dX3_wonBy_36 : decode cX3_wonBy 36 = .ok (.if_icmp .ge 13, 3) := dk_162 0 13 (dk_at dksX3_wonBy_1 12 rfl rfl)
theorem dX3_wonBy_39 : decode cX3_wonBy 39 = .ok (.aload_n 0, 1) := dk_42 (dk_at dksX3_wonBy_1 15 rfl rfl)
theorem dX3_wonBy_40 : decode cX3_wonBy 40 = .ok (.iload_n 1, 1) := dk_27 (dk_at dksX3_wonBy_1 16 rfl rfl)
theorem dX3_wonBy_41 : decode cX3_wonBy 41 = .ok (.iconst 0, 1) := dk_3 (dk_at dksX3_wonBy_1 17 rfl rfl)
theorem dX3_wonBy_42 : decode cX3_wonBy 42 = .ok (.invokevirtual 214, 3) := dk_182 0 214 (dk_at dksX3_wonBy_1 18 rfl rfl)
theorem dX3_wonBy_45 : decode cX3_wonBy 45 = .ok (.ineg, 1) := dk_116 (dk_at dksX3_wonBy_1 21 rfl rfl)
theorem dX3_wonBy_46 : decode cX3_wonBy 46 = .ok (.goto 4, 3) := dk_167 0 4 (dk_at dksX3_wonBy_2 0 rfl rfl)
theorem dX3_wonBy_49 : decode cX3_wonBy 49 = .ok (.iconst 0, 1) := dk_3 (dk_at dksX3_wonBy_2 3 rfl rfl)
theorem dX3_wonBy_50 : decode cX3_wonBy 50 = .ok (.ireturn, 1) := dk_172 (dk_at dksX3_wonBy_2 4 rfl rfl)
abbrev cX3_lays : ByteArray := prog_14_method_116_code
def yX3_lays : MethodName := ⟨RX3, "lays", "(II)I"⟩
def dkwX3_lays_1 : List UInt8 := [16, 254, 172]
abbrev dktX3_lays_1 : List UInt8 := dkwX3_lays_1 ++ []
def dkwX3_lays_0 : List UInt8 := [42, 3, 181, 0, 59, 42, 27, 28, 182, 1, 99, 153, 0, 12, 42, 27, 28, 182, 1, 108, 167, 0, 5]
abbrev dktX3_lays_0 : List UInt8 := dkwX3_lays_0 ++ dktX3_lays_1
theorem dksX3_lays_0 : cX3_lays.data.toList.drop 0 = dktX3_lays_0 := by decide +kernel
theorem dksX3_lays_1 : cX3_lays.data.toList.drop 23 = dktX3_lays_1 := dk_seg dksX3_lays_0 23 rfl rfl
theorem dX3_lays_0 : decode cX3_lays 0 = .ok (.aload_n 0, 1) := dk_42 (dk_at dksX3_lays_0 0 rfl rfl)
theorem dX3_lays_1 : decode cX3_lays 1 = .ok (.iconst 0, 1) := dk_3 (dk_at dksX3_lays_0 1 rfl rfl)
theorem dX3_lays_2 : decode cX3_lays 2 = .ok (.putfield 59, 3) := dk_181 0 59 (dk_at dksX3_lays_0 2 rfl rfl)
theorem dX3_lays_5 : decode cX3_lays 5 = .ok (.aload_n 0, 1) := dk_42 (dk_at dksX3_lays_0 5 rfl rfl)
theorem dX3_lays_6 : decode cX3_lays 6 = .ok (.iload_n 1, 1) := dk_27 (dk_at dksX3_lays_0 6 rfl rfl)
theorem dX3_lays_7 : decode cX3_lays 7 = .ok (.iload_n 2, 1) := dk_28 (dk_at dksX3_lays_0 7 rfl rfl)
theorem dX3_lays_8 : decode cX3_lays 8 = .ok (.invokevirtual 355, 3) := dk_182 1 99 (dk_at dksX3_lays_0 8 rfl rfl)
theorem dX3_lays_11 : decode cX3_lays 11 = .ok (.ifCond .eq 12, 3) := dk_153 0 12 (dk_at dksX3_lays_0 11 rfl rfl)
theorem dX3_lays_14 : decode cX3_lays 14 = .ok (.aload_n 0, 1) := dk_42 (dk_at dksX3_lays_0 14 rfl rfl)
theorem dX3_lays_15 : decode cX3_lays 15 = .ok (.iload_n 1, 1) := dk_27 (dk_at dksX3_lays_0 15 rfl rfl)
theorem dX3_lays_16 : decode cX3_lays 16 = .ok (.iload_n 2, 1) := dk_28 (dk_at dksX3_lays_0 16 rfl rfl)
theorem dX3_lays_17 : decode cX3_lays 17 = .ok (.invokevirtual 364, 3) := dk_182 1 108 (dk_at dksX3_lays_0 17 rfl rfl)
theorem dX3_lays_20 : decode cX3_lays 20 = .ok (.goto 5, 3) := dk_167 0 5 (dk_at dksX3_lays_0 20 rfl rfl)
theorem dX3_lays_23 : decode cX3_lays 23 = .ok (.bipush (-2), 2) := dk_16 254 (dk_at dksX3_lays_1 0 rfl rfl)
theorem dX3_lays_25 : decode cX3_lays 25 = .ok (.ireturn, 1) := dk_172 (dk_at dksX3_lays_1 2 rfl rfl)
abbrev cX3_reply : ByteArray := prog_14_method_117_code
def yX3_reply : MethodName := ⟨RX3, "reply", "(II)I"⟩
def dkwX3_reply_1 : List UInt8 := [182, 1, 105, 167, 0, 5, 16, 254, 172]
abbrev dktX3_reply_1 : List UInt8 := dkwX3_reply_1 ++ []
def dkwX3_reply_0 : List UInt8 := [42, 3, 181, 0, 59, 42, 27, 28, 182, 1, 99, 153, 0, 17, 42, 42, 27, 28, 182, 1, 108, 28]
abbrev dktX3_reply_0 : List UInt8 := dkwX3_reply_0 ++ dktX3_reply_1
theorem dksX3_reply_0 : cX3_reply.data.toList.drop 0 = dktX3_reply_0 := by decide +kernel
theorem dksX3_reply_1 : cX3_reply.data.toList.drop 22 = dktX3_reply_1 := dk_seg dksX3_reply_0 22 rfl rfl
theorem dX3_reply_0 : decode cX3_reply 0 = .ok (.aload_n 0, 1) := dk_42 (dk_at dksX3_reply_0 0 rfl rfl)
theorem dX3_reply_1 : decode cX3_reply 1 = .ok (.iconst 0, 1) := dk_3 (dk_at dksX3_reply_0 1 rfl rfl)
theorem dX3_reply_2 : decode cX3_reply 2 = .ok (.putfield 59, 3) := dk_181 0 59 (dk_at dksX3_reply_0 2 rfl rfl)
theorem dX3_reply_5 : decode cX3_reply 5 = .ok (.aload_n 0, 1) := dk_42 (dk_at dksX3_reply_0 5 rfl rfl)
theorem dX3_reply_6 : decode cX3_reply 6 = .ok (.iload_n 1, 1) := dk_27 (dk_at dksX3_reply_0 6 rfl rfl)
theorem dX3_reply_7 : decode cX3_reply 7 = .ok (.iload_n 2, 1) := dk_28 (dk_at dksX3_reply_0 7 rfl rfl)
theorem dX3_reply_8 : decode cX3_reply 8 = .ok (.invokevirtual 355, 3) := dk_182 1 99 (dk_at dksX3_reply_0 8 rfl rfl)
theorem dX3_reply_11 : decode cX3_reply 11 = .ok (.ifCond .eq 17, 3) := dk_153 0 17 (dk_at dksX3_reply_0 11 rfl rfl)
theorem dX3_reply_14 : decode cX3_reply 14 = .ok (.aload_n 0, 1) := dk_42 (dk_at dksX3_reply_0 14 rfl rfl)
theorem dX3_reply_15 : decode cX3_reply 15 = .ok (.aload_n 0, 1) := dk_42 (dk_at dksX3_reply_0 15 rfl rfl)
theorem dX3_reply_16 : decode cX3_reply 16 = .ok (.iload_n 1, 1) := dk_27 (dk_at dksX3_reply_0 16 rfl rfl)
theorem dX3_reply_17 : decode cX3_reply 17 = .ok (.iload_n 2, 1) := dk_28 (dk_at dksX3_reply_0 17 rfl rfl)
theorem dX3_reply_18 : decode cX3_reply 18 = .ok (.invokevirtual 364, 3) := dk_182 1 108 (dk_at dksX3_reply_0 18 rfl rfl)
theorem dX3_reply_21 : decode cX3_reply 21 = .ok (.iload_n 2, 1) := dk_28 (dk_at dksX3_reply_0 21 rfl rfl)
theorem dX3_reply_22 : decode cX3_reply 22 = .ok (.invokevirtual 361, 3) := dk_182 1 105 (dk_at dksX3_reply_1 0 rfl rfl)
theorem dX3_reply_25 : decode cX3_reply 25 = .ok (.goto 5, 3) := dk_167 0 5 (dk_at dksX3_reply_1 3 rfl rfl)
theorem dX3_reply_28 : decode cX3_reply 28 = .ok (.bipush (-2), 2) := dk_16 254 (dk_at dksX3_reply_1 6 rfl rfl)
theorem dX3_reply_30 : decode cX3_reply 30 = .ok (.ireturn, 1) := dk_172 (dk_at dksX3_reply_1 8 rfl rfl)
abbrev cX3_firm : ByteArray := prog_14_method_120_code
def yX3_firm : MethodName := ⟨RX3, "firm", "(I)I"⟩
def dkwX3_firm_1 : List UInt8 := [182, 1, 117, 154, 0, 7, 4, 167, 0, 4, 3, 172]
abbrev dktX3_firm_1 : List UInt8 := dkwX3_firm_1 ++ []
def dkwX3_firm_0 : List UInt8 := [42, 3, 181, 0, 59, 42, 27, 182, 1, 114, 154, 0, 6, 16, 254, 172, 42, 182, 0, 251, 42, 27]
abbrev dktX3_firm_0 : List UInt8 := dkwX3_firm_0 ++ dktX3_firm_1
theorem dksX3_firm_0 : cX3_firm.data.toList.drop 0 = dktX3_firm_0 := by decide +kernel
theorem dksX3_firm_1 : cX3_firm.data.toList.drop 22 = dktX3_firm_1 := dk_seg dksX3_firm_0 22 rfl rfl
theorem dX3_firm_0 : decode cX3_firm 0 = .ok (.aload_n 0, 1) := dk_42 (dk_at dksX3_firm_0 0 rfl rfl)
theorem dX3_firm_1 : decode cX3_firm 1 = .ok (.iconst 0, 1) := dk_3 (dk_at dksX3_firm_0 1 rfl rfl)
theorem dX3_firm_2 : decode cX3_firm 2 = .ok (.putfield 59, 3) := dk_181 0 59 (dk_at dksX3_firm_0 2 rfl rfl)
theorem dX3_firm_5 : decode cX3_firm 5 = .ok (.aload_n 0, 1) := dk_42 (dk_at dksX3_firm_0 5 rfl rfl)
theorem dX3_firm_6 : decode cX3_firm 6 = .ok (.iload_n 1, 1) := dk_27 (dk_at dksX3_firm_0 6 rfl rfl)
theorem dX3_firm_7 : decode cX3_firm 7 = .ok (.invokevirtual 370, 3) := dk_182 1 114 (dk_at dksX3_firm_0 7 rfl rfl)
theorem dX3_firm_10 : decode cX3_firm 10 = .ok (.ifCond .ne 6, 3) := dk_154 0 6 (dk_at dksX3_firm_0 10 rfl rfl)
theorem dX3_firm_13 : decode cX3_firm 13 = .ok (.bipush (-2), 2) := dk_16 254 (dk_at dksX3_firm_0 13 rfl rfl)
theorem dX3_firm_15 : decode cX3_firm 15 = .ok (.ireturn, 1) := dk_172 (dk_at dksX3_firm_0 15 rfl rfl)
theorem dX3_firm_16 : decode cX3_firm 16 = .ok (.aload_n 0, 1) := dk_42 (dk_at dksX3_firm_0 16 rfl rfl)
theorem dX3_firm_17 : decode cX3_firm 17 = .ok (.invokevirtual 251, 3) := dk_182 0 251 (dk_at dksX3_firm_0 17 rfl rfl)
theorem dX3_firm_20 : decode cX3_firm 20 = .ok (.aload_n 0, 1) := dk_42 (dk_at dksX3_firm_0 20 rfl rfl)
theorem dX3_firm_21 : decode cX3_firm 21 = .ok (.iload_n 1, 1) := dk_27 (dk_at dksX3_firm_0 21 rfl rfl)
theorem dX3_firm_22 : decode cX3_firm 22 = .ok (.invokevirtual 373, 3) := dk_182 1 117 (dk_at dksX3_firm_1 0 rfl rfl)
theorem dX3_firm_25 : decode cX3_firm 25 = .ok (.ifCond .ne 7, 3) := dk_154 0 7 (dk_at dksX3_firm_1 3 rfl rfl)
theorem dX3_firm_28 : decode cX3_firm 28 = .ok (.iconst 1, 1) := dk_4 (dk_at dksX3_firm_1 6 rfl rfl)
theorem dX3_firm_29 : decode cX3_firm 29 = .ok (.goto 4, 3) := dk_167 0 4 (dk_at dksX3_firm_1 7 rfl rfl)
theorem dX3_firm_32 : decode cX3_firm 32 = .ok (.iconst 0, 1) := dk_3 (dk_at dksX3_firm_1 10 rfl rfl)
theorem dX3_firm_33 : decode cX3_firm 33 = .ok (.ireturn, 1) := dk_172 (dk_at dksX3_firm_1 11 rfl rfl)
abbrev cX3_isSet : ByteArray := prog_14_method_38_code
def yX3_isSet : MethodName := ⟨RX3, "isSet", "(I)Z"⟩
def dkwX3_isSet_1 : List UInt8 := [153, 0, 7, 4, 167, 0, 4, 3, 172]
abbrev dktX3_isSet_1 : List UInt8 := dkwX3_isSet_1 ++ []
def dkwX3_isSet_0 : List UInt8 := [42, 182, 0, 209, 153, 0, 27, 27, 133, 9, 4, 42, 180, 0, 34, 4, 46, 120, 4, 100, 133, 184, 0, 64]
abbrev dktX3_isSet_0 : List UInt8 := dkwX3_isSet_0 ++ dktX3_isSet_1
theorem dksX3_isSet_0 : cX3_isSet.data.toList.drop 0 = dktX3_isSet_0 := by decide +kernel
theorem dksX3_isSet_1 : cX3_isSet.data.toList.drop 24 = dktX3_isSet_1 := dk_seg dksX3_isSet_0 24 rfl rfl
theorem dX3_isSet_0 : decode cX3_isSet 0 = .ok (.aload_n 0, 1) := dk_42 (dk_at dksX3_isSet_0 0 rfl rfl)
theorem dX3_isSet_1 : decode cX3_isSet 1 = .ok (.invokevirtual 209, 3) := dk_182 0 209 (dk_at dksX3_isSet_0 1 rfl rfl)
theorem dX3_isSet_4 : decode cX3_isSet 4 = .ok (.ifCond .eq 27, 3) := dk_153 0 27 (dk_at dksX3_isSet_0 4 rfl rfl)
theorem dX3_isSet_7 : decode cX3_isSet 7 = .ok (.iload_n 1, 1) := dk_27 (dk_at dksX3_isSet_0 7 rfl rfl)
theorem dX3_isSet_8 : decode cX3_isSet 8 = .ok (.i2l, 1) := dk_133 (dk_at dksX3_isSet_0 8 rfl rfl)
theorem dX3_isSet_9 : decode cX3_isSet 9 = .ok (.lconst 0, 1) := dk_9 (dk_at dksX3_isSet_0 9 rfl rfl)
theorem dX3_isSet_10 : decode cX3_isSet 10 = .ok (.iconst 1, 1) := dk_4 (dk_at dksX3_isSet_0 10 rfl rfl)
theorem dX3_isSet_11 : decode cX3_isSet 11 = .ok (.aload_n 0, 1) := dk_42 (dk_at dksX3_isSet_0 11 rfl rfl)
theorem dX3_isSet_12 : decode cX3_isSet 12 = .ok (.getfield 34, 3) := dk_180 0 34 (dk_at dksX3_isSet_0 12 rfl rfl)
theorem dX3_isSet_15 : decode cX3_isSet 15 = .ok (.iconst 1, 1) := dk_4 (dk_at dksX3_isSet_0 15 rfl rfl)
theorem dX3_isSet_16 : decode cX3_isSet 16 = .ok (.iaload, 1) := dk_46 (dk_at dksX3_isSet_0 16 rfl rfl)
theorem dX3_isSet_17 : decode cX3_isSet 17 = .ok (.ishl, 1) := dk_120 (dk_at dksX3_isSet_0 17 rfl rfl)
theorem dX3_isSet_18 : decode cX3_isSet 18 = .ok (.iconst 1, 1) := dk_4 (dk_at dksX3_isSet_0 18 rfl rfl)
theorem dX3_isSet_19 : decode cX3_isSet 19 = .ok (.isub, 1) := dk_100 (dk_at dksX3_isSet_0 19 rfl rfl)
theorem dX3_isSet_20 : decode cX3_isSet 20 = .ok (.i2l, 1) := dk_133 (dk_at dksX3_isSet_0 20 rfl rfl)
theorem dX3_isSet_21 : decode cX3_isSet 21 = .ok (.invokestatic 64, 3) := dk_184 0 64 (dk_at dksX3_isSet_0 21 rfl rfl)
theorem dX3_isSet_24 : decode cX3_isSet 24 = .ok (.ifCond .eq 7, 3) := dk_153 0 7 (dk_at dksX3_isSet_1 0 rfl rfl)
theorem dX3_isSet_27 : decode cX3_isSet 27 = .ok (.iconst 1, 1) := dk_4 (dk_at dksX3_isSet_1 3 rfl rfl)
theorem dX3_isSet_28 : decode cX3_isSet 28 = .ok (.goto 4, 3) := dk_167 0 4 (dk_at dksX3_isSet_1 4 rfl rfl)
theorem dX3_isSet_31 : decode cX3_isSet 31 = .ok (.iconst 0, 1) := dk_3 (dk_at dksX3_isSet_1 7 rfl rfl)
theorem dX3_isSet_32 : decode cX3_isSet 32 = .ok (.ireturn, 1) := dk_172 (dk_at dksX3_isSet_1 8 rfl rfl)
abbrev cX3_leaveOf : ByteArray := prog_14_method_119_code
def yX3_leaveOf : MethodName := ⟨RX3, "leaveOf", "(I)I"⟩
def dkwX3_leaveOf_2 : List UInt8 := [172]
abbrev dktX3_leaveOf_2 : List UInt8 := dkwX3_leaveOf_2 ++ []
def dkwX3_leaveOf_1 : List UInt8 := [27, 29, 182, 1, 111, 156, 0, 9, 4, 29, 120, 167, 0, 4, 3, 128, 61, 132, 3, 1, 167, 255, 216, 28]
abbrev dktX3_leaveOf_1 : List UInt8 := dkwX3_leaveOf_1 ++ dktX3_leaveOf_2
def dkwX3_leaveOf_0 : List UInt8 := [3, 61, 3, 62, 29, 42, 180, 0, 34, 4, 46, 162, 0, 36, 28, 27, 29, 184, 0, 239, 153, 0, 18, 42]
abbrev dktX3_leaveOf_0 : List UInt8 := dkwX3_leaveOf_0 ++ dktX3_leaveOf_1
theorem dksX3_leaveOf_0 : cX3_leaveOf.data.toList.drop 0 = dktX3_leaveOf_0 := by decide +kernel
theorem dksX3_leaveOf_1 : cX3_leaveOf.data.toList.drop 24 = dktX3_leaveOf_1 := dk_seg dksX3_leaveOf_0 24 rfl rfl
theorem dksX3_leaveOf_2 : cX3_leaveOf.data.toList.drop 48 = dktX3_leaveOf_2 := dk_seg dksX3_leaveOf_1 24 rfl rfl
theorem dX3_leaveOf_0 : decode cX3_leaveOf 0 = .ok (.iconst 0, 1) := dk_3 (dk_at dksX3_leaveOf_0 0 rfl rfl)
theorem dX3_leaveOf_1 : decode cX3_leaveOf 1 = .ok (.istore_n 2, 1) := dk_61 (dk_at dksX3_leaveOf_0 1 rfl rfl)
theorem dX3_leaveOf_2 : decode cX3_leaveOf 2 = .ok (.iconst 0, 1) := dk_3 (dk_at dksX3_leaveOf_0 2 rfl rfl)
theorem dX3_leaveOf_3 : decode cX3_leaveOf 3 = .ok (.istore_n 3, 1) := dk_62 (dk_at dksX3_leaveOf_0 3 rfl rfl)
theorem dX3_leaveOf_4 : decode cX3_leaveOf 4 = .ok (.iload_n 3, 1) := dk_29 (dk_at dksX3_leaveOf_0 4 rfl rfl)
theorem dX3_leaveOf_5 : decode cX3_leaveOf 5 = .ok (.aload_n 0, 1) := dk_42 (dk_at dksX3_leaveOf_0 5 rfl rfl)
theorem dX3_leaveOf_6 : decode cX3_leaveOf 6 = .ok (.getfield 34, 3) := dk_180 0 34 (dk_at dksX3_leaveOf_0 6 rfl rfl)
theorem dX3_leaveOf_9 : decode cX3_leaveOf 9 = .ok (.iconst 1, 1) := dk_4 (dk_at dksX3_leaveOf_0 9 rfl rfl)
theorem dX3_leaveOf_10 : decode cX3_leaveOf 10 = .ok (.iaload, 1) := dk_46 (dk_at dksX3_leaveOf_0 10 rfl rfl)
theorem dX3_leaveOf_11 : decode cX3_leaveOf 11 = .ok (.if_icmp .ge 36, 3) := dk_162 0 36 (dk_at dksX3_leaveOf_0 11 rfl rfl)
theorem dX3_leaveOf_14 : decode cX3_leaveOf 14 = .ok (.iload_n 2, 1) := dk_28 (dk_at dksX3_leaveOf_0 14 rfl rfl)
theorem dX3_leaveOf_15 : decode cX3_leaveOf 15 = .ok (.iload_n 1, 1) := dk_27 (dk_at dksX3_leaveOf_0 15 rfl rfl)
theorem dX3_leaveOf_16 : decode cX3_leaveOf 16 = .ok (.iload_n 3, 1) := dk_29 (dk_at dksX3_leaveOf_0 16 rfl rfl)
theorem dX3_leaveOf_17 : decode cX3_leaveOf 17 = .ok (.invokestatic 239, 3) := dk_184 0 239 (dk_at dksX3_leaveOf_0 17 rfl rfl)
theorem dX3_leaveOf_20 : decode cX3_leaveOf 20 = .ok (.ifCond .eq 18, 3) := dk_153 0 18 (dk_at dksX3_leaveOf_0 20 rfl rfl)
theorem dX3_leaveOf_23 : decode cX3_leaveOf 23 = .ok (.aload_n 0, 1) := dk_42 (dk_at dksX3_leaveOf_0 23 rfl rfl)
theorem dX3_leaveOf_24 : decode cX3_leaveOf 24 = .ok (.iload_n 1, 1) := dk_27 (dk_at dksX3_leaveOf_1 0 rfl rfl)
theorem dX3_leaveOf_25 : decode cX3_leaveOf 25 = .ok (.iload_n 3, 1) := dk_29 (dk_at dksX3_leaveOf_1 1 rfl rfl)
theorem dX3_leaveOf_26 : decode cX3_leaveOf 26 = .ok (.invokevirtual 367, 3) := dk_182 1 111 (dk_at dksX3_leaveOf_1 2 rfl rfl)
theorem dX3_leaveOf_29 : decode cX3_leaveOf 29 = .ok (.ifCond .ge 9, 3) := dk_156 0 9 (dk_at dksX3_leaveOf_1 5 rfl rfl)
theorem dX3_leaveOf_32 : decode cX3_leaveOf 32 = .ok (.iconst 1, 1) := dk_4 (dk_at dksX3_leaveOf_1 8 rfl rfl)
theorem dX3_leaveOf_33 : decode cX3_leaveOf 33 = .ok (.iload_n 3, 1) := dk_29 (dk_at dksX3_leaveOf_1 9 rfl rfl)
theorem dX3_leaveOf_34 : decode cX3_leaveOf 34 = .ok (.ishl, 1) := dk_120 (dk_at dksX3_leaveOf_1 10 rfl rfl)
theorem dX3_leaveOf_35 : decode cX3_leaveOf 35 = .ok (.goto 4, 3) := dk_167 0 4 (dk_at dksX3_leaveOf_1 11 rfl rfl)
theorem dX3_leaveOf_38 : decode cX3_leaveOf 38 = .ok (.iconst 0, 1) := dk_3 (dk_at dksX3_leaveOf_1 14 rfl rfl)
theorem dX3_leaveOf_39 : decode cX3_leaveOf 39 = .ok (.ior, 1) := dk_128 (dk_at dksX3_leaveOf_1 15 rfl rfl)
theorem dX3_leaveOf_40 : decode cX3_leaveOf 40 = .ok (.istore_n 2, 1) := dk_61 (dk_at dksX3_leaveOf_1 16 rfl rfl)
theorem dX3_leaveOf_41 : decode cX3_leaveOf 41 = .ok (.iinc 3 1, 3) := dk_132 3 1 (dk_at dksX3_leaveOf_1 17 rfl rfl)
theorem dX3_leaveOf_44 : decode cX3_leaveOf 44 = .ok (.goto (-40), 3) := dk_167 255 216 (dk_at dksX3_leaveOf_1 20 rfl rfl)
theorem dX3_leaveOf_47 : decode cX3_leaveOf 47 = .ok (.iload_n 2, 1) := dk_28 (dk_at dksX3_leaveOf_1 23 rfl rfl)
theorem dX3_leaveOf_48 : decode cX3_leaveOf 48 = .ok (.ireturn, 1) := dk_172 (dk_at dksX3_leaveOf_2 0 rfl rfl)
abbrev cX3_winsOf : ByteArray := prog_14_method_118_code
def yX3_winsOf : MethodName := ⟨RX3, "winsOf", "(II)I"⟩
def dkwX3_winsOf_2 : List UInt8 := [182, 0, 214, 167, 0, 4, 3, 42, 42, 28, 182, 0, 254, 4, 28, 120, 2, 130, 126, 182, 1, 67, 100, 172]
abbrev dktX3_winsOf_2 : List UInt8 := dkwX3_winsOf_2 ++ []
def dkwX3_winsOf_1 : List UInt8 := [180, 0, 47, 28, 46, 184, 0, 239, 153, 0, 7, 4, 167, 0, 4, 3, 62, 29, 153, 0, 12, 42, 28, 3]
abbrev dktX3_winsOf_1 : List UInt8 := dkwX3_winsOf_1 ++ dktX3_winsOf_2
def dkwX3_winsOf_0 : List UInt8 := [42, 180, 0, 47, 28, 46, 2, 159, 0, 30, 42, 180, 0, 47, 28, 46, 28, 159, 0, 20, 27, 42]
abbrev dktX3_winsOf_0 : List UInt8 := dkwX3_winsOf_0 ++ dktX3_winsOf_1
theorem dksX3_winsOf_0 : cX3_winsOf.data.toList.drop 0 = dktX3_winsOf_0 := by decide +kernel
theorem dksX3_winsOf_1 : cX3_winsOf.data.toList.drop 22 = dktX3_winsOf_1 := dk_seg dksX3_winsOf_0 22 rfl rfl
theorem dksX3_winsOf_2 : cX3_winsOf.data.toList.drop 46 = dktX3_winsOf_2 := dk_seg dksX3_winsOf_1 24 rfl rfl
theorem dX3_winsOf_0 : decode cX3_winsOf 0 = .ok (.aload_n 0, 1) := dk_42 (dk_at dksX3_winsOf_0 0 rfl rfl)
theorem dX3_winsOf_1 : decode cX3_winsOf 1 = .ok (.getfield 47, 3) := dk_180 0 47 (dk_at dksX3_winsOf_0 1 rfl rfl)
theorem dX3_winsOf_4 : decode cX3_winsOf 4 = .ok (.iload_n 2, 1) := dk_28 (dk_at dksX3_winsOf_0 4 rfl rfl)
theorem dX3_winsOf_5 : decode cX3_winsOf 5 = .ok (.iaload, 1) := dk_46 (dk_at dksX3_winsOf_0 5 rfl rfl)
theorem dX3_winsOf_6 : decode cX3_winsOf 6 = .ok (.iconst (-1), 1) := dk_2 (dk_at dksX3_winsOf_0 6 rfl rfl)
theorem dX3_winsOf_7 : decode cX3_winsOf 7 = .ok (.if_icmp .eq 30, 3) := dk_159 0 30 (dk_at dksX3_winsOf_0 7 rfl rfl)
theorem dX3_winsOf_10 : decode cX3_winsOf 10 = .ok (.aload_n 0, 1) := dk_42 (dk_at dksX3_winsOf_0 10 rfl rfl)
theorem dX3_winsOf_11 : decode cX3_winsOf 11 = .ok (.getfield 47, 3) := dk_180 0 47 (dk_at dksX3_winsOf_0 11 rfl rfl)
theorem dX3_winsOf_14 : decode cX3_winsOf 14 = .ok (.iload_n 2, 1) := dk_28 (dk_at dksX3_winsOf_0 14 rfl rfl)
theorem dX3_winsOf_15 : decode cX3_winsOf 15 = .ok (.iaload, 1) := dk_46 (dk_at dksX3_winsOf_0 15 rfl rfl)
theorem dX3_winsOf_16 : decode cX3_winsOf 16 = .ok (.iload_n 2, 1) := dk_28 (dk_at dksX3_winsOf_0 16 rfl rfl)
theorem dX3_winsOf_17 : decode cX3_winsOf 17 = .ok (.if_icmp .eq 20, 3) := dk_159 0 20 (dk_at dksX3_winsOf_0 17 rfl rfl)
theorem dX3_winsOf_20 : decode cX3_winsOf 20 = .ok (.iload_n 1, 1) := dk_27 (dk_at dksX3_winsOf_0 20 rfl rfl)
theorem dX3_winsOf_21 : decode cX3_winsOf 21 = .ok (.aload_n 0, 1) := dk_42 (dk_at dksX3_winsOf_0 21 rfl rfl)
theorem dX3_winsOf_22 : decode cX3_winsOf 22 = .ok (.getfield 47, 3) := dk_180 0 47 (dk_at dksX3_winsOf_1 0 rfl rfl)
theorem dX3_winsOf_25 : decode cX3_winsOf 25 = .ok (.iload_n 2, 1) := dk_28 (dk_at dksX3_winsOf_1 3 rfl rfl)
theorem dX3_winsOf_26 : decode cX3_winsOf 26 = .ok (.iaload, 1) := dk_46 (dk_at dksX3_winsOf_1 4 rfl rfl)
theorem dX3_winsOf_27 : decode cX3_winsOf 27 = .ok (.invokestatic 239, 3) := dk_184 0 239 (dk_at dksX3_winsOf_1 5 rfl rfl)
theorem dX3_winsOf_30 : decode cX3_winsOf 30 = .ok (.ifCond .eq 7, 3) := dk_153 0 7 (dk_at dksX3_winsOf_1 8 rfl rfl)
theorem dX3_winsOf_33 : decode cX3_winsOf 33 = .ok (.iconst 1, 1) := dk_4 (dk_at dksX3_winsOf_1 11 rfl rfl)
theorem dX3_winsOf_34 : decode cX3_winsOf 34 = .ok (.goto 4, 3) := dk_167 0 4 (dk_at dksX3_winsOf_1 12 rfl rfl)
theorem dX3_winsOf_37 : decode cX3_winsOf 37 = .ok (.iconst 0, 1) := dk_3 (dk_at dksX3_winsOf_1 15 rfl rfl)
theorem dX3_winsOf_38 : decode cX3_winsOf 38 = .ok (.istore_n 3, 1) := dk_62 (dk_at dksX3_winsOf_1 16 rfl rfl)
theorem dX3_winsOf_39 : decode cX3_winsOf 39 = .ok (.iload_n 3, 1) := dk_29 (dk_at dksX3_winsOf_1 17 rfl rfl)
theorem dX3_winsOf_40 : decode cX3_winsOf 40 = .ok (.ifCond .eq 12, 3) := dk_153 0 12 (dk_at dksX3_winsOf_1 18 rfl rfl)
theorem dX3_winsOf_43 : decode cX3_winsOf 43 = .ok (.aload_n 0, 1) := dk_42 (dk_at dksX3_winsOf_1 21 rfl rfl)
theorem dX3_winsOf_44 : decode cX3_winsOf 44 = .ok (.iload_n 2, 1) := dk_28 (dk_at dksX3_winsOf_1 22 rfl rfl)
theorem dX3_winsOf_45 : decode cX3_winsOf 45 = .ok (.iconst 0, 1) := dk_3 (dk_at dksX3_winsOf_1 23 rfl rfl)
theorem dX3_winsOf_46 : decode cX3_winsOf 46 = .ok (.invokevirtual 214, 3) := dk_182 0 214 (dk_at dksX3_winsOf_2 0 rfl rfl)
theorem dX3_winsOf_49 : decode cX3_winsOf 49 = .ok (.goto 4, 3) := dk_167 0 4 (dk_at dksX3_winsOf_2 3 rfl rfl)
theorem dX3_winsOf_52 : decode cX3_winsOf 52 = .ok (.iconst 0, 1) := dk_3 (dk_at dksX3_winsOf_2 6 rfl rfl)
theorem dX3_winsOf_53 : decode cX3_winsOf 53 = .ok (.aload_n 0, 1) := dk_42 (dk_at dksX3_winsOf_2 7 rfl rfl)
theorem dX3_winsOf_54 : decode cX3_winsOf 54 = .ok (.aload_n 0, 1) := dk_42 (dk_at dksX3_winsOf_2 8 rfl rfl)
theorem dX3_winsOf_55 : decode cX3_winsOf 55 = .ok (.iload_n 2, 1) := dk_28 (dk_at dksX3_winsOf_2 9 rfl rfl)
theorem dX3_winsOf_56 : decode cX3_winsOf 56 = .ok (.invokevirtual 254, 3) := dk_182 0 254 (dk_at dksX3_winsOf_2 10 rfl rfl)
theorem dX3_winsOf_59 : decode cX3_winsOf 59 = .ok (.iconst 1, 1) := dk_4 (dk_at dksX3_winsOf_2 13 rfl rfl)
theorem dX3_winsOf_60 : decode cX3_winsOf 60 = .ok (.iload_n 2, 1) := dk_28 (dk_at dksX3_winsOf_2 14 rfl rfl)
theorem dX3_winsOf_61 : decode cX3_winsOf 61 = .ok (.ishl, 1) := dk_120 (dk_at dksX3_winsOf_2 15 rfl rfl)
theorem dX3_winsOf_62 : decode cX3_winsOf 62 = .ok (.iconst (-1), 1) := dk_2 (dk_at dksX3_winsOf_2 16 rfl rfl)
theorem dX3_winsOf_63 : decode cX3_winsOf 63 = .ok (.ixor, 1) := dk_130 (dk_at dksX3_winsOf_2 17 rfl rfl)
theorem dX3_winsOf_64 : decode cX3_winsOf 64 = .ok (.iand, 1) := dk_126 (dk_at dksX3_winsOf_2 18 rfl rfl)
theorem dX3_winsOf_65 : decode cX3_winsOf 65 = .ok (.invokevirtual 323, 3) := dk_182 1 67 (dk_at dksX3_winsOf_2 19 rfl rfl)
theorem dX3_winsOf_68 : decode cX3_winsOf 68 = .ok (.isub, 1) := dk_100 (dk_at dksX3_winsOf_2 22 rfl rfl)
theorem dX3_winsOf_69 : decode cX3_winsOf 69 = .ok (.ireturn, 1) := dk_172 (dk_at dksX3_winsOf_2 23 rfl rfl)
abbrev cX3_firms : ByteArray := prog_14_method_121_code
def yX3_firms : MethodName := ⟨RX3, "firms", "()I"⟩
def dkwX3_firms_2 : List UInt8 := [3, 96, 60, 132, 2, 1, 167, 255, 225, 27, 172]
abbrev dktX3_firms_2 : List UInt8 := dkwX3_firms_2 ++ []
def dkwX3_firms_1 : List UInt8 := [4, 42, 180, 0, 34, 4, 46, 120, 162, 0, 25, 27, 42, 28, 182, 1, 117, 154, 0, 7, 4, 167, 0, 4]
abbrev dktX3_firms_1 : List UInt8 := dkwX3_firms_1 ++ dktX3_firms_2
def dkwX3_firms_0 : List UInt8 := [42, 3, 181, 0, 59, 42, 182, 0, 209, 154, 0, 6, 16, 254, 172, 42, 182, 0, 251, 3, 60, 3, 61, 28]
abbrev dktX3_firms_0 : List UInt8 := dkwX3_firms_0 ++ dktX3_firms_1
theorem dksX3_firms_0 : cX3_firms.data.toList.drop 0 = dktX3_firms_0 := by decide +kernel
theorem dksX3_firms_1 : cX3_firms.data.toList.drop 24 = dktX3_firms_1 := dk_seg dksX3_firms_0 24 rfl rfl
theorem dksX3_firms_2 : cX3_firms.data.toList.drop 48 = dktX3_firms_2 := dk_seg dksX3_firms_1 24 rfl rfl
theorem dX3_firms_0 : decode cX3_firms 0 = .ok (.aload_n 0, 1) := dk_42 (dk_at dksX3_firms_0 0 rfl rfl)
theorem dX3_firms_1 : decode cX3_firms 1 = .ok (.iconst 0, 1) := dk_3 (dk_at dksX3_firms_0 1 rfl rfl)
theorem dX3_firms_2 : decode cX3_firms 2 = .ok (.putfield 59, 3) := dk_181 0 59 (dk_at dksX3_firms_0 2 rfl rfl)
theorem dX3_firms_5 : decode cX3_firms 5 = .ok (.aload_n 0, 1) := dk_42 (dk_at dksX3_firms_0 5 rfl rfl)
theorem dX3_firms_6 : decode cX3_firms 6 = .ok (.invokevirtual 209, 3) := dk_182 0 209 (dk_at dksX3_firms_0 6 rfl rfl)
theorem dX3_firms_9 : decode cX3_firms 9 = .ok (.ifCond .ne 6, 3) := dk_154 0 6 (dk_at dksX3_firms_0 9 rfl rfl)
theorem dX3_firms_12 : decode cX3_firms 12 = .ok (.bipush (-2), 2) := dk_16 254 (dk_at dksX3_firms_0 12 rfl rfl)
theorem dX3_firms_14 : decode cX3_firms 14 = .ok (.ireturn, 1) := dk_172 (dk_at dksX3_firms_0 14 rfl rfl)
theorem dX3_firms_15 : decode cX3_firms 15 = .ok (.aload_n 0, 1) := dk_42 (dk_at dksX3_firms_0 15 rfl rfl)
theorem dX3_firms_16 : decode cX3_firms 16 = .ok (.invokevirtual 251, 3) := dk_182 0 251 (dk_at dksX3_firms_0 16 rfl rfl)
theorem dX3_firms_19 : decode cX3_firms 19 = .ok (.iconst 0, 1) := dk_3 (dk_at dksX3_firms_0 19 rfl rfl)
theorem dX3_firms_20 : decode cX3_firms 20 = .ok (.istore_n 1, 1) := dk_60 (dk_at dksX3_firms_0 20 rfl rfl)
theorem dX3_firms_21 : decode cX3_firms 21 = .ok (.iconst 0, 1) := dk_3 (dk_at dksX3_firms_0 21 rfl rfl)
theorem dX3_firms_22 : decode cX3_firms 22 = .ok (.istore_n 2, 1) := dk_61 (dk_at dksX3_firms_0 22 rfl rfl)
theorem dX3_firms_23 : decode cX3_firms 23 = .ok (.iload_n 2, 1) := dk_28 (dk_at dksX3_firms_0 23 rfl rfl)
theorem dX3_firms_24 : decode cX3_firms 24 = .ok (.iconst 1, 1) := dk_4 (dk_at dksX3_firms_1 0 rfl rfl)
theorem dX3_firms_25 : decode cX3_firms 25 = .ok (.aload_n 0, 1) := dk_42 (dk_at dksX3_firms_1 1 rfl rfl)
theorem dX3_firms_26 : decode cX3_firms 26 = .ok (.getfield 34, 3) := dk_180 0 34 (dk_at dksX3_firms_1 2 rfl rfl)
theorem dX3_firms_29 : decode cX3_firms 29 = .ok (.iconst 1, 1) := dk_4 (dk_at dksX3_firms_1 5 rfl rfl)
theorem dX3_firms_30 : decode cX3_firms 30 = .ok (.iaload, 1) := dk_46 (dk_at dksX3_firms_1 6 rfl rfl)
theorem dX3_firms_31 : decode cX3_firms 31 = .ok (.ishl, 1) := dk_120 (dk_at dksX3_firms_1 7 rfl rfl)
theorem dX3_firms_32 : decode cX3_firms 32 = .ok (.if_icmp .ge 25, 3) := dk_162 0 25 (dk_at dksX3_firms_1 8 rfl rfl)
theorem dX3_firms_35 : decode cX3_firms 35 = .ok (.iload_n 1, 1) := dk_27 (dk_at dksX3_firms_1 11 rfl rfl)
theorem dX3_firms_36 : decode cX3_firms 36 = .ok (.aload_n 0, 1) := dk_42 (dk_at dksX3_firms_1 12 rfl rfl)
theorem dX3_firms_37 : decode cX3_firms 37 = .ok (.iload_n 2, 1) := dk_28 (dk_at dksX3_firms_1 13 rfl rfl)
theorem dX3_firms_38 : decode cX3_firms 38 = .ok (.invokevirtual 373, 3) := dk_182 1 117 (dk_at dksX3_firms_1 14 rfl rfl)
theorem dX3_firms_41 : decode cX3_firms 41 = .ok (.ifCond .ne 7, 3) := dk_154 0 7 (dk_at dksX3_firms_1 17 rfl rfl)
theorem dX3_firms_44 : decode cX3_firms 44 = .ok (.iconst 1, 1) := dk_4 (dk_at dksX3_firms_1 20 rfl rfl)
theorem dX3_firms_45 : decode cX3_firms 45 = .ok (.goto 4, 3) := dk_167 0 4 (dk_at dksX3_firms_1 21 rfl rfl)
theorem dX3_firms_48 : decode cX3_firms 48 = .ok (.iconst 0, 1) := dk_3 (dk_at dksX3_firms_2 0 rfl rfl)
theorem dX3_firms_49 : decode cX3_firms 49 = .ok (.iadd, 1) := dk_96 (dk_at dksX3_firms_2 1 rfl rfl)
theorem dX3_firms_50 : decode cX3_firms 50 = .ok (.istore_n 1, 1) := dk_60 (dk_at dksX3_firms_2 2 rfl rfl)
theorem dX3_firms_51 : decode cX3_firms 51 = .ok (.iinc 2 1, 3) := dk_132 2 1 (dk_at dksX3_firms_2 3 rfl rfl)
theorem dX3_firms_54 : decode cX3_firms 54 = .ok (.goto (-31), 3) := dk_167 255 225 (dk_at dksX3_firms_2 6 rfl rfl)
theorem dX3_firms_57 : decode cX3_firms 57 = .ok (.iload_n 1, 1) := dk_27 (dk_at dksX3_firms_2 9 rfl rfl)
theorem dX3_firms_58 : decode cX3_firms 58 = .ok (.ireturn, 1) := dk_172 (dk_at dksX3_firms_2 10 rfl rfl)
abbrev cX3_firmest : ByteArray := prog_14_method_122_code
def yX3_firmest : MethodName := ⟨RX3, "firmest", "()I"⟩
def dkwX3_firmest_2 : List UInt8 := [182, 1, 117, 154, 0, 5, 28, 60, 132, 2, 1, 167, 255, 220, 27, 172]
abbrev dktX3_firmest_2 : List UInt8 := dkwX3_firmest_2 ++ []
def dkwX3_firmest_1 : List UInt8 := [4, 42, 180, 0, 34, 4, 46, 120, 162, 0, 30, 28, 184, 1, 41, 27, 184, 1, 41, 164, 0, 13, 42, 28]
abbrev dktX3_firmest_1 : List UInt8 := dkwX3_firmest_1 ++ dktX3_firmest_2
def dkwX3_firmest_0 : List UInt8 := [42, 3, 181, 0, 59, 42, 182, 0, 209, 154, 0, 6, 16, 254, 172, 42, 182, 0, 251, 3, 60, 3, 61, 28]
abbrev dktX3_firmest_0 : List UInt8 := dkwX3_firmest_0 ++ dktX3_firmest_1
theorem dksX3_firmest_0 : cX3_firmest.data.toList.drop 0 = dktX3_firmest_0 := by decide +kernel
theorem dksX3_firmest_1 : cX3_firmest.data.toList.drop 24 = dktX3_firmest_1 := dk_seg dksX3_firmest_0 24 rfl rfl
theorem dksX3_firmest_2 : cX3_firmest.data.toList.drop 48 = dktX3_firmest_2 := dk_seg dksX3_firmest_1 24 rfl rfl
theorem dX3_firmest_0 : decode cX3_firmest 0 = .ok (.aload_n 0, 1) := dk_42 (dk_at dksX3_firmest_0 0 rfl rfl)
theorem dX3_firmest_1 : decode cX3_firmest 1 = .ok (.iconst 0, 1) := dk_3 (dk_at dksX3_firmest_0 1 rfl rfl)
theorem dX3_firmest_2 : decode cX3_firmest 2 = .ok (.putfield 59, 3) := dk_181 0 59 (dk_at dksX3_firmest_0 2 rfl rfl)
theorem dX3_firmest_5 : decode cX3_firmest 5 = .ok (.aload_n 0, 1) := dk_42 (dk_at dksX3_firmest_0 5 rfl rfl)
theorem dX3_firmest_6 : decode cX3_firmest 6 = .ok (.invokevirtual 209, 3) := dk_182 0 209 (dk_at dksX3_firmest_0 6 rfl rfl)
theorem dX3_firmest_9 : decode cX3_firmest 9 = .ok (.ifCond .ne 6, 3) := dk_154 0 6 (dk_at dksX3_firmest_0 9 rfl rfl)
theorem dX3_firmest_12 : decode cX3_firmest 12 = .ok (.bipush (-2), 2) := dk_16 254 (dk_at dksX3_firmest_0 12 rfl rfl)
theorem dX3_firmest_14 : decode cX3_firmest 14 = .ok (.ireturn, 1) := dk_172 (dk_at dksX3_firmest_0 14 rfl rfl)
theorem dX3_firmest_15 : decode cX3_firmest 15 = .ok (.aload_n 0, 1) := dk_42 (dk_at dksX3_firmest_0 15 rfl rfl)
theorem dX3_firmest_16 : decode cX3_firmest 16 = .ok (.invokevirtual 251, 3) := dk_182 0 251 (dk_at dksX3_firmest_0 16 rfl rfl)
theorem dX3_firmest_19 : decode cX3_firmest 19 = .ok (.iconst 0, 1) := dk_3 (dk_at dksX3_firmest_0 19 rfl rfl)
theorem dX3_firmest_20 : decode cX3_firmest 20 = .ok (.istore_n 1, 1) := dk_60 (dk_at dksX3_firmest_0 20 rfl rfl)
theorem dX3_firmest_21 : decode cX3_firmest 21 = .ok (.iconst 0, 1) := dk_3 (dk_at dksX3_firmest_0 21 rfl rfl)
theorem dX3_firmest_22 : decode cX3_firmest 22 = .ok (.istore_n 2, 1) := dk_61 (dk_at dksX3_firmest_0 22 rfl rfl)
theorem dX3_firmest_23 : decode cX3_firmest 23 = .ok (.iload_n 2, 1) := dk_28 (dk_at dksX3_firmest_0 23 rfl rfl)
theorem dX3_firmest_24 : decode cX3_firmest 24 = .ok (.iconst 1, 1) := dk_4 (dk_at dksX3_firmest_1 0 rfl rfl)
theorem dX3_firmest_25 : decode cX3_firmest 25 = .ok (.aload_n 0, 1) := dk_42 (dk_at dksX3_firmest_1 1 rfl rfl)
theorem dX3_firmest_26 : decode cX3_firmest 26 = .ok (.getfield 34, 3) := dk_180 0 34 (dk_at dksX3_firmest_1 2 rfl rfl)
theorem dX3_firmest_29 : decode cX3_firmest 29 = .ok (.iconst 1, 1) := dk_4 (dk_at dksX3_firmest_1 5 rfl rfl)
theorem dX3_firmest_30 : decode cX3_firmest 30 = .ok (.iaload, 1) := dk_46 (dk_at dksX3_firmest_1 6 rfl rfl)
theorem dX3_firmest_31 : decode cX3_firmest 31 = .ok (.ishl, 1) := dk_120 (dk_at dksX3_firmest_1 7 rfl rfl)
theorem dX3_firmest_32 : decode cX3_firmest 32 = .ok (.if_icmp .ge 30, 3) := dk_162 0 30 (dk_at dksX3_firmest_1 8 rfl rfl)
theorem dX3_firmest_35 : decode cX3_firmest 35 = .ok (.iload_n 2, 1) := dk_28 (dk_at dksX3_firmest_1 11 rfl rfl)
theorem dX3_firmest_36 : decode cX3_firmest 36 = .ok (.invokestatic 297, 3) := dk_184 1 41 (dk_at dksX3_firmest_1 12 rfl rfl)
theorem dX3_firmest_39 : decode cX3_firmest 39 = .ok (.iload_n 1, 1) := dk_27 (dk_at dksX3_firmest_1 15 rfl rfl)
theorem dX3_firmest_40 : decode cX3_firmest 40 = .ok (.invokestatic 297, 3) := dk_184 1 41 (dk_at dksX3_firmest_1 16 rfl rfl)
theorem dX3_firmest_43 : decode cX3_firmest 43 = .ok (.if_icmp .le 13, 3) := dk_164 0 13 (dk_at dksX3_firmest_1 19 rfl rfl)
theorem dX3_firmest_46 : decode cX3_firmest 46 = .ok (.aload_n 0, 1) := dk_42 (dk_at dksX3_firmest_1 22 rfl rfl)
theorem dX3_firmest_47 : decode cX3_firmest 47 = .ok (.iload_n 2, 1) := dk_28 (dk_at dksX3_firmest_1 23 rfl rfl)
theorem dX3_firmest_48 : decode cX3_firmest 48 = .ok (.invokevirtual 373, 3) := dk_182 1 117 (dk_at dksX3_firmest_2 0 rfl rfl)
theorem dX3_firmest_51 : decode cX3_firmest 51 = .ok (.ifCond .ne 5, 3) := dk_154 0 5 (dk_at dksX3_firmest_2 3 rfl rfl)
theorem dX3_firmest_54 : decode cX3_firmest 54 = .ok (.iload_n 2, 1) := dk_28 (dk_at dksX3_firmest_2 6 rfl rfl)
theorem dX3_firmest_55 : decode cX3_firmest 55 = .ok (.istore_n 1, 1) := dk_60 (dk_at dksX3_firmest_2 7 rfl rfl)
theorem dX3_firmest_56 : decode cX3_firmest 56 = .ok (.iinc 2 1, 3) := dk_132 2 1 (dk_at dksX3_firmest_2 8 rfl rfl)
theorem dX3_firmest_59 : decode cX3_firmest 59 = .ok (.goto (-36), 3) := dk_167 255 220 (dk_at dksX3_firmest_2 11 rfl rfl)
theorem dX3_firmest_62 : decode cX3_firmest 62 = .ok (.iload_n 1, 1) := dk_27 (dk_at dksX3_firmest_2 14 rfl rfl)
theorem dX3_firmest_63 : decode cX3_firmest 63 = .ok (.ireturn, 1) := dk_172 (dk_at dksX3_firmest_2 15 rfl rfl)
abbrev cX3_wins : ByteArray := prog_14_method_123_code
def yX3_wins : MethodName := ⟨RX3, "wins", "(II)I"⟩
def dkwX3_wins_1 : List UInt8 := [184, 0, 239, 154, 0, 7, 17, 216, 240, 172, 42, 182, 0, 251, 42, 27, 28, 182, 1, 111, 172]
abbrev dktX3_wins_1 : List UInt8 := dkwX3_wins_1 ++ []
def dkwX3_wins_0 : List UInt8 := [42, 3, 181, 0, 59, 42, 27, 182, 1, 114, 153, 0, 20, 42, 28, 133, 182, 0, 206, 153, 0, 11, 27, 28]
abbrev dktX3_wins_0 : List UInt8 := dkwX3_wins_0 ++ dktX3_wins_1
theorem dksX3_wins_0 : cX3_wins.data.toList.drop 0 = dktX3_wins_0 := by decide +kernel
theorem dksX3_wins_1 : cX3_wins.data.toList.drop 24 = dktX3_wins_1 := dk_seg dksX3_wins_0 24 rfl rfl
theorem dX3_wins_0 : decode cX3_wins 0 = .ok (.aload_n 0, 1) := dk_42 (dk_at dksX3_wins_0 0 rfl rfl)
theorem dX3_wins_1 : decode cX3_wins 1 = .ok (.iconst 0, 1) := dk_3 (dk_at dksX3_wins_0 1 rfl rfl)
theorem dX3_wins_2 : decode cX3_wins 2 = .ok (.putfield 59, 3) := dk_181 0 59 (dk_at dksX3_wins_0 2 rfl rfl)
theorem dX3_wins_5 : decode cX3_wins 5 = .ok (.aload_n 0, 1) := dk_42 (dk_at dksX3_wins_0 5 rfl rfl)
theorem dX3_wins_6 : decode cX3_wins 6 = .ok (.iload_n 1, 1) := dk_27 (dk_at dksX3_wins_0 6 rfl rfl)
theorem dX3_wins_7 : decode cX3_wins 7 = .ok (.invokevirtual 370, 3) := dk_182 1 114 (dk_at dksX3_wins_0 7 rfl rfl)
theorem dX3_wins_10 : decode cX3_wins 10 = .ok (.ifCond .eq 20, 3) := dk_153 0 20 (dk_at dksX3_wins_0 10 rfl rfl)
theorem dX3_wins_13 : decode cX3_wins 13 = .ok (.aload_n 0, 1) := dk_42 (dk_at dksX3_wins_0 13 rfl rfl)
theorem dX3_wins_14 : decode cX3_wins 14 = .ok (.iload_n 2, 1) := dk_28 (dk_at dksX3_wins_0 14 rfl rfl)
theorem dX3_wins_15 : decode cX3_wins 15 = .ok (.i2l, 1) := dk_133 (dk_at dksX3_wins_0 15 rfl rfl)
theorem dX3_wins_16 : decode cX3_wins 16 = .ok (.invokevirtual 206, 3) := dk_182 0 206 (dk_at dksX3_wins_0 16 rfl rfl)
theorem dX3_wins_19 : decode cX3_wins 19 = .ok (.ifCond .eq 11, 3) := dk_153 0 11 (dk_at dksX3_wins_0 19 rfl rfl)
theorem dX3_wins_22 : decode cX3_wins 22 = .ok (.iload_n 1, 1) := dk_27 (dk_at dksX3_wins_0 22 rfl rfl)
theorem dX3_wins_23 : decode cX3_wins 23 = .ok (.iload_n 2, 1) := dk_28 (dk_at dksX3_wins_0 23 rfl rfl)
theorem dX3_wins_24 : decode cX3_wins 24 = .ok (.invokestatic 239, 3) := dk_184 0 239 (dk_at dksX3_wins_1 0 rfl rfl)
theorem dX3_wins_27 : decode cX3_wins 27 = .ok (.ifCond .ne 7, 3) := dk_154 0 7 (dk_at dksX3_wins_1 3 rfl rfl)
theorem dX3_wins_30 : decode cX3_wins 30 = .ok (.sipush (-10000), 3) := dk_17 216 240 (dk_at dksX3_wins_1 6 rfl rfl)
theorem dX3_wins_33 : decode cX3_wins 33 = .ok (.ireturn, 1) := dk_172 (dk_at dksX3_wins_1 9 rfl rfl)
theorem dX3_wins_34 : decode cX3_wins 34 = .ok (.aload_n 0, 1) := dk_42 (dk_at dksX3_wins_1 10 rfl rfl)
theorem dX3_wins_35 : decode cX3_wins 35 = .ok (.invokevirtual 251, 3) := dk_182 0 251 (dk_at dksX3_wins_1 11 rfl rfl)
theorem dX3_wins_38 : decode cX3_wins 38 = .ok (.aload_n 0, 1) := dk_42 (dk_at dksX3_wins_1 14 rfl rfl)
theorem dX3_wins_39 : decode cX3_wins 39 = .ok (.iload_n 1, 1) := dk_27 (dk_at dksX3_wins_1 15 rfl rfl)
theorem dX3_wins_40 : decode cX3_wins 40 = .ok (.iload_n 2, 1) := dk_28 (dk_at dksX3_wins_1 16 rfl rfl)
theorem dX3_wins_41 : decode cX3_wins 41 = .ok (.invokevirtual 367, 3) := dk_182 1 111 (dk_at dksX3_wins_1 17 rfl rfl)
theorem dX3_wins_44 : decode cX3_wins 44 = .ok (.ireturn, 1) := dk_172 (dk_at dksX3_wins_1 20 rfl rfl)
abbrev cX3_leave : ByteArray := prog_14_method_124_code
def yX3_leave : MethodName := ⟨RX3, "leave", "(I)I"⟩
def dkwX3_leave_1 : List UInt8 := [182, 1, 117, 172]
abbrev dktX3_leave_1 : List UInt8 := dkwX3_leave_1 ++ []
def dkwX3_leave_0 : List UInt8 := [42, 3, 181, 0, 59, 42, 27, 182, 1, 114, 154, 0, 6, 16, 254, 172, 42, 182, 0, 251, 42, 27]
abbrev dktX3_leave_0 : List UInt8 := dkwX3_leave_0 ++ dktX3_leave_1
theorem dksX3_leave_0 : cX3_leave.data.toList.drop 0 = dktX3_leave_0 := by decide +kernel
theorem dksX3_leave_1 : cX3_leave.data.toList.drop 22 = dktX3_leave_1 := dk_seg dksX3_leave_0 22 rfl rfl
theorem dX3_leave_0 : decode cX3_leave 0 = .ok (.aload_n 0, 1) := dk_42 (dk_at dksX3_leave_0 0 rfl rfl)
theorem dX3_leave_1 : decode cX3_leave 1 = .ok (.iconst 0, 1) := dk_3 (dk_at dksX3_leave_0 1 rfl rfl)
theorem dX3_leave_2 : decode cX3_leave 2 = .ok (.putfield 59, 3) := dk_181 0 59 (dk_at dksX3_leave_0 2 rfl rfl)
theorem dX3_leave_5 : decode cX3_leave 5 = .ok (.aload_n 0, 1) := dk_42 (dk_at dksX3_leave_0 5 rfl rfl)
theorem dX3_leave_6 : decode cX3_leave 6 = .ok (.iload_n 1, 1) := dk_27 (dk_at dksX3_leave_0 6 rfl rfl)
theorem dX3_leave_7 : decode cX3_leave 7 = .ok (.invokevirtual 370, 3) := dk_182 1 114 (dk_at dksX3_leave_0 7 rfl rfl)
theorem dX3_leave_10 : decode cX3_leave 10 = .ok (.ifCond .ne 6, 3) := dk_154 0 6 (dk_at dksX3_leave_0 10 rfl rfl)
theorem dX3_leave_13 : decode cX3_leave 13 = .ok (.bipush (-2), 2) := dk_16 254 (dk_at dksX3_leave_0 13 rfl rfl)
theorem dX3_leave_15 : decode cX3_leave 15 = .ok (.ireturn, 1) := dk_172 (dk_at dksX3_leave_0 15 rfl rfl)
theorem dX3_leave_16 : decode cX3_leave 16 = .ok (.aload_n 0, 1) := dk_42 (dk_at dksX3_leave_0 16 rfl rfl)
theorem dX3_leave_17 : decode cX3_leave 17 = .ok (.invokevirtual 251, 3) := dk_182 0 251 (dk_at dksX3_leave_0 17 rfl rfl)
theorem dX3_leave_20 : decode cX3_leave 20 = .ok (.aload_n 0, 1) := dk_42 (dk_at dksX3_leave_0 20 rfl rfl)
theorem dX3_leave_21 : decode cX3_leave 21 = .ok (.iload_n 1, 1) := dk_27 (dk_at dksX3_leave_0 21 rfl rfl)
theorem dX3_leave_22 : decode cX3_leave 22 = .ok (.invokevirtual 373, 3) := dk_182 1 117 (dk_at dksX3_leave_1 0 rfl rfl)
theorem dX3_leave_25 : decode cX3_leave 25 = .ok (.ireturn, 1) := dk_172 (dk_at dksX3_leave_1 3 rfl rfl)
abbrev cX3_ransom : ByteArray := prog_14_method_126_code
def yX3_ransom : MethodName := ⟨RX3, "ransom", "(II)I"⟩
def dkwX3_ransom_1 : List UInt8 := [29, 2, 160, 0, 7, 2, 167, 0, 9, 42, 29, 3, 182, 0, 214, 172]
abbrev dktX3_ransom_1 : List UInt8 := dkwX3_ransom_1 ++ []
def dkwX3_ransom_0 : List UInt8 := [42, 3, 181, 0, 59, 42, 27, 28, 182, 1, 10, 154, 0, 6, 16, 254, 172, 42, 27, 28, 182, 1, 120, 62]
abbrev dktX3_ransom_0 : List UInt8 := dkwX3_ransom_0 ++ dktX3_ransom_1
theorem dksX3_ransom_0 : cX3_ransom.data.toList.drop 0 = dktX3_ransom_0 := by decide +kernel
theorem dksX3_ransom_1 : cX3_ransom.data.toList.drop 24 = dktX3_ransom_1 := dk_seg dksX3_ransom_0 24 rfl rfl
theorem dX3_ransom_0 : decode cX3_ransom 0 = .ok (.aload_n 0, 1) := dk_42 (dk_at dksX3_ransom_0 0 rfl rfl)
theorem dX3_ransom_1 : decode cX3_ransom 1 = .ok (.iconst 0, 1) := dk_3 (dk_at dksX3_ransom_0 1 rfl rfl)
theorem dX3_ransom_2 : decode cX3_ransom 2 = .ok (.putfield 59, 3) := dk_181 0 59 (dk_at dksX3_ransom_0 2 rfl rfl)
theorem dX3_ransom_5 : decode cX3_ransom 5 = .ok (.aload_n 0, 1) := dk_42 (dk_at dksX3_ransom_0 5 rfl rfl)
theorem dX3_ransom_6 : decode cX3_ransom 6 = .ok (.iload_n 1, 1) := dk_27 (dk_at dksX3_ransom_0 6 rfl rfl)
theorem dX3_ransom_7 : decode cX3_ransom 7 = .ok (.iload_n 2, 1) := dk_28 (dk_at dksX3_ransom_0 7 rfl rfl)
theorem dX3_ransom_8 : decode cX3_ransom 8 = .ok (.invokevirtual 266, 3) := dk_182 1 10 (dk_at dksX3_ransom_0 8 rfl rfl)
theorem dX3_ransom_11 : decode cX3_ransom 11 = .ok (.ifCond .ne 6, 3) := dk_154 0 6 (dk_at dksX3_ransom_0 11 rfl rfl)
theorem dX3_ransom_14 : decode cX3_ransom 14 = .ok (.bipush (-2), 2) := dk_16 254 (dk_at dksX3_ransom_0 14 rfl rfl)
theorem dX3_ransom_16 : decode cX3_ransom 16 = .ok (.ireturn, 1) := dk_172 (dk_at dksX3_ransom_0 16 rfl rfl)
theorem dX3_ransom_17 : decode cX3_ransom 17 = .ok (.aload_n 0, 1) := dk_42 (dk_at dksX3_ransom_0 17 rfl rfl)
theorem dX3_ransom_18 : decode cX3_ransom 18 = .ok (.iload_n 1, 1) := dk_27 (dk_at dksX3_ransom_0 18 rfl rfl)
theorem dX3_ransom_19 : decode cX3_ransom 19 = .ok (.iload_n 2, 1) := dk_28 (dk_at dksX3_ransom_0 19 rfl rfl)
theorem dX3_ransom_20 : decode cX3_ransom 20 = .ok (.invokevirtual 376, 3) := dk_182 1 120 (dk_at dksX3_ransom_0 20 rfl rfl)
theorem dX3_ransom_23 : decode cX3_ransom 23 = .ok (.istore_n 3, 1) := dk_62 (dk_at dksX3_ransom_0 23 rfl rfl)
theorem dX3_ransom_24 : decode cX3_ransom 24 = .ok (.iload_n 3, 1) := dk_29 (dk_at dksX3_ransom_1 0 rfl rfl)
theorem dX3_ransom_25 : decode cX3_ransom 25 = .ok (.iconst (-1), 1) := dk_2 (dk_at dksX3_ransom_1 1 rfl rfl)
theorem dX3_ransom_26 : decode cX3_ransom 26 = .ok (.if_icmp .ne 7, 3) := dk_160 0 7 (dk_at dksX3_ransom_1 2 rfl rfl)
theorem dX3_ransom_29 : decode cX3_ransom 29 = .ok (.iconst (-1), 1) := dk_2 (dk_at dksX3_ransom_1 5 rfl rfl)
theorem dX3_ransom_30 : decode cX3_ransom 30 = .ok (.goto 9, 3) := dk_167 0 9 (dk_at dksX3_ransom_1 6 rfl rfl)
theorem dX3_ransom_33 : decode cX3_ransom 33 = .ok (.aload_n 0, 1) := dk_42 (dk_at dksX3_ransom_1 9 rfl rfl)
theorem dX3_ransom_34 : decode cX3_ransom 34 = .ok (.iload_n 3, 1) := dk_29 (dk_at dksX3_ransom_1 10 rfl rfl)
theorem dX3_ransom_35 : decode cX3_ransom 35 = .ok (.iconst 0, 1) := dk_3 (dk_at dksX3_ransom_1 11 rfl rfl)
theorem dX3_ransom_36 : decode cX3_ransom 36 = .ok (.invokevirtual 214, 3) := dk_182 0 214 (dk_at dksX3_ransom_1 12 rfl rfl)
theorem dX3_ransom_39 : decode cX3_ransom 39 = .ok (.ireturn, 1) := dk_172 (dk_at dksX3_ransom_1 15 rfl rfl)
abbrev cX3_ransomOf : ByteArray := prog_14_method_125_code
def yX3_ransomOf : MethodName := ⟨RX3, "ransomOf", "(II)I"⟩
def dkwX3_ransomOf_4 : List UInt8 := [167, 255, 185, 29, 172]
abbrev dktX3_ransomOf_4 : List UInt8 := dkwX3_ransomOf_4 ++ []
def dkwX3_ransomOf_3 : List UInt8 := [182, 0, 214, 42, 29, 3, 182, 0, 214, 160, 0, 12, 21, 4, 29, 162, 0, 6, 21, 4, 62, 132, 5, 1]
abbrev dktX3_ransomOf_3 : List UInt8 := dkwX3_ransomOf_3 ++ dktX3_ransomOf_4
def dkwX3_ransomOf_2 : List UInt8 := [46, 54, 4, 42, 21, 4, 3, 182, 0, 214, 42, 29, 3, 182, 0, 214, 161, 0, 25, 42, 21, 4, 3]
abbrev dktX3_ransomOf_2 : List UInt8 := dkwX3_ransomOf_2 ++ dktX3_ransomOf_3
def dkwX3_ransomOf_1 : List UInt8 := [21, 5, 16, 8, 162, 0, 70, 42, 180, 0, 47, 21, 4, 46, 27, 159, 0, 59, 42, 180, 0, 47, 21, 4]
abbrev dktX3_ransomOf_1 : List UInt8 := dkwX3_ransomOf_1 ++ dktX3_ransomOf_2
def dkwX3_ransomOf_0 : List UInt8 := [42, 182, 0, 251, 42, 27, 28, 182, 1, 13, 2, 160, 0, 5, 2, 172, 28, 62, 28, 54, 4, 3, 54, 5]
abbrev dktX3_ransomOf_0 : List UInt8 := dkwX3_ransomOf_0 ++ dktX3_ransomOf_1
theorem dksX3_ransomOf_0 : cX3_ransomOf.data.toList.drop 0 = dktX3_ransomOf_0 := by decide +kernel
theorem dksX3_ransomOf_1 : cX3_ransomOf.data.toList.drop 24 = dktX3_ransomOf_1 := dk_seg dksX3_ransomOf_0 24 rfl rfl
theorem dksX3_ransomOf_2 : cX3_ransomOf.data.toList.drop 48 = dktX3_ransomOf_2 := dk_seg dksX3_ransomOf_1 24 rfl rfl
theorem dksX3_ransomOf_3 : cX3_ransomOf.data.toList.drop 71 = dktX3_ransomOf_3 := dk_seg dksX3_ransomOf_2 23 rfl rfl
theorem dksX3_ransomOf_4 : cX3_ransomOf.data.toList.drop 95 = dktX3_ransomOf_4 := dk_seg dksX3_ransomOf_3 24 rfl rfl
theorem dX3_ransomOf_0 : decode cX3_ransomOf 0 = .ok (.aload_n 0, 1) := dk_42 (dk_at dksX3_ransomOf_0 0 rfl rfl)
theorem dX3_ransomOf_1 : decode cX3_ransomOf 1 = .ok (.invokevirtual 251, 3) := dk_182 0 251 (dk_at dksX3_ransomOf_0 1 rfl rfl)
theorem dX3_ransomOf_4 : decode cX3_ransomOf 4 = .ok (.aload_n 0, 1) := dk_42 (dk_at dksX3_ransomOf_0 4 rfl rfl)
theorem dX3_ransomOf_5 : decode cX3_ransomOf 5 = .ok (.iload_n 1, 1) := dk_27 (dk_at dksX3_ransomOf_0 5 rfl rfl)
theorem dX3_ransomOf_6 : decode cX3_ransomOf 6 = .ok (.iload_n 2, 1) := dk_28 (dk_at dksX3_ransomOf_0 6 rfl rfl)
theorem dX3_ransomOf_7 : decode cX3_ransomOf 7 = .ok (.invokevirtual 269, 3) := dk_182 1 13 (dk_at dksX3_ransomOf_0 7 rfl rfl)
theorem dX3_ransomOf_10 : decode cX3_ransomOf 10 = .ok (.iconst (-1), 1) := dk_2 (dk_at dksX3_ransomOf_0 10 rfl rfl)
theorem dX3_ransomOf_11 : decode cX3_ransomOf 11 = .ok (.if_icmp .ne 5, 3) := dk_160 0 5 (dk_at dksX3_ransomOf_0 11 rfl rfl)
theorem dX3_ransomOf_14 : decode cX3_ransomOf 14 = .ok (.iconst (-1), 1) := dk_2 (dk_at dksX3_ransomOf_0 14 rfl rfl)
theorem dX3_ransomOf_15 : decode cX3_ransomOf 15 = .ok (.ireturn, 1) := dk_172 (dk_at dksX3_ransomOf_0 15 rfl rfl)
theorem dX3_ransomOf_16 : decode cX3_ransomOf 16 = .ok (.iload_n 2, 1) := dk_28 (dk_at dksX3_ransomOf_0 16 rfl rfl)
theorem dX3_ransomOf_17 : decode cX3_ransomOf 17 = .ok (.istore_n 3, 1) := dk_62 (dk_at dksX3_ransomOf_0 17 rfl rfl)
theorem dX3_ransomOf_18 : decode cX3_ransomOf 18 = .ok (.iload_n 2, 1) := dk_28 (dk_at dksX3_ransomOf_0 18 rfl rfl)
theorem dX3_ransomOf_19 : decode cX3_ransomOf 19 = .ok (.istore 4, 2) := dk_54 4 (dk_at dksX3_ransomOf_0 19 rfl rfl)
theorem dX3_ransomOf_21 : decode cX3_ransomOf 21 = .ok (.iconst 0, 1) := dk_3 (dk_at dksX3_ransomOf_0 21 rfl rfl)
theorem dX3_ransomOf_22 : decode cX3_ransomOf 22 = .ok (.istore 5, 2) := dk_54 5 (dk_at dksX3_ransomOf_0 22 rfl rfl)
theorem dX3_ransomOf_24 : decode cX3_ransomOf 24 = .ok (.iload 5, 2) := dk_21 5 (dk_at dksX3_ransomOf_1 0 rfl rfl)
theorem dX3_ransomOf_26 : decode cX3_ransomOf 26 = .ok (.bipush 8, 2) := dk_16 8 (dk_at dksX3_ransomOf_1 2 rfl rfl)
theorem dX3_ransomOf_28 : decode cX3_ransomOf 28 = .ok (.if_icmp .ge 70, 3) := dk_162 0 70 (dk_at dksX3_ransomOf_1 4 rfl rfl)
theorem dX3_ransomOf_31 : decode cX3_ransomOf 31 = .ok (.aload_n 0, 1) := dk_42 (dk_at dksX3_ransomOf_1 7 rfl rfl)
theorem dX3_ransomOf_32 : decode cX3_ransomOf 32 = .ok (.getfield 47, 3) := dk_180 0 47 (dk_at dksX3_ransomOf_1 8 rfl rfl)
theorem dX3_ransomOf_35 : decode cX3_ransomOf 35 = .ok (.iload 4, 2) := dk_21 4 (dk_at dksX3_ransomOf_1 11 rfl rfl)
theorem dX3_ransomOf_37 : decode cX3_ransomOf 37 = .ok (.iaload, 1) := dk_46 (dk_at dksX3_ransomOf_1 13 rfl rfl)
theorem dX3_ransomOf_38 : decode cX3_ransomOf 38 = .ok (.iload_n 1, 1) := dk_27 (dk_at dksX3_ransomOf_1 14 rfl rfl)
theorem dX3_ransomOf_39 : decode cX3_ransomOf 39 = .ok (.if_icmp .eq 59, 3) := dk_159 0 59 (dk_at dksX3_ransomOf_1 15 rfl rfl)
theorem dX3_ransomOf_42 : decode cX3_ransomOf 42 = .ok (.aload_n 0, 1) := dk_42 (dk_at dksX3_ransomOf_1 18 rfl rfl)
theorem dX3_ransomOf_43 : decode cX3_ransomOf 43 = .ok (.getfield 47, 3) := dk_180 0 47 (dk_at dksX3_ransomOf_1 19 rfl rfl)
theorem dX3_ransomOf_46 : decode cX3_ransomOf 46 = .ok (.iload 4, 2) := dk_21 4 (dk_at dksX3_ransomOf_1 22 rfl rfl)
theorem dX3_ransomOf_48 : decode cX3_ransomOf 48 = .ok (.iaload, 1) := dk_46 (dk_at dksX3_ransomOf_2 0 rfl rfl)
theorem dX3_ransomOf_49 : decode cX3_ransomOf 49 = .ok (.istore 4, 2) := dk_54 4 (dk_at dksX3_ransomOf_2 1 rfl rfl)
theorem dX3_ransomOf_51 : decode cX3_ransomOf 51 = .ok (.aload_n 0, 1) := dk_42 (dk_at dksX3_ransomOf_2 3 rfl rfl)
theorem dX3_ransomOf_52 : decode cX3_ransomOf 52 = .ok (.iload 4, 2) := dk_21 4 (dk_at dksX3_ransomOf_2 4 rfl rfl)
theorem dX3_ransomOf_54 : decode cX3_ransomOf 54 = .ok (.iconst 0, 1) := dk_3 (dk_at dksX3_ransomOf_2 6 rfl rfl)
theorem dX3_ransomOf_55 : decode cX3_ransomOf 55 = .ok (.invokevirtual 214, 3) := dk_182 0 214 (dk_at dksX3_ransomOf_2 7 rfl rfl)
theorem dX3_ransomOf_58 : decode cX3_ransomOf 58 = .ok (.aload_n 0, 1) := dk_42 (dk_at dksX3_ransomOf_2 10 rfl rfl)
theorem dX3_ransomOf_59 : decode cX3_ransomOf 59 = .ok (.iload_n 3, 1) := dk_29 (dk_at dksX3_ransomOf_2 11 rfl rfl)
theorem dX3_ransomOf_60 : decode cX3_ransomOf 60 = .ok (.iconst 0, 1) := dk_3 (dk_at dksX3_ransomOf_2 12 rfl rfl)
theorem dX3_ransomOf_61 : decode cX3_ransomOf 61 = .ok (.invokevirtual 214, 3) := dk_182 0 214 (dk_at dksX3_ransomOf_2 13 rfl rfl)
theorem dX3_ransomOf_64 : decode cX3_ransomOf 64 = .ok (.if_icmp .lt 25, 3) := dk_161 0 25 (dk_at dksX3_ransomOf_2 16 rfl rfl)
theorem dX3_ransomOf_67 : decode cX3_ransomOf 67 = .ok (.aload_n 0, 1) := dk_42 (dk_at dksX3_ransomOf_2 19 rfl rfl)
theorem dX3_ransomOf_68 : decode cX3_ransomOf 68 = .ok (.iload 4, 2) := dk_21 4 (dk_at dksX3_ransomOf_2 20 rfl rfl)
theorem dX3_ransomOf_70 : decode cX3_ransomOf 70 = .ok (.iconst 0, 1) := dk_3 (dk_at dksX3_ransomOf_2 22 rfl rfl)
theorem dX3_ransomOf_71 : decode cX3_ransomOf 71 = .ok (.invokevirtual 214, 3) := dk_182 0 214 (dk_at dksX3_ransomOf_3 0 rfl rfl)
theorem dX3_ransomOf_74 : decode cX3_ransomOf 74 = .ok (.aload_n 0, 1) := dk_42 (dk_at dksX3_ransomOf_3 3 rfl rfl)
theorem dX3_ransomOf_75 : decode cX3_ransomOf 75 = .ok (.iload_n 3, 1) := dk_29 (dk_at dksX3_ransomOf_3 4 rfl rfl)
theorem dX3_ransomOf_76 : decode cX3_ransomOf 76 = .ok (.iconst 0, 1) := dk_3 (dk_at dksX3_ransomOf_3 5 rfl rfl)
theorem dX3_ransomOf_77 : decode cX3_ransomOf 77 = .ok (.invokevirtual 214, 3) := dk_182 0 214 (dk_at dksX3_ransomOf_3 6 rfl rfl)
theorem dX3_ransomOf_80 : decode cX3_ransomOf 80 = .ok (.if_icmp .ne 12, 3) := dk_160 0 12 (dk_at dksX3_ransomOf_3 9 rfl rfl)
theorem dX3_ransomOf_83 : decode cX3_ransomOf 83 = .ok (.iload 4, 2) := dk_21 4 (dk_at dksX3_ransomOf_3 12 rfl rfl)
theorem dX3_ransomOf_85 : decode cX3_ransomOf 85 = .ok (.iload_n 3, 1) := dk_29 (dk_at dksX3_ransomOf_3 14 rfl rfl)
theorem dX3_ransomOf_86 : decode cX3_ransomOf 86 = .ok (.if_icmp .ge 6, 3) := dk_162 0 6 (dk_at dksX3_ransomOf_3 15 rfl rfl)
theorem dX3_ransomOf_89 : decode cX3_ransomOf 89 = .ok (.iload 4, 2) := dk_21 4 (dk_at dksX3_ransomOf_3 18 rfl rfl)
theorem dX3_ransomOf_91 : decode cX3_ransomOf 91 = .ok (.istore_n 3, 1) := dk_62 (dk_at dksX3_ransomOf_3 20 rfl rfl)
theorem dX3_ransomOf_92 : decode cX3_ransomOf 92 = .ok (.iinc 5 1, 3) := dk_132 5 1 (dk_at dksX3_ransomOf_3 21 rfl rfl)
theorem dX3_ransomOf_95 : decode cX3_ransomOf 95 = .ok (.goto (-71), 3) := dk_167 255 185 (dk_at dksX3_ransomOf_4 0 rfl rfl)
theorem dX3_ransomOf_98 : decode cX3_ransomOf 98 = .ok (.iload_n 3, 1) := dk_29 (dk_at dksX3_ransomOf_4 3 rfl rfl)
theorem dX3_ransomOf_99 : decode cX3_ransomOf 99 = .ok (.ireturn, 1) := dk_172 (dk_at dksX3_ransomOf_4 4 rfl rfl)
abbrev cX3_ransomed : ByteArray := prog_14_method_127_code
def yX3_ransomed : MethodName := ⟨RX3, "ransomed", "(II)I"⟩
def dkwX3_ransomed_1 : List UInt8 := [16, 254, 172]
abbrev dktX3_ransomed_1 : List UInt8 := dkwX3_ransomed_1 ++ []
def dkwX3_ransomed_0 : List UInt8 := [42, 3, 181, 0, 59, 42, 27, 28, 182, 1, 10, 153, 0, 12, 42, 27, 28, 182, 1, 120, 167, 0, 5]
abbrev dktX3_ransomed_0 : List UInt8 := dkwX3_ransomed_0 ++ dktX3_ransomed_1
theorem dksX3_ransomed_0 : cX3_ransomed.data.toList.drop 0 = dktX3_ransomed_0 := by decide +kernel
theorem dksX3_ransomed_1 : cX3_ransomed.data.toList.drop 23 = dktX3_ransomed_1 := dk_seg dksX3_ransomed_0 23 rfl rfl
theorem dX3_ransomed_0 : decode cX3_ransomed 0 = .ok (.aload_n 0, 1) := dk_42 (dk_at dksX3_ransomed_0 0 rfl rfl)
theorem dX3_ransomed_1 : decode cX3_ransomed 1 = .ok (.iconst 0, 1) := dk_3 (dk_at dksX3_ransomed_0 1 rfl rfl)
theorem dX3_ransomed_2 : decode cX3_ransomed 2 = .ok (.putfield 59, 3) := dk_181 0 59 (dk_at dksX3_ransomed_0 2 rfl rfl)
theorem dX3_ransomed_5 : decode cX3_ransomed 5 = .ok (.aload_n 0, 1) := dk_42 (dk_at dksX3_ransomed_0 5 rfl rfl)
theorem dX3_ransomed_6 : decode cX3_ransomed 6 = .ok (.iload_n 1, 1) := dk_27 (dk_at dksX3_ransomed_0 6 rfl rfl)
theorem dX3_ransomed_7 : decode cX3_ransomed 7 = .ok (.iload_n 2, 1) := dk_28 (dk_at dksX3_ransomed_0 7 rfl rfl)
theorem dX3_ransomed_8 : decode cX3_ransomed 8 = .ok (.invokevirtual 266, 3) := dk_182 1 10 (dk_at dksX3_ransomed_0 8 rfl rfl)
theorem dX3_ransomed_11 : decode cX3_ransomed 11 = .ok (.ifCond .eq 12, 3) := dk_153 0 12 (dk_at dksX3_ransomed_0 11 rfl rfl)
theorem dX3_ransomed_14 : decode cX3_ransomed 14 = .ok (.aload_n 0, 1) := dk_42 (dk_at dksX3_ransomed_0 14 rfl rfl)
theorem dX3_ransomed_15 : decode cX3_ransomed 15 = .ok (.iload_n 1, 1) := dk_27 (dk_at dksX3_ransomed_0 15 rfl rfl)
theorem dX3_ransomed_16 : decode cX3_ransomed 16 = .ok (.iload_n 2, 1) := dk_28 (dk_at dksX3_ransomed_0 16 rfl rfl)
theorem dX3_ransomed_17 : decode cX3_ransomed 17 = .ok (.invokevirtual 376, 3) := dk_182 1 120 (dk_at dksX3_ransomed_0 17 rfl rfl)
theorem dX3_ransomed_20 : decode cX3_ransomed 20 = .ok (.goto 5, 3) := dk_167 0 5 (dk_at dksX3_ransomed_0 20 rfl rfl)
theorem dX3_ransomed_23 : decode cX3_ransomed 23 = .ok (.bipush (-2), 2) := dk_16 254 (dk_at dksX3_ransomed_1 0 rfl rfl)
theorem dX3_ransomed_25 : decode cX3_ransomed 25 = .ok (.ireturn, 1) := dk_172 (dk_at dksX3_ransomed_1 2 rfl rfl)
abbrev cX3_power : ByteArray := prog_14_method_129_code
def yX3_power : MethodName := ⟨RX3, "power", "(I)I"⟩
def dkwX3_power_1 : List UInt8 := [182, 1, 123, 172]
abbrev dktX3_power_1 : List UInt8 := dkwX3_power_1 ++ []
def dkwX3_power_0 : List UInt8 := [42, 3, 181, 0, 59, 42, 27, 133, 182, 0, 206, 154, 0, 6, 16, 254, 172, 42, 182, 0, 251, 42, 27]
abbrev dktX3_power_0 : List UInt8 := dkwX3_power_0 ++ dktX3_power_1
theorem dksX3_power_0 : cX3_power.data.toList.drop 0 = dktX3_power_0 := by decide +kernel
theorem dksX3_power_1 : cX3_power.data.toList.drop 23 = dktX3_power_1 := dk_seg dksX3_power_0 23 rfl rfl
theorem dX3_power_0 : decode cX3_power 0 = .ok (.aload_n 0, 1) := dk_42 (dk_at dksX3_power_0 0 rfl rfl)
theorem dX3_power_1 : decode cX3_power 1 = .ok (.iconst 0, 1) := dk_3 (dk_at dksX3_power_0 1 rfl rfl)
theorem dX3_power_2 : decode cX3_power 2 = .ok (.putfield 59, 3) := dk_181 0 59 (dk_at dksX3_power_0 2 rfl rfl)
theorem dX3_power_5 : decode cX3_power 5 = .ok (.aload_n 0, 1) := dk_42 (dk_at dksX3_power_0 5 rfl rfl)
theorem dX3_power_6 : decode cX3_power 6 = .ok (.iload_n 1, 1) := dk_27 (dk_at dksX3_power_0 6 rfl rfl)
theorem dX3_power_7 : decode cX3_power 7 = .ok (.i2l, 1) := dk_133 (dk_at dksX3_power_0 7 rfl rfl)
theorem dX3_power_8 : decode cX3_power 8 = .ok (.invokevirtual 206, 3) := dk_182 0 206 (dk_at dksX3_power_0 8 rfl rfl)
theorem dX3_power_11 : decode cX3_power 11 = .ok (.ifCond .ne 6, 3) := dk_154 0 6 (dk_at dksX3_power_0 11 rfl rfl)
theorem dX3_power_14 : decode cX3_power 14 = .ok (.bipush (-2), 2) := dk_16 254 (dk_at dksX3_power_0 14 rfl rfl)
theorem dX3_power_16 : decode cX3_power 16 = .ok (.ireturn, 1) := dk_172 (dk_at dksX3_power_0 16 rfl rfl)
theorem dX3_power_17 : decode cX3_power 17 = .ok (.aload_n 0, 1) := dk_42 (dk_at dksX3_power_0 17 rfl rfl)
theorem dX3_power_18 : decode cX3_power 18 = .ok (.invokevirtual 251, 3) := dk_182 0 251 (dk_at dksX3_power_0 18 rfl rfl)
theorem dX3_power_21 : decode cX3_power 21 = .ok (.aload_n 0, 1) := dk_42 (dk_at dksX3_power_0 21 rfl rfl)
theorem dX3_power_22 : decode cX3_power 22 = .ok (.iload_n 1, 1) := dk_27 (dk_at dksX3_power_0 22 rfl rfl)
theorem dX3_power_23 : decode cX3_power 23 = .ok (.invokevirtual 379, 3) := dk_182 1 123 (dk_at dksX3_power_1 0 rfl rfl)
theorem dX3_power_26 : decode cX3_power 26 = .ok (.ireturn, 1) := dk_172 (dk_at dksX3_power_1 3 rfl rfl)
abbrev cX3_powerOf : ByteArray := prog_14_method_128_code
def yX3_powerOf : MethodName := ⟨RX3, "powerOf", "(I)I"⟩
def dkwX3_powerOf_0 : List UInt8 := [42, 42, 27, 182, 1, 7, 182, 1, 58, 184, 1, 41, 172]
abbrev dktX3_powerOf_0 : List UInt8 := dkwX3_powerOf_0 ++ []
theorem dksX3_powerOf_0 : cX3_powerOf.data.toList.drop 0 = dktX3_powerOf_0 := by decide +kernel
theorem dX3_powerOf_0 : decode cX3_powerOf 0 = .ok (.aload_n 0, 1) := dk_42 (dk_at dksX3_powerOf_0 0 rfl rfl)
theorem dX3_powerOf_1 : decode cX3_powerOf 1 = .ok (.aload_n 0, 1) := dk_42 (dk_at dksX3_powerOf_0 1 rfl rfl)
theorem dX3_powerOf_2 : decode cX3_powerOf 2 = .ok (.iload_n 1, 1) := dk_27 (dk_at dksX3_powerOf_0 2 rfl rfl)
theorem dX3_powerOf_3 : decode cX3_powerOf 3 = .ok (.invokevirtual 263, 3) := dk_182 1 7 (dk_at dksX3_powerOf_0 3 rfl rfl)
theorem dX3_powerOf_6 : decode cX3_powerOf 6 = .ok (.invokevirtual 314, 3) := dk_182 1 58 (dk_at dksX3_powerOf_0 6 rfl rfl)
theorem dX3_powerOf_9 : decode cX3_powerOf 9 = .ok (.invokestatic 297, 3) := dk_184 1 41 (dk_at dksX3_powerOf_0 9 rfl rfl)
theorem dX3_powerOf_12 : decode cX3_powerOf 12 = .ok (.ireturn, 1) := dk_172 (dk_at dksX3_powerOf_0 12 rfl rfl)
abbrev cX3_mighty : ByteArray := prog_14_method_130_code
def yX3_mighty : MethodName := ⟨RX3, "mighty", "()I"⟩
def dkwX3_mighty_2 : List UInt8 := [164, 0, 5, 28, 60, 132, 2, 1, 167, 255, 223, 27, 172]
abbrev dktX3_mighty_2 : List UInt8 := dkwX3_mighty_2 ++ []
def dkwX3_mighty_1 : List UInt8 := [42, 180, 0, 34, 4, 46, 162, 0, 29, 27, 2, 159, 0, 16, 42, 28, 182, 1, 123, 42, 27, 182, 1, 123]
abbrev dktX3_mighty_1 : List UInt8 := dkwX3_mighty_1 ++ dktX3_mighty_2
def dkwX3_mighty_0 : List UInt8 := [42, 3, 181, 0, 59, 42, 182, 0, 209, 154, 0, 6, 16, 254, 172, 42, 182, 0, 251, 2, 60, 3, 61, 28]
abbrev dktX3_mighty_0 : List UInt8 := dkwX3_mighty_0 ++ dktX3_mighty_1
theorem dksX3_mighty_0 : cX3_mighty.data.toList.drop 0 = dktX3_mighty_0 := by decide +kernel
theorem dksX3_mighty_1 : cX3_mighty.data.toList.drop 24 = dktX3_mighty_1 := dk_seg dksX3_mighty_0 24 rfl rfl
theorem dksX3_mighty_2 : cX3_mighty.data.toList.drop 48 = dktX3_mighty_2 := dk_seg dksX3_mighty_1 24 rfl rfl
theorem dX3_mighty_0 : decode cX3_mighty 0 = .ok (.aload_n 0, 1) := dk_42 (dk_at dksX3_mighty_0 0 rfl rfl)
theorem dX3_mighty_1 : decode cX3_mighty 1 = .ok (.iconst 0, 1) := dk_3 (dk_at dksX3_mighty_0 1 rfl rfl)
theorem dX3_mighty_2 : decode cX3_mighty 2 = .ok (.putfield 59, 3) := dk_181 0 59 (dk_at dksX3_mighty_0 2 rfl rfl)
theorem dX3_mighty_5 : decode cX3_mighty 5 = .ok (.aload_n 0, 1) := dk_42 (dk_at dksX3_mighty_0 5 rfl rfl)
theorem dX3_mighty_6 : decode cX3_mighty 6 = .ok (.invokevirtual 209, 3) := dk_182 0 209 (dk_at dksX3_mighty_0 6 rfl rfl)
theorem dX3_mighty_9 : decode cX3_mighty 9 = .ok (.ifCond .ne 6, 3) := dk_154 0 6 (dk_at dksX3_mighty_0 9 rfl rfl)
theorem dX3_mighty_12 : decode cX3_mighty 12 = .ok (.bipush (-2), 2) := dk_16 254 (dk_at dksX3_mighty_0 12 rfl rfl)
theorem dX3_mighty_14 : decode cX3_mighty 14 = .ok (.ireturn, 1) := dk_172 (dk_at dksX3_mighty_0 14 rfl rfl)
theorem dX3_mighty_15 : decode cX3_mighty 15 = .ok (.aload_n 0, 1) := dk_42 (dk_at dksX3_mighty_0 15 rfl rfl)
theorem dX3_mighty_16 : decode cX3_mighty 16 = .ok (.invokevirtual 251, 3) := dk_182 0 251 (dk_at dksX3_mighty_0 16 rfl rfl)
theorem dX3_mighty_19 : decode cX3_mighty 19 = .ok (.iconst (-1), 1) := dk_2 (dk_at dksX3_mighty_0 19 rfl rfl)
theorem dX3_mighty_20 : decode cX3_mighty 20 = .ok (.istore_n 1, 1) := dk_60 (dk_at dksX3_mighty_0 20 rfl rfl)
theorem dX3_mighty_21 : decode cX3_mighty 21 = .ok (.iconst 0, 1) := dk_3 (dk_at dksX3_mighty_0 21 rfl rfl)
theorem dX3_mighty_22 : decode cX3_mighty 22 = .ok (.istore_n 2, 1) := dk_61 (dk_at dksX3_mighty_0 22 rfl rfl)
theorem dX3_mighty_23 : decode cX3_mighty 23 = .ok (.iload_n 2, 1) := dk_28 (dk_at dksX3_mighty_0 23 rfl rfl)
theorem dX3_mighty_24 : decode cX3_mighty 24 = .ok (.aload_n 0, 1) := dk_42 (dk_at dksX3_mighty_1 0 rfl rfl)
theorem dX3_mighty_25 : decode cX3_mighty 25 = .ok (.getfield 34, 3) := dk_180 0 34 (dk_at dksX3_mighty_1 1 rfl rfl)
theorem dX3_mighty_28 : decode cX3_mighty 28 = .ok (.iconst 1, 1) := dk_4 (dk_at dksX3_mighty_1 4 rfl rfl)
theorem dX3_mighty_29 : decode cX3_mighty 29 = .ok (.iaload, 1) := dk_46 (dk_at dksX3_mighty_1 5 rfl rfl)
theorem dX3_mighty_30 : decode cX3_mighty 30 = .ok (.if_icmp .ge 29, 3) := dk_162 0 29 (dk_at dksX3_mighty_1 6 rfl rfl)
theorem dX3_mighty_33 : decode cX3_mighty 33 = .ok (.iload_n 1, 1) := dk_27 (dk_at dksX3_mighty_1 9 rfl rfl)
theorem dX3_mighty_34 : decode cX3_mighty 34 = .ok (.iconst (-1), 1) := dk_2 (dk_at dksX3_mighty_1 10 rfl rfl)
theorem dX3_mighty_35 : decode cX3_mighty 35 = .ok (.if_icmp .eq 16, 3) := dk_159 0 16 (dk_at dksX3_mighty_1 11 rfl rfl)
theorem dX3_mighty_38 : decode cX3_mighty 38 = .ok (.aload_n 0, 1) := dk_42 (dk_at dksX3_mighty_1 14 rfl rfl)
theorem dX3_mighty_39 : decode cX3_mighty 39 = .ok (.iload_n 2, 1) := dk_28 (dk_at dksX3_mighty_1 15 rfl rfl)
theorem dX3_mighty_40 : decode cX3_mighty 40 = .ok (.invokevirtual 379, 3) := dk_182 1 123 (dk_at dksX3_mighty_1 16 rfl rfl)
theorem dX3_mighty_43 : decode cX3_mighty 43 = .ok (.aload_n 0, 1) := dk_42 (dk_at dksX3_mighty_1 19 rfl rfl)
theorem dX3_mighty_44 : decode cX3_mighty 44 = .ok (.iload_n 1, 1) := dk_27 (dk_at dksX3_mighty_1 20 rfl rfl)
theorem dX3_mighty_45 : decode cX3_mighty 45 = .ok (.invokevirtual 379, 3) := dk_182 1 123 (dk_at dksX3_mighty_1 21 rfl rfl)
theorem dX3_mighty_48 : decode cX3_mighty 48 = .ok (.if_icmp .le 5, 3) := dk_164 0 5 (dk_at dksX3_mighty_2 0 rfl rfl)
theorem dX3_mighty_51 : decode cX3_mighty 51 = .ok (.iload_n 2, 1) := dk_28 (dk_at dksX3_mighty_2 3 rfl rfl)
theorem dX3_mighty_52 : decode cX3_mighty 52 = .ok (.istore_n 1, 1) := dk_60 (dk_at dksX3_mighty_2 4 rfl rfl)
theorem dX3_mighty_53 : decode cX3_mighty 53 = .ok (.iinc 2 1, 3) := dk_132 2 1 (dk_at dksX3_mighty_2 5 rfl rfl)
theorem dX3_mighty_56 : decode cX3_mighty 56 = .ok (.goto (-33), 3) := dk_167 255 223 (dk_at dksX3_mighty_2 8 rfl rfl)
theorem dX3_mighty_59 : decode cX3_mighty 59 = .ok (.iload_n 1, 1) := dk_27 (dk_at dksX3_mighty_2 11 rfl rfl)
theorem dX3_mighty_60 : decode cX3_mighty 60 = .ok (.ireturn, 1) := dk_172 (dk_at dksX3_mighty_2 12 rfl rfl)
abbrev cX3_covet : ByteArray := prog_14_method_131_code
def yX3_covet : MethodName := ⟨RX3, "covet", "(I)I"⟩
def dkwX3_covet_4 : List UInt8 := [21, 4, 61, 21, 6, 62, 132, 4, 1, 167, 255, 185, 28, 172]
abbrev dktX3_covet_4 : List UInt8 := dkwX3_covet_4 ++ []
def dkwX3_covet_3 : List UInt8 := [182, 1, 123, 54, 6, 42, 180, 0, 47, 21, 4, 21, 5, 79, 21, 6, 29, 163, 0, 6, 167, 0, 9]
abbrev dktX3_covet_3 : List UInt8 := dkwX3_covet_3 ++ dktX3_covet_4
def dkwX3_covet_2 : List UInt8 := [21, 4, 46, 54, 5, 21, 5, 27, 160, 0, 6, 167, 0, 42, 42, 180, 0, 47, 21, 4, 27, 79, 42, 27]
abbrev dktX3_covet_2 : List UInt8 := dkwX3_covet_2 ++ dktX3_covet_3
def dkwX3_covet_1 : List UInt8 := [27, 182, 1, 123, 62, 3, 54, 4, 21, 4, 42, 180, 0, 34, 4, 46, 162, 0, 66, 42, 180, 0, 47]
abbrev dktX3_covet_1 : List UInt8 := dkwX3_covet_1 ++ dktX3_covet_2
def dkwX3_covet_0 : List UInt8 := [42, 3, 181, 0, 59, 42, 27, 133, 182, 0, 206, 154, 0, 6, 16, 254, 172, 42, 182, 0, 251, 2, 61, 42]
abbrev dktX3_covet_0 : List UInt8 := dkwX3_covet_0 ++ dktX3_covet_1
theorem dksX3_covet_0 : cX3_covet.data.toList.drop 0 = dktX3_covet_0 := by decide +kernel
theorem dksX3_covet_1 : cX3_covet.data.toList.drop 24 = dktX3_covet_1 := dk_seg dksX3_covet_0 24 rfl rfl
theorem dksX3_covet_2 : cX3_covet.data.toList.drop 47 = dktX3_covet_2 := dk_seg dksX3_covet_1 23 rfl rfl
theorem dksX3_covet_3 : cX3_covet.data.toList.drop 71 = dktX3_covet_3 := dk_seg dksX3_covet_2 24 rfl rfl
theorem dksX3_covet_4 : cX3_covet.data.toList.drop 94 = dktX3_covet_4 := dk_seg dksX3_covet_3 23 rfl rfl
theorem dX3_covet_0 : decode cX3_covet 0 = .ok (.aload_n 0, 1) := dk_42 (dk_at dksX3_covet_0 0 rfl rfl)
theorem dX3_covet_1 : decode cX3_covet 1 = .ok (.iconst 0, 1) := dk_3 (dk_at dksX3_covet_0 1 rfl rfl)
theorem dX3_covet_2 : decode cX3_covet 2 = .ok (.putfield 59, 3) := dk_181 0 59 (dk_at dksX3_covet_0 2 rfl rfl)
theorem dX3_covet_5 : decode cX3_covet 5 = .ok (.aload_n 0, 1) := dk_42 (dk_at dksX3_covet_0 5 rfl rfl)
theorem dX3_covet_6 : decode cX3_covet 6 = .ok (.iload_n 1, 1) := dk_27 (dk_at dksX3_covet_0 6 rfl rfl)
theorem dX3_covet_7 : decode cX3_covet 7 = .ok (.i2l, 1) := dk_133 (dk_at dksX3_covet_0 7 rfl rfl)
theorem dX3_covet_8 : decode cX3_covet 8 = .ok (.invokevirtual 206, 3) := dk_182 0 206 (dk_at dksX3_covet_0 8 rfl rfl)
theorem dX3_covet_11 : decode cX3_covet 11 = .ok (.ifCond .ne 6, 3) := dk_154 0 6 (dk_at dksX3_covet_0 11 rfl rfl)
theorem dX3_covet_14 : decode cX3_covet 14 = .ok (.bipush (-2), 2) := dk_16 254 (dk_at dksX3_covet_0 14 rfl rfl)
theorem dX3_covet_16 : decode cX3_covet 16 = .ok (.ireturn, 1) := dk_172 (dk_at dksX3_covet_0 16 rfl rfl)
theorem dX3_covet_17 : decode cX3_covet 17 = .ok (.aload_n 0, 1) := dk_42 (dk_at dksX3_covet_0 17 rfl rfl)
theorem dX3_covet_18 : decode cX3_covet 18 = .ok (.invokevirtual 251, 3) := dk_182 0 251 (dk_at dksX3_covet_0 18 rfl rfl)
theorem dX3_covet_21 : decode cX3_covet 21 = .ok (.iconst (-1), 1) := dk_2 (dk_at dksX3_covet_0 21 rfl rfl)
theorem dX3_covet_22 : decode cX3_covet 22 = .ok (.istore_n 2, 1) := dk_61 (dk_at dksX3_covet_0 22 rfl rfl)
theorem dX3_covet_23 : decode cX3_covet 23 = .ok (.aload_n 0, 1) := dk_42 (dk_at dksX3_covet_0 23 rfl rfl)
theorem dX3_covet_24 : decode cX3_covet 24 = .ok (.iload_n 1, 1) := dk_27 (dk_at dksX3_covet_1 0 rfl rfl)
theorem dX3_covet_25 : decode cX3_covet 25 = .ok (.invokevirtual 379, 3) := dk_182 1 123 (dk_at dksX3_covet_1 1 rfl rfl)
theorem dX3_covet_28 : decode cX3_covet 28 = .ok (.istore_n 3, 1) := dk_62 (dk_at dksX3_covet_1 4 rfl rfl)
theorem dX3_covet_29 : decode cX3_covet 29 = .ok (.iconst 0, 1) := dk_3 (dk_at dksX3_covet_1 5 rfl rfl)
theorem dX3_covet_30 : decode cX3_covet 30 = .ok (.istore 4, 2) := dk_54 4 (dk_at dksX3_covet_1 6 rfl rfl)
theorem dX3_covet_32 : decode cX3_covet 32 = .ok (.iload 4, 2) := dk_21 4 (dk_at dksX3_covet_1 8 rfl rfl)
theorem dX3_covet_34 : decode cX3_covet 34 = .ok (.aload_n 0, 1) := dk_42 (dk_at dksX3_covet_1 10 rfl rfl)
theorem dX3_covet_35 : decode cX3_covet 35 = .ok (.getfield 34, 3) := dk_180 0 34 (dk_at dksX3_covet_1 11 rfl rfl)
theorem dX3_covet_38 : decode cX3_covet 38 = .ok (.iconst 1, 1) := dk_4 (dk_at dksX3_covet_1 14 rfl rfl)
theorem dX3_covet_39 : decode cX3_covet 39 = .ok (.iaload, 1) := dk_46 (dk_at dksX3_covet_1 15 rfl rfl)
theorem dX3_covet_40 : decode cX3_covet 40 = .ok (.if_icmp .ge 66, 3) := dk_162 0 66 (dk_at dksX3_covet_1 16 rfl rfl)
theorem dX3_covet_43 : decode cX3_covet 43 = .ok (.aload_n 0, 1) := dk_42 (dk_at dksX3_covet_1 19 rfl rfl)
theorem dX3_covet_44 : decode cX3_covet 44 = .ok (.getfield 47, 3) := dk_180 0 47 (dk_at dksX3_covet_1 20 rfl rfl)
theorem dX3_covet_47 : decode cX3_covet 47 = .ok (.iload 4, 2) := dk_21 4 (dk_at dksX3_covet_2 0 rfl rfl)
theorem dX3_covet_49 : decode cX3_covet 49 = .ok (.iaload, 1) := dk_46 (dk_at dksX3_covet_2 2 rfl rfl)
theorem dX3_covet_50 : decode cX3_covet 50 = .ok (.istore 5, 2) := dk_54 5 (dk_at dksX3_covet_2 3 rfl rfl)
theorem dX3_covet_52 : decode cX3_covet 52 = .ok (.iload 5, 2) := dk_21 5 (dk_at dksX3_covet_2 5 rfl rfl)
theorem dX3_covet_54 : decode cX3_covet 54 = .ok (.iload_n 1, 1) := dk_27 (dk_at dksX3_covet_2 7 rfl rfl)
theorem dX3_covet_55 : decode cX3_covet 55 = .ok (.if_icmp .ne 6, 3) := dk_160 0 6 (dk_at dksX3_covet_2 8 rfl rfl)
theorem dX3_covet_58 : decode cX3_covet 58 = .ok (.goto 42, 3) := dk_167 0 42 (dk_at dksX3_covet_2 11 rfl rfl)
theorem dX3_covet_61 : decode cX3_covet 61 = .ok (.aload_n 0, 1) := dk_42 (dk_at dksX3_covet_2 14 rfl rfl)
theorem dX3_covet_62 : decode cX3_covet 62 = .ok (.getfield 47, 3) := dk_180 0 47 (dk_at dksX3_covet_2 15 rfl rfl)
theorem dX3_covet_65 : decode cX3_covet 65 = .ok (.iload 4, 2) := dk_21 4 (dk_at dksX3_covet_2 18 rfl rfl)
theorem dX3_covet_67 : decode cX3_covet 67 = .ok (.iload_n 1, 1) := dk_27 (dk_at dksX3_covet_2 20 rfl rfl)
theorem dX3_covet_68 : decode cX3_covet 68 = .ok (.iastore, 1) := dk_79 (dk_at dksX3_covet_2 21 rfl rfl)
theorem dX3_covet_69 : decode cX3_covet 69 = .ok (.aload_n 0, 1) := dk_42 (dk_at dksX3_covet_2 22 rfl rfl)
theorem dX3_covet_70 : decode cX3_covet 70 = .ok (.iload_n 1, 1) := dk_27 (dk_at dksX3_covet_2 23 rfl rfl)
theorem dX3_covet_71 : decode cX3_covet 71 = .ok (.invokevirtual 379, 3) := dk_182 1 123 (dk_at dksX3_covet_3 0 rfl rfl)
theorem dX3_covet_74 : decode cX3_covet 74 = .ok (.istore 6, 2) := dk_54 6 (dk_at dksX3_covet_3 3 rfl rfl)
theorem dX3_covet_76 : decode cX3_covet 76 = .ok (.aload_n 0, 1) := dk_42 (dk_at dksX3_covet_3 5 rfl rfl)
theorem dX3_covet_77 : decode cX3_covet 77 = .ok (.getfield 47, 3) := dk_180 0 47 (dk_at dksX3_covet_3 6 rfl rfl)
theorem dX3_covet_80 : decode cX3_covet 80 = .ok (.iload 4, 2) := dk_21 4 (dk_at dksX3_covet_3 9 rfl rfl)
theorem dX3_covet_82 : decode cX3_covet 82 = .ok (.iload 5, 2) := dk_21 5 (dk_at dksX3_covet_3 11 rfl rfl)
theorem dX3_covet_84 : decode cX3_covet 84 = .ok (.iastore, 1) := dk_79 (dk_at dksX3_covet_3 13 rfl rfl)
theorem dX3_covet_85 : decode cX3_covet 85 = .ok (.iload 6, 2) := dk_21 6 (dk_at dksX3_covet_3 14 rfl rfl)
theorem dX3_covet_87 : decode cX3_covet 87 = .ok (.iload_n 3, 1) := dk_29 (dk_at dksX3_covet_3 16 rfl rfl)
theorem dX3_covet_88 : decode cX3_covet 88 = .ok (.if_icmp .gt 6, 3) := dk_163 0 6 (dk_at dksX3_covet_3 17 rfl rfl)
theorem dX3_covet_91 : decode cX3_covet 91 = .ok (.goto 9, 3) := dk_167 0 9 (dk_at dksX3_covet_3 20 rfl rfl)
theorem dX3_covet_94 : decode cX3_covet 94 = .ok (.iload 4, 2) := dk_21 4 (dk_at dksX3_covet_4 0 rfl rfl)
theorem dX3_covet_96 : decode cX3_covet 96 = .ok (.istore_n 2, 1) := dk_61 (dk_at dksX3_covet_4 2 rfl rfl)
theorem dX3_covet_97 : decode cX3_covet 97 = .ok (.iload 6, 2) := dk_21 6 (dk_at dksX3_covet_4 3 rfl rfl)
theorem dX3_covet_99 : decode cX3_covet 99 = .ok (.istore_n 3, 1) := dk_62 (dk_at dksX3_covet_4 5 rfl rfl)
theorem dX3_covet_100 : decode cX3_covet 100 = .ok (.iinc 4 1, 3) := dk_132 4 1 (dk_at dksX3_covet_4 6 rfl rfl)
theorem dX3_covet_103 : decode cX3_covet 103 = .ok (.goto (-71), 3) := dk_167 255 185 (dk_at dksX3_covet_4 9 rfl rfl)
theorem dX3_covet_106 : decode cX3_covet 106 = .ok (.iload_n 2, 1) := dk_28 (dk_at dksX3_covet_4 12 rfl rfl)
theorem dX3_covet_107 : decode cX3_covet 107 = .ok (.ireturn, 1) := dk_172 (dk_at dksX3_covet_4 13 rfl rfl)
abbrev cX3_judge : ByteArray := prog_14_method_134_code
def yX3_judge : MethodName := ⟨RX3, "judge", "(I)I"⟩
def dkwX3_judge_1 : List UInt8 := [172]
abbrev dktX3_judge_1 : List UInt8 := dkwX3_judge_1 ++ []
def dkwX3_judge_0 : List UInt8 := [42, 3, 181, 0, 59, 42, 27, 182, 1, 126, 61, 28, 153, 0, 7, 28, 167, 0, 8, 42, 27, 182, 1, 129]
abbrev dktX3_judge_0 : List UInt8 := dkwX3_judge_0 ++ dktX3_judge_1
theorem dksX3_judge_0 : cX3_judge.data.toList.drop 0 = dktX3_judge_0 := by decide +kernel
theorem dksX3_judge_1 : cX3_judge.data.toList.drop 24 = dktX3_judge_1 := dk_seg dksX3_judge_0 24 rfl rfl
theorem dX3_judge_0 : decode cX3_judge 0 = .ok (.aload_n 0, 1) := dk_42 (dk_at dksX3_judge_0 0 rfl rfl)
theorem dX3_judge_1 : decode cX3_judge 1 = .ok (.iconst 0, 1) := dk_3 (dk_at dksX3_judge_0 1 rfl rfl)
theorem dX3_judge_2 : decode cX3_judge 2 = .ok (.putfield 59, 3) := dk_181 0 59 (dk_at dksX3_judge_0 2 rfl rfl)
theorem dX3_judge_5 : decode cX3_judge 5 = .ok (.aload_n 0, 1) := dk_42 (dk_at dksX3_judge_0 5 rfl rfl)
theorem dX3_judge_6 : decode cX3_judge 6 = .ok (.iload_n 1, 1) := dk_27 (dk_at dksX3_judge_0 6 rfl rfl)
theorem dX3_judge_7 : decode cX3_judge 7 = .ok (.invokevirtual 382, 3) := dk_182 1 126 (dk_at dksX3_judge_0 7 rfl rfl)
theorem dX3_judge_10 : decode cX3_judge 10 = .ok (.istore_n 2, 1) := dk_61 (dk_at dksX3_judge_0 10 rfl rfl)
theorem dX3_judge_11 : decode cX3_judge 11 = .ok (.iload_n 2, 1) := dk_28 (dk_at dksX3_judge_0 11 rfl rfl)
theorem dX3_judge_12 : decode cX3_judge 12 = .ok (.ifCond .eq 7, 3) := dk_153 0 7 (dk_at dksX3_judge_0 12 rfl rfl)
theorem dX3_judge_15 : decode cX3_judge 15 = .ok (.iload_n 2, 1) := dk_28 (dk_at dksX3_judge_0 15 rfl rfl)
theorem dX3_judge_16 : decode cX3_judge 16 = .ok (.goto 8, 3) := dk_167 0 8 (dk_at dksX3_judge_0 16 rfl rfl)
theorem dX3_judge_19 : decode cX3_judge 19 = .ok (.aload_n 0, 1) := dk_42 (dk_at dksX3_judge_0 19 rfl rfl)
theorem dX3_judge_20 : decode cX3_judge 20 = .ok (.iload_n 1, 1) := dk_27 (dk_at dksX3_judge_0 20 rfl rfl)
theorem dX3_judge_21 : decode cX3_judge 21 = .ok (.invokevirtual 385, 3) := dk_182 1 129 (dk_at dksX3_judge_0 21 rfl rfl)
theorem dX3_judge_24 : decode cX3_judge 24 = .ok (.ireturn, 1) := dk_172 (dk_at dksX3_judge_1 0 rfl rfl)
abbrev cX3_whyNotJudge : ByteArray := prog_14_method_132_code
def yX3_whyNotJudge : MethodName := ⟨RX3, "whyNotJudge", "(I)I"⟩
def dkwX3_whyNotJudge_7 : List UInt8 := [167, 255, 136, 3, 172]
abbrev dktX3_whyNotJudge_7 : List UInt8 := dkwX3_whyNotJudge_7 ++ []
def dkwX3_whyNotJudge_6 : List UInt8 := [153, 0, 17, 42, 180, 0, 16, 29, 5, 96, 47, 184, 1, 22, 154, 0, 6, 16, 254, 172, 132, 2, 3]
abbrev dktX3_whyNotJudge_6 : List UInt8 := dkwX3_whyNotJudge_6 ++ dktX3_whyNotJudge_7
def dkwX3_whyNotJudge_5 : List UInt8 := [180, 0, 16, 29, 47, 182, 0, 206, 153, 0, 32, 42, 42, 180, 0, 16, 29, 4, 96, 47, 182, 0, 206]
abbrev dktX3_whyNotJudge_5 : List UInt8 := dkwX3_whyNotJudge_5 ++ dktX3_whyNotJudge_6
def dkwX3_whyNotJudge_4 : List UInt8 := [5, 96, 47, 20, 0, 103, 148, 154, 0, 7, 4, 167, 0, 4, 3, 54, 4, 21, 4, 154, 0, 48, 42, 42]
abbrev dktX3_whyNotJudge_4 : List UInt8 := dkwX3_whyNotJudge_4 ++ dktX3_whyNotJudge_5
def dkwX3_whyNotJudge_3 : List UInt8 := [148, 154, 0, 37, 42, 180, 0, 16, 29, 4, 96, 47, 20, 0, 103, 148, 154, 0, 22, 42, 180, 0, 16, 29]
abbrev dktX3_whyNotJudge_3 : List UInt8 := dkwX3_whyNotJudge_3 ++ dktX3_whyNotJudge_4
def dkwX3_whyNotJudge_2 : List UInt8 := [180, 0, 13, 27, 46, 162, 0, 116, 16, 60, 27, 104, 28, 96, 62, 42, 180, 0, 16, 29, 47, 20, 0, 103]
abbrev dktX3_whyNotJudge_2 : List UInt8 := dkwX3_whyNotJudge_2 ++ dktX3_whyNotJudge_3
def dkwX3_whyNotJudge_1 : List UInt8 := [160, 0, 6, 16, 250, 172, 42, 180, 0, 13, 27, 46, 6, 112, 153, 0, 6, 16, 254, 172, 3, 61, 28, 42]
abbrev dktX3_whyNotJudge_1 : List UInt8 := dkwX3_whyNotJudge_1 ++ dktX3_whyNotJudge_2
def dkwX3_whyNotJudge_0 : List UInt8 := [27, 184, 0, 68, 153, 0, 10, 42, 182, 0, 209, 154, 0, 6, 16, 254, 172, 42, 180, 0, 7, 27, 46, 2]
abbrev dktX3_whyNotJudge_0 : List UInt8 := dkwX3_whyNotJudge_0 ++ dktX3_whyNotJudge_1
theorem dksX3_whyNotJudge_0 : cX3_whyNotJudge.data.toList.drop 0 = dktX3_whyNotJudge_0 := by decide +kernel
theorem dksX3_whyNotJudge_1 : cX3_whyNotJudge.data.toList.drop 24 = dktX3_whyNotJudge_1 := dk_seg dksX3_whyNotJudge_0 24 rfl rfl
theorem dksX3_whyNotJudge_2 : cX3_whyNotJudge.data.toList.drop 48 = dktX3_whyNotJudge_2 := dk_seg dksX3_whyNotJudge_1 24 rfl rfl
theorem dksX3_whyNotJudge_3 : cX3_whyNotJudge.data.toList.drop 72 = dktX3_whyNotJudge_3 := dk_seg dksX3_whyNotJudge_2 24 rfl rfl
theorem dksX3_whyNotJudge_4 : cX3_whyNotJudge.data.toList.drop 96 = dktX3_whyNotJudge_4 := dk_seg dksX3_whyNotJudge_3 24 rfl rfl
theorem dksX3_whyNotJudge_5 : cX3_whyNotJudge.data.toList.drop 120 = dktX3_whyNotJudge_5 := dk_seg dksX3_whyNotJudge_4 24 rfl rfl
theorem dksX3_whyNotJudge_6 : cX3_whyNotJudge.data.toList.drop 143 = dktX3_whyNotJudge_6 := dk_seg dksX3_whyNotJudge_5 23 rfl rfl
theorem dksX3_whyNotJudge_7 : cX3_whyNotJudge.data.toList.drop 166 = dktX3_whyNotJudge_7 := dk_seg dksX3_whyNotJudge_6 23 rfl rfl
theorem dX3_whyNotJudge_0 : decode cX3_whyNotJudge 0 = .ok (.iload_n 1, 1) := dk_27 (dk_at dksX3_whyNotJudge_0 0 rfl rfl)
theorem dX3_whyNotJudge_1 : decode cX3_whyNotJudge 1 = .ok (.invokestatic 68, 3) := dk_184 0 68 (dk_at dksX3_whyNotJudge_0 1 rfl rfl)
theorem dX3_whyNotJudge_4 : decode cX3_whyNotJudge 4 = .ok (.ifCond .eq 10, 3) := dk_153 0 10 (dk_at dksX3_whyNotJudge_0 4 rfl rfl)
theorem dX3_whyNotJudge_7 : decode cX3_whyNotJudge 7 = .ok (.aload_n 0, 1) := dk_42 (dk_at dksX3_whyNotJudge_0 7 rfl rfl)
theorem dX3_whyNotJudge_8 : decode cX3_whyNotJudge 8 = .ok (.invokevirtual 209, 3) := dk_182 0 209 (dk_at dksX3_whyNotJudge_0 8 rfl rfl)
theorem dX3_whyNotJudge_11 : decode cX3_whyNotJudge 11 = .ok (.ifCond .ne 6, 3) := dk_154 0 6 (dk_at dksX3_whyNotJudge_0 11 rfl rfl)
theorem dX3_whyNotJudge_14 : decode cX3_whyNotJudge 14 = .ok (.bipush (-2), 2) := dk_16 254 (dk_at dksX3_whyNotJudge_0 14 rfl rfl)
theorem dX3_whyNotJudge_16 : decode cX3_whyNotJudge 16 = .ok (.ireturn, 1) := dk_172 (dk_at dksX3_whyNotJudge_0 16 rfl rfl)
theorem dX3_whyNotJudge_17 : decode cX3_whyNotJudge 17 = .ok (.aload_n 0, 1) := dk_42 (dk_at dksX3_whyNotJudge_0 17 rfl rfl)
theorem dX3_whyNotJudge_18 : decode cX3_whyNotJudge 18 = .ok (.getfield 7, 3) := dk_180 0 7 (dk_at dksX3_whyNotJudge_0 18 rfl rfl)
theorem dX3_whyNotJudge_21 : decode cX3_whyNotJudge 21 = .ok (.iload_n 1, 1) := dk_27 (dk_at dksX3_whyNotJudge_0 21 rfl rfl)
theorem dX3_whyNotJudge_22 : decode cX3_whyNotJudge 22 = .ok (.iaload, 1) := dk_46 (dk_at dksX3_whyNotJudge_0 22 rfl rfl)
theorem dX3_whyNotJudge_23 : decode cX3_whyNotJudge 23 = .ok (.iconst (-1), 1) := dk_2 (dk_at dksX3_whyNotJudge_0 23 rfl rfl)
theorem dX3_whyNotJudge_24 : decode cX3_whyNotJudge 24 = .ok (.if_icmp .ne 6, 3) := dk_160 0 6 (dk_at dksX3_whyNotJudge_1 0 rfl rfl)
theorem dX3_whyNotJudge_27 : decode cX3_whyNotJudge 27 = .ok (.bipush (-6), 2) := dk_16 250 (dk_at dksX3_whyNotJudge_1 3 rfl rfl)
theorem dX3_whyNotJudge_29 : decode cX3_whyNotJudge 29 = .ok (.ireturn, 1) := dk_172 (dk_at dksX3_whyNotJudge_1 5 rfl rfl)
theorem dX3_whyNotJudge_30 : decode cX3_whyNotJudge 30 = .ok (.aload_n 0, 1) := dk_42 (dk_at dksX3_whyNotJudge_1 6 rfl rfl)
theorem dX3_whyNotJudge_31 : decode cX3_whyNotJudge 31 = .ok (.getfield 13, 3) := dk_180 0 13 (dk_at dksX3_whyNotJudge_1 7 rfl rfl)
theorem dX3_whyNotJudge_34 : decode cX3_whyNotJudge 34 = .ok (.iload_n 1, 1) := dk_27 (dk_at dksX3_whyNotJudge_1 10 rfl rfl)
theorem dX3_whyNotJudge_35 : decode cX3_whyNotJudge 35 = .ok (.iaload, 1) := dk_46 (dk_at dksX3_whyNotJudge_1 11 rfl rfl)
theorem dX3_whyNotJudge_36 : decode cX3_whyNotJudge 36 = .ok (.iconst 3, 1) := dk_6 (dk_at dksX3_whyNotJudge_1 12 rfl rfl)
theorem dX3_whyNotJudge_37 : decode cX3_whyNotJudge 37 = .ok (.irem, 1) := dk_112 (dk_at dksX3_whyNotJudge_1 13 rfl rfl)
theorem dX3_whyNotJudge_38 : decode cX3_whyNotJudge 38 = .ok (.ifCond .eq 6, 3) := dk_153 0 6 (dk_at dksX3_whyNotJudge_1 14 rfl rfl)
theorem dX3_whyNotJudge_41 : decode cX3_whyNotJudge 41 = .ok (.bipush (-2), 2) := dk_16 254 (dk_at dksX3_whyNotJudge_1 17 rfl rfl)
theorem dX3_whyNotJudge_43 : decode cX3_whyNotJudge 43 = .ok (.ireturn, 1) := dk_172 (dk_at dksX3_whyNotJudge_1 19 rfl rfl)
theorem dX3_whyNotJudge_44 : decode cX3_whyNotJudge 44 = .ok (.iconst 0, 1) := dk_3 (dk_at dksX3_whyNotJudge_1 20 rfl rfl)
theorem dX3_whyNotJudge_45 : decode cX3_whyNotJudge 45 = .ok (.istore_n 2, 1) := dk_61 (dk_at dksX3_whyNotJudge_1 21 rfl rfl)
theorem dX3_whyNotJudge_46 : decode cX3_whyNotJudge 46 = .ok (.iload_n 2, 1) := dk_28 (dk_at dksX3_whyNotJudge_1 22 rfl rfl)
theorem dX3_whyNotJudge_47 : decode cX3_whyNotJudge 47 = .ok (.aload_n 0, 1) := dk_42 (dk_at dksX3_whyNotJudge_1 23 rfl rfl)
theorem dX3_whyNotJudge_48 : decode cX3_whyNotJudge 48 = .ok (.getfield 13, 3) := dk_180 0 13 (dk_at dksX3_whyNotJudge_2 0 rfl rfl)
theorem dX3_whyNotJudge_51 : decode cX3_whyNotJudge 51 = .ok (.iload_n 1, 1) := dk_27 (dk_at dksX3_whyNotJudge_2 3 rfl rfl)
theorem dX3_whyNotJudge_52 : decode cX3_whyNotJudge 52 = .ok (.iaload, 1) := dk_46 (dk_at dksX3_whyNotJudge_2 4 rfl rfl)
theorem dX3_whyNotJudge_53 : decode cX3_whyNotJudge 53 = .ok (.if_icmp .ge 116, 3) := dk_162 0 116 (dk_at dksX3_whyNotJudge_2 5 rfl rfl)
theorem dX3_whyNotJudge_56 : decode cX3_whyNotJudge 56 = .ok (.bipush 60, 2) := dk_16 60 (dk_at dksX3_whyNotJudge_2 8 rfl rfl)
theorem dX3_whyNotJudge_58 : decode cX3_whyNotJudge 58 = .ok (.iload_n 1, 1) := dk_27 (dk_at dksX3_whyNotJudge_2 10 rfl rfl)
theorem dX3_whyNotJudge_59 : decode cX3_whyNotJudge 59 = .ok (.imul, 1) := dk_104 (dk_at dksX3_whyNotJudge_2 11 rfl rfl)
theorem dX3_whyNotJudge_60 : decode cX3_whyNotJudge 60 = .ok (.iload_n 2, 1) := dk_28 (dk_at dksX3_whyNotJudge_2 12 rfl rfl)
theorem dX3_whyNotJudge_61 : decode cX3_whyNotJudge 61 = .ok (.iadd, 1) := dk_96 (dk_at dksX3_whyNotJudge_2 13 rfl rfl)
theorem dX3_whyNotJudge_62 : decode cX3_whyNotJudge 62 = .ok (.istore_n 3, 1) := dk_62 (dk_at dksX3_whyNotJudge_2 14 rfl rfl)
theorem dX3_whyNotJudge_63 : decode cX3_whyNotJudge 63 = .ok (.aload_n 0, 1) := dk_42 (dk_at dksX3_whyNotJudge_2 15 rfl rfl)
theorem dX3_whyNotJudge_64 : decode cX3_whyNotJudge 64 = .ok (.getfield 16, 3) := dk_180 0 16 (dk_at dksX3_whyNotJudge_2 16 rfl rfl)
theorem dX3_whyNotJudge_67 : decode cX3_whyNotJudge 67 = .ok (.iload_n 3, 1) := dk_29 (dk_at dksX3_whyNotJudge_2 19 rfl rfl)
theorem dX3_whyNotJudge_68 : decode cX3_whyNotJudge 68 = .ok (.laload, 1) := dk_47 (dk_at dksX3_whyNotJudge_2 20 rfl rfl)
theorem dX3_whyNotJudge_69 : decode cX3_whyNotJudge 69 = .ok (.ldc2_w 103, 3) := dk_20 0 103 (dk_at dksX3_whyNotJudge_2 21 rfl rfl)
theorem dX3_whyNotJudge_72 : decode cX3_whyNotJudge 72 = .ok (.lcmp, 1) := dk_148 (dk_at dksX3_whyNotJudge_3 0 rfl rfl)
theorem dX3_whyNotJudge_73 : decode cX3_whyNotJudge 73 = .ok (.ifCond .ne 37, 3) := dk_154 0 37 (dk_at dksX3_whyNotJudge_3 1 rfl rfl)
theorem dX3_whyNotJudge_76 : decode cX3_whyNotJudge 76 = .ok (.aload_n 0, 1) := dk_42 (dk_at dksX3_whyNotJudge_3 4 rfl rfl)
theorem dX3_whyNotJudge_77 : decode cX3_whyNotJudge 77 = .ok (.getfield 16, 3) := dk_180 0 16 (dk_at dksX3_whyNotJudge_3 5 rfl rfl)
theorem dX3_whyNotJudge_80 : decode cX3_whyNotJudge 80 = .ok (.iload_n 3, 1) := dk_29 (dk_at dksX3_whyNotJudge_3 8 rfl rfl)
theorem dX3_whyNotJudge_81 : decode cX3_whyNotJudge 81 = .ok (.iconst 1, 1) := dk_4 (dk_at dksX3_whyNotJudge_3 9 rfl rfl)
theorem dX3_whyNotJudge_82 : decode cX3_whyNotJudge 82 = .ok (.iadd, 1) := dk_96 (dk_at dksX3_whyNotJudge_3 10 rfl rfl)
theorem dX3_whyNotJudge_83 : decode cX3_whyNotJudge 83 = .ok (.laload, 1) := dk_47 (dk_at dksX3_whyNotJudge_3 11 rfl rfl)
theorem dX3_whyNotJudge_84 : decode cX3_whyNotJudge 84 = .ok (.ldc2_w 103, 3) := dk_20 0 103 (dk_at dksX3_whyNotJudge_3 12 rfl rfl)
theorem dX3_whyNotJudge_87 : decode cX3_whyNotJudge 87 = .ok (.lcmp, 1) := dk_148 (dk_at dksX3_whyNotJudge_3 15 rfl rfl)
theorem dX3_whyNotJudge_88 : decode cX3_whyNotJudge 88 = .ok (.ifCond .ne 22, 3) := dk_154 0 22 (dk_at dksX3_whyNotJudge_3 16 rfl rfl)
theorem dX3_whyNotJudge_91 : decode cX3_whyNotJudge 91 = .ok (.aload_n 0, 1) := dk_42 (dk_at dksX3_whyNotJudge_3 19 rfl rfl)
theorem dX3_whyNotJudge_92 : decode cX3_whyNotJudge 92 = .ok (.getfield 16, 3) := dk_180 0 16 (dk_at dksX3_whyNotJudge_3 20 rfl rfl)
theorem dX3_whyNotJudge_95 : decode cX3_whyNotJudge 95 = .ok (.iload_n 3, 1) := dk_29 (dk_at dksX3_whyNotJudge_3 23 rfl rfl)
theorem dX3_whyNotJudge_96 : decode cX3_whyNotJudge 96 = .ok (.iconst 2, 1) := dk_5 (dk_at dksX3_whyNotJudge_4 0 rfl rfl)
theorem dX3_whyNotJudge_97 : decode cX3_whyNotJudge 97 = .ok (.iadd, 1) := dk_96 (dk_at dksX3_whyNotJudge_4 1 rfl rfl)
theorem dX3_whyNotJudge_98 : decode cX3_whyNotJudge 98 = .ok (.laload, 1) := dk_47 (dk_at dksX3_whyNotJudge_4 2 rfl rfl)
theorem dX3_whyNotJudge_99 : decode cX3_whyNotJudge 99 = .ok (.ldc2_w 103, 3) := dk_20 0 103 (dk_at dksX3_whyNotJudge_4 3 rfl rfl)
theorem dX3_whyNotJudge_102 : decode cX3_whyNotJudge 102 = .ok (.lcmp, 1) := dk_148 (dk_at dksX3_whyNotJudge_4 6 rfl rfl)
theorem dX3_whyNotJudge_103 : decode cX3_whyNotJudge 103 = .ok (.ifCond .ne 7, 3) := dk_154 0 7 (dk_at dksX3_whyNotJudge_4 7 rfl rfl)
theorem dX3_whyNotJudge_106 : decode cX3_whyNotJudge 106 = .ok (.iconst 1, 1) := dk_4 (dk_at dksX3_whyNotJudge_4 10 rfl rfl)
theorem dX3_whyNotJudge_107 : decode cX3_whyNotJudge 107 = .ok (.goto 4, 3) := dk_167 0 4 (dk_at dksX3_whyNotJudge_4 11 rfl rfl)
theorem dX3_whyNotJudge_110 : decode cX3_whyNotJudge 110 = .ok (.iconst 0, 1) := dk_3 (dk_at dksX3_whyNotJudge_4 14 rfl rfl)
theorem dX3_whyNotJudge_111 : decode cX3_whyNotJudge 111 = .ok (.istore 4, 2) := dk_54 4 (dk_at dksX3_whyNotJudge_4 15 rfl rfl)
theorem dX3_whyNotJudge_113 : decode cX3_whyNotJudge 113 = .ok (.iload 4, 2) := dk_21 4 (dk_at dksX3_whyNotJudge_4 17 rfl rfl)
theorem dX3_whyNotJudge_115 : decode cX3_whyNotJudge 115 = .ok (.ifCond .ne 48, 3) := dk_154 0 48 (dk_at dksX3_whyNotJudge_4 19 rfl rfl)
theorem dX3_whyNotJudge_118 : decode cX3_whyNotJudge 118 = .ok (.aload_n 0, 1) := dk_42 (dk_at dksX3_whyNotJudge_4 22 rfl rfl)
theorem dX3_whyNotJudge_119 : decode cX3_whyNotJudge 119 = .ok (.aload_n 0, 1) := dk_42 (dk_at dksX3_whyNotJudge_4 23 rfl rfl)
theorem dX3_whyNotJudge_120 : decode cX3_whyNotJudge 120 = .ok (.getfield 16, 3) := dk_180 0 16 (dk_at dksX3_whyNotJudge_5 0 rfl rfl)
theorem dX3_whyNotJudge_123 : decode cX3_whyNotJudge 123 = .ok (.iload_n 3, 1) := dk_29 (dk_at dksX3_whyNotJudge_5 3 rfl rfl)
theorem dX3_whyNotJudge_124 : decode cX3_whyNotJudge 124 = .ok (.laload, 1) := dk_47 (dk_at dksX3_whyNotJudge_5 4 rfl rfl)
theorem dX3_whyNotJudge_125 : decode cX3_whyNotJudge 125 = .ok (.invokevirtual 206, 3) := dk_182 0 206 (dk_at dksX3_whyNotJudge_5 5 rfl rfl)
theorem dX3_whyNotJudge_128 : decode cX3_whyNotJudge 128 = .ok (.ifCond .eq 32, 3) := dk_153 0 32 (dk_at dksX3_whyNotJudge_5 8 rfl rfl)
theorem dX3_whyNotJudge_131 : decode cX3_whyNotJudge 131 = .ok (.aload_n 0, 1) := dk_42 (dk_at dksX3_whyNotJudge_5 11 rfl rfl)
theorem dX3_whyNotJudge_132 : decode cX3_whyNotJudge 132 = .ok (.aload_n 0, 1) := dk_42 (dk_at dksX3_whyNotJudge_5 12 rfl rfl)
theorem dX3_whyNotJudge_133 : decode cX3_whyNotJudge 133 = .ok (.getfield 16, 3) := dk_180 0 16 (dk_at dksX3_whyNotJudge_5 13 rfl rfl)
theorem dX3_whyNotJudge_136 : decode cX3_whyNotJudge 136 = .ok (.iload_n 3, 1) := dk_29 (dk_at dksX3_whyNotJudge_5 16 rfl rfl)
theorem dX3_whyNotJudge_137 : decode cX3_whyNotJudge 137 = .ok (.iconst 1, 1) := dk_4 (dk_at dksX3_whyNotJudge_5 17 rfl rfl)
theorem dX3_whyNotJudge_138 : decode cX3_whyNotJudge 138 = .ok (.iadd, 1) := dk_96 (dk_at dksX3_whyNotJudge_5 18 rfl rfl)
theorem dX3_whyNotJudge_139 : decode cX3_whyNotJudge 139 = .ok (.laload, 1) := dk_47 (dk_at dksX3_whyNotJudge_5 19 rfl rfl)
theorem dX3_whyNotJudge_140 : decode cX3_whyNotJudge 140 = .ok (.invokevirtual 206, 3) := dk_182 0 206 (dk_at dksX3_whyNotJudge_5 20 rfl rfl)
theorem dX3_whyNotJudge_143 : decode cX3_whyNotJudge 143 = .ok (.ifCond .eq 17, 3) := dk_153 0 17 (dk_at dksX3_whyNotJudge_6 0 rfl rfl)
theorem dX3_whyNotJudge_146 : decode cX3_whyNotJudge 146 = .ok (.aload_n 0, 1) := dk_42 (dk_at dksX3_whyNotJudge_6 3 rfl rfl)
theorem dX3_whyNotJudge_147 : decode cX3_whyNotJudge 147 = .ok (.getfield 16, 3) := dk_180 0 16 (dk_at dksX3_whyNotJudge_6 4 rfl rfl)
theorem dX3_whyNotJudge_150 : decode cX3_whyNotJudge 150 = .ok (.iload_n 3, 1) := dk_29 (dk_at dksX3_whyNotJudge_6 7 rfl rfl)
theorem dX3_whyNotJudge_151 : decode cX3_whyNotJudge 151 = .ok (.iconst 2, 1) := dk_5 (dk_at dksX3_whyNotJudge_6 8 rfl rfl)
theorem dX3_whyNotJudge_152 : decode cX3_whyNotJudge 152 = .ok (.iadd, 1) := dk_96 (dk_at dksX3_whyNotJudge_6 9 rfl rfl)
theorem dX3_whyNotJudge_153 : decode cX3_whyNotJudge 153 = .ok (.laload, 1) := dk_47 (dk_at dksX3_whyNotJudge_6 10 rfl rfl)
theorem dX3_whyNotJudge_154 : decode cX3_whyNotJudge 154 = .ok (.invokestatic 278, 3) := dk_184 1 22 (dk_at dksX3_whyNotJudge_6 11 rfl rfl)
theorem dX3_whyNotJudge_157 : decode cX3_whyNotJudge 157 = .ok (.ifCond .ne 6, 3) := dk_154 0 6 (dk_at dksX3_whyNotJudge_6 14 rfl rfl)
theorem dX3_whyNotJudge_160 : decode cX3_whyNotJudge 160 = .ok (.bipush (-2), 2) := dk_16 254 (dk_at dksX3_whyNotJudge_6 17 rfl rfl)
theorem dX3_whyNotJudge_162 : decode cX3_whyNotJudge 162 = .ok (.ireturn, 1) := dk_172 (dk_at dksX3_whyNotJudge_6 19 rfl rfl)
theorem dX3_whyNotJudge_163 : decode cX3_whyNotJudge 163 = .ok (.iinc 2 3, 3) := dk_132 2 3 (dk_at dksX3_whyNotJudge_6 20 rfl rfl)
theorem dX3_whyNotJudge_166 : decode cX3_whyNotJudge 166 = .ok (.goto (-120), 3) := dk_167 255 136 (dk_at dksX3_whyNotJudge_7 0 rfl rfl)
theorem dX3_whyNotJudge_169 : decode cX3_whyNotJudge 169 = .ok (.iconst 0, 1) := dk_3 (dk_at dksX3_whyNotJudge_7 3 rfl rfl)
theorem dX3_whyNotJudge_170 : decode cX3_whyNotJudge 170 = .ok (.ireturn, 1) := dk_172 (dk_at dksX3_whyNotJudge_7 4 rfl rfl)
abbrev cX3_judges : ByteArray := prog_14_method_133_code
def yX3_judges : MethodName := ⟨RX3, "judges", "(I)I"⟩
def dkwX3_judges_4 : List UInt8 := [167, 255, 167, 42, 180, 0, 13, 27, 46, 6, 108, 172]
abbrev dktX3_judges_4 : List UInt8 := dkwX3_judges_4 ++ []
def dkwX3_judges_3 : List UInt8 := [153, 0, 7, 28, 6, 108, 172, 42, 42, 180, 0, 16, 29, 4, 96, 47, 136, 182, 0, 243, 132, 2, 3]
abbrev dktX3_judges_3 : List UInt8 := dkwX3_judges_3 ++ dktX3_judges_4
def dkwX3_judges_2 : List UInt8 := [29, 47, 136, 42, 180, 0, 16, 29, 4, 96, 47, 136, 42, 180, 0, 16, 29, 5, 96, 47, 136, 182, 1, 31]
abbrev dktX3_judges_2 : List UInt8 := dkwX3_judges_2 ++ dktX3_judges_3
def dkwX3_judges_1 : List UInt8 := [180, 0, 16, 29, 47, 20, 0, 103, 148, 154, 0, 10, 42, 182, 0, 246, 167, 0, 52, 42, 42, 180, 0, 16]
abbrev dktX3_judges_1 : List UInt8 := dkwX3_judges_1 ++ dktX3_judges_2
def dkwX3_judges_0 : List UInt8 := [42, 182, 0, 229, 3, 61, 28, 42, 180, 0, 13, 27, 46, 162, 0, 85, 16, 60, 27, 104, 28, 96, 62, 42]
abbrev dktX3_judges_0 : List UInt8 := dkwX3_judges_0 ++ dktX3_judges_1
theorem dksX3_judges_0 : cX3_judges.data.toList.drop 0 = dktX3_judges_0 := by decide +kernel
theorem dksX3_judges_1 : cX3_judges.data.toList.drop 24 = dktX3_judges_1 := dk_seg dksX3_judges_0 24 rfl rfl
theorem dksX3_judges_2 : cX3_judges.data.toList.drop 48 = dktX3_judges_2 := dk_seg dksX3_judges_1 24 rfl rfl
theorem dksX3_judges_3 : cX3_judges.data.toList.drop 72 = dktX3_judges_3 := dk_seg dksX3_judges_2 24 rfl rfl
theorem dksX3_judges_4 : cX3_judges.data.toList.drop 95 = dktX3_judges_4 := dk_seg dksX3_judges_3 23 rfl rfl
theorem dX3_judges_0 : decode cX3_judges 0 = .ok (.aload_n 0, 1) := dk_42 (dk_at dksX3_judges_0 0 rfl rfl)
theorem dX3_judges_1 : decode cX3_judges 1 = .ok (.invokevirtual 229, 3) := dk_182 0 229 (dk_at dksX3_judges_0 1 rfl rfl)
theorem dX3_judges_4 : decode cX3_judges 4 = .ok (.iconst 0, 1) := dk_3 (dk_at dksX3_judges_0 4 rfl rfl)
theorem dX3_judges_5 : decode cX3_judges 5 = .ok (.istore_n 2, 1) := dk_61 (dk_at dksX3_judges_0 5 rfl rfl)
theorem dX3_judges_6 : decode cX3_judges 6 = .ok (.iload_n 2, 1) := dk_28 (dk_at dksX3_judges_0 6 rfl rfl)
theorem dX3_judges_7 : decode cX3_judges 7 = .ok (.aload_n 0, 1) := dk_42 (dk_at dksX3_judges_0 7 rfl rfl)
theorem dX3_judges_8 : decode cX3_judges 8 = .ok (.getfield 13, 3) := dk_180 0 13 (dk_at dksX3_judges_0 8 rfl rfl)
theorem dX3_judges_11 : decode cX3_judges 11 = .ok (.iload_n 1, 1) := dk_27 (dk_at dksX3_judges_0 11 rfl rfl)
theorem dX3_judges_12 : decode cX3_judges 12 = .ok (.iaload, 1) := dk_46 (dk_at dksX3_judges_0 12 rfl rfl)
theorem dX3_judges_13 : decode cX3_judges 13 = .ok (.if_icmp .ge 85, 3) := dk_162 0 85 (dk_at dksX3_judges_0 13 rfl rfl)
theorem dX3_judges_16 : decode cX3_judges 16 = .ok (.bipush 60, 2) := dk_16 60 (dk_at dksX3_judges_0 16 rfl rfl)
theorem dX3_judges_18 : decode cX3_judges 18 = .ok (.iload_n 1, 1) := dk_27 (dk_at dksX3_judges_0 18 rfl rfl)
theorem dX3_judges_19 : decode cX3_judges 19 = .ok (.imul, 1) := dk_104 (dk_at dksX3_judges_0 19 rfl rfl)
theorem dX3_judges_20 : decode cX3_judges 20 = .ok (.iload_n 2, 1) := dk_28 (dk_at dksX3_judges_0 20 rfl rfl)
theorem dX3_judges_21 : decode cX3_judges 21 = .ok (.iadd, 1) := dk_96 (dk_at dksX3_judges_0 21 rfl rfl)
theorem dX3_judges_22 : decode cX3_judges 22 = .ok (.istore_n 3, 1) := dk_62 (dk_at dksX3_judges_0 22 rfl rfl)
theorem dX3_judges_23 : decode cX3_judges 23 = .ok (.aload_n 0, 1) := dk_42 (dk_at dksX3_judges_0 23 rfl rfl)
theorem dX3_judges_24 : decode cX3_judges 24 = .ok (.getfield 16, 3) := dk_180 0 16 (dk_at dksX3_judges_1 0 rfl rfl)
theorem dX3_judges_27 : decode cX3_judges 27 = .ok (.iload_n 3, 1) := dk_29 (dk_at dksX3_judges_1 3 rfl rfl)
theorem dX3_judges_28 : decode cX3_judges 28 = .ok (.laload, 1) := dk_47 (dk_at dksX3_judges_1 4 rfl rfl)
theorem dX3_judges_29 : decode cX3_judges 29 = .ok (.ldc2_w 103, 3) := dk_20 0 103 (dk_at dksX3_judges_1 5 rfl rfl)
theorem dX3_judges_32 : decode cX3_judges 32 = .ok (.lcmp, 1) := dk_148 (dk_at dksX3_judges_1 8 rfl rfl)
theorem dX3_judges_33 : decode cX3_judges 33 = .ok (.ifCond .ne 10, 3) := dk_154 0 10 (dk_at dksX3_judges_1 9 rfl rfl)
theorem dX3_judges_36 : decode cX3_judges 36 = .ok (.aload_n 0, 1) := dk_42 (dk_at dksX3_judges_1 12 rfl rfl)
theorem dX3_judges_37 : decode cX3_judges 37 = .ok (.invokevirtual 246, 3) := dk_182 0 246 (dk_at dksX3_judges_1 13 rfl rfl)
theorem dX3_judges_40 : decode cX3_judges 40 = .ok (.goto 52, 3) := dk_167 0 52 (dk_at dksX3_judges_1 16 rfl rfl)
theorem dX3_judges_43 : decode cX3_judges 43 = .ok (.aload_n 0, 1) := dk_42 (dk_at dksX3_judges_1 19 rfl rfl)
theorem dX3_judges_44 : decode cX3_judges 44 = .ok (.aload_n 0, 1) := dk_42 (dk_at dksX3_judges_1 20 rfl rfl)
theorem dX3_judges_45 : decode cX3_judges 45 = .ok (.getfield 16, 3) := dk_180 0 16 (dk_at dksX3_judges_1 21 rfl rfl)
theorem dX3_judges_48 : decode cX3_judges 48 = .ok (.iload_n 3, 1) := dk_29 (dk_at dksX3_judges_2 0 rfl rfl)
theorem dX3_judges_49 : decode cX3_judges 49 = .ok (.laload, 1) := dk_47 (dk_at dksX3_judges_2 1 rfl rfl)
theorem dX3_judges_50 : decode cX3_judges 50 = .ok (.l2i, 1) := dk_136 (dk_at dksX3_judges_2 2 rfl rfl)
theorem dX3_judges_51 : decode cX3_judges 51 = .ok (.aload_n 0, 1) := dk_42 (dk_at dksX3_judges_2 3 rfl rfl)
theorem dX3_judges_52 : decode cX3_judges 52 = .ok (.getfield 16, 3) := dk_180 0 16 (dk_at dksX3_judges_2 4 rfl rfl)
theorem dX3_judges_55 : decode cX3_judges 55 = .ok (.iload_n 3, 1) := dk_29 (dk_at dksX3_judges_2 7 rfl rfl)
theorem dX3_judges_56 : decode cX3_judges 56 = .ok (.iconst 1, 1) := dk_4 (dk_at dksX3_judges_2 8 rfl rfl)
theorem dX3_judges_57 : decode cX3_judges 57 = .ok (.iadd, 1) := dk_96 (dk_at dksX3_judges_2 9 rfl rfl)
theorem dX3_judges_58 : decode cX3_judges 58 = .ok (.laload, 1) := dk_47 (dk_at dksX3_judges_2 10 rfl rfl)
theorem dX3_judges_59 : decode cX3_judges 59 = .ok (.l2i, 1) := dk_136 (dk_at dksX3_judges_2 11 rfl rfl)
theorem dX3_judges_60 : decode cX3_judges 60 = .ok (.aload_n 0, 1) := dk_42 (dk_at dksX3_judges_2 12 rfl rfl)
theorem dX3_judges_61 : decode cX3_judges 61 = .ok (.getfield 16, 3) := dk_180 0 16 (dk_at dksX3_judges_2 13 rfl rfl)
theorem dX3_judges_64 : decode cX3_judges 64 = .ok (.iload_n 3, 1) := dk_29 (dk_at dksX3_judges_2 16 rfl rfl)
theorem dX3_judges_65 : decode cX3_judges 65 = .ok (.iconst 2, 1) := dk_5 (dk_at dksX3_judges_2 17 rfl rfl)
theorem dX3_judges_66 : decode cX3_judges 66 = .ok (.iadd, 1) := dk_96 (dk_at dksX3_judges_2 18 rfl rfl)
theorem dX3_judges_67 : decode cX3_judges 67 = .ok (.laload, 1) := dk_47 (dk_at dksX3_judges_2 19 rfl rfl)
theorem dX3_judges_68 : decode cX3_judges 68 = .ok (.l2i, 1) := dk_136 (dk_at dksX3_judges_2 20 rfl rfl)
theorem dX3_judges_69 : decode cX3_judges 69 = .ok (.invokevirtual 287, 3) := dk_182 1 31 (dk_at dksX3_judges_2 21 rfl rfl)
theorem dX3_judges_72 : decode cX3_judges 72 = .ok (.ifCond .eq 7, 3) := dk_153 0 7 (dk_at dksX3_judges_3 0 rfl rfl)
theorem dX3_judges_75 : decode cX3_judges 75 = .ok (.iload_n 2, 1) := dk_28 (dk_at dksX3_judges_3 3 rfl rfl)
theorem dX3_judges_76 : decode cX3_judges 76 = .ok (.iconst 3, 1) := dk_6 (dk_at dksX3_judges_3 4 rfl rfl)
theorem dX3_judges_77 : decode cX3_judges 77 = .ok (.idiv, 1) := dk_108 (dk_at dksX3_judges_3 5 rfl rfl)
theorem dX3_judges_78 : decode cX3_judges 78 = .ok (.ireturn, 1) := dk_172 (dk_at dksX3_judges_3 6 rfl rfl)
theorem dX3_judges_79 : decode cX3_judges 79 = .ok (.aload_n 0, 1) := dk_42 (dk_at dksX3_judges_3 7 rfl rfl)
theorem dX3_judges_80 : decode cX3_judges 80 = .ok (.aload_n 0, 1) := dk_42 (dk_at dksX3_judges_3 8 rfl rfl)
theorem dX3_judges_81 : decode cX3_judges 81 = .ok (.getfield 16, 3) := dk_180 0 16 (dk_at dksX3_judges_3 9 rfl rfl)
theorem dX3_judges_84 : decode cX3_judges 84 = .ok (.iload_n 3, 1) := dk_29 (dk_at dksX3_judges_3 12 rfl rfl)
theorem dX3_judges_85 : decode cX3_judges 85 = .ok (.iconst 1, 1) := dk_4 (dk_at dksX3_judges_3 13 rfl rfl)
theorem dX3_judges_86 : decode cX3_judges 86 = .ok (.iadd, 1) := dk_96 (dk_at dksX3_judges_3 14 rfl rfl)
theorem dX3_judges_87 : decode cX3_judges 87 = .ok (.laload, 1) := dk_47 (dk_at dksX3_judges_3 15 rfl rfl)
theorem dX3_judges_88 : decode cX3_judges 88 = .ok (.l2i, 1) := dk_136 (dk_at dksX3_judges_3 16 rfl rfl)
theorem dX3_judges_89 : decode cX3_judges 89 = .ok (.invokevirtual 243, 3) := dk_182 0 243 (dk_at dksX3_judges_3 17 rfl rfl)
theorem dX3_judges_92 : decode cX3_judges 92 = .ok (.iinc 2 3, 3) := dk_132 2 3 (dk_at dksX3_judges_3 20 rfl rfl)
theorem dX3_judges_95 : decode cX3_judges 95 = .ok (.goto (-89), 3) := dk_167 255 167 (dk_at dksX3_judges_4 0 rfl rfl)
theorem dX3_judges_98 : decode cX3_judges 98 = .ok (.aload_n 0, 1) := dk_42 (dk_at dksX3_judges_4 3 rfl rfl)
theorem dX3_judges_99 : decode cX3_judges 99 = .ok (.getfield 13, 3) := dk_180 0 13 (dk_at dksX3_judges_4 4 rfl rfl)
theorem dX3_judges_102 : decode cX3_judges 102 = .ok (.iload_n 1, 1) := dk_27 (dk_at dksX3_judges_4 7 rfl rfl)
theorem dX3_judges_103 : decode cX3_judges 103 = .ok (.iaload, 1) := dk_46 (dk_at dksX3_judges_4 8 rfl rfl)
theorem dX3_judges_104 : decode cX3_judges 104 = .ok (.iconst 3, 1) := dk_6 (dk_at dksX3_judges_4 9 rfl rfl)
theorem dX3_judges_105 : decode cX3_judges 105 = .ok (.idiv, 1) := dk_108 (dk_at dksX3_judges_4 10 rfl rfl)
theorem dX3_judges_106 : decode cX3_judges 106 = .ok (.ireturn, 1) := dk_172 (dk_at dksX3_judges_4 11 rfl rfl)
abbrev cX3_freed : ByteArray := prog_14_method_135_code
def yX3_freed : MethodName := ⟨RX3, "freed", "(I)I"⟩
def dkwX3_freed_1 : List UInt8 := [182, 1, 4, 172]
abbrev dktX3_freed_1 : List UInt8 := dkwX3_freed_1 ++ []
def dkwX3_freed_0 : List UInt8 := [42, 3, 181, 0, 59, 42, 27, 182, 1, 126, 61, 28, 153, 0, 5, 28, 172, 42, 27, 182, 1, 129, 87, 42]
abbrev dktX3_freed_0 : List UInt8 := dkwX3_freed_0 ++ dktX3_freed_1
theorem dksX3_freed_0 : cX3_freed.data.toList.drop 0 = dktX3_freed_0 := by decide +kernel
theorem dksX3_freed_1 : cX3_freed.data.toList.drop 24 = dktX3_freed_1 := dk_seg dksX3_freed_0 24 rfl rfl
theorem dX3_freed_0 : decode cX3_freed 0 = .ok (.aload_n 0, 1) := dk_42 (dk_at dksX3_freed_0 0 rfl rfl)
theorem dX3_freed_1 : decode cX3_freed 1 = .ok (.iconst 0, 1) := dk_3 (dk_at dksX3_freed_0 1 rfl rfl)
theorem dX3_freed_2 : decode cX3_freed 2 = .ok (.putfield 59, 3) := dk_181 0 59 (dk_at dksX3_freed_0 2 rfl rfl)
theorem dX3_freed_5 : decode cX3_freed 5 = .ok (.aload_n 0, 1) := dk_42 (dk_at dksX3_freed_0 5 rfl rfl)
theorem dX3_freed_6 : decode cX3_freed 6 = .ok (.iload_n 1, 1) := dk_27 (dk_at dksX3_freed_0 6 rfl rfl)
theorem dX3_freed_7 : decode cX3_freed 7 = .ok (.invokevirtual 382, 3) := dk_182 1 126 (dk_at dksX3_freed_0 7 rfl rfl)
theorem dX3_freed_10 : decode cX3_freed 10 = .ok (.istore_n 2, 1) := dk_61 (dk_at dksX3_freed_0 10 rfl rfl)
theorem dX3_freed_11 : decode cX3_freed 11 = .ok (.iload_n 2, 1) := dk_28 (dk_at dksX3_freed_0 11 rfl rfl)
theorem dX3_freed_12 : decode cX3_freed 12 = .ok (.ifCond .eq 5, 3) := dk_153 0 5 (dk_at dksX3_freed_0 12 rfl rfl)
theorem dX3_freed_15 : decode cX3_freed 15 = .ok (.iload_n 2, 1) := dk_28 (dk_at dksX3_freed_0 15 rfl rfl)
theorem dX3_freed_16 : decode cX3_freed 16 = .ok (.ireturn, 1) := dk_172 (dk_at dksX3_freed_0 16 rfl rfl)
theorem dX3_freed_17 : decode cX3_freed 17 = .ok (.aload_n 0, 1) := dk_42 (dk_at dksX3_freed_0 17 rfl rfl)
theorem dX3_freed_18 : decode cX3_freed 18 = .ok (.iload_n 1, 1) := dk_27 (dk_at dksX3_freed_0 18 rfl rfl)
theorem dX3_freed_19 : decode cX3_freed 19 = .ok (.invokevirtual 385, 3) := dk_182 1 129 (dk_at dksX3_freed_0 19 rfl rfl)
theorem dX3_freed_22 : decode cX3_freed 22 = .ok (.pop, 1) := dk_87 (dk_at dksX3_freed_0 22 rfl rfl)
theorem dX3_freed_23 : decode cX3_freed 23 = .ok (.aload_n 0, 1) := dk_42 (dk_at dksX3_freed_0 23 rfl rfl)
theorem dX3_freed_24 : decode cX3_freed 24 = .ok (.invokevirtual 260, 3) := dk_182 1 4 (dk_at dksX3_freed_1 0 rfl rfl)
theorem dX3_freed_27 : decode cX3_freed 27 = .ok (.ireturn, 1) := dk_172 (dk_at dksX3_freed_1 3 rfl rfl)
abbrev cX3_drawn : ByteArray := prog_14_method_138_code
def yX3_drawn : MethodName := ⟨RX3, "drawn", "(II)I"⟩
def dkwX3_drawn_1 : List UInt8 := [42, 27, 133, 182, 1, 145, 42, 180, 0, 47, 28, 46, 172]
abbrev dktX3_drawn_1 : List UInt8 := dkwX3_drawn_1 ++ []
def dkwX3_drawn_0 : List UInt8 := [42, 3, 181, 0, 59, 27, 184, 1, 142, 153, 0, 12, 42, 28, 133, 182, 0, 206, 154, 0, 6, 16, 254, 172]
abbrev dktX3_drawn_0 : List UInt8 := dkwX3_drawn_0 ++ dktX3_drawn_1
theorem dksX3_drawn_0 : cX3_drawn.data.toList.drop 0 = dktX3_drawn_0 := by decide +kernel
theorem dksX3_drawn_1 : cX3_drawn.data.toList.drop 24 = dktX3_drawn_1 := dk_seg dksX3_drawn_0 24 rfl rfl
theorem dX3_drawn_0 : decode cX3_drawn 0 = .ok (.aload_n 0, 1) := dk_42 (dk_at dksX3_drawn_0 0 rfl rfl)
theorem dX3_drawn_1 : decode cX3_drawn 1 = .ok (.iconst 0, 1) := dk_3 (dk_at dksX3_drawn_0 1 rfl rfl)
theorem dX3_drawn_2 : decode cX3_drawn 2 = .ok (.putfield 59, 3) := dk_181 0 59 (dk_at dksX3_drawn_0 2 rfl rfl)
theorem dX3_drawn_5 : decode cX3_drawn 5 = .ok (.iload_n 1, 1) := dk_27 (dk_at dksX3_drawn_0 5 rfl rfl)
theorem dX3_drawn_6 : decode cX3_drawn 6 = .ok (.invokestatic 398, 3) := dk_184 1 142 (dk_at dksX3_drawn_0 6 rfl rfl)
theorem dX3_drawn_9 : decode cX3_drawn 9 = .ok (.ifCond .eq 12, 3) := dk_153 0 12 (dk_at dksX3_drawn_0 9 rfl rfl)
theorem dX3_drawn_12 : decode cX3_drawn 12 = .ok (.aload_n 0, 1) := dk_42 (dk_at dksX3_drawn_0 12 rfl rfl)
theorem dX3_drawn_13 : decode cX3_drawn 13 = .ok (.iload_n 2, 1) := dk_28 (dk_at dksX3_drawn_0 13 rfl rfl)
theorem dX3_drawn_14 : decode cX3_drawn 14 = .ok (.i2l, 1) := dk_133 (dk_at dksX3_drawn_0 14 rfl rfl)
theorem dX3_drawn_15 : decode cX3_drawn 15 = .ok (.invokevirtual 206, 3) := dk_182 0 206 (dk_at dksX3_drawn_0 15 rfl rfl)
theorem dX3_drawn_18 : decode cX3_drawn 18 = .ok (.ifCond .ne 6, 3) := dk_154 0 6 (dk_at dksX3_drawn_0 18 rfl rfl)
theorem dX3_drawn_21 : decode cX3_drawn 21 = .ok (.bipush (-2), 2) := dk_16 254 (dk_at dksX3_drawn_0 21 rfl rfl)
theorem dX3_drawn_23 : decode cX3_drawn 23 = .ok (.ireturn, 1) := dk_172 (dk_at dksX3_drawn_0 23 rfl rfl)
theorem dX3_drawn_24 : decode cX3_drawn 24 = .ok (.aload_n 0, 1) := dk_42 (dk_at dksX3_drawn_1 0 rfl rfl)
theorem dX3_drawn_25 : decode cX3_drawn 25 = .ok (.iload_n 1, 1) := dk_27 (dk_at dksX3_drawn_1 1 rfl rfl)
theorem dX3_drawn_26 : decode cX3_drawn 26 = .ok (.i2l, 1) := dk_133 (dk_at dksX3_drawn_1 2 rfl rfl)
theorem dX3_drawn_27 : decode cX3_drawn 27 = .ok (.invokevirtual 401, 3) := dk_182 1 145 (dk_at dksX3_drawn_1 3 rfl rfl)
theorem dX3_drawn_30 : decode cX3_drawn 30 = .ok (.aload_n 0, 1) := dk_42 (dk_at dksX3_drawn_1 6 rfl rfl)
theorem dX3_drawn_31 : decode cX3_drawn 31 = .ok (.getfield 47, 3) := dk_180 0 47 (dk_at dksX3_drawn_1 7 rfl rfl)
theorem dX3_drawn_34 : decode cX3_drawn 34 = .ok (.iload_n 2, 1) := dk_28 (dk_at dksX3_drawn_1 10 rfl rfl)
theorem dX3_drawn_35 : decode cX3_drawn 35 = .ok (.iaload, 1) := dk_46 (dk_at dksX3_drawn_1 11 rfl rfl)
theorem dX3_drawn_36 : decode cX3_drawn 36 = .ok (.ireturn, 1) := dk_172 (dk_at dksX3_drawn_1 12 rfl rfl)
abbrev cX3_isSeed : ByteArray := prog_14_method_137_code
def yX3_isSeed : MethodName := ⟨RX3, "isSeed", "(I)Z"⟩
def dkwX3_isSeed_0 : List UInt8 := [26, 133, 9, 20, 1, 140, 184, 0, 64, 172]
abbrev dktX3_isSeed_0 : List UInt8 := dkwX3_isSeed_0 ++ []
theorem dksX3_isSeed_0 : cX3_isSeed.data.toList.drop 0 = dktX3_isSeed_0 := by decide +kernel
theorem dX3_isSeed_0 : decode cX3_isSeed 0 = .ok (.iload_n 0, 1) := dk_26 (dk_at dksX3_isSeed_0 0 rfl rfl)
theorem dX3_isSeed_1 : decode cX3_isSeed 1 = .ok (.i2l, 1) := dk_133 (dk_at dksX3_isSeed_0 1 rfl rfl)
theorem dX3_isSeed_2 : decode cX3_isSeed 2 = .ok (.lconst 0, 1) := dk_9 (dk_at dksX3_isSeed_0 2 rfl rfl)
theorem dX3_isSeed_3 : decode cX3_isSeed 3 = .ok (.ldc2_w 396, 3) := dk_20 1 140 (dk_at dksX3_isSeed_0 3 rfl rfl)
theorem dX3_isSeed_6 : decode cX3_isSeed 6 = .ok (.invokestatic 64, 3) := dk_184 0 64 (dk_at dksX3_isSeed_0 6 rfl rfl)
theorem dX3_isSeed_9 : decode cX3_isSeed 9 = .ok (.ireturn, 1) := dk_172 (dk_at dksX3_isSeed_0 9 rfl rfl)
abbrev cX3_draws : ByteArray := prog_14_method_136_code
def yX3_draws : MethodName := ⟨RX3, "draws", "(J)V"⟩
def dkwX3_draws_6 : List UInt8 := [177]
abbrev dktX3_draws_6 : List UInt8 := dkwX3_draws_6 ++ []
def dkwX3_draws_5 : List UInt8 := [29, 162, 0, 23, 42, 180, 0, 47, 42, 180, 0, 50, 21, 6, 46, 21, 6, 79, 132, 6, 1, 167, 255, 233]
abbrev dktX3_draws_5 : List UInt8 := dkwX3_draws_5 ++ dktX3_draws_6
def dkwX3_draws_4 : List UInt8 := [21, 7, 46, 79, 42, 180, 0, 50, 21, 7, 21, 8, 79, 132, 6, 255, 167, 255, 185, 3, 54, 6, 21, 6]
abbrev dktX3_draws_4 : List UInt8 := dkwX3_draws_4 ++ dktX3_draws_5
def dkwX3_draws_3 : List UInt8 := [113, 136, 54, 7, 42, 180, 0, 50, 21, 6, 46, 54, 8, 42, 180, 0, 50, 21, 6, 42, 180, 0, 50]
abbrev dktX3_draws_3 : List UInt8 := dkwX3_draws_3 ++ dktX3_draws_4
def dkwX3_draws_2 : List UInt8 := [22, 4, 105, 20, 1, 134, 97, 20, 1, 136, 113, 55, 4, 22, 4, 20, 1, 138, 109, 21, 6, 4, 96, 133]
abbrev dktX3_draws_2 : List UInt8 := dkwX3_draws_2 ++ dktX3_draws_3
def dkwX3_draws_1 : List UInt8 := [21, 6, 21, 6, 79, 132, 6, 1, 167, 255, 238, 29, 4, 100, 54, 6, 21, 6, 158, 0, 72, 20, 1, 132]
abbrev dktX3_draws_1 : List UInt8 := dkwX3_draws_1 ++ dktX3_draws_2
def dkwX3_draws_0 : List UInt8 := [42, 180, 0, 34, 4, 46, 62, 31, 55, 4, 3, 54, 6, 21, 6, 29, 162, 0, 18, 42, 180, 0, 50]
abbrev dktX3_draws_0 : List UInt8 := dkwX3_draws_0 ++ dktX3_draws_1
theorem dksX3_draws_0 : cX3_draws.data.toList.drop 0 = dktX3_draws_0 := by decide +kernel
theorem dksX3_draws_1 : cX3_draws.data.toList.drop 23 = dktX3_draws_1 := dk_seg dksX3_draws_0 23 rfl rfl
theorem dksX3_draws_2 : cX3_draws.data.toList.drop 47 = dktX3_draws_2 := dk_seg dksX3_draws_1 24 rfl rfl
theorem dksX3_draws_3 : cX3_draws.data.toList.drop 71 = dktX3_draws_3 := dk_seg dksX3_draws_2 24 rfl rfl
theorem dksX3_draws_4 : cX3_draws.data.toList.drop 94 = dktX3_draws_4 := dk_seg dksX3_draws_3 23 rfl rfl
theorem dksX3_draws_5 : cX3_draws.data.toList.drop 118 = dktX3_draws_5 := dk_seg dksX3_draws_4 24 rfl rfl
theorem dksX3_draws_6 : cX3_draws.data.toList.drop 142 = dktX3_draws_6 := dk_seg dksX3_draws_5 24 rfl rfl
theorem dX3_draws_0 : decode cX3_draws 0 = .ok (.aload_n 0, 1) := dk_42 (dk_at dksX3_draws_0 0 rfl rfl)
theorem dX3_draws_1 : decode cX3_draws 1 = .ok (.getfield 34, 3) := dk_180 0 34 (dk_at dksX3_draws_0 1 rfl rfl)
theorem dX3_draws_4 : decode cX3_draws 4 = .ok (.iconst 1, 1) := dk_4 (dk_at dksX3_draws_0 4 rfl rfl)
theorem dX3_draws_5 : decode cX3_draws 5 = .ok (.iaload, 1) := dk_46 (dk_at dksX3_draws_0 5 rfl rfl)
theorem dX3_draws_6 : decode cX3_draws 6 = .ok (.istore_n 3, 1) := dk_62 (dk_at dksX3_draws_0 6 rfl rfl)
theorem dX3_draws_7 : decode cX3_draws 7 = .ok (.lload_n 1, 1) := dk_31 (dk_at dksX3_draws_0 7 rfl rfl)
theorem dX3_draws_8 : decode cX3_draws 8 = .ok (.lstore 4, 2) := dk_55 4 (dk_at dksX3_draws_0 8 rfl rfl)
theorem dX3_draws_10 : decode cX3_draws 10 = .ok (.iconst 0, 1) := dk_3 (dk_at dksX3_draws_0 10 rfl rfl)
theorem dX3_draws_11 : decode cX3_draws 11 = .ok (.istore 6, 2) := dk_54 6 (dk_at dksX3_draws_0 11 rfl rfl)
theorem dX3_draws_13 : decode cX3_draws 13 = .ok (.iload 6, 2) := dk_21 6 (dk_at dksX3_draws_0 13 rfl rfl)
theorem dX3_draws_15 : decode cX3_draws 15 = .ok (.iload_n 3, 1) := dk_29 (dk_at dksX3_draws_0 15 rfl rfl)
theorem dX3_draws_16 : decode cX3_draws 16 = .ok (.if_icmp .ge 18, 3) := dk_162 0 18 (dk_at dksX3_draws_0 16 rfl rfl)
theorem dX3_draws_19 : decode cX3_draws 19 = .ok (.aload_n 0, 1) := dk_42 (dk_at dksX3_draws_0 19 rfl rfl)
theorem dX3_draws_20 : decode cX3_draws 20 = .ok (.getfield 50, 3) := dk_180 0 50 (dk_at dksX3_draws_0 20 rfl rfl)
theorem dX3_draws_23 : decode cX3_draws 23 = .ok (.iload 6, 2) := dk_21 6 (dk_at dksX3_draws_1 0 rfl rfl)
theorem dX3_draws_25 : decode cX3_draws 25 = .ok (.iload 6, 2) := dk_21 6 (dk_at dksX3_draws_1 2 rfl rfl)
theorem dX3_draws_27 : decode cX3_draws 27 = .ok (.iastore, 1) := dk_79 (dk_at dksX3_draws_1 4 rfl rfl)
theorem dX3_draws_28 : decode cX3_draws 28 = .ok (.iinc 6 1, 3) := dk_132 6 1 (dk_at dksX3_draws_1 5 rfl rfl)
theorem dX3_draws_31 : decode cX3_draws 31 = .ok (.goto (-18), 3) := dk_167 255 238 (dk_at dksX3_draws_1 8 rfl rfl)
theorem dX3_draws_34 : decode cX3_draws 34 = .ok (.iload_n 3, 1) := dk_29 (dk_at dksX3_draws_1 11 rfl rfl)
theorem dX3_draws_35 : decode cX3_draws 35 = .ok (.iconst 1, 1) := dk_4 (dk_at dksX3_draws_1 12 rfl rfl)
theorem dX3_draws_36 : decode cX3_draws 36 = .ok (.isub, 1) := dk_100 (dk_at dksX3_draws_1 13 rfl rfl)
theorem dX3_draws_37 : decode cX3_draws 37 = .ok (.istore 6, 2) := dk_54 6 (dk_at dksX3_draws_1 14 rfl rfl)
theorem dX3_draws_39 : decode cX3_draws 39 = .ok (.iload 6, 2) := dk_21 6 (dk_at dksX3_draws_1 16 rfl rfl)
theorem dX3_draws_41 : decode cX3_draws 41 = .ok (.ifCond .le 72, 3) := dk_158 0 72 (dk_at dksX3_draws_1 18 rfl rfl)
theorem dX3_draws_44 : decode cX3_draws 44 = .ok (.ldc2_w 388, 3) := dk_20 1 132 (dk_at dksX3_draws_1 21 rfl rfl)
theorem dX3_draws_47 : decode cX3_draws 47 = .ok (.lload 4, 2) := dk_22 4 (dk_at dksX3_draws_2 0 rfl rfl)
theorem dX3_draws_49 : decode cX3_draws 49 = .ok (.lmul, 1) := dk_105 (dk_at dksX3_draws_2 2 rfl rfl)
theorem dX3_draws_50 : decode cX3_draws 50 = .ok (.ldc2_w 390, 3) := dk_20 1 134 (dk_at dksX3_draws_2 3 rfl rfl)
theorem dX3_draws_53 : decode cX3_draws 53 = .ok (.ladd, 1) := dk_97 (dk_at dksX3_draws_2 6 rfl rfl)
theorem dX3_draws_54 : decode cX3_draws 54 = .ok (.ldc2_w 392, 3) := dk_20 1 136 (dk_at dksX3_draws_2 7 rfl rfl)
theorem dX3_draws_57 : decode cX3_draws 57 = .ok (.lrem, 1) := dk_113 (dk_at dksX3_draws_2 10 rfl rfl)
theorem dX3_draws_58 : decode cX3_draws 58 = .ok (.lstore 4, 2) := dk_55 4 (dk_at dksX3_draws_2 11 rfl rfl)
theorem dX3_draws_60 : decode cX3_draws 60 = .ok (.lload 4, 2) := dk_22 4 (dk_at dksX3_draws_2 13 rfl rfl)
theorem dX3_draws_62 : decode cX3_draws 62 = .ok (.ldc2_w 394, 3) := dk_20 1 138 (dk_at dksX3_draws_2 15 rfl rfl)
theorem dX3_draws_65 : decode cX3_draws 65 = .ok (.ldiv, 1) := dk_109 (dk_at dksX3_draws_2 18 rfl rfl)
theorem dX3_draws_66 : decode cX3_draws 66 = .ok (.iload 6, 2) := dk_21 6 (dk_at dksX3_draws_2 19 rfl rfl)
theorem dX3_draws_68 : decode cX3_draws 68 = .ok (.iconst 1, 1) := dk_4 (dk_at dksX3_draws_2 21 rfl rfl)
theorem dX3_draws_69 : decode cX3_draws 69 = .ok (.iadd, 1) := dk_96 (dk_at dksX3_draws_2 22 rfl rfl)
theorem dX3_draws_70 : decode cX3_draws 70 = .ok (.i2l, 1) := dk_133 (dk_at dksX3_draws_2 23 rfl rfl)
theorem dX3_draws_71 : decode cX3_draws 71 = .ok (.lrem, 1) := dk_113 (dk_at dksX3_draws_3 0 rfl rfl)
theorem dX3_draws_72 : decode cX3_draws 72 = .ok (.l2i, 1) := dk_136 (dk_at dksX3_draws_3 1 rfl rfl)
theorem dX3_draws_73 : decode cX3_draws 73 = .ok (.istore 7, 2) := dk_54 7 (dk_at dksX3_draws_3 2 rfl rfl)
theorem dX3_draws_75 : decode cX3_draws 75 = .ok (.aload_n 0, 1) := dk_42 (dk_at dksX3_draws_3 4 rfl rfl)
theorem dX3_draws_76 : decode cX3_draws 76 = .ok (.getfield 50, 3) := dk_180 0 50 (dk_at dksX3_draws_3 5 rfl rfl)
theorem dX3_draws_79 : decode cX3_draws 79 = .ok (.iload 6, 2) := dk_21 6 (dk_at dksX3_draws_3 8 rfl rfl)
theorem dX3_draws_81 : decode cX3_draws 81 = .ok (.iaload, 1) := dk_46 (dk_at dksX3_draws_3 10 rfl rfl)
theorem dX3_draws_82 : decode cX3_draws 82 = .ok (.istore 8, 2) := dk_54 8 (dk_at dksX3_draws_3 11 rfl rfl)
theorem dX3_draws_84 : decode cX3_draws 84 = .ok (.aload_n 0, 1) := dk_42 (dk_at dksX3_draws_3 13 rfl rfl)
theorem dX3_draws_85 : decode cX3_draws 85 = .ok (.getfield 50, 3) := dk_180 0 50 (dk_at dksX3_draws_3 14 rfl rfl)
theorem dX3_draws_88 : decode cX3_draws 88 = .ok (.iload 6, 2) := dk_21 6 (dk_at dksX3_draws_3 17 rfl rfl)
theorem dX3_draws_90 : decode cX3_draws 90 = .ok (.aload_n 0, 1) := dk_42 (dk_at dksX3_draws_3 19 rfl rfl)
theorem dX3_draws_91 : decode cX3_draws 91 = .ok (.getfield 50, 3) := dk_180 0 50 (dk_at dksX3_draws_3 20 rfl rfl)
theorem dX3_draws_94 : decode cX3_draws 94 = .ok (.iload 7, 2) := dk_21 7 (dk_at dksX3_draws_4 0 rfl rfl)
theorem dX3_draws_96 : decode cX3_draws 96 = .ok (.iaload, 1) := dk_46 (dk_at dksX3_draws_4 2 rfl rfl)
theorem dX3_draws_97 : decode cX3_draws 97 = .ok (.iastore, 1) := dk_79 (dk_at dksX3_draws_4 3 rfl rfl)
theorem dX3_draws_98 : decode cX3_draws 98 = .ok (.aload_n 0, 1) := dk_42 (dk_at dksX3_draws_4 4 rfl rfl)
theorem dX3_draws_99 : decode cX3_draws 99 = .ok (.getfield 50, 3) := dk_180 0 50 (dk_at dksX3_draws_4 5 rfl rfl)
theorem dX3_draws_102 : decode cX3_draws 102 = .ok (.iload 7, 2) := dk_21 7 (dk_at dksX3_draws_4 8 rfl rfl)
theorem dX3_draws_104 : decode cX3_draws 104 = .ok (.iload 8, 2) := dk_21 8 (dk_at dksX3_draws_4 10 rfl rfl)
theorem dX3_draws_106 : decode cX3_draws 106 = .ok (.iastore, 1) := dk_79 (dk_at dksX3_draws_4 12 rfl rfl)
theorem dX3_draws_107 : decode cX3_draws 107 = .ok (.iinc 6 (-1), 3) := dk_132 6 255 (dk_at dksX3_draws_4 13 rfl rfl)
theorem dX3_draws_110 : decode cX3_draws 110 = .ok (.goto (-71), 3) := dk_167 255 185 (dk_at dksX3_draws_4 16 rfl rfl)
theorem dX3_draws_113 : decode cX3_draws 113 = .ok (.iconst 0, 1) := dk_3 (dk_at dksX3_draws_4 19 rfl rfl)
theorem dX3_draws_114 : decode cX3_draws 114 = .ok (.istore 6, 2) := dk_54 6 (dk_at dksX3_draws_4 20 rfl rfl)
theorem dX3_draws_116 : decode cX3_draws 116 = .ok (.iload 6, 2) := dk_21 6 (dk_at dksX3_draws_4 22 rfl rfl)
theorem dX3_draws_118 : decode cX3_draws 118 = .ok (.iload_n 3, 1) := dk_29 (dk_at dksX3_draws_5 0 rfl rfl)
theorem dX3_draws_119 : decode cX3_draws 119 = .ok (.if_icmp .ge 23, 3) := dk_162 0 23 (dk_at dksX3_draws_5 1 rfl rfl)
theorem dX3_draws_122 : decode cX3_draws 122 = .ok (.aload_n 0, 1) := dk_42 (dk_at dksX3_draws_5 4 rfl rfl)
theorem dX3_draws_123 : decode cX3_draws 123 = .ok (.getfield 47, 3) := dk_180 0 47 (dk_at dksX3_draws_5 5 rfl rfl)
theorem dX3_draws_126 : decode cX3_draws 126 = .ok (.aload_n 0, 1) := dk_42 (dk_at dksX3_draws_5 8 rfl rfl)
theorem dX3_draws_127 : decode cX3_draws 127 = .ok (.getfield 50, 3) := dk_180 0 50 (dk_at dksX3_draws_5 9 rfl rfl)
theorem dX3_draws_130 : decode cX3_draws 130 = .ok (.iload 6, 2) := dk_21 6 (dk_at dksX3_draws_5 12 rfl rfl)
theorem dX3_draws_132 : decode cX3_draws 132 = .ok (.iaload, 1) := dk_46 (dk_at dksX3_draws_5 14 rfl rfl)
theorem dX3_draws_133 : decode cX3_draws 133 = .ok (.iload 6, 2) := dk_21 6 (dk_at dksX3_draws_5 15 rfl rfl)
theorem dX3_draws_135 : decode cX3_draws 135 = .ok (.iastore, 1) := dk_79 (dk_at dksX3_draws_5 17 rfl rfl)
theorem dX3_draws_136 : decode cX3_draws 136 = .ok (.iinc 6 1, 3) := dk_132 6 1 (dk_at dksX3_draws_5 18 rfl rfl)
theorem dX3_draws_139 : decode cX3_draws 139 = .ok (.goto (-23), 3) := dk_167 255 233 (dk_at dksX3_draws_5 21 rfl rfl)
theorem dX3_draws_142 : decode cX3_draws 142 = .ok (.return_, 1) := dk_177 (dk_at dksX3_draws_6 0 rfl rfl)
abbrev cX3_luck : ByteArray := prog_14_method_139_code
def yX3_luck : MethodName := ⟨RX3, "luck", "(III)I"⟩
def dkwX3_luck_3 : List UInt8 := [167, 0, 4, 3, 96, 54, 4, 132, 5, 1, 167, 255, 217, 21, 4, 172]
abbrev dktX3_luck_3 : List UInt8 := dkwX3_luck_3 ++ []
def dkwX3_luck_2 : List UInt8 := [42, 27, 133, 21, 5, 133, 97, 182, 1, 145, 21, 4, 42, 180, 0, 47, 29, 46, 29, 160, 0, 7, 4]
abbrev dktX3_luck_2 : List UInt8 := dkwX3_luck_2 ++ dktX3_luck_3
def dkwX3_luck_1 : List UInt8 := [42, 29, 133, 182, 0, 206, 154, 0, 6, 16, 254, 172, 3, 54, 4, 3, 54, 5, 21, 5, 28, 162, 0, 39]
abbrev dktX3_luck_1 : List UInt8 := dkwX3_luck_1 ++ dktX3_luck_2
def dkwX3_luck_0 : List UInt8 := [42, 3, 181, 0, 59, 27, 184, 1, 142, 153, 0, 24, 28, 133, 10, 20, 1, 148, 184, 0, 64, 153, 0, 12]
abbrev dktX3_luck_0 : List UInt8 := dkwX3_luck_0 ++ dktX3_luck_1
theorem dksX3_luck_0 : cX3_luck.data.toList.drop 0 = dktX3_luck_0 := by decide +kernel
theorem dksX3_luck_1 : cX3_luck.data.toList.drop 24 = dktX3_luck_1 := dk_seg dksX3_luck_0 24 rfl rfl
theorem dksX3_luck_2 : cX3_luck.data.toList.drop 48 = dktX3_luck_2 := dk_seg dksX3_luck_1 24 rfl rfl
theorem dksX3_luck_3 : cX3_luck.data.toList.drop 71 = dktX3_luck_3 := dk_seg dksX3_luck_2 23 rfl rfl
theorem dX3_luck_0 : decode cX3_luck 0 = .ok (.aload_n 0, 1) := dk_42 (dk_at dksX3_luck_0 0 rfl rfl)
theorem dX3_luck_1 : decode cX3_luck 1 = .ok (.iconst 0, 1) := dk_3 (dk_at dksX3_luck_0 1 rfl rfl)
theorem dX3_luck_2 : decode cX3_luck 2 = .ok (.putfield 59, 3) := dk_181 0 59 (dk_at dksX3_luck_0 2 rfl rfl)
theorem dX3_luck_5 : decode cX3_luck 5 = .ok (.iload_n 1, 1) := dk_27 (dk_at dksX3_luck_0 5 rfl rfl)
theorem dX3_luck_6 : decode cX3_luck 6 = .ok (.invokestatic 398, 3) := dk_184 1 142 (dk_at dksX3_luck_0 6 rfl rfl)
theorem dX3_luck_9 : decode cX3_luck 9 = .ok (.ifCond .eq 24, 3) := dk_153 0 24 (dk_at dksX3_luck_0 9 rfl rfl)
theorem dX3_luck_12 : decode cX3_luck 12 = .ok (.iload_n 2, 1) := dk_28 (dk_at dksX3_luck_0 12 rfl rfl)
theorem dX3_luck_13 : decode cX3_luck 13 = .ok (.i2l, 1) := dk_133 (dk_at dksX3_luck_0 13 rfl rfl)
theorem dX3_luck_14 : decode cX3_luck 14 = .ok (.lconst 1, 1) := dk_10 (dk_at dksX3_luck_0 14 rfl rfl)
theorem dX3_luck_15 : decode cX3_luck 15 = .ok (.ldc2_w 404, 3) := dk_20 1 148 (dk_at dksX3_luck_0 15 rfl rfl)
theorem dX3_luck_18 : decode cX3_luck 18 = .ok (.invokestatic 64, 3) := dk_184 0 64 (dk_at dksX3_luck_0 18 rfl rfl)
theorem dX3_luck_21 : decode cX3_luck 21 = .ok (.ifCond .eq 12, 3) := dk_153 0 12 (dk_at dksX3_luck_0 21 rfl rfl)
theorem dX3_luck_24 : decode cX3_luck 24 = .ok (.aload_n 0, 1) := dk_42 (dk_at dksX3_luck_1 0 rfl rfl)
theorem dX3_luck_25 : decode cX3_luck 25 = .ok (.iload_n 3, 1) := dk_29 (dk_at dksX3_luck_1 1 rfl rfl)
theorem dX3_luck_26 : decode cX3_luck 26 = .ok (.i2l, 1) := dk_133 (dk_at dksX3_luck_1 2 rfl rfl)
theorem dX3_luck_27 : decode cX3_luck 27 = .ok (.invokevirtual 206, 3) := dk_182 0 206 (dk_at dksX3_luck_1 3 rfl rfl)
theorem dX3_luck_30 : decode cX3_luck 30 = .ok (.ifCond .ne 6, 3) := dk_154 0 6 (dk_at dksX3_luck_1 6 rfl rfl)
theorem dX3_luck_33 : decode cX3_luck 33 = .ok (.bipush (-2), 2) := dk_16 254 (dk_at dksX3_luck_1 9 rfl rfl)
theorem dX3_luck_35 : decode cX3_luck 35 = .ok (.ireturn, 1) := dk_172 (dk_at dksX3_luck_1 11 rfl rfl)
theorem dX3_luck_36 : decode cX3_luck 36 = .ok (.iconst 0, 1) := dk_3 (dk_at dksX3_luck_1 12 rfl rfl)
theorem dX3_luck_37 : decode cX3_luck 37 = .ok (.istore 4, 2) := dk_54 4 (dk_at dksX3_luck_1 13 rfl rfl)
theorem dX3_luck_39 : decode cX3_luck 39 = .ok (.iconst 0, 1) := dk_3 (dk_at dksX3_luck_1 15 rfl rfl)
theorem dX3_luck_40 : decode cX3_luck 40 = .ok (.istore 5, 2) := dk_54 5 (dk_at dksX3_luck_1 16 rfl rfl)
theorem dX3_luck_42 : decode cX3_luck 42 = .ok (.iload 5, 2) := dk_21 5 (dk_at dksX3_luck_1 18 rfl rfl)
theorem dX3_luck_44 : decode cX3_luck 44 = .ok (.iload_n 2, 1) := dk_28 (dk_at dksX3_luck_1 20 rfl rfl)
theorem dX3_luck_45 : decode cX3_luck 45 = .ok (.if_icmp .ge 39, 3) := dk_162 0 39 (dk_at dksX3_luck_1 21 rfl rfl)
theorem dX3_luck_48 : decode cX3_luck 48 = .ok (.aload_n 0, 1) := dk_42 (dk_at dksX3_luck_2 0 rfl rfl)
theorem dX3_luck_49 : decode cX3_luck 49 = .ok (.iload_n 1, 1) := dk_27 (dk_at dksX3_luck_2 1 rfl rfl)
theorem dX3_luck_50 : decode cX3_luck 50 = .ok (.i2l, 1) := dk_133 (dk_at dksX3_luck_2 2 rfl rfl)
theorem dX3_luck_51 : decode cX3_luck 51 = .ok (.iload 5, 2) := dk_21 5 (dk_at dksX3_luck_2 3 rfl rfl)
theorem dX3_luck_53 : decode cX3_luck 53 = .ok (.i2l, 1) := dk_133 (dk_at dksX3_luck_2 5 rfl rfl)
theorem dX3_luck_54 : decode cX3_luck 54 = .ok (.ladd, 1) := dk_97 (dk_at dksX3_luck_2 6 rfl rfl)
theorem dX3_luck_55 : decode cX3_luck 55 = .ok (.invokevirtual 401, 3) := dk_182 1 145 (dk_at dksX3_luck_2 7 rfl rfl)
theorem dX3_luck_58 : decode cX3_luck 58 = .ok (.iload 4, 2) := dk_21 4 (dk_at dksX3_luck_2 10 rfl rfl)
theorem dX3_luck_60 : decode cX3_luck 60 = .ok (.aload_n 0, 1) := dk_42 (dk_at dksX3_luck_2 12 rfl rfl)
theorem dX3_luck_61 : decode cX3_luck 61 = .ok (.getfield 47, 3) := dk_180 0 47 (dk_at dksX3_luck_2 13 rfl rfl)
theorem dX3_luck_64 : decode cX3_luck 64 = .ok (.iload_n 3, 1) := dk_29 (dk_at dksX3_luck_2 16 rfl rfl)
theorem dX3_luck_65 : decode cX3_luck 65 = .ok (.iaload, 1) := dk_46 (dk_at dksX3_luck_2 17 rfl rfl)
theorem dX3_luck_66 : decode cX3_luck 66 = .ok (.iload_n 3, 1) := dk_29 (dk_at dksX3_luck_2 18 rfl rfl)
theorem dX3_luck_67 : decode cX3_luck 67 = .ok (.if_icmp .ne 7, 3) := dk_160 0 7 (dk_at dksX3_luck_2 19 rfl rfl)
theorem dX3_luck_70 : decode cX3_luck 70 = .ok (.iconst 1, 1) := dk_4 (dk_at dksX3_luck_2 22 rfl rfl)
theorem dX3_luck_71 : decode cX3_luck 71 = .ok (.goto 4, 3) := dk_167 0 4 (dk_at dksX3_luck_3 0 rfl rfl)
theorem dX3_luck_74 : decode cX3_luck 74 = .ok (.iconst 0, 1) := dk_3 (dk_at dksX3_luck_3 3 rfl rfl)
theorem dX3_luck_75 : decode cX3_luck 75 = .ok (.iadd, 1) := dk_96 (dk_at dksX3_luck_3 4 rfl rfl)
theorem dX3_luck_76 : decode cX3_luck 76 = .ok (.istore 4, 2) := dk_54 4 (dk_at dksX3_luck_3 5 rfl rfl)
theorem dX3_luck_78 : decode cX3_luck 78 = .ok (.iinc 5 1, 3) := dk_132 5 1 (dk_at dksX3_luck_3 7 rfl rfl)
theorem dX3_luck_81 : decode cX3_luck 81 = .ok (.goto (-39), 3) := dk_167 255 217 (dk_at dksX3_luck_3 10 rfl rfl)
theorem dX3_luck_84 : decode cX3_luck 84 = .ok (.iload 4, 2) := dk_21 4 (dk_at dksX3_luck_3 13 rfl rfl)
theorem dX3_luck_86 : decode cX3_luck 86 = .ok (.ireturn, 1) := dk_172 (dk_at dksX3_luck_3 15 rfl rfl)
abbrev cX3_winds : ByteArray := prog_14_method_140_code
def yX3_winds : MethodName := ⟨RX3, "winds", "(II)I"⟩
def dkwX3_winds_2 : List UInt8 := [21, 4, 133, 97, 182, 1, 145, 29, 42, 182, 1, 19, 96, 62, 132, 4, 1, 167, 255, 230, 29, 172]
abbrev dktX3_winds_2 : List UInt8 := dkwX3_winds_2 ++ []
def dkwX3_winds_1 : List UInt8 := [42, 182, 0, 209, 154, 0, 6, 16, 254, 172, 3, 62, 3, 54, 4, 21, 4, 28, 162, 0, 26, 42, 27, 133]
abbrev dktX3_winds_1 : List UInt8 := dkwX3_winds_1 ++ dktX3_winds_2
def dkwX3_winds_0 : List UInt8 := [42, 3, 181, 0, 59, 27, 184, 1, 142, 153, 0, 22, 28, 133, 10, 20, 1, 148, 184, 0, 64, 153, 0, 10]
abbrev dktX3_winds_0 : List UInt8 := dkwX3_winds_0 ++ dktX3_winds_1
theorem dksX3_winds_0 : cX3_winds.data.toList.drop 0 = dktX3_winds_0 := by decide +kernel
theorem dksX3_winds_1 : cX3_winds.data.toList.drop 24 = dktX3_winds_1 := dk_seg dksX3_winds_0 24 rfl rfl
theorem dksX3_winds_2 : cX3_winds.data.toList.drop 48 = dktX3_winds_2 := dk_seg dksX3_winds_1 24 rfl rfl
theorem dX3_winds_0 : decode cX3_winds 0 = .ok (.aload_n 0, 1) := dk_42 (dk_at dksX3_winds_0 0 rfl rfl)
theorem dX3_winds_1 : decode cX3_winds 1 = .ok (.iconst 0, 1) := dk_3 (dk_at dksX3_winds_0 1 rfl rfl)
theorem dX3_winds_2 : decode cX3_winds 2 = .ok (.putfield 59, 3) := dk_181 0 59 (dk_at dksX3_winds_0 2 rfl rfl)
theorem dX3_winds_5 : decode cX3_winds 5 = .ok (.iload_n 1, 1) := dk_27 (dk_at dksX3_winds_0 5 rfl rfl)
theorem dX3_winds_6 : decode cX3_winds 6 = .ok (.invokestatic 398, 3) := dk_184 1 142 (dk_at dksX3_winds_0 6 rfl rfl)
theorem dX3_winds_9 : decode cX3_winds 9 = .ok (.ifCond .eq 22, 3) := dk_153 0 22 (dk_at dksX3_winds_0 9 rfl rfl)
theorem dX3_winds_12 : decode cX3_winds 12 = .ok (.iload_n 2, 1) := dk_28 (dk_at dksX3_winds_0 12 rfl rfl)
theorem dX3_winds_13 : decode cX3_winds 13 = .ok (.i2l, 1) := dk_133 (dk_at dksX3_winds_0 13 rfl rfl)
theorem dX3_winds_14 : decode cX3_winds 14 = .ok (.lconst 1, 1) := dk_10 (dk_at dksX3_winds_0 14 rfl rfl)
theorem dX3_winds_15 : decode cX3_winds 15 = .ok (.ldc2_w 404, 3) := dk_20 1 148 (dk_at dksX3_winds_0 15 rfl rfl)
theorem dX3_winds_18 : decode cX3_winds 18 = .ok (.invokestatic 64, 3) := dk_184 0 64 (dk_at dksX3_winds_0 18 rfl rfl)
theorem dX3_winds_21 : decode cX3_winds 21 = .ok (.ifCond .eq 10, 3) := dk_153 0 10 (dk_at dksX3_winds_0 21 rfl rfl)
theorem dX3_winds_24 : decode cX3_winds 24 = .ok (.aload_n 0, 1) := dk_42 (dk_at dksX3_winds_1 0 rfl rfl)
theorem dX3_winds_25 : decode cX3_winds 25 = .ok (.invokevirtual 209, 3) := dk_182 0 209 (dk_at dksX3_winds_1 1 rfl rfl)
theorem dX3_winds_28 : decode cX3_winds 28 = .ok (.ifCond .ne 6, 3) := dk_154 0 6 (dk_at dksX3_winds_1 4 rfl rfl)
theorem dX3_winds_31 : decode cX3_winds 31 = .ok (.bipush (-2), 2) := dk_16 254 (dk_at dksX3_winds_1 7 rfl rfl)
theorem dX3_winds_33 : decode cX3_winds 33 = .ok (.ireturn, 1) := dk_172 (dk_at dksX3_winds_1 9 rfl rfl)
theorem dX3_winds_34 : decode cX3_winds 34 = .ok (.iconst 0, 1) := dk_3 (dk_at dksX3_winds_1 10 rfl rfl)
theorem dX3_winds_35 : decode cX3_winds 35 = .ok (.istore_n 3, 1) := dk_62 (dk_at dksX3_winds_1 11 rfl rfl)
theorem dX3_winds_36 : decode cX3_winds 36 = .ok (.iconst 0, 1) := dk_3 (dk_at dksX3_winds_1 12 rfl rfl)
theorem dX3_winds_37 : decode cX3_winds 37 = .ok (.istore 4, 2) := dk_54 4 (dk_at dksX3_winds_1 13 rfl rfl)
theorem dX3_winds_39 : decode cX3_winds 39 = .ok (.iload 4, 2) := dk_21 4 (dk_at dksX3_winds_1 15 rfl rfl)
theorem dX3_winds_41 : decode cX3_winds 41 = .ok (.iload_n 2, 1) := dk_28 (dk_at dksX3_winds_1 17 rfl rfl)
theorem dX3_winds_42 : decode cX3_winds 42 = .ok (.if_icmp .ge 26, 3) := dk_162 0 26 (dk_at dksX3_winds_1 18 rfl rfl)
theorem dX3_winds_45 : decode cX3_winds 45 = .ok (.aload_n 0, 1) := dk_42 (dk_at dksX3_winds_1 21 rfl rfl)
theorem dX3_winds_46 : decode cX3_winds 46 = .ok (.iload_n 1, 1) := dk_27 (dk_at dksX3_winds_1 22 rfl rfl)
theorem dX3_winds_47 : decode cX3_winds 47 = .ok (.i2l, 1) := dk_133 (dk_at dksX3_winds_1 23 rfl rfl)
theorem dX3_winds_48 : decode cX3_winds 48 = .ok (.iload 4, 2) := dk_21 4 (dk_at dksX3_winds_2 0 rfl rfl)
theorem dX3_winds_50 : decode cX3_winds 50 = .ok (.i2l, 1) := dk_133 (dk_at dksX3_winds_2 2 rfl rfl)
theorem dX3_winds_51 : decode cX3_winds 51 = .ok (.ladd, 1) := dk_97 (dk_at dksX3_winds_2 3 rfl rfl)
theorem dX3_winds_52 : decode cX3_winds 52 = .ok (.invokevirtual 401, 3) := dk_182 1 145 (dk_at dksX3_winds_2 4 rfl rfl)
theorem dX3_winds_55 : decode cX3_winds 55 = .ok (.iload_n 3, 1) := dk_29 (dk_at dksX3_winds_2 7 rfl rfl)
theorem dX3_winds_56 : decode cX3_winds 56 = .ok (.aload_n 0, 1) := dk_42 (dk_at dksX3_winds_2 8 rfl rfl)
theorem dX3_winds_57 : decode cX3_winds 57 = .ok (.invokevirtual 275, 3) := dk_182 1 19 (dk_at dksX3_winds_2 9 rfl rfl)
theorem dX3_winds_60 : decode cX3_winds 60 = .ok (.iadd, 1) := dk_96 (dk_at dksX3_winds_2 12 rfl rfl)
theorem dX3_winds_61 : decode cX3_winds 61 = .ok (.istore_n 3, 1) := dk_62 (dk_at dksX3_winds_2 13 rfl rfl)
theorem dX3_winds_62 : decode cX3_winds 62 = .ok (.iinc 4 1, 3) := dk_132 4 1 (dk_at dksX3_winds_2 14 rfl rfl)
theorem dX3_winds_65 : decode cX3_winds 65 = .ok (.goto (-26), 3) := dk_167 255 230 (dk_at dksX3_winds_2 17 rfl rfl)
theorem dX3_winds_68 : decode cX3_winds 68 = .ok (.iload_n 3, 1) := dk_29 (dk_at dksX3_winds_2 20 rfl rfl)
theorem dX3_winds_69 : decode cX3_winds 69 = .ok (.ireturn, 1) := dk_172 (dk_at dksX3_winds_2 21 rfl rfl)
abbrev cX3_rate : ByteArray := prog_14_method_141_code
def yX3_rate : MethodName := ⟨RX3, "rate", "(II)I"⟩
def dkwX3_rate_2 : List UInt8 := [104, 46, 62, 42, 180, 0, 37, 8, 27, 104, 28, 79, 29, 172]
abbrev dktX3_rate_2 : List UInt8 := dkwX3_rate_2 ++ []
def dkwX3_rate_1 : List UInt8 := [154, 0, 6, 16, 254, 172, 42, 180, 0, 34, 5, 46, 158, 0, 6, 16, 251, 172, 42, 180, 0, 37, 8, 27]
abbrev dktX3_rate_1 : List UInt8 := dkwX3_rate_1 ++ dktX3_rate_2
def dkwX3_rate_0 : List UInt8 := [42, 3, 181, 0, 59, 42, 27, 133, 182, 0, 206, 153, 0, 15, 28, 133, 10, 20, 1, 150, 184, 0, 64]
abbrev dktX3_rate_0 : List UInt8 := dkwX3_rate_0 ++ dktX3_rate_1
theorem dksX3_rate_0 : cX3_rate.data.toList.drop 0 = dktX3_rate_0 := by decide +kernel
theorem dksX3_rate_1 : cX3_rate.data.toList.drop 23 = dktX3_rate_1 := dk_seg dksX3_rate_0 23 rfl rfl
theorem dksX3_rate_2 : cX3_rate.data.toList.drop 47 = dktX3_rate_2 := dk_seg dksX3_rate_1 24 rfl rfl
theorem dX3_rate_0 : decode cX3_rate 0 = .ok (.aload_n 0, 1) := dk_42 (dk_at dksX3_rate_0 0 rfl rfl)
theorem dX3_rate_1 : decode cX3_rate 1 = .ok (.iconst 0, 1) := dk_3 (dk_at dksX3_rate_0 1 rfl rfl)
theorem dX3_rate_2 : decode cX3_rate 2 = .ok (.putfield 59, 3) := dk_181 0 59 (dk_at dksX3_rate_0 2 rfl rfl)
theorem dX3_rate_5 : decode cX3_rate 5 = .ok (.aload_n 0, 1) := dk_42 (dk_at dksX3_rate_0 5 rfl rfl)
theorem dX3_rate_6 : decode cX3_rate 6 = .ok (.iload_n 1, 1) := dk_27 (dk_at dksX3_rate_0 6 rfl rfl)
theorem dX3_rate_7 : decode cX3_rate 7 = .ok (.i2l, 1) := dk_133 (dk_at dksX3_rate_0 7 rfl rfl)
theorem dX3_rate_8 : decode cX3_rate 8 = .ok (.invokevirtual 206, 3) := dk_182 0 206 (dk_at dksX3_rate_0 8 rfl rfl)
theorem dX3_rate_11 : decode cX3_rate 11 = .ok (.ifCond .eq 15, 3) := dk_153 0 15 (dk_at dksX3_rate_0 11 rfl rfl)
theorem dX3_rate_14 : decode cX3_rate 14 = .ok (.iload_n 2, 1) := dk_28 (dk_at dksX3_rate_0 14 rfl rfl)
theorem dX3_rate_15 : decode cX3_rate 15 = .ok (.i2l, 1) := dk_133 (dk_at dksX3_rate_0 15 rfl rfl)
theorem dX3_rate_16 : decode cX3_rate 16 = .ok (.lconst 1, 1) := dk_10 (dk_at dksX3_rate_0 16 rfl rfl)
theorem dX3_rate_17 : decode cX3_rate 17 = .ok (.ldc2_w 406, 3) := dk_20 1 150 (dk_at dksX3_rate_0 17 rfl rfl)
theorem dX3_rate_20 : decode cX3_rate 20 = .ok (.invokestatic 64, 3) := dk_184 0 64 (dk_at dksX3_rate_0 20 rfl rfl)
theorem dX3_rate_23 : decode cX3_rate 23 = .ok (.ifCond .ne 6, 3) := dk_154 0 6 (dk_at dksX3_rate_1 0 rfl rfl)
theorem dX3_rate_26 : decode cX3_rate 26 = .ok (.bipush (-2), 2) := dk_16 254 (dk_at dksX3_rate_1 3 rfl rfl)
theorem dX3_rate_28 : decode cX3_rate 28 = .ok (.ireturn, 1) := dk_172 (dk_at dksX3_rate_1 5 rfl rfl)
theorem dX3_rate_29 : decode cX3_rate 29 = .ok (.aload_n 0, 1) := dk_42 (dk_at dksX3_rate_1 6 rfl rfl)
theorem dX3_rate_30 : decode cX3_rate 30 = .ok (.getfield 34, 3) := dk_180 0 34 (dk_at dksX3_rate_1 7 rfl rfl)
theorem dX3_rate_33 : decode cX3_rate 33 = .ok (.iconst 2, 1) := dk_5 (dk_at dksX3_rate_1 10 rfl rfl)
theorem dX3_rate_34 : decode cX3_rate 34 = .ok (.iaload, 1) := dk_46 (dk_at dksX3_rate_1 11 rfl rfl)
theorem dX3_rate_35 : decode cX3_rate 35 = .ok (.ifCond .le 6, 3) := dk_158 0 6 (dk_at dksX3_rate_1 12 rfl rfl)
theorem dX3_rate_38 : decode cX3_rate 38 = .ok (.bipush (-5), 2) := dk_16 251 (dk_at dksX3_rate_1 15 rfl rfl)
theorem dX3_rate_40 : decode cX3_rate 40 = .ok (.ireturn, 1) := dk_172 (dk_at dksX3_rate_1 17 rfl rfl)
theorem dX3_rate_41 : decode cX3_rate 41 = .ok (.aload_n 0, 1) := dk_42 (dk_at dksX3_rate_1 18 rfl rfl)
theorem dX3_rate_42 : decode cX3_rate 42 = .ok (.getfield 37, 3) := dk_180 0 37 (dk_at dksX3_rate_1 19 rfl rfl)
theorem dX3_rate_45 : decode cX3_rate 45 = .ok (.iconst 5, 1) := dk_8 (dk_at dksX3_rate_1 22 rfl rfl)
theorem dX3_rate_46 : decode cX3_rate 46 = .ok (.iload_n 1, 1) := dk_27 (dk_at dksX3_rate_1 23 rfl rfl)
theorem dX3_rate_47 : decode cX3_rate 47 = .ok (.imul, 1) := dk_104 (dk_at dksX3_rate_2 0 rfl rfl)
theorem dX3_rate_48 : decode cX3_rate 48 = .ok (.iaload, 1) := dk_46 (dk_at dksX3_rate_2 1 rfl rfl)
theorem dX3_rate_49 : decode cX3_rate 49 = .ok (.istore_n 3, 1) := dk_62 (dk_at dksX3_rate_2 2 rfl rfl)
theorem dX3_rate_50 : decode cX3_rate 50 = .ok (.aload_n 0, 1) := dk_42 (dk_at dksX3_rate_2 3 rfl rfl)
theorem dX3_rate_51 : decode cX3_rate 51 = .ok (.getfield 37, 3) := dk_180 0 37 (dk_at dksX3_rate_2 4 rfl rfl)
theorem dX3_rate_54 : decode cX3_rate 54 = .ok (.iconst 5, 1) := dk_8 (dk_at dksX3_rate_2 7 rfl rfl)
theorem dX3_rate_55 : decode cX3_rate 55 = .ok (.iload_n 1, 1) := dk_27 (dk_at dksX3_rate_2 8 rfl rfl)
theorem dX3_rate_56 : decode cX3_rate 56 = .ok (.imul, 1) := dk_104 (dk_at dksX3_rate_2 9 rfl rfl)
theorem dX3_rate_57 : decode cX3_rate 57 = .ok (.iload_n 2, 1) := dk_28 (dk_at dksX3_rate_2 10 rfl rfl)
theorem dX3_rate_58 : decode cX3_rate 58 = .ok (.iastore, 1) := dk_79 (dk_at dksX3_rate_2 11 rfl rfl)
theorem dX3_rate_59 : decode cX3_rate 59 = .ok (.iload_n 3, 1) := dk_29 (dk_at dksX3_rate_2 12 rfl rfl)
theorem dX3_rate_60 : decode cX3_rate 60 = .ok (.ireturn, 1) := dk_172 (dk_at dksX3_rate_2 13 rfl rfl)
abbrev cX3_forge : ByteArray := prog_14_method_142_code
def yX3_forge : MethodName := ⟨RX3, "forge", "(II)I"⟩
def dkwX3_forge_2 : List UInt8 := [46, 62, 42, 180, 0, 37, 8, 27, 104, 7, 96, 28, 79, 29, 172]
abbrev dktX3_forge_2 : List UInt8 := dkwX3_forge_2 ++ []
def dkwX3_forge_1 : List UInt8 := [16, 254, 172, 42, 180, 0, 34, 5, 46, 158, 0, 6, 16, 251, 172, 42, 180, 0, 37, 8, 27, 104, 7, 96]
abbrev dktX3_forge_1 : List UInt8 := dkwX3_forge_1 ++ dktX3_forge_2
def dkwX3_forge_0 : List UInt8 := [42, 3, 181, 0, 59, 42, 27, 133, 182, 0, 206, 153, 0, 13, 28, 133, 9, 10, 184, 0, 64, 154, 0, 6]
abbrev dktX3_forge_0 : List UInt8 := dkwX3_forge_0 ++ dktX3_forge_1
theorem dksX3_forge_0 : cX3_forge.data.toList.drop 0 = dktX3_forge_0 := by decide +kernel
theorem dksX3_forge_1 : cX3_forge.data.toList.drop 24 = dktX3_forge_1 := dk_seg dksX3_forge_0 24 rfl rfl
theorem dksX3_forge_2 : cX3_forge.data.toList.drop 48 = dktX3_forge_2 := dk_seg dksX3_forge_1 24 rfl rfl
theorem dX3_forge_0 : decode cX3_forge 0 = .ok (.aload_n 0, 1) := dk_42 (dk_at dksX3_forge_0 0 rfl rfl)
theorem dX3_forge_1 : decode cX3_forge 1 = .ok (.iconst 0, 1) := dk_3 (dk_at dksX3_forge_0 1 rfl rfl)
theorem dX3_forge_2 : decode cX3_forge 2 = .ok (.putfield 59, 3) := dk_181 0 59 (dk_at dksX3_forge_0 2 rfl rfl)
theorem dX3_forge_5 : decode cX3_forge 5 = .ok (.aload_n 0, 1) := dk_42 (dk_at dksX3_forge_0 5 rfl rfl)
theorem dX3_forge_6 : decode cX3_forge 6 = .ok (.iload_n 1, 1) := dk_27 (dk_at dksX3_forge_0 6 rfl rfl)
theorem dX3_forge_7 : decode cX3_forge 7 = .ok (.i2l, 1) := dk_133 (dk_at dksX3_forge_0 7 rfl rfl)
theorem dX3_forge_8 : decode cX3_forge 8 = .ok (.invokevirtual 206, 3) := dk_182 0 206 (dk_at dksX3_forge_0 8 rfl rfl)
theorem dX3_forge_11 : decode cX3_forge 11 = .ok (.ifCond .eq 13, 3) := dk_153 0 13 (dk_at dksX3_forge_0 11 rfl rfl)
theorem dX3_forge_14 : decode cX3_forge 14 = .ok (.iload_n 2, 1) := dk_28 (dk_at dksX3_forge_0 14 rfl rfl)
theorem dX3_forge_15 : decode cX3_forge 15 = .ok (.i2l, 1) := dk_133 (dk_at dksX3_forge_0 15 rfl rfl)
theorem dX3_forge_16 : decode cX3_forge 16 = .ok (.lconst 0, 1) := dk_9 (dk_at dksX3_forge_0 16 rfl rfl)
theorem dX3_forge_17 : decode cX3_forge 17 = .ok (.lconst 1, 1) := dk_10 (dk_at dksX3_forge_0 17 rfl rfl)
theorem dX3_forge_18 : decode cX3_forge 18 = .ok (.invokestatic 64, 3) := dk_184 0 64 (dk_at dksX3_forge_0 18 rfl rfl)
theorem dX3_forge_21 : decode cX3_forge 21 = .ok (.ifCond .ne 6, 3) := dk_154 0 6 (dk_at dksX3_forge_0 21 rfl rfl)
theorem dX3_forge_24 : decode cX3_forge 24 = .ok (.bipush (-2), 2) := dk_16 254 (dk_at dksX3_forge_1 0 rfl rfl)
theorem dX3_forge_26 : decode cX3_forge 26 = .ok (.ireturn, 1) := dk_172 (dk_at dksX3_forge_1 2 rfl rfl)
theorem dX3_forge_27 : decode cX3_forge 27 = .ok (.aload_n 0, 1) := dk_42 (dk_at dksX3_forge_1 3 rfl rfl)
theorem dX3_forge_28 : decode cX3_forge 28 = .ok (.getfield 34, 3) := dk_180 0 34 (dk_at dksX3_forge_1 4 rfl rfl)
theorem dX3_forge_31 : decode cX3_forge 31 = .ok (.iconst 2, 1) := dk_5 (dk_at dksX3_forge_1 7 rfl rfl)
theorem dX3_forge_32 : decode cX3_forge 32 = .ok (.iaload, 1) := dk_46 (dk_at dksX3_forge_1 8 rfl rfl)
theorem dX3_forge_33 : decode cX3_forge 33 = .ok (.ifCond .le 6, 3) := dk_158 0 6 (dk_at dksX3_forge_1 9 rfl rfl)
theorem dX3_forge_36 : decode cX3_forge 36 = .ok (.bipush (-5), 2) := dk_16 251 (dk_at dksX3_forge_1 12 rfl rfl)
theorem dX3_forge_38 : decode cX3_forge 38 = .ok (.ireturn, 1) := dk_172 (dk_at dksX3_forge_1 14 rfl rfl)
theorem dX3_forge_39 : decode cX3_forge 39 = .ok (.aload_n 0, 1) := dk_42 (dk_at dksX3_forge_1 15 rfl rfl)
theorem dX3_forge_40 : decode cX3_forge 40 = .ok (.getfield 37, 3) := dk_180 0 37 (dk_at dksX3_forge_1 16 rfl rfl)
theorem dX3_forge_43 : decode cX3_forge 43 = .ok (.iconst 5, 1) := dk_8 (dk_at dksX3_forge_1 19 rfl rfl)
theorem dX3_forge_44 : decode cX3_forge 44 = .ok (.iload_n 1, 1) := dk_27 (dk_at dksX3_forge_1 20 rfl rfl)
theorem dX3_forge_45 : decode cX3_forge 45 = .ok (.imul, 1) := dk_104 (dk_at dksX3_forge_1 21 rfl rfl)
theorem dX3_forge_46 : decode cX3_forge 46 = .ok (.iconst 4, 1) := dk_7 (dk_at dksX3_forge_1 22 rfl rfl)
theorem dX3_forge_47 : decode cX3_forge 47 = .ok (.iadd, 1) := dk_96 (dk_at dksX3_forge_1 23 rfl rfl)
theorem dX3_forge_48 : decode cX3_forge 48 = .ok (.iaload, 1) := dk_46 (dk_at dksX3_forge_2 0 rfl rfl)
theorem dX3_forge_49 : decode cX3_forge 49 = .ok (.istore_n 3, 1) := dk_62 (dk_at dksX3_forge_2 1 rfl rfl)
theorem dX3_forge_50 : decode cX3_forge 50 = .ok (.aload_n 0, 1) := dk_42 (dk_at dksX3_forge_2 2 rfl rfl)
theorem dX3_forge_51 : decode cX3_forge 51 = .ok (.getfield 37, 3) := dk_180 0 37 (dk_at dksX3_forge_2 3 rfl rfl)
theorem dX3_forge_54 : decode cX3_forge 54 = .ok (.iconst 5, 1) := dk_8 (dk_at dksX3_forge_2 6 rfl rfl)
theorem dX3_forge_55 : decode cX3_forge 55 = .ok (.iload_n 1, 1) := dk_27 (dk_at dksX3_forge_2 7 rfl rfl)
theorem dX3_forge_56 : decode cX3_forge 56 = .ok (.imul, 1) := dk_104 (dk_at dksX3_forge_2 8 rfl rfl)
theorem dX3_forge_57 : decode cX3_forge 57 = .ok (.iconst 4, 1) := dk_7 (dk_at dksX3_forge_2 9 rfl rfl)
theorem dX3_forge_58 : decode cX3_forge 58 = .ok (.iadd, 1) := dk_96 (dk_at dksX3_forge_2 10 rfl rfl)
theorem dX3_forge_59 : decode cX3_forge 59 = .ok (.iload_n 2, 1) := dk_28 (dk_at dksX3_forge_2 11 rfl rfl)
theorem dX3_forge_60 : decode cX3_forge 60 = .ok (.iastore, 1) := dk_79 (dk_at dksX3_forge_2 12 rfl rfl)
theorem dX3_forge_61 : decode cX3_forge 61 = .ok (.iload_n 3, 1) := dk_29 (dk_at dksX3_forge_2 13 rfl rfl)
theorem dX3_forge_62 : decode cX3_forge 62 = .ok (.ireturn, 1) := dk_172 (dk_at dksX3_forge_2 14 rfl rfl)
abbrev cX3_count : ByteArray := prog_14_method_143_code
def yX3_count : MethodName := ⟨RX3, "count", "(I)I"⟩
def dkwX3_count_6 : List UInt8 := [46, 2, 160, 0, 7, 3, 167, 0, 4, 4, 96, 61, 132, 3, 1, 167, 255, 230, 28, 172, 2, 172]
abbrev dktX3_count_6 : List UInt8 := dkwX3_count_6 ++ []
def dkwX3_count_5 : List UInt8 := [180, 0, 31, 3, 46, 172, 42, 180, 0, 76, 172, 3, 62, 29, 7, 162, 0, 27, 28, 42, 180, 0, 7, 29]
abbrev dktX3_count_5 : List UInt8 := dkwX3_count_5 ++ dktX3_count_6
def dkwX3_count_4 : List UInt8 := [7, 182, 0, 214, 96, 61, 132, 3, 1, 167, 255, 234, 28, 172, 42, 180, 0, 34, 5, 46, 172, 42]
abbrev dktX3_count_4 : List UInt8 := dkwX3_count_4 ++ dktX3_count_5
def dkwX3_count_3 : List UInt8 := [42, 182, 1, 4, 184, 1, 41, 100, 172, 3, 62, 29, 42, 180, 0, 34, 4, 46, 162, 0, 18, 28, 42, 29]
abbrev dktX3_count_3 : List UInt8 := dkwX3_count_3 ++ dktX3_count_4
def dkwX3_count_2 : List UInt8 := [42, 180, 0, 34, 4, 46, 172, 42, 180, 0, 34, 3, 46, 172, 42, 182, 0, 251, 42, 180, 0, 34, 4, 46]
abbrev dktX3_count_2 : List UInt8 := dkwX3_count_2 ++ dktX3_count_3
def dkwX3_count_1 : List UInt8 := [170, 0, 0, 0, 0, 0, 0, 162, 0, 0, 0, 0, 0, 0, 0, 7, 0, 0, 0, 48, 0, 0, 0, 55, 0, 0, 0, 62, 0, 0, 0, 81, 0, 0, 0, 110, 0, 0, 0, 117, 0, 0, 0, 124, 0, 0, 0, 129]
abbrev dktX3_count_1 : List UInt8 := dkwX3_count_1 ++ dktX3_count_2
def dkwX3_count_0 : List UInt8 := [42, 3, 181, 0, 59, 3, 61, 27]
abbrev dktX3_count_0 : List UInt8 := dkwX3_count_0 ++ dktX3_count_1
theorem dksX3_count_0 : cX3_count.data.toList.drop 0 = dktX3_count_0 := by decide +kernel
theorem dksX3_count_1 : cX3_count.data.toList.drop 8 = dktX3_count_1 := dk_seg dksX3_count_0 8 rfl rfl
theorem dksX3_count_2 : cX3_count.data.toList.drop 56 = dktX3_count_2 := dk_seg dksX3_count_1 48 rfl rfl
theorem dksX3_count_3 : cX3_count.data.toList.drop 80 = dktX3_count_3 := dk_seg dksX3_count_2 24 rfl rfl
theorem dksX3_count_4 : cX3_count.data.toList.drop 104 = dktX3_count_4 := dk_seg dksX3_count_3 24 rfl rfl
theorem dksX3_count_5 : cX3_count.data.toList.drop 126 = dktX3_count_5 := dk_seg dksX3_count_4 22 rfl rfl
theorem dksX3_count_6 : cX3_count.data.toList.drop 150 = dktX3_count_6 := dk_seg dksX3_count_5 24 rfl rfl
theorem dX3_count_0 : decode cX3_count 0 = .ok (.aload_n 0, 1) := dk_42 (dk_at dksX3_count_0 0 rfl rfl)
theorem dX3_count_1 : decode cX3_count 1 = .ok (.iconst 0, 1) := dk_3 (dk_at dksX3_count_0 1 rfl rfl)
theorem dX3_count_2 : decode cX3_count 2 = .ok (.putfield 59, 3) := dk_181 0 59 (dk_at dksX3_count_0 2 rfl rfl)
theorem dX3_count_5 : decode cX3_count 5 = .ok (.iconst 0, 1) := dk_3 (dk_at dksX3_count_0 5 rfl rfl)
theorem dX3_count_6 : decode cX3_count 6 = .ok (.istore_n 2, 1) := dk_61 (dk_at dksX3_count_0 6 rfl rfl)
theorem dX3_count_7 : decode cX3_count 7 = .ok (.iload_n 1, 1) := dk_27 (dk_at dksX3_count_0 7 rfl rfl)
theorem dX3_count_8 : decode cX3_count 8 = .ok (.tableswitch 162 0 7 #[48, 55, 62, 81, 110, 117, 124, 129], 48) := by decide +kernel
theorem dX3_count_56 : decode cX3_count 56 = .ok (.aload_n 0, 1) := dk_42 (dk_at dksX3_count_2 0 rfl rfl)
theorem dX3_count_57 : decode cX3_count 57 = .ok (.getfield 34, 3) := dk_180 0 34 (dk_at dksX3_count_2 1 rfl rfl)
theorem dX3_count_60 : decode cX3_count 60 = .ok (.iconst 1, 1) := dk_4 (dk_at dksX3_count_2 4 rfl rfl)
theorem dX3_count_61 : decode cX3_count 61 = .ok (.iaload, 1) := dk_46 (dk_at dksX3_count_2 5 rfl rfl)
theorem dX3_count_62 : decode cX3_count 62 = .ok (.ireturn, 1) := dk_172 (dk_at dksX3_count_2 6 rfl rfl)
theorem dX3_count_63 : decode cX3_count 63 = .ok (.aload_n 0, 1) := dk_42 (dk_at dksX3_count_2 7 rfl rfl)
theorem dX3_count_64 : decode cX3_count 64 = .ok (.getfield 34, 3) := dk_180 0 34 (dk_at dksX3_count_2 8 rfl rfl)
theorem dX3_count_67 : decode cX3_count 67 = .ok (.iconst 0, 1) := dk_3 (dk_at dksX3_count_2 11 rfl rfl)
theorem dX3_count_68 : decode cX3_count 68 = .ok (.iaload, 1) := dk_46 (dk_at dksX3_count_2 12 rfl rfl)
theorem dX3_count_69 : decode cX3_count 69 = .ok (.ireturn, 1) := dk_172 (dk_at dksX3_count_2 13 rfl rfl)
theorem dX3_count_70 : decode cX3_count 70 = .ok (.aload_n 0, 1) := dk_42 (dk_at dksX3_count_2 14 rfl rfl)
theorem dX3_count_71 : decode cX3_count 71 = .ok (.invokevirtual 251, 3) := dk_182 0 251 (dk_at dksX3_count_2 15 rfl rfl)
theorem dX3_count_74 : decode cX3_count 74 = .ok (.aload_n 0, 1) := dk_42 (dk_at dksX3_count_2 18 rfl rfl)
theorem dX3_count_75 : decode cX3_count 75 = .ok (.getfield 34, 3) := dk_180 0 34 (dk_at dksX3_count_2 19 rfl rfl)
theorem dX3_count_78 : decode cX3_count 78 = .ok (.iconst 1, 1) := dk_4 (dk_at dksX3_count_2 22 rfl rfl)
theorem dX3_count_79 : decode cX3_count 79 = .ok (.iaload, 1) := dk_46 (dk_at dksX3_count_2 23 rfl rfl)
theorem dX3_count_80 : decode cX3_count 80 = .ok (.aload_n 0, 1) := dk_42 (dk_at dksX3_count_3 0 rfl rfl)
theorem dX3_count_81 : decode cX3_count 81 = .ok (.invokevirtual 260, 3) := dk_182 1 4 (dk_at dksX3_count_3 1 rfl rfl)
theorem dX3_count_84 : decode cX3_count 84 = .ok (.invokestatic 297, 3) := dk_184 1 41 (dk_at dksX3_count_3 4 rfl rfl)
theorem dX3_count_87 : decode cX3_count 87 = .ok (.isub, 1) := dk_100 (dk_at dksX3_count_3 7 rfl rfl)
theorem dX3_count_88 : decode cX3_count 88 = .ok (.ireturn, 1) := dk_172 (dk_at dksX3_count_3 8 rfl rfl)
theorem dX3_count_89 : decode cX3_count 89 = .ok (.iconst 0, 1) := dk_3 (dk_at dksX3_count_3 9 rfl rfl)
theorem dX3_count_90 : decode cX3_count 90 = .ok (.istore_n 3, 1) := dk_62 (dk_at dksX3_count_3 10 rfl rfl)
theorem dX3_count_91 : decode cX3_count 91 = .ok (.iload_n 3, 1) := dk_29 (dk_at dksX3_count_3 11 rfl rfl)
theorem dX3_count_92 : decode cX3_count 92 = .ok (.aload_n 0, 1) := dk_42 (dk_at dksX3_count_3 12 rfl rfl)
theorem dX3_count_93 : decode cX3_count 93 = .ok (.getfield 34, 3) := dk_180 0 34 (dk_at dksX3_count_3 13 rfl rfl)
theorem dX3_count_96 : decode cX3_count 96 = .ok (.iconst 1, 1) := dk_4 (dk_at dksX3_count_3 16 rfl rfl)
theorem dX3_count_97 : decode cX3_count 97 = .ok (.iaload, 1) := dk_46 (dk_at dksX3_count_3 17 rfl rfl)
theorem dX3_count_98 : decode cX3_count 98 = .ok (.if_icmp .ge 18, 3) := dk_162 0 18 (dk_at dksX3_count_3 18 rfl rfl)
theorem dX3_count_101 : decode cX3_count 101 = .ok (.iload_n 2, 1) := dk_28 (dk_at dksX3_count_3 21 rfl rfl)
theorem dX3_count_102 : decode cX3_count 102 = .ok (.aload_n 0, 1) := dk_42 (dk_at dksX3_count_3 22 rfl rfl)
theorem dX3_count_103 : decode cX3_count 103 = .ok (.iload_n 3, 1) := dk_29 (dk_at dksX3_count_3 23 rfl rfl)
theorem dX3_count_104 : decode cX3_count 104 = .ok (.iconst 4, 1) := dk_7 (dk_at dksX3_count_4 0 rfl rfl)
theorem dX3_count_105 : decode cX3_count 105 = .ok (.invokevirtual 214, 3) := dk_182 0 214 (dk_at dksX3_count_4 1 rfl rfl)
theorem dX3_count_108 : decode cX3_count 108 = .ok (.iadd, 1) := dk_96 (dk_at dksX3_count_4 4 rfl rfl)
theorem dX3_count_109 : decode cX3_count 109 = .ok (.istore_n 2, 1) := dk_61 (dk_at dksX3_count_4 5 rfl rfl)
theorem dX3_count_110 : decode cX3_count 110 = .ok (.iinc 3 1, 3) := dk_132 3 1 (dk_at dksX3_count_4 6 rfl rfl)
theorem dX3_count_113 : decode cX3_count 113 = .ok (.goto (-22), 3) := dk_167 255 234 (dk_at dksX3_count_4 9 rfl rfl)
theorem dX3_count_116 : decode cX3_count 116 = .ok (.iload_n 2, 1) := dk_28 (dk_at dksX3_count_4 12 rfl rfl)
theorem dX3_count_117 : decode cX3_count 117 = .ok (.ireturn, 1) := dk_172 (dk_at dksX3_count_4 13 rfl rfl)
theorem dX3_count_118 : decode cX3_count 118 = .ok (.aload_n 0, 1) := dk_42 (dk_at dksX3_count_4 14 rfl rfl)
theorem dX3_count_119 : decode cX3_count 119 = .ok (.getfield 34, 3) := dk_180 0 34 (dk_at dksX3_count_4 15 rfl rfl)
theorem dX3_count_122 : decode cX3_count 122 = .ok (.iconst 2, 1) := dk_5 (dk_at dksX3_count_4 18 rfl rfl)
theorem dX3_count_123 : decode cX3_count 123 = .ok (.iaload, 1) := dk_46 (dk_at dksX3_count_4 19 rfl rfl)
theorem dX3_count_124 : decode cX3_count 124 = .ok (.ireturn, 1) := dk_172 (dk_at dksX3_count_4 20 rfl rfl)
theorem dX3_count_125 : decode cX3_count 125 = .ok (.aload_n 0, 1) := dk_42 (dk_at dksX3_count_4 21 rfl rfl)
theorem dX3_count_126 : decode cX3_count 126 = .ok (.getfield 31, 3) := dk_180 0 31 (dk_at dksX3_count_5 0 rfl rfl)
theorem dX3_count_129 : decode cX3_count 129 = .ok (.iconst 0, 1) := dk_3 (dk_at dksX3_count_5 3 rfl rfl)
theorem dX3_count_130 : decode cX3_count 130 = .ok (.iaload, 1) := dk_46 (dk_at dksX3_count_5 4 rfl rfl)
theorem dX3_count_131 : decode cX3_count 131 = .ok (.ireturn, 1) := dk_172 (dk_at dksX3_count_5 5 rfl rfl)
theorem dX3_count_132 : decode cX3_count 132 = .ok (.aload_n 0, 1) := dk_42 (dk_at dksX3_count_5 6 rfl rfl)
theorem dX3_count_133 : decode cX3_count 133 = .ok (.getfield 76, 3) := dk_180 0 76 (dk_at dksX3_count_5 7 rfl rfl)
theorem dX3_count_136 : decode cX3_count 136 = .ok (.ireturn, 1) := dk_172 (dk_at dksX3_count_5 10 rfl rfl)
theorem dX3_count_137 : decode cX3_count 137 = .ok (.iconst 0, 1) := dk_3 (dk_at dksX3_count_5 11 rfl rfl)
theorem dX3_count_138 : decode cX3_count 138 = .ok (.istore_n 3, 1) := dk_62 (dk_at dksX3_count_5 12 rfl rfl)
theorem dX3_count_139 : decode cX3_count 139 = .ok (.iload_n 3, 1) := dk_29 (dk_at dksX3_count_5 13 rfl rfl)
theorem dX3_count_140 : decode cX3_count 140 = .ok (.iconst 4, 1) := dk_7 (dk_at dksX3_count_5 14 rfl rfl)
theorem dX3_count_141 : decode cX3_count 141 = .ok (.if_icmp .ge 27, 3) := dk_162 0 27 (dk_at dksX3_count_5 15 rfl rfl)
theorem dX3_count_144 : decode cX3_count 144 = .ok (.iload_n 2, 1) := dk_28 (dk_at dksX3_count_5 18 rfl rfl)
theorem dX3_count_145 : decode cX3_count 145 = .ok (.aload_n 0, 1) := dk_42 (dk_at dksX3_count_5 19 rfl rfl)
theorem dX3_count_146 : decode cX3_count 146 = .ok (.getfield 7, 3) := dk_180 0 7 (dk_at dksX3_count_5 20 rfl rfl)
theorem dX3_count_149 : decode cX3_count 149 = .ok (.iload_n 3, 1) := dk_29 (dk_at dksX3_count_5 23 rfl rfl)
theorem dX3_count_150 : decode cX3_count 150 = .ok (.iaload, 1) := dk_46 (dk_at dksX3_count_6 0 rfl rfl)
theorem dX3_count_151 : decode cX3_count 151 = .ok (.iconst (-1), 1) := dk_2 (dk_at dksX3_count_6 1 rfl rfl)
theorem dX3_count_152 : decode cX3_count 152 = .ok (.if_icmp .ne 7, 3) := dk_160 0 7 (dk_at dksX3_count_6 2 rfl rfl)
theorem dX3_count_155 : decode cX3_count 155 = .ok (.iconst 0, 1) := dk_3 (dk_at dksX3_count_6 5 rfl rfl)
theorem dX3_count_156 : decode cX3_count 156 = .ok (.goto 4, 3) := dk_167 0 4 (dk_at dksX3_count_6 6 rfl rfl)
theorem dX3_count_159 : decode cX3_count 159 = .ok (.iconst 1, 1) := dk_4 (dk_at dksX3_count_6 9 rfl rfl)
theorem dX3_count_160 : decode cX3_count 160 = .ok (.iadd, 1) := dk_96 (dk_at dksX3_count_6 10 rfl rfl)
theorem dX3_count_161 : decode cX3_count 161 = .ok (.istore_n 2, 1) := dk_61 (dk_at dksX3_count_6 11 rfl rfl)
theorem dX3_count_162 : decode cX3_count 162 = .ok (.iinc 3 1, 3) := dk_132 3 1 (dk_at dksX3_count_6 12 rfl rfl)
theorem dX3_count_165 : decode cX3_count 165 = .ok (.goto (-26), 3) := dk_167 255 230 (dk_at dksX3_count_6 15 rfl rfl)
theorem dX3_count_168 : decode cX3_count 168 = .ok (.iload_n 2, 1) := dk_28 (dk_at dksX3_count_6 18 rfl rfl)
theorem dX3_count_169 : decode cX3_count 169 = .ok (.ireturn, 1) := dk_172 (dk_at dksX3_count_6 19 rfl rfl)
theorem dX3_count_170 : decode cX3_count 170 = .ok (.iconst (-1), 1) := dk_2 (dk_at dksX3_count_6 20 rfl rfl)
theorem dX3_count_171 : decode cX3_count 171 = .ok (.ireturn, 1) := dk_172 (dk_at dksX3_count_6 21 rfl rfl)
abbrev cX3_image : ByteArray := prog_14_method_144_code
def yX3_image : MethodName := ⟨RX3, "image", "(I)I"⟩
def dkwX3_image_1 : List UInt8 := [96, 182, 0, 199, 42, 180, 0, 43, 27, 4, 84, 3, 172]
abbrev dktX3_image_1 : List UInt8 := dkwX3_image_1 ++ []
def dkwX3_image_0 : List UInt8 := [42, 3, 181, 0, 59, 27, 133, 9, 20, 1, 152, 184, 0, 64, 154, 0, 6, 16, 254, 172, 42, 3, 4, 27]
abbrev dktX3_image_0 : List UInt8 := dkwX3_image_0 ++ dktX3_image_1
theorem dksX3_image_0 : cX3_image.data.toList.drop 0 = dktX3_image_0 := by decide +kernel
theorem dksX3_image_1 : cX3_image.data.toList.drop 24 = dktX3_image_1 := dk_seg dksX3_image_0 24 rfl rfl
theorem dX3_image_0 : decode cX3_image 0 = .ok (.aload_n 0, 1) := dk_42 (dk_at dksX3_image_0 0 rfl rfl)
theorem dX3_image_1 : decode cX3_image 1 = .ok (.iconst 0, 1) := dk_3 (dk_at dksX3_image_0 1 rfl rfl)
theorem dX3_image_2 : decode cX3_image 2 = .ok (.putfield 59, 3) := dk_181 0 59 (dk_at dksX3_image_0 2 rfl rfl)
theorem dX3_image_5 : decode cX3_image 5 = .ok (.iload_n 1, 1) := dk_27 (dk_at dksX3_image_0 5 rfl rfl)
theorem dX3_image_6 : decode cX3_image 6 = .ok (.i2l, 1) := dk_133 (dk_at dksX3_image_0 6 rfl rfl)
theorem dX3_image_7 : decode cX3_image 7 = .ok (.lconst 0, 1) := dk_9 (dk_at dksX3_image_0 7 rfl rfl)
theorem dX3_image_8 : decode cX3_image 8 = .ok (.ldc2_w 408, 3) := dk_20 1 152 (dk_at dksX3_image_0 8 rfl rfl)
theorem dX3_image_11 : decode cX3_image 11 = .ok (.invokestatic 64, 3) := dk_184 0 64 (dk_at dksX3_image_0 11 rfl rfl)
theorem dX3_image_14 : decode cX3_image 14 = .ok (.ifCond .ne 6, 3) := dk_154 0 6 (dk_at dksX3_image_0 14 rfl rfl)
theorem dX3_image_17 : decode cX3_image 17 = .ok (.bipush (-2), 2) := dk_16 254 (dk_at dksX3_image_0 17 rfl rfl)
theorem dX3_image_19 : decode cX3_image 19 = .ok (.ireturn, 1) := dk_172 (dk_at dksX3_image_0 19 rfl rfl)
theorem dX3_image_20 : decode cX3_image 20 = .ok (.aload_n 0, 1) := dk_42 (dk_at dksX3_image_0 20 rfl rfl)
theorem dX3_image_21 : decode cX3_image 21 = .ok (.iconst 0, 1) := dk_3 (dk_at dksX3_image_0 21 rfl rfl)
theorem dX3_image_22 : decode cX3_image 22 = .ok (.iconst 1, 1) := dk_4 (dk_at dksX3_image_0 22 rfl rfl)
theorem dX3_image_23 : decode cX3_image 23 = .ok (.iload_n 1, 1) := dk_27 (dk_at dksX3_image_0 23 rfl rfl)
theorem dX3_image_24 : decode cX3_image 24 = .ok (.iadd, 1) := dk_96 (dk_at dksX3_image_1 0 rfl rfl)
theorem dX3_image_25 : decode cX3_image 25 = .ok (.invokevirtual 199, 3) := dk_182 0 199 (dk_at dksX3_image_1 1 rfl rfl)
theorem dX3_image_28 : decode cX3_image 28 = .ok (.aload_n 0, 1) := dk_42 (dk_at dksX3_image_1 4 rfl rfl)
theorem dX3_image_29 : decode cX3_image 29 = .ok (.getfield 43, 3) := dk_180 0 43 (dk_at dksX3_image_1 5 rfl rfl)
theorem dX3_image_32 : decode cX3_image 32 = .ok (.iload_n 1, 1) := dk_27 (dk_at dksX3_image_1 8 rfl rfl)
theorem dX3_image_33 : decode cX3_image 33 = .ok (.iconst 1, 1) := dk_4 (dk_at dksX3_image_1 9 rfl rfl)
theorem dX3_image_34 : decode cX3_image 34 = .ok (.bastore, 1) := dk_84 (dk_at dksX3_image_1 10 rfl rfl)
theorem dX3_image_35 : decode cX3_image 35 = .ok (.iconst 0, 1) := dk_3 (dk_at dksX3_image_1 11 rfl rfl)
theorem dX3_image_36 : decode cX3_image 36 = .ok (.ireturn, 1) := dk_172 (dk_at dksX3_image_1 12 rfl rfl)
abbrev cX3_back : ByteArray := prog_14_method_145_code
def yX3_back : MethodName := ⟨RX3, "back", "(I)I"⟩
def dkwX3_back_1 : List UInt8 := [27, 51, 154, 0, 6, 16, 250, 172, 42, 4, 27, 96, 3, 182, 0, 199, 3, 172]
abbrev dktX3_back_1 : List UInt8 := dkwX3_back_1 ++ []
def dkwX3_back_0 : List UInt8 := [42, 3, 181, 0, 59, 27, 133, 9, 20, 1, 152, 184, 0, 64, 154, 0, 6, 16, 254, 172, 42, 180, 0, 43]
abbrev dktX3_back_0 : List UInt8 := dkwX3_back_0 ++ dktX3_back_1
theorem dksX3_back_0 : cX3_back.data.toList.drop 0 = dktX3_back_0 := by decide +kernel
theorem dksX3_back_1 : cX3_back.data.toList.drop 24 = dktX3_back_1 := dk_seg dksX3_back_0 24 rfl rfl
theorem dX3_back_0 : decode cX3_back 0 = .ok (.aload_n 0, 1) := dk_42 (dk_at dksX3_back_0 0 rfl rfl)
theorem dX3_back_1 : decode cX3_back 1 = .ok (.iconst 0, 1) := dk_3 (dk_at dksX3_back_0 1 rfl rfl)
theorem dX3_back_2 : decode cX3_back 2 = .ok (.putfield 59, 3) := dk_181 0 59 (dk_at dksX3_back_0 2 rfl rfl)
theorem dX3_back_5 : decode cX3_back 5 = .ok (.iload_n 1, 1) := dk_27 (dk_at dksX3_back_0 5 rfl rfl)
theorem dX3_back_6 : decode cX3_back 6 = .ok (.i2l, 1) := dk_133 (dk_at dksX3_back_0 6 rfl rfl)
theorem dX3_back_7 : decode cX3_back 7 = .ok (.lconst 0, 1) := dk_9 (dk_at dksX3_back_0 7 rfl rfl)
theorem dX3_back_8 : decode cX3_back 8 = .ok (.ldc2_w 408, 3) := dk_20 1 152 (dk_at dksX3_back_0 8 rfl rfl)
theorem dX3_back_11 : decode cX3_back 11 = .ok (.invokestatic 64, 3) := dk_184 0 64 (dk_at dksX3_back_0 11 rfl rfl)
theorem dX3_back_14 : decode cX3_back 14 = .ok (.ifCond .ne 6, 3) := dk_154 0 6 (dk_at dksX3_back_0 14 rfl rfl)
theorem dX3_back_17 : decode cX3_back 17 = .ok (.bipush (-2), 2) := dk_16 254 (dk_at dksX3_back_0 17 rfl rfl)
theorem dX3_back_19 : decode cX3_back 19 = .ok (.ireturn, 1) := dk_172 (dk_at dksX3_back_0 19 rfl rfl)
theorem dX3_back_20 : decode cX3_back 20 = .ok (.aload_n 0, 1) := dk_42 (dk_at dksX3_back_0 20 rfl rfl)
theorem dX3_back_21 : decode cX3_back 21 = .ok (.getfield 43, 3) := dk_180 0 43 (dk_at dksX3_back_0 21 rfl rfl)
theorem dX3_back_24 : decode cX3_back 24 = .ok (.iload_n 1, 1) := dk_27 (dk_at dksX3_back_1 0 rfl rfl)
theorem dX3_back_25 : decode cX3_back 25 = .ok (.baload, 1) := dk_51 (dk_at dksX3_back_1 1 rfl rfl)
theorem dX3_back_26 : decode cX3_back 26 = .ok (.ifCond .ne 6, 3) := dk_154 0 6 (dk_at dksX3_back_1 2 rfl rfl)
theorem dX3_back_29 : decode cX3_back 29 = .ok (.bipush (-6), 2) := dk_16 250 (dk_at dksX3_back_1 5 rfl rfl)
theorem dX3_back_31 : decode cX3_back 31 = .ok (.ireturn, 1) := dk_172 (dk_at dksX3_back_1 7 rfl rfl)
theorem dX3_back_32 : decode cX3_back 32 = .ok (.aload_n 0, 1) := dk_42 (dk_at dksX3_back_1 8 rfl rfl)
theorem dX3_back_33 : decode cX3_back 33 = .ok (.iconst 1, 1) := dk_4 (dk_at dksX3_back_1 9 rfl rfl)
theorem dX3_back_34 : decode cX3_back 34 = .ok (.iload_n 1, 1) := dk_27 (dk_at dksX3_back_1 10 rfl rfl)
theorem dX3_back_35 : decode cX3_back 35 = .ok (.iadd, 1) := dk_96 (dk_at dksX3_back_1 11 rfl rfl)
theorem dX3_back_36 : decode cX3_back 36 = .ok (.iconst 0, 1) := dk_3 (dk_at dksX3_back_1 12 rfl rfl)
theorem dX3_back_37 : decode cX3_back 37 = .ok (.invokevirtual 199, 3) := dk_182 0 199 (dk_at dksX3_back_1 13 rfl rfl)
theorem dX3_back_40 : decode cX3_back 40 = .ok (.iconst 0, 1) := dk_3 (dk_at dksX3_back_1 16 rfl rfl)
theorem dX3_back_41 : decode cX3_back 41 = .ok (.ireturn, 1) := dk_172 (dk_at dksX3_back_1 17 rfl rfl)
theorem q142 : (Jvm.Cond.initialized "CardHolderModel") ∈ lw_all := lw_g (lw_at lw_m1 7 rfl) rfl
theorem q722 : (Jvm.Cond.selects "CardHolderModel" ({ cls := "java/lang/Object", name := "getClass", desc := "()Ljava/lang/Class;" } : Jvm.MethodName) ({ cls := "java/lang/Object", name := "getClass", desc := "()Ljava/lang/Class;" } : Jvm.MethodName)) ∈ lw_all := lw_g (lw_at lw_m3 107 rfl) rfl
theorem q1389 : (Jvm.Cond.instantiable "CardHolderModel" (31 : Nat)) ∈ lw_all := lw_g (lw_at lw_m6 54 rfl) rfl
theorem q1391 : (Jvm.Cond.instanceMethod ({ cls := "CardHolderModel", name := "<init>", desc := "()V" } : Jvm.MethodName)) ∈ lw_all := lw_g (lw_at lw_m6 56 rfl) rfl
theorem q1392 : (Jvm.Cond.code ({ cls := "CardHolderModel", name := "<init>", desc := "()V" } : Jvm.MethodName) prog_14_method_1_code (2 : Nat) (Option.none : Option Jvm.ClassFile.FieldType)) ∈ lw_all := lw_g (lw_at lw_m6 57 rfl) rfl
theorem q1393 : (Jvm.Cond.methodLink "CardHolderModel" (1 : Nat) ({ cls := "java/lang/Object", name := "<init>", desc := "()V" } : Jvm.MethodName)) ∈ lw_all := lw_g (lw_at lw_m6 58 rfl) rfl
theorem q1394 : (Jvm.Cond.fieldLink "CardHolderModel" (59 : Nat) "CardHolderModel" "thrown" "I") ∈ lw_all := lw_g (lw_at lw_m6 59 rfl) rfl
theorem q1395 : (Jvm.Cond.fieldLink "CardHolderModel" (7 : Nat) "CardHolderModel" "width" "[I") ∈ lw_all := lw_g (lw_at lw_m6 60 rfl) rfl
theorem q1396 : (Jvm.Cond.fieldLink "CardHolderModel" (13 : Nat) "CardHolderModel" "many" "[I") ∈ lw_all := lw_g (lw_at lw_m6 61 rfl) rfl
theorem q1397 : (Jvm.Cond.fieldLink "CardHolderModel" (16 : Nat) "CardHolderModel" "cells" "[J") ∈ lw_all := lw_g (lw_at lw_m6 62 rfl) rfl
theorem q1398 : (Jvm.Cond.fieldLink "CardHolderModel" (20 : Nat) "CardHolderModel" "moved" "[J") ∈ lw_all := lw_g (lw_at lw_m6 63 rfl) rfl
theorem q1399 : (Jvm.Cond.fieldLink "CardHolderModel" (23 : Nat) "CardHolderModel" "tape" "[B") ∈ lw_all := lw_g (lw_at lw_m6 64 rfl) rfl
theorem q1400 : (Jvm.Cond.fieldLink "CardHolderModel" (76 : Nat) "CardHolderModel" "taped" "I") ∈ lw_all := lw_g (lw_at lw_m6 65 rfl) rfl
theorem q1401 : (Jvm.Cond.fieldLink "CardHolderModel" (83 : Nat) "CardHolderModel" "at" "I") ∈ lw_all := lw_g (lw_at lw_m6 66 rfl) rfl
theorem q1402 : (Jvm.Cond.fieldLink "CardHolderModel" (100 : Nat) "CardHolderModel" "token" "I") ∈ lw_all := lw_g (lw_at lw_m6 67 rfl) rfl
theorem q1403 : (Jvm.Cond.fieldLink "CardHolderModel" (90 : Nat) "CardHolderModel" "place" "I") ∈ lw_all := lw_g (lw_at lw_m6 68 rfl) rfl
theorem q1404 : (Jvm.Cond.fieldLink "CardHolderModel" (93 : Nat) "CardHolderModel" "value" "I") ∈ lw_all := lw_g (lw_at lw_m6 69 rfl) rfl
theorem q1405 : (Jvm.Cond.fieldLink "CardHolderModel" (96 : Nat) "CardHolderModel" "word" "J") ∈ lw_all := lw_g (lw_at lw_m6 70 rfl) rfl
theorem q1406 : (Jvm.Cond.fieldLink "CardHolderModel" (111 : Nat) "CardHolderModel" "bad" "I") ∈ lw_all := lw_g (lw_at lw_m6 71 rfl) rfl
theorem q1407 : (Jvm.Cond.fieldLink "CardHolderModel" (114 : Nat) "CardHolderModel" "badPlace" "I") ∈ lw_all := lw_g (lw_at lw_m6 72 rfl) rfl
theorem q1408 : (Jvm.Cond.fieldLink "CardHolderModel" (138 : Nat) "CardHolderModel" "fault" "I") ∈ lw_all := lw_g (lw_at lw_m6 73 rfl) rfl
theorem q1409 : (Jvm.Cond.fieldLink "CardHolderModel" (27 : Nat) "CardHolderModel" "faultPlace" "I") ∈ lw_all := lw_g (lw_at lw_m6 74 rfl) rfl
theorem q1410 : (Jvm.Cond.fieldLink "CardHolderModel" (31 : Nat) "CardHolderModel" "lines" "[I") ∈ lw_all := lw_g (lw_at lw_m6 75 rfl) rfl
theorem q1411 : (Jvm.Cond.fieldLink "CardHolderModel" (34 : Nat) "CardHolderModel" "has" "[I") ∈ lw_all := lw_g (lw_at lw_m6 76 rfl) rfl
theorem q1412 : (Jvm.Cond.fieldLink "CardHolderModel" (37 : Nat) "CardHolderModel" "person" "[I") ∈ lw_all := lw_g (lw_at lw_m6 77 rfl) rfl
theorem q1413 : (Jvm.Cond.fieldLink "CardHolderModel" (40 : Nat) "CardHolderModel" "act" "[I") ∈ lw_all := lw_g (lw_at lw_m6 78 rfl) rfl
theorem q1414 : (Jvm.Cond.fieldLink "CardHolderModel" (43 : Nat) "CardHolderModel" "isKept" "[Z") ∈ lw_all := lw_g (lw_at lw_m6 79 rfl) rfl
theorem q1415 : (Jvm.Cond.fieldLink "CardHolderModel" (47 : Nat) "CardHolderModel" "holder" "[I") ∈ lw_all := lw_g (lw_at lw_m6 80 rfl) rfl
theorem q1416 : (Jvm.Cond.fieldLink "CardHolderModel" (50 : Nat) "CardHolderModel" "worn" "[I") ∈ lw_all := lw_g (lw_at lw_m6 81 rfl) rfl
theorem q1417 : (Jvm.Cond.fieldLink "CardHolderModel" (53 : Nat) "CardHolderModel" "had" "[I") ∈ lw_all := lw_g (lw_at lw_m6 82 rfl) rfl
theorem q1418 : (Jvm.Cond.fieldLink "CardHolderModel" (217 : Nat) "CardHolderModel" "asked" "I") ∈ lw_all := lw_g (lw_at lw_m6 83 rfl) rfl
theorem q1419 : (Jvm.Cond.fieldLink "CardHolderModel" (220 : Nat) "CardHolderModel" "stolen" "I") ∈ lw_all := lw_g (lw_at lw_m6 84 rfl) rfl
theorem q1420 : (Jvm.Cond.fieldLink "CardHolderModel" (223 : Nat) "CardHolderModel" "dayNow" "I") ∈ lw_all := lw_g (lw_at lw_m6 85 rfl) rfl
theorem q1421 : (Jvm.Cond.fieldLink "CardHolderModel" (226 : Nat) "CardHolderModel" "done" "I") ∈ lw_all := lw_g (lw_at lw_m6 86 rfl) rfl
theorem q1422 : (Jvm.Cond.fieldLink "CardHolderModel" (56 : Nat) "CardHolderModel" "most" "[I") ∈ lw_all := lw_g (lw_at lw_m6 87 rfl) rfl
theorem q1423 : (Jvm.Cond.fieldLink "CardHolderModel" (343 : Nat) "CardHolderModel" "watchBest" "I") ∈ lw_all := lw_g (lw_at lw_m6 88 rfl) rfl
theorem q1424 : (Jvm.Cond.fieldLink "CardHolderModel" (346 : Nat) "CardHolderModel" "watchLeaves" "I") ∈ lw_all := lw_g (lw_at lw_m6 89 rfl) rfl
theorem q1425 : (Jvm.Cond.lays "CardHolderModel" "CardHolderModel" "thrown" "I") ∈ lw_all := lw_g (lw_at lw_m6 90 rfl) rfl
theorem q1426 : (Jvm.Cond.soleField "CardHolderModel" "thrown") ∈ lw_all := lw_g (lw_at lw_m6 91 rfl) rfl
theorem q1427 : (Jvm.Cond.laysFinal "CardHolderModel" "CardHolderModel" "width" "[I") ∈ lw_all := lw_g (lw_at lw_m6 92 rfl) rfl
theorem q1428 : (Jvm.Cond.soleField "CardHolderModel" "width") ∈ lw_all := lw_g (lw_at lw_m6 93 rfl) rfl
theorem q1429 : (Jvm.Cond.laysFinal "CardHolderModel" "CardHolderModel" "many" "[I") ∈ lw_all := lw_g (lw_at lw_m6 94 rfl) rfl
theorem q1430 : (Jvm.Cond.soleField "CardHolderModel" "many") ∈ lw_all := lw_g (lw_at lw_m6 95 rfl) rfl
theorem q1431 : (Jvm.Cond.laysFinal "CardHolderModel" "CardHolderModel" "cells" "[J") ∈ lw_all := lw_g (lw_at lw_m6 96 rfl) rfl
theorem q1432 : (Jvm.Cond.soleField "CardHolderModel" "cells") ∈ lw_all := lw_g (lw_at lw_m6 97 rfl) rfl
theorem q1433 : (Jvm.Cond.laysFinal "CardHolderModel" "CardHolderModel" "moved" "[J") ∈ lw_all := lw_g (lw_at lw_m6 98 rfl) rfl
theorem q1434 : (Jvm.Cond.soleField "CardHolderModel" "moved") ∈ lw_all := lw_g (lw_at lw_m6 99 rfl) rfl
theorem q1435 : (Jvm.Cond.laysFinal "CardHolderModel" "CardHolderModel" "tape" "[B") ∈ lw_all := lw_g (lw_at lw_m6 100 rfl) rfl
theorem q1436 : (Jvm.Cond.soleField "CardHolderModel" "tape") ∈ lw_all := lw_g (lw_at lw_m6 101 rfl) rfl
theorem q1437 : (Jvm.Cond.lays "CardHolderModel" "CardHolderModel" "taped" "I") ∈ lw_all := lw_g (lw_at lw_m6 102 rfl) rfl
theorem q1438 : (Jvm.Cond.soleField "CardHolderModel" "taped") ∈ lw_all := lw_g (lw_at lw_m6 103 rfl) rfl
theorem q1439 : (Jvm.Cond.lays "CardHolderModel" "CardHolderModel" "at" "I") ∈ lw_all := lw_g (lw_at lw_m6 104 rfl) rfl
theorem q1440 : (Jvm.Cond.soleField "CardHolderModel" "at") ∈ lw_all := lw_g (lw_at lw_m6 105 rfl) rfl
theorem q1441 : (Jvm.Cond.lays "CardHolderModel" "CardHolderModel" "token" "I") ∈ lw_all := lw_g (lw_at lw_m6 106 rfl) rfl
theorem q1442 : (Jvm.Cond.soleField "CardHolderModel" "token") ∈ lw_all := lw_g (lw_at lw_m6 107 rfl) rfl
theorem q1443 : (Jvm.Cond.lays "CardHolderModel" "CardHolderModel" "place" "I") ∈ lw_all := lw_g (lw_at lw_m6 108 rfl) rfl
theorem q1444 : (Jvm.Cond.soleField "CardHolderModel" "place") ∈ lw_all := lw_g (lw_at lw_m6 109 rfl) rfl
theorem q1445 : (Jvm.Cond.lays "CardHolderModel" "CardHolderModel" "value" "I") ∈ lw_all := lw_g (lw_at lw_m6 110 rfl) rfl
theorem q1446 : (Jvm.Cond.soleField "CardHolderModel" "value") ∈ lw_all := lw_g (lw_at lw_m6 111 rfl) rfl
theorem q1447 : (Jvm.Cond.lays "CardHolderModel" "CardHolderModel" "word" "J") ∈ lw_all := lw_g (lw_at lw_m6 112 rfl) rfl
theorem q1448 : (Jvm.Cond.soleField "CardHolderModel" "word") ∈ lw_all := lw_g (lw_at lw_m6 113 rfl) rfl
theorem q1449 : (Jvm.Cond.lays "CardHolderModel" "CardHolderModel" "bad" "I") ∈ lw_all := lw_g (lw_at lw_m6 114 rfl) rfl
theorem q1450 : (Jvm.Cond.soleField "CardHolderModel" "bad") ∈ lw_all := lw_g (lw_at lw_m6 115 rfl) rfl
theorem q1451 : (Jvm.Cond.lays "CardHolderModel" "CardHolderModel" "badPlace" "I") ∈ lw_all := lw_g (lw_at lw_m6 116 rfl) rfl
theorem q1452 : (Jvm.Cond.soleField "CardHolderModel" "badPlace") ∈ lw_all := lw_g (lw_at lw_m6 117 rfl) rfl
theorem q1453 : (Jvm.Cond.lays "CardHolderModel" "CardHolderModel" "fault" "I") ∈ lw_all := lw_g (lw_at lw_m6 118 rfl) rfl
theorem q1454 : (Jvm.Cond.soleField "CardHolderModel" "fault") ∈ lw_all := lw_g (lw_at lw_m6 119 rfl) rfl
theorem q1455 : (Jvm.Cond.lays "CardHolderModel" "CardHolderModel" "faultPlace" "I") ∈ lw_all := lw_g (lw_at lw_m6 120 rfl) rfl
theorem q1456 : (Jvm.Cond.soleField "CardHolderModel" "faultPlace") ∈ lw_all := lw_g (lw_at lw_m6 121 rfl) rfl
theorem q1457 : (Jvm.Cond.laysFinal "CardHolderModel" "CardHolderModel" "lines" "[I") ∈ lw_all := lw_g (lw_at lw_m6 122 rfl) rfl
theorem q1458 : (Jvm.Cond.soleField "CardHolderModel" "lines") ∈ lw_all := lw_g (lw_at lw_m6 123 rfl) rfl
theorem q1459 : (Jvm.Cond.laysFinal "CardHolderModel" "CardHolderModel" "has" "[I") ∈ lw_all := lw_g (lw_at lw_m6 124 rfl) rfl
theorem q1460 : (Jvm.Cond.soleField "CardHolderModel" "has") ∈ lw_all := lw_g (lw_at lw_m6 125 rfl) rfl
theorem q1461 : (Jvm.Cond.laysFinal "CardHolderModel" "CardHolderModel" "person" "[I") ∈ lw_all := lw_g (lw_at lw_m6 126 rfl) rfl
theorem q1462 : (Jvm.Cond.soleField "CardHolderModel" "person") ∈ lw_all := lw_g (lw_at lw_m6 127 rfl) rfl
theorem q1463 : (Jvm.Cond.laysFinal "CardHolderModel" "CardHolderModel" "act" "[I") ∈ lw_all := lw_g (lw_at lw_m6 128 rfl) rfl
theorem q1464 : (Jvm.Cond.soleField "CardHolderModel" "act") ∈ lw_all := lw_g (lw_at lw_m6 129 rfl) rfl
theorem q1465 : (Jvm.Cond.laysFinal "CardHolderModel" "CardHolderModel" "isKept" "[Z") ∈ lw_all := lw_g (lw_at lw_m6 130 rfl) rfl
theorem q1466 : (Jvm.Cond.soleField "CardHolderModel" "isKept") ∈ lw_all := lw_g (lw_at lw_m6 131 rfl) rfl
theorem q1467 : (Jvm.Cond.laysFinal "CardHolderModel" "CardHolderModel" "holder" "[I") ∈ lw_all := lw_g (lw_at lw_m6 132 rfl) rfl
theorem q1468 : (Jvm.Cond.soleField "CardHolderModel" "holder") ∈ lw_all := lw_g (lw_at lw_m6 133 rfl) rfl
theorem q1469 : (Jvm.Cond.laysFinal "CardHolderModel" "CardHolderModel" "worn" "[I") ∈ lw_all := lw_g (lw_at lw_m6 134 rfl) rfl
theorem q1470 : (Jvm.Cond.soleField "CardHolderModel" "worn") ∈ lw_all := lw_g (lw_at lw_m6 135 rfl) rfl
theorem q1471 : (Jvm.Cond.laysFinal "CardHolderModel" "CardHolderModel" "had" "[I") ∈ lw_all := lw_g (lw_at lw_m6 136 rfl) rfl
theorem q1472 : (Jvm.Cond.soleField "CardHolderModel" "had") ∈ lw_all := lw_g (lw_at lw_m6 137 rfl) rfl
theorem q1473 : (Jvm.Cond.lays "CardHolderModel" "CardHolderModel" "asked" "I") ∈ lw_all := lw_g (lw_at lw_m6 138 rfl) rfl
theorem q1474 : (Jvm.Cond.soleField "CardHolderModel" "asked") ∈ lw_all := lw_g (lw_at lw_m6 139 rfl) rfl
theorem q1475 : (Jvm.Cond.lays "CardHolderModel" "CardHolderModel" "stolen" "I") ∈ lw_all := lw_g (lw_at lw_m6 140 rfl) rfl
theorem q1476 : (Jvm.Cond.soleField "CardHolderModel" "stolen") ∈ lw_all := lw_g (lw_at lw_m6 141 rfl) rfl
theorem q1477 : (Jvm.Cond.lays "CardHolderModel" "CardHolderModel" "dayNow" "I") ∈ lw_all := lw_g (lw_at lw_m6 142 rfl) rfl
theorem q1478 : (Jvm.Cond.soleField "CardHolderModel" "dayNow") ∈ lw_all := lw_g (lw_at lw_m6 143 rfl) rfl
theorem q1479 : (Jvm.Cond.lays "CardHolderModel" "CardHolderModel" "done" "I") ∈ lw_all := lw_g (lw_at lw_m6 144 rfl) rfl
theorem q1480 : (Jvm.Cond.soleField "CardHolderModel" "done") ∈ lw_all := lw_g (lw_at lw_m6 145 rfl) rfl
theorem q1481 : (Jvm.Cond.laysFinal "CardHolderModel" "CardHolderModel" "most" "[I") ∈ lw_all := lw_g (lw_at lw_m6 146 rfl) rfl
theorem q1482 : (Jvm.Cond.soleField "CardHolderModel" "most") ∈ lw_all := lw_g (lw_at lw_m6 147 rfl) rfl
theorem q1483 : (Jvm.Cond.lays "CardHolderModel" "CardHolderModel" "watchBest" "I") ∈ lw_all := lw_g (lw_at lw_m6 148 rfl) rfl
theorem q1484 : (Jvm.Cond.soleField "CardHolderModel" "watchBest") ∈ lw_all := lw_g (lw_at lw_m6 149 rfl) rfl
theorem q1485 : (Jvm.Cond.lays "CardHolderModel" "CardHolderModel" "watchLeaves" "I") ∈ lw_all := lw_g (lw_at lw_m6 150 rfl) rfl
theorem q1486 : (Jvm.Cond.soleField "CardHolderModel" "watchLeaves") ∈ lw_all := lw_g (lw_at lw_m6 151 rfl) rfl
theorem q1487 : (Jvm.Cond.superclass "CardHolderModel" "java/lang/Object") ∈ lw_all := lw_g (lw_at lw_m6 152 rfl) rfl
theorem q1490 : (Jvm.Cond.instanceMethod ({ cls := "CardHolderModel", name := "row", desc := "(III)I" } : Jvm.MethodName)) ∈ lw_all := lw_g (lw_at lw_m6 155 rfl) rfl
theorem q1491 : (Jvm.Cond.selects "CardHolderModel" ({ cls := "CardHolderModel", name := "row", desc := "(III)I" } : Jvm.MethodName) ({ cls := "CardHolderModel", name := "row", desc := "(III)I" } : Jvm.MethodName)) ∈ lw_all := lw_g (lw_at lw_m6 156 rfl) rfl
theorem q1492 : (Jvm.Cond.code ({ cls := "CardHolderModel", name := "row", desc := "(III)I" } : Jvm.MethodName) prog_14_method_5_code (5 : Nat) (Option.some Jvm.ClassFile.FieldType.int)) ∈ lw_all := lw_g (lw_at lw_m6 157 rfl) rfl
theorem q1493 : (Jvm.Cond.methodLink "CardHolderModel" (68 : Nat) ({ cls := "CardHolderModel", name := "isSlot", desc := "(I)Z" } : Jvm.MethodName)) ∈ lw_all := lw_g (lw_at lw_m6 158 rfl) rfl
theorem q1494 : (Jvm.Cond.static ({ cls := "CardHolderModel", name := "isSlot", desc := "(I)Z" } : Jvm.MethodName)) ∈ lw_all := lw_g (lw_at lw_m6 159 rfl) rfl
theorem q1495 : (Jvm.Cond.code ({ cls := "CardHolderModel", name := "isSlot", desc := "(I)Z" } : Jvm.MethodName) prog_14_method_4_code (1 : Nat) (Option.some Jvm.ClassFile.FieldType.boolean)) ∈ lw_all := lw_g (lw_at lw_m6 160 rfl) rfl
theorem q1496 : (Jvm.Cond.constantLong "CardHolderModel" (62 : Nat) (3 : Int64)) ∈ lw_all := lw_g (lw_at lw_m6 161 rfl) rfl
theorem q1497 : (Jvm.Cond.methodLink "CardHolderModel" (64 : Nat) ({ cls := "CardHolderModel", name := "in", desc := "(JJJ)Z" } : Jvm.MethodName)) ∈ lw_all := lw_g (lw_at lw_m6 162 rfl) rfl
theorem q1498 : (Jvm.Cond.static ({ cls := "CardHolderModel", name := "in", desc := "(JJJ)Z" } : Jvm.MethodName)) ∈ lw_all := lw_g (lw_at lw_m6 163 rfl) rfl
theorem q1499 : (Jvm.Cond.code ({ cls := "CardHolderModel", name := "in", desc := "(JJJ)Z" } : Jvm.MethodName) prog_14_method_3_code (6 : Nat) (Option.some Jvm.ClassFile.FieldType.boolean)) ∈ lw_all := lw_g (lw_at lw_m6 164 rfl) rfl
theorem q1501 : (Jvm.Cond.instanceMethod ({ cls := "CardHolderModel", name := "write", desc := "(IIJ)I" } : Jvm.MethodName)) ∈ lw_all := lw_g (lw_at lw_m6 166 rfl) rfl
theorem q1502 : (Jvm.Cond.selects "CardHolderModel" ({ cls := "CardHolderModel", name := "write", desc := "(IIJ)I" } : Jvm.MethodName) ({ cls := "CardHolderModel", name := "write", desc := "(IIJ)I" } : Jvm.MethodName)) ∈ lw_all := lw_g (lw_at lw_m6 167 rfl) rfl
theorem q1503 : (Jvm.Cond.code ({ cls := "CardHolderModel", name := "write", desc := "(IIJ)I" } : Jvm.MethodName) prog_14_method_7_code (5 : Nat) (Option.some Jvm.ClassFile.FieldType.int)) ∈ lw_all := lw_g (lw_at lw_m6 168 rfl) rfl
theorem q1504 : (Jvm.Cond.methodLink "CardHolderModel" (72 : Nat) ({ cls := "CardHolderModel", name := "cut", desc := "(JI)J" } : Jvm.MethodName)) ∈ lw_all := lw_g (lw_at lw_m6 169 rfl) rfl
theorem q1505 : (Jvm.Cond.static ({ cls := "CardHolderModel", name := "cut", desc := "(JI)J" } : Jvm.MethodName)) ∈ lw_all := lw_g (lw_at lw_m6 170 rfl) rfl
theorem q1506 : (Jvm.Cond.code ({ cls := "CardHolderModel", name := "cut", desc := "(JI)J" } : Jvm.MethodName) prog_14_method_6_code (3 : Nat) (Option.some Jvm.ClassFile.FieldType.long)) ∈ lw_all := lw_g (lw_at lw_m6 171 rfl) rfl
theorem q1508 : (Jvm.Cond.instanceMethod ({ cls := "CardHolderModel", name := "paste", desc := "(IIIII)I" } : Jvm.MethodName)) ∈ lw_all := lw_g (lw_at lw_m6 173 rfl) rfl
theorem q1509 : (Jvm.Cond.selects "CardHolderModel" ({ cls := "CardHolderModel", name := "paste", desc := "(IIIII)I" } : Jvm.MethodName) ({ cls := "CardHolderModel", name := "paste", desc := "(IIIII)I" } : Jvm.MethodName)) ∈ lw_all := lw_g (lw_at lw_m6 174 rfl) rfl
theorem q1510 : (Jvm.Cond.code ({ cls := "CardHolderModel", name := "paste", desc := "(IIIII)I" } : Jvm.MethodName) prog_14_method_8_code (7 : Nat) (Option.some Jvm.ClassFile.FieldType.int)) ∈ lw_all := lw_g (lw_at lw_m6 175 rfl) rfl
theorem q1512 : (Jvm.Cond.instanceMethod ({ cls := "CardHolderModel", name := "feed", desc := "(IIIII)I" } : Jvm.MethodName)) ∈ lw_all := lw_g (lw_at lw_m6 177 rfl) rfl
theorem q1513 : (Jvm.Cond.selects "CardHolderModel" ({ cls := "CardHolderModel", name := "feed", desc := "(IIIII)I" } : Jvm.MethodName) ({ cls := "CardHolderModel", name := "feed", desc := "(IIIII)I" } : Jvm.MethodName)) ∈ lw_all := lw_g (lw_at lw_m6 178 rfl) rfl
theorem q1514 : (Jvm.Cond.code ({ cls := "CardHolderModel", name := "feed", desc := "(IIIII)I" } : Jvm.MethodName) prog_14_method_9_code (6 : Nat) (Option.some Jvm.ClassFile.FieldType.int)) ∈ lw_all := lw_g (lw_at lw_m6 179 rfl) rfl
theorem q1515 : (Jvm.Cond.methodLink "CardHolderModel" (79 : Nat) ({ cls := "CardHolderModel", name := "four", desc := "(I)V" } : Jvm.MethodName)) ∈ lw_all := lw_g (lw_at lw_m6 180 rfl) rfl
theorem q1516 : (Jvm.Cond.privateMethod ({ cls := "CardHolderModel", name := "four", desc := "(I)V" } : Jvm.MethodName)) ∈ lw_tbl := lw_at lw_m6 181 rfl
theorem q1517 : (Jvm.Cond.instanceMethod ({ cls := "CardHolderModel", name := "four", desc := "(I)V" } : Jvm.MethodName)) ∈ lw_all := lw_g (lw_at lw_m6 182 rfl) rfl
theorem q1518 : (Jvm.Cond.code ({ cls := "CardHolderModel", name := "four", desc := "(I)V" } : Jvm.MethodName) prog_14_method_10_code (3 : Nat) (Option.none : Option Jvm.ClassFile.FieldType)) ∈ lw_all := lw_g (lw_at lw_m6 183 rfl) rfl
theorem q1520 : (Jvm.Cond.instanceMethod ({ cls := "CardHolderModel", name := "end", desc := "(I)I" } : Jvm.MethodName)) ∈ lw_all := lw_g (lw_at lw_m6 185 rfl) rfl
theorem q1521 : (Jvm.Cond.selects "CardHolderModel" ({ cls := "CardHolderModel", name := "end", desc := "(I)I" } : Jvm.MethodName) ({ cls := "CardHolderModel", name := "end", desc := "(I)I" } : Jvm.MethodName)) ∈ lw_all := lw_g (lw_at lw_m6 186 rfl) rfl
theorem q1522 : (Jvm.Cond.code ({ cls := "CardHolderModel", name := "end", desc := "(I)I" } : Jvm.MethodName) prog_14_method_11_code (2 : Nat) (Option.some Jvm.ClassFile.FieldType.int)) ∈ lw_all := lw_g (lw_at lw_m6 187 rfl) rfl
theorem q1524 : (Jvm.Cond.instanceMethod ({ cls := "CardHolderModel", name := "fault", desc := "(I)I" } : Jvm.MethodName)) ∈ lw_all := lw_g (lw_at lw_m6 189 rfl) rfl
theorem q1525 : (Jvm.Cond.selects "CardHolderModel" ({ cls := "CardHolderModel", name := "fault", desc := "(I)I" } : Jvm.MethodName) ({ cls := "CardHolderModel", name := "fault", desc := "(I)I" } : Jvm.MethodName)) ∈ lw_all := lw_g (lw_at lw_m6 190 rfl) rfl
theorem q1526 : (Jvm.Cond.code ({ cls := "CardHolderModel", name := "fault", desc := "(I)I" } : Jvm.MethodName) prog_14_method_24_code (2 : Nat) (Option.some Jvm.ClassFile.FieldType.int)) ∈ lw_all := lw_g (lw_at lw_m6 191 rfl) rfl
theorem q1528 : (Jvm.Cond.instanceMethod ({ cls := "CardHolderModel", name := "city", desc := "()I" } : Jvm.MethodName)) ∈ lw_all := lw_g (lw_at lw_m6 193 rfl) rfl
theorem q1529 : (Jvm.Cond.selects "CardHolderModel" ({ cls := "CardHolderModel", name := "city", desc := "()I" } : Jvm.MethodName) ({ cls := "CardHolderModel", name := "city", desc := "()I" } : Jvm.MethodName)) ∈ lw_all := lw_g (lw_at lw_m6 194 rfl) rfl
theorem q1530 : (Jvm.Cond.code ({ cls := "CardHolderModel", name := "city", desc := "()I" } : Jvm.MethodName) prog_14_method_32_code (1 : Nat) (Option.some Jvm.ClassFile.FieldType.int)) ∈ lw_all := lw_g (lw_at lw_m6 195 rfl) rfl
theorem q1531 : (Jvm.Cond.methodLink "CardHolderModel" (180 : Nat) ({ cls := "CardHolderModel", name := "clears", desc := "()V" } : Jvm.MethodName)) ∈ lw_all := lw_g (lw_at lw_m6 196 rfl) rfl
theorem q1532 : (Jvm.Cond.privateMethod ({ cls := "CardHolderModel", name := "clears", desc := "()V" } : Jvm.MethodName)) ∈ lw_tbl := lw_at lw_m6 197 rfl
theorem q1533 : (Jvm.Cond.instanceMethod ({ cls := "CardHolderModel", name := "clears", desc := "()V" } : Jvm.MethodName)) ∈ lw_all := lw_g (lw_at lw_m6 198 rfl) rfl
theorem q1534 : (Jvm.Cond.code ({ cls := "CardHolderModel", name := "clears", desc := "()V" } : Jvm.MethodName) prog_14_method_31_code (2 : Nat) (Option.none : Option Jvm.ClassFile.FieldType)) ∈ lw_all := lw_g (lw_at lw_m6 199 rfl) rfl
theorem q1535 : (Jvm.Cond.methodLink "CardHolderModel" (162 : Nat) ({ cls := "CardHolderModel", name := "tells", desc := "(II)V" } : Jvm.MethodName)) ∈ lw_all := lw_g (lw_at lw_m6 200 rfl) rfl
theorem q1536 : (Jvm.Cond.privateMethod ({ cls := "CardHolderModel", name := "tells", desc := "(II)V" } : Jvm.MethodName)) ∈ lw_tbl := lw_at lw_m6 201 rfl
theorem q1537 : (Jvm.Cond.instanceMethod ({ cls := "CardHolderModel", name := "tells", desc := "(II)V" } : Jvm.MethodName)) ∈ lw_all := lw_g (lw_at lw_m6 202 rfl) rfl
theorem q1538 : (Jvm.Cond.code ({ cls := "CardHolderModel", name := "tells", desc := "(II)V" } : Jvm.MethodName) prog_14_method_26_code (3 : Nat) (Option.none : Option Jvm.ClassFile.FieldType)) ∈ lw_all := lw_g (lw_at lw_m6 203 rfl) rfl
theorem q1539 : (Jvm.Cond.methodLink "CardHolderModel" (183 : Nat) ({ cls := "CardHolderModel", name := "begins", desc := "()V" } : Jvm.MethodName)) ∈ lw_all := lw_g (lw_at lw_m6 204 rfl) rfl
theorem q1540 : (Jvm.Cond.privateMethod ({ cls := "CardHolderModel", name := "begins", desc := "()V" } : Jvm.MethodName)) ∈ lw_tbl := lw_at lw_m6 205 rfl
theorem q1541 : (Jvm.Cond.instanceMethod ({ cls := "CardHolderModel", name := "begins", desc := "()V" } : Jvm.MethodName)) ∈ lw_all := lw_g (lw_at lw_m6 206 rfl) rfl
theorem q1542 : (Jvm.Cond.code ({ cls := "CardHolderModel", name := "begins", desc := "()V" } : Jvm.MethodName) prog_14_method_22_code (1 : Nat) (Option.none : Option Jvm.ClassFile.FieldType)) ∈ lw_all := lw_g (lw_at lw_m6 207 rfl) rfl
theorem q1543 : (Jvm.Cond.methodLink "CardHolderModel" (121 : Nat) ({ cls := "CardHolderModel", name := "next", desc := "()V" } : Jvm.MethodName)) ∈ lw_all := lw_g (lw_at lw_m6 208 rfl) rfl
theorem q1544 : (Jvm.Cond.privateMethod ({ cls := "CardHolderModel", name := "next", desc := "()V" } : Jvm.MethodName)) ∈ lw_tbl := lw_at lw_m6 209 rfl
theorem q1545 : (Jvm.Cond.instanceMethod ({ cls := "CardHolderModel", name := "next", desc := "()V" } : Jvm.MethodName)) ∈ lw_all := lw_g (lw_at lw_m6 210 rfl) rfl
theorem q1546 : (Jvm.Cond.code ({ cls := "CardHolderModel", name := "next", desc := "()V" } : Jvm.MethodName) prog_14_method_13_code (2 : Nat) (Option.none : Option Jvm.ClassFile.FieldType)) ∈ lw_all := lw_g (lw_at lw_m6 211 rfl) rfl
theorem q1547 : (Jvm.Cond.methodLink "CardHolderModel" (86 : Nat) ({ cls := "CardHolderModel", name := "isByte", desc := "(III)Z" } : Jvm.MethodName)) ∈ lw_all := lw_g (lw_at lw_m6 212 rfl) rfl
theorem q1548 : (Jvm.Cond.privateMethod ({ cls := "CardHolderModel", name := "isByte", desc := "(III)Z" } : Jvm.MethodName)) ∈ lw_tbl := lw_at lw_m6 213 rfl
theorem q1549 : (Jvm.Cond.instanceMethod ({ cls := "CardHolderModel", name := "isByte", desc := "(III)Z" } : Jvm.MethodName)) ∈ lw_all := lw_g (lw_at lw_m6 214 rfl) rfl
theorem q1550 : (Jvm.Cond.code ({ cls := "CardHolderModel", name := "isByte", desc := "(III)Z" } : Jvm.MethodName) prog_14_method_12_code (4 : Nat) (Option.some Jvm.ClassFile.FieldType.boolean)) ∈ lw_all := lw_g (lw_at lw_m6 215 rfl) rfl
theorem q1551 : (Jvm.Cond.constantLong "CardHolderModel" (103 : Nat) (-1 : Int64)) ∈ lw_all := lw_g (lw_at lw_m6 216 rfl) rfl
theorem q1552 : (Jvm.Cond.constantLong "CardHolderModel" (105 : Nat) (27 : Int64)) ∈ lw_all := lw_g (lw_at lw_m6 217 rfl) rfl
theorem q1553 : (Jvm.Cond.constantLong "CardHolderModel" (107 : Nat) (96 : Int64)) ∈ lw_all := lw_g (lw_at lw_m6 218 rfl) rfl
theorem q1554 : (Jvm.Cond.constant "CardHolderModel" (109 : Nat) (100000 : Int32)) ∈ lw_all := lw_g (lw_at lw_m6 219 rfl) rfl
theorem q1555 : (Jvm.Cond.constant "CardHolderModel" (110 : Nat) (1000000 : Int32)) ∈ lw_all := lw_g (lw_at lw_m6 220 rfl) rfl
theorem q1556 : (Jvm.Cond.methodLink "CardHolderModel" (141 : Nat) ({ cls := "CardHolderModel", name := "isGood", desc := "()Z" } : Jvm.MethodName)) ∈ lw_all := lw_g (lw_at lw_m6 221 rfl) rfl
theorem q1557 : (Jvm.Cond.privateMethod ({ cls := "CardHolderModel", name := "isGood", desc := "()Z" } : Jvm.MethodName)) ∈ lw_tbl := lw_at lw_m6 222 rfl
theorem q1558 : (Jvm.Cond.instanceMethod ({ cls := "CardHolderModel", name := "isGood", desc := "()Z" } : Jvm.MethodName)) ∈ lw_all := lw_g (lw_at lw_m6 223 rfl) rfl
theorem q1559 : (Jvm.Cond.code ({ cls := "CardHolderModel", name := "isGood", desc := "()Z" } : Jvm.MethodName) prog_14_method_14_code (1 : Nat) (Option.some Jvm.ClassFile.FieldType.boolean)) ∈ lw_all := lw_g (lw_at lw_m6 224 rfl) rfl
theorem q1560 : (Jvm.Cond.constantLong "CardHolderModel" (186 : Nat) (66175 : Int64)) ∈ lw_all := lw_g (lw_at lw_m6 225 rfl) rfl
theorem q1561 : (Jvm.Cond.methodLink "CardHolderModel" (130 : Nat) ({ cls := "CardHolderModel", name := "asks", desc := "(J)V" } : Jvm.MethodName)) ∈ lw_all := lw_g (lw_at lw_m6 226 rfl) rfl
theorem q1562 : (Jvm.Cond.privateMethod ({ cls := "CardHolderModel", name := "asks", desc := "(J)V" } : Jvm.MethodName)) ∈ lw_tbl := lw_at lw_m6 227 rfl
theorem q1563 : (Jvm.Cond.instanceMethod ({ cls := "CardHolderModel", name := "asks", desc := "(J)V" } : Jvm.MethodName)) ∈ lw_all := lw_g (lw_at lw_m6 228 rfl) rfl
theorem q1564 : (Jvm.Cond.code ({ cls := "CardHolderModel", name := "asks", desc := "(J)V" } : Jvm.MethodName) prog_14_method_18_code (3 : Nat) (Option.none : Option Jvm.ClassFile.FieldType)) ∈ lw_all := lw_g (lw_at lw_m6 229 rfl) rfl
theorem q1565 : (Jvm.Cond.methodLink "CardHolderModel" (124 : Nat) ({ cls := "CardHolderModel", name := "takes", desc := "(J)Z" } : Jvm.MethodName)) ∈ lw_all := lw_g (lw_at lw_m6 230 rfl) rfl
theorem q1566 : (Jvm.Cond.privateMethod ({ cls := "CardHolderModel", name := "takes", desc := "(J)Z" } : Jvm.MethodName)) ∈ lw_tbl := lw_at lw_m6 231 rfl
theorem q1567 : (Jvm.Cond.instanceMethod ({ cls := "CardHolderModel", name := "takes", desc := "(J)Z" } : Jvm.MethodName)) ∈ lw_all := lw_g (lw_at lw_m6 232 rfl) rfl
theorem q1568 : (Jvm.Cond.code ({ cls := "CardHolderModel", name := "takes", desc := "(J)Z" } : Jvm.MethodName) prog_14_method_17_code (3 : Nat) (Option.some Jvm.ClassFile.FieldType.boolean)) ∈ lw_all := lw_g (lw_at lw_m6 233 rfl) rfl
theorem q1569 : (Jvm.Cond.methodLink "CardHolderModel" (117 : Nat) ({ cls := "CardHolderModel", name := "is", desc := "(J)Z" } : Jvm.MethodName)) ∈ lw_all := lw_g (lw_at lw_m6 234 rfl) rfl
theorem q1570 : (Jvm.Cond.privateMethod ({ cls := "CardHolderModel", name := "is", desc := "(J)Z" } : Jvm.MethodName)) ∈ lw_tbl := lw_at lw_m6 235 rfl
theorem q1571 : (Jvm.Cond.instanceMethod ({ cls := "CardHolderModel", name := "is", desc := "(J)Z" } : Jvm.MethodName)) ∈ lw_all := lw_g (lw_at lw_m6 236 rfl) rfl
theorem q1572 : (Jvm.Cond.code ({ cls := "CardHolderModel", name := "is", desc := "(J)Z" } : Jvm.MethodName) prog_14_method_16_code (3 : Nat) (Option.some Jvm.ClassFile.FieldType.boolean)) ∈ lw_all := lw_g (lw_at lw_m6 237 rfl) rfl
theorem q1573 : (Jvm.Cond.methodLink "CardHolderModel" (127 : Nat) ({ cls := "CardHolderModel", name := "fails", desc := "(I)V" } : Jvm.MethodName)) ∈ lw_all := lw_g (lw_at lw_m6 238 rfl) rfl
theorem q1574 : (Jvm.Cond.privateMethod ({ cls := "CardHolderModel", name := "fails", desc := "(I)V" } : Jvm.MethodName)) ∈ lw_tbl := lw_at lw_m6 239 rfl
theorem q1575 : (Jvm.Cond.instanceMethod ({ cls := "CardHolderModel", name := "fails", desc := "(I)V" } : Jvm.MethodName)) ∈ lw_all := lw_g (lw_at lw_m7 0 rfl) rfl
theorem q1576 : (Jvm.Cond.code ({ cls := "CardHolderModel", name := "fails", desc := "(I)V" } : Jvm.MethodName) prog_14_method_15_code (2 : Nat) (Option.none : Option Jvm.ClassFile.FieldType)) ∈ lw_all := lw_g (lw_at lw_m7 1 rfl) rfl
theorem q1577 : (Jvm.Cond.constantLong "CardHolderModel" (188 : Nat) (456399 : Int64)) ∈ lw_all := lw_g (lw_at lw_m7 2 rfl) rfl
theorem q1578 : (Jvm.Cond.methodLink "CardHolderModel" (151 : Nat) ({ cls := "CardHolderModel", name := "number", desc := "(JII)I" } : Jvm.MethodName)) ∈ lw_all := lw_g (lw_at lw_m7 3 rfl) rfl
theorem q1579 : (Jvm.Cond.privateMethod ({ cls := "CardHolderModel", name := "number", desc := "(JII)I" } : Jvm.MethodName)) ∈ lw_tbl := lw_at lw_m7 4 rfl
theorem q1580 : (Jvm.Cond.instanceMethod ({ cls := "CardHolderModel", name := "number", desc := "(JII)I" } : Jvm.MethodName)) ∈ lw_all := lw_g (lw_at lw_m7 5 rfl) rfl
theorem q1581 : (Jvm.Cond.code ({ cls := "CardHolderModel", name := "number", desc := "(JII)I" } : Jvm.MethodName) prog_14_method_20_code (5 : Nat) (Option.some Jvm.ClassFile.FieldType.int)) ∈ lw_all := lw_g (lw_at lw_m7 6 rfl) rfl
theorem q1582 : (Jvm.Cond.methodLink "CardHolderModel" (134 : Nat) ({ cls := "CardHolderModel", name := "number", desc := "(II)I" } : Jvm.MethodName)) ∈ lw_all := lw_g (lw_at lw_m7 7 rfl) rfl
theorem q1583 : (Jvm.Cond.privateMethod ({ cls := "CardHolderModel", name := "number", desc := "(II)I" } : Jvm.MethodName)) ∈ lw_tbl := lw_at lw_m7 8 rfl
theorem q1584 : (Jvm.Cond.instanceMethod ({ cls := "CardHolderModel", name := "number", desc := "(II)I" } : Jvm.MethodName)) ∈ lw_all := lw_g (lw_at lw_m7 9 rfl) rfl
theorem q1585 : (Jvm.Cond.code ({ cls := "CardHolderModel", name := "number", desc := "(II)I" } : Jvm.MethodName) prog_14_method_19_code (4 : Nat) (Option.some Jvm.ClassFile.FieldType.int)) ∈ lw_all := lw_g (lw_at lw_m7 10 rfl) rfl
theorem q1586 : (Jvm.Cond.methodLink "CardHolderModel" (190 : Nat) ({ cls := "CardHolderModel", name := "line", desc := "()V" } : Jvm.MethodName)) ∈ lw_all := lw_g (lw_at lw_m7 11 rfl) rfl
theorem q1587 : (Jvm.Cond.privateMethod ({ cls := "CardHolderModel", name := "line", desc := "()V" } : Jvm.MethodName)) ∈ lw_tbl := lw_at lw_m7 12 rfl
theorem q1588 : (Jvm.Cond.instanceMethod ({ cls := "CardHolderModel", name := "line", desc := "()V" } : Jvm.MethodName)) ∈ lw_all := lw_g (lw_at lw_m7 13 rfl) rfl
theorem q1589 : (Jvm.Cond.code ({ cls := "CardHolderModel", name := "line", desc := "()V" } : Jvm.MethodName) prog_14_method_30_code (1 : Nat) (Option.none : Option Jvm.ClassFile.FieldType)) ∈ lw_all := lw_g (lw_at lw_m7 14 rfl) rfl
theorem q1590 : (Jvm.Cond.constantLong "CardHolderModel" (170 : Nat) (232608281 : Int64)) ∈ lw_all := lw_g (lw_at lw_m7 15 rfl) rfl
theorem q1591 : (Jvm.Cond.methodLink "CardHolderModel" (145 : Nat) ({ cls := "CardHolderModel", name := "hasRead", desc := "(I)I" } : Jvm.MethodName)) ∈ lw_all := lw_g (lw_at lw_m7 16 rfl) rfl
theorem q1592 : (Jvm.Cond.privateMethod ({ cls := "CardHolderModel", name := "hasRead", desc := "(I)I" } : Jvm.MethodName)) ∈ lw_tbl := lw_at lw_m7 17 rfl
theorem q1593 : (Jvm.Cond.instanceMethod ({ cls := "CardHolderModel", name := "hasRead", desc := "(I)I" } : Jvm.MethodName)) ∈ lw_all := lw_g (lw_at lw_m7 18 rfl) rfl
theorem q1594 : (Jvm.Cond.code ({ cls := "CardHolderModel", name := "hasRead", desc := "(I)I" } : Jvm.MethodName) prog_14_method_25_code (2 : Nat) (Option.some Jvm.ClassFile.FieldType.int)) ∈ lw_all := lw_g (lw_at lw_m7 19 rfl) rfl
theorem q1595 : (Jvm.Cond.methodLink "CardHolderModel" (172 : Nat) ({ cls := "CardHolderModel", name := "personLine", desc := "()V" } : Jvm.MethodName)) ∈ lw_all := lw_g (lw_at lw_m7 20 rfl) rfl
theorem q1596 : (Jvm.Cond.privateMethod ({ cls := "CardHolderModel", name := "personLine", desc := "()V" } : Jvm.MethodName)) ∈ lw_tbl := lw_at lw_m7 21 rfl
theorem q1597 : (Jvm.Cond.instanceMethod ({ cls := "CardHolderModel", name := "personLine", desc := "()V" } : Jvm.MethodName)) ∈ lw_all := lw_g (lw_at lw_m7 22 rfl) rfl
theorem q1598 : (Jvm.Cond.code ({ cls := "CardHolderModel", name := "personLine", desc := "()V" } : Jvm.MethodName) prog_14_method_28_code (2 : Nat) (Option.none : Option Jvm.ClassFile.FieldType)) ∈ lw_all := lw_g (lw_at lw_m7 23 rfl) rfl
theorem q1599 : (Jvm.Cond.constantLong "CardHolderModel" (149 : Nat) (12532058 : Int64)) ∈ lw_all := lw_g (lw_at lw_m7 24 rfl) rfl
theorem q1600 : (Jvm.Cond.constantLong "CardHolderModel" (154 : Nat) (89821 : Int64)) ∈ lw_all := lw_g (lw_at lw_m7 25 rfl) rfl
theorem q1601 : (Jvm.Cond.methodLink "CardHolderModel" (156 : Nat) ({ cls := "CardHolderModel", name := "deedsHere", desc := "()I" } : Jvm.MethodName)) ∈ lw_all := lw_g (lw_at lw_m7 26 rfl) rfl
theorem q1602 : (Jvm.Cond.privateMethod ({ cls := "CardHolderModel", name := "deedsHere", desc := "()I" } : Jvm.MethodName)) ∈ lw_tbl := lw_at lw_m7 27 rfl
theorem q1603 : (Jvm.Cond.instanceMethod ({ cls := "CardHolderModel", name := "deedsHere", desc := "()I" } : Jvm.MethodName)) ∈ lw_all := lw_g (lw_at lw_m7 28 rfl) rfl
theorem q1604 : (Jvm.Cond.code ({ cls := "CardHolderModel", name := "deedsHere", desc := "()I" } : Jvm.MethodName) prog_14_method_27_code (2 : Nat) (Option.some Jvm.ClassFile.FieldType.int)) ∈ lw_all := lw_g (lw_at lw_m7 29 rfl) rfl
theorem q1605 : (Jvm.Cond.constantLong "CardHolderModel" (160 : Nat) (335187793 : Int64)) ∈ lw_all := lw_g (lw_at lw_m7 30 rfl) rfl
theorem q1606 : (Jvm.Cond.constantLong "CardHolderModel" (175 : Nat) (60268 : Int64)) ∈ lw_all := lw_g (lw_at lw_m7 31 rfl) rfl
theorem q1607 : (Jvm.Cond.methodLink "CardHolderModel" (177 : Nat) ({ cls := "CardHolderModel", name := "cardLine", desc := "()V" } : Jvm.MethodName)) ∈ lw_all := lw_g (lw_at lw_m7 32 rfl) rfl
theorem q1608 : (Jvm.Cond.privateMethod ({ cls := "CardHolderModel", name := "cardLine", desc := "()V" } : Jvm.MethodName)) ∈ lw_tbl := lw_at lw_m7 33 rfl
theorem q1609 : (Jvm.Cond.instanceMethod ({ cls := "CardHolderModel", name := "cardLine", desc := "()V" } : Jvm.MethodName)) ∈ lw_all := lw_g (lw_at lw_m7 34 rfl) rfl
theorem q1610 : (Jvm.Cond.code ({ cls := "CardHolderModel", name := "cardLine", desc := "()V" } : Jvm.MethodName) prog_14_method_29_code (4 : Nat) (Option.none : Option Jvm.ClassFile.FieldType)) ∈ lw_all := lw_g (lw_at lw_m7 35 rfl) rfl
theorem q1611 : (Jvm.Cond.constantLong "CardHolderModel" (166 : Nat) (555 : Int64)) ∈ lw_all := lw_g (lw_at lw_m7 36 rfl) rfl
theorem q1612 : (Jvm.Cond.constantLong "CardHolderModel" (168 : Nat) (94424593 : Int64)) ∈ lw_all := lw_g (lw_at lw_m7 37 rfl) rfl
theorem q1613 : (Jvm.Cond.methodLink "CardHolderModel" (193 : Nat) ({ cls := "CardHolderModel", name := "ends", desc := "()V" } : Jvm.MethodName)) ∈ lw_all := lw_g (lw_at lw_m7 38 rfl) rfl
theorem q1614 : (Jvm.Cond.privateMethod ({ cls := "CardHolderModel", name := "ends", desc := "()V" } : Jvm.MethodName)) ∈ lw_tbl := lw_at lw_m7 39 rfl
theorem q1615 : (Jvm.Cond.instanceMethod ({ cls := "CardHolderModel", name := "ends", desc := "()V" } : Jvm.MethodName)) ∈ lw_all := lw_g (lw_at lw_m7 40 rfl) rfl
theorem q1616 : (Jvm.Cond.code ({ cls := "CardHolderModel", name := "ends", desc := "()V" } : Jvm.MethodName) prog_14_method_21_code (1 : Nat) (Option.none : Option Jvm.ClassFile.FieldType)) ∈ lw_all := lw_g (lw_at lw_m7 41 rfl) rfl
theorem q1617 : (Jvm.Cond.methodLink "CardHolderModel" (196 : Nat) ({ cls := "CardHolderModel", name := "isOver", desc := "()V" } : Jvm.MethodName)) ∈ lw_all := lw_g (lw_at lw_m7 42 rfl) rfl
theorem q1618 : (Jvm.Cond.privateMethod ({ cls := "CardHolderModel", name := "isOver", desc := "()V" } : Jvm.MethodName)) ∈ lw_tbl := lw_at lw_m7 43 rfl
theorem q1619 : (Jvm.Cond.instanceMethod ({ cls := "CardHolderModel", name := "isOver", desc := "()V" } : Jvm.MethodName)) ∈ lw_all := lw_g (lw_at lw_m7 44 rfl) rfl
theorem q1620 : (Jvm.Cond.code ({ cls := "CardHolderModel", name := "isOver", desc := "()V" } : Jvm.MethodName) prog_14_method_23_code (1 : Nat) (Option.none : Option Jvm.ClassFile.FieldType)) ∈ lw_all := lw_g (lw_at lw_m7 45 rfl) rfl
theorem q1621 : (Jvm.Cond.methodLink "CardHolderModel" (199 : Nat) ({ cls := "CardHolderModel", name := "copyCity", desc := "(II)V" } : Jvm.MethodName)) ∈ lw_all := lw_g (lw_at lw_m7 46 rfl) rfl
theorem q1622 : (Jvm.Cond.privateMethod ({ cls := "CardHolderModel", name := "copyCity", desc := "(II)V" } : Jvm.MethodName)) ∈ lw_tbl := lw_at lw_m7 47 rfl
theorem q1623 : (Jvm.Cond.instanceMethod ({ cls := "CardHolderModel", name := "copyCity", desc := "(II)V" } : Jvm.MethodName)) ∈ lw_all := lw_g (lw_at lw_m7 48 rfl) rfl
theorem q1624 : (Jvm.Cond.code ({ cls := "CardHolderModel", name := "copyCity", desc := "(II)V" } : Jvm.MethodName) prog_14_method_34_code (3 : Nat) (Option.none : Option Jvm.ClassFile.FieldType)) ∈ lw_all := lw_g (lw_at lw_m7 49 rfl) rfl
theorem q1625 : (Jvm.Cond.methodLink "CardHolderModel" (202 : Nat) ({ cls := "CardHolderModel", name := "copyRow", desc := "([IIII)V" } : Jvm.MethodName)) ∈ lw_all := lw_g (lw_at lw_m7 50 rfl) rfl
theorem q1626 : (Jvm.Cond.static ({ cls := "CardHolderModel", name := "copyRow", desc := "([IIII)V" } : Jvm.MethodName)) ∈ lw_all := lw_g (lw_at lw_m7 51 rfl) rfl
theorem q1627 : (Jvm.Cond.code ({ cls := "CardHolderModel", name := "copyRow", desc := "([IIII)V" } : Jvm.MethodName) prog_14_method_33_code (5 : Nat) (Option.none : Option Jvm.ClassFile.FieldType)) ∈ lw_all := lw_g (lw_at lw_m7 52 rfl) rfl
theorem q1629 : (Jvm.Cond.instanceMethod ({ cls := "CardHolderModel", name := "person", desc := "(II)I" } : Jvm.MethodName)) ∈ lw_all := lw_g (lw_at lw_m7 54 rfl) rfl
theorem q1630 : (Jvm.Cond.selects "CardHolderModel" ({ cls := "CardHolderModel", name := "person", desc := "(II)I" } : Jvm.MethodName) ({ cls := "CardHolderModel", name := "person", desc := "(II)I" } : Jvm.MethodName)) ∈ lw_all := lw_g (lw_at lw_m7 55 rfl) rfl
theorem q1631 : (Jvm.Cond.code ({ cls := "CardHolderModel", name := "person", desc := "(II)I" } : Jvm.MethodName) prog_14_method_51_code (3 : Nat) (Option.some Jvm.ClassFile.FieldType.int)) ∈ lw_all := lw_g (lw_at lw_m7 56 rfl) rfl
theorem q1632 : (Jvm.Cond.methodLink "CardHolderModel" (206 : Nat) ({ cls := "CardHolderModel", name := "isPerson", desc := "(J)Z" } : Jvm.MethodName)) ∈ lw_all := lw_g (lw_at lw_m7 57 rfl) rfl
theorem q1633 : (Jvm.Cond.privateMethod ({ cls := "CardHolderModel", name := "isPerson", desc := "(J)Z" } : Jvm.MethodName)) ∈ lw_tbl := lw_at lw_m7 58 rfl
theorem q1634 : (Jvm.Cond.instanceMethod ({ cls := "CardHolderModel", name := "isPerson", desc := "(J)Z" } : Jvm.MethodName)) ∈ lw_all := lw_g (lw_at lw_m7 59 rfl) rfl
theorem q1635 : (Jvm.Cond.code ({ cls := "CardHolderModel", name := "isPerson", desc := "(J)Z" } : Jvm.MethodName) prog_14_method_36_code (3 : Nat) (Option.some Jvm.ClassFile.FieldType.boolean)) ∈ lw_all := lw_g (lw_at lw_m7 60 rfl) rfl
theorem q1636 : (Jvm.Cond.constantLong "CardHolderModel" (249 : Nat) (7 : Int64)) ∈ lw_all := lw_g (lw_at lw_m7 61 rfl) rfl
theorem q1637 : (Jvm.Cond.methodLink "CardHolderModel" (251 : Nat) ({ cls := "CardHolderModel", name := "laysNow", desc := "()V" } : Jvm.MethodName)) ∈ lw_all := lw_g (lw_at lw_m7 62 rfl) rfl
theorem q1638 : (Jvm.Cond.privateMethod ({ cls := "CardHolderModel", name := "laysNow", desc := "()V" } : Jvm.MethodName)) ∈ lw_tbl := lw_at lw_m7 63 rfl
theorem q1639 : (Jvm.Cond.instanceMethod ({ cls := "CardHolderModel", name := "laysNow", desc := "()V" } : Jvm.MethodName)) ∈ lw_all := lw_g (lw_at lw_m7 64 rfl) rfl
theorem q1640 : (Jvm.Cond.code ({ cls := "CardHolderModel", name := "laysNow", desc := "()V" } : Jvm.MethodName) prog_14_method_44_code (2 : Nat) (Option.none : Option Jvm.ClassFile.FieldType)) ∈ lw_all := lw_g (lw_at lw_m7 65 rfl) rfl
theorem q1641 : (Jvm.Cond.methodLink "CardHolderModel" (229 : Nat) ({ cls := "CardHolderModel", name := "start", desc := "()V" } : Jvm.MethodName)) ∈ lw_all := lw_g (lw_at lw_m7 66 rfl) rfl
theorem q1642 : (Jvm.Cond.privateMethod ({ cls := "CardHolderModel", name := "start", desc := "()V" } : Jvm.MethodName)) ∈ lw_tbl := lw_at lw_m7 67 rfl
theorem q1643 : (Jvm.Cond.instanceMethod ({ cls := "CardHolderModel", name := "start", desc := "()V" } : Jvm.MethodName)) ∈ lw_all := lw_g (lw_at lw_m7 68 rfl) rfl
theorem q1644 : (Jvm.Cond.code ({ cls := "CardHolderModel", name := "start", desc := "()V" } : Jvm.MethodName) prog_14_method_43_code (2 : Nat) (Option.none : Option Jvm.ClassFile.FieldType)) ∈ lw_all := lw_g (lw_at lw_m7 69 rfl) rfl
theorem q1645 : (Jvm.Cond.methodLink "CardHolderModel" (214 : Nat) ({ cls := "CardHolderModel", name := "of", desc := "(II)I" } : Jvm.MethodName)) ∈ lw_all := lw_g (lw_at lw_m7 70 rfl) rfl
theorem q1646 : (Jvm.Cond.privateMethod ({ cls := "CardHolderModel", name := "of", desc := "(II)I" } : Jvm.MethodName)) ∈ lw_tbl := lw_at lw_m7 71 rfl
theorem q1647 : (Jvm.Cond.instanceMethod ({ cls := "CardHolderModel", name := "of", desc := "(II)I" } : Jvm.MethodName)) ∈ lw_all := lw_g (lw_at lw_m7 72 rfl) rfl
theorem q1648 : (Jvm.Cond.code ({ cls := "CardHolderModel", name := "of", desc := "(II)I" } : Jvm.MethodName) prog_14_method_42_code (3 : Nat) (Option.some Jvm.ClassFile.FieldType.int)) ∈ lw_all := lw_g (lw_at lw_m7 73 rfl) rfl
theorem q1649 : (Jvm.Cond.methodLink "CardHolderModel" (232 : Nat) ({ cls := "CardHolderModel", name := "does", desc := "(IIIII)V" } : Jvm.MethodName)) ∈ lw_all := lw_g (lw_at lw_m7 74 rfl) rfl
theorem q1650 : (Jvm.Cond.privateMethod ({ cls := "CardHolderModel", name := "does", desc := "(IIIII)V" } : Jvm.MethodName)) ∈ lw_tbl := lw_at lw_m7 75 rfl
theorem q1651 : (Jvm.Cond.instanceMethod ({ cls := "CardHolderModel", name := "does", desc := "(IIIII)V" } : Jvm.MethodName)) ∈ lw_all := lw_g (lw_at lw_m7 76 rfl) rfl
theorem q1652 : (Jvm.Cond.code ({ cls := "CardHolderModel", name := "does", desc := "(IIIII)V" } : Jvm.MethodName) prog_14_method_48_code (7 : Nat) (Option.none : Option Jvm.ClassFile.FieldType)) ∈ lw_all := lw_g (lw_at lw_m7 77 rfl) rfl
theorem q1653 : (Jvm.Cond.methodLink "CardHolderModel" (243 : Nat) ({ cls := "CardHolderModel", name := "isAsked", desc := "(I)V" } : Jvm.MethodName)) ∈ lw_all := lw_g (lw_at lw_m7 78 rfl) rfl
theorem q1654 : (Jvm.Cond.privateMethod ({ cls := "CardHolderModel", name := "isAsked", desc := "(I)V" } : Jvm.MethodName)) ∈ lw_tbl := lw_at lw_m7 79 rfl
theorem q1655 : (Jvm.Cond.instanceMethod ({ cls := "CardHolderModel", name := "isAsked", desc := "(I)V" } : Jvm.MethodName)) ∈ lw_all := lw_g (lw_at lw_m7 80 rfl) rfl
theorem q1656 : (Jvm.Cond.code ({ cls := "CardHolderModel", name := "isAsked", desc := "(I)V" } : Jvm.MethodName) prog_14_method_46_code (2 : Nat) (Option.none : Option Jvm.ClassFile.FieldType)) ∈ lw_all := lw_g (lw_at lw_m7 81 rfl) rfl
theorem q1657 : (Jvm.Cond.methodLink "CardHolderModel" (236 : Nat) ({ cls := "CardHolderModel", name := "readable", desc := "(I)I" } : Jvm.MethodName)) ∈ lw_all := lw_g (lw_at lw_m7 82 rfl) rfl
theorem q1658 : (Jvm.Cond.privateMethod ({ cls := "CardHolderModel", name := "readable", desc := "(I)I" } : Jvm.MethodName)) ∈ lw_tbl := lw_at lw_m7 83 rfl
theorem q1659 : (Jvm.Cond.instanceMethod ({ cls := "CardHolderModel", name := "readable", desc := "(I)I" } : Jvm.MethodName)) ∈ lw_all := lw_g (lw_at lw_m7 84 rfl) rfl
theorem q1660 : (Jvm.Cond.code ({ cls := "CardHolderModel", name := "readable", desc := "(I)I" } : Jvm.MethodName) prog_14_method_45_code (2 : Nat) (Option.some Jvm.ClassFile.FieldType.int)) ∈ lw_all := lw_g (lw_at lw_m7 85 rfl) rfl
theorem q1661 : (Jvm.Cond.methodLink "CardHolderModel" (246 : Nat) ({ cls := "CardHolderModel", name := "dayEnds", desc := "()V" } : Jvm.MethodName)) ∈ lw_all := lw_g (lw_at lw_m7 86 rfl) rfl
theorem q1662 : (Jvm.Cond.privateMethod ({ cls := "CardHolderModel", name := "dayEnds", desc := "()V" } : Jvm.MethodName)) ∈ lw_tbl := lw_at lw_m7 87 rfl
theorem q1663 : (Jvm.Cond.instanceMethod ({ cls := "CardHolderModel", name := "dayEnds", desc := "()V" } : Jvm.MethodName)) ∈ lw_all := lw_g (lw_at lw_m7 88 rfl) rfl
theorem q1664 : (Jvm.Cond.code ({ cls := "CardHolderModel", name := "dayEnds", desc := "()V" } : Jvm.MethodName) prog_14_method_47_code (2 : Nat) (Option.none : Option Jvm.ClassFile.FieldType)) ∈ lw_all := lw_g (lw_at lw_m7 89 rfl) rfl
theorem q1665 : (Jvm.Cond.methodLink "CardHolderModel" (239 : Nat) ({ cls := "CardHolderModel", name := "isBit", desc := "(II)Z" } : Jvm.MethodName)) ∈ lw_all := lw_g (lw_at lw_m7 90 rfl) rfl
theorem q1666 : (Jvm.Cond.static ({ cls := "CardHolderModel", name := "isBit", desc := "(II)Z" } : Jvm.MethodName)) ∈ lw_all := lw_g (lw_at lw_m7 91 rfl) rfl
theorem q1667 : (Jvm.Cond.code ({ cls := "CardHolderModel", name := "isBit", desc := "(II)Z" } : Jvm.MethodName) prog_14_method_40_code (2 : Nat) (Option.some Jvm.ClassFile.FieldType.boolean)) ∈ lw_all := lw_g (lw_at lw_m7 92 rfl) rfl
theorem q1668 : (Jvm.Cond.methodLink "CardHolderModel" (254 : Nat) ({ cls := "CardHolderModel", name := "handOf", desc := "(I)I" } : Jvm.MethodName)) ∈ lw_all := lw_g (lw_at lw_m7 93 rfl) rfl
theorem q1669 : (Jvm.Cond.privateMethod ({ cls := "CardHolderModel", name := "handOf", desc := "(I)I" } : Jvm.MethodName)) ∈ lw_tbl := lw_at lw_m7 94 rfl
theorem q1670 : (Jvm.Cond.instanceMethod ({ cls := "CardHolderModel", name := "handOf", desc := "(I)I" } : Jvm.MethodName)) ∈ lw_all := lw_g (lw_at lw_m7 95 rfl) rfl
theorem q1671 : (Jvm.Cond.code ({ cls := "CardHolderModel", name := "handOf", desc := "(I)I" } : Jvm.MethodName) prog_14_method_49_code (4 : Nat) (Option.some Jvm.ClassFile.FieldType.int)) ∈ lw_all := lw_g (lw_at lw_m7 96 rfl) rfl
theorem q1672 : (Jvm.Cond.methodLink "CardHolderModel" (257 : Nat) ({ cls := "CardHolderModel", name := "yetOf", desc := "(I)I" } : Jvm.MethodName)) ∈ lw_all := lw_g (lw_at lw_m7 97 rfl) rfl
theorem q1673 : (Jvm.Cond.privateMethod ({ cls := "CardHolderModel", name := "yetOf", desc := "(I)I" } : Jvm.MethodName)) ∈ lw_tbl := lw_at lw_m7 98 rfl
theorem q1674 : (Jvm.Cond.instanceMethod ({ cls := "CardHolderModel", name := "yetOf", desc := "(I)I" } : Jvm.MethodName)) ∈ lw_all := lw_g (lw_at lw_m7 99 rfl) rfl
theorem q1675 : (Jvm.Cond.code ({ cls := "CardHolderModel", name := "yetOf", desc := "(I)I" } : Jvm.MethodName) prog_14_method_52_code (2 : Nat) (Option.some Jvm.ClassFile.FieldType.int)) ∈ lw_all := lw_g (lw_at lw_m7 100 rfl) rfl
theorem q1677 : (Jvm.Cond.instanceMethod ({ cls := "CardHolderModel", name := "free", desc := "()I" } : Jvm.MethodName)) ∈ lw_all := lw_g (lw_at lw_m7 102 rfl) rfl
theorem q1678 : (Jvm.Cond.selects "CardHolderModel" ({ cls := "CardHolderModel", name := "free", desc := "()I" } : Jvm.MethodName) ({ cls := "CardHolderModel", name := "free", desc := "()I" } : Jvm.MethodName)) ∈ lw_all := lw_g (lw_at lw_m7 103 rfl) rfl
theorem q1679 : (Jvm.Cond.code ({ cls := "CardHolderModel", name := "free", desc := "()I" } : Jvm.MethodName) prog_14_method_54_code (1 : Nat) (Option.some Jvm.ClassFile.FieldType.int)) ∈ lw_all := lw_g (lw_at lw_m7 104 rfl) rfl
theorem q1680 : (Jvm.Cond.methodLink "CardHolderModel" (209 : Nat) ({ cls := "CardHolderModel", name := "isCity", desc := "()Z" } : Jvm.MethodName)) ∈ lw_all := lw_g (lw_at lw_m7 105 rfl) rfl
theorem q1681 : (Jvm.Cond.privateMethod ({ cls := "CardHolderModel", name := "isCity", desc := "()Z" } : Jvm.MethodName)) ∈ lw_tbl := lw_at lw_m7 106 rfl
theorem q1682 : (Jvm.Cond.instanceMethod ({ cls := "CardHolderModel", name := "isCity", desc := "()Z" } : Jvm.MethodName)) ∈ lw_all := lw_g (lw_at lw_m7 107 rfl) rfl
theorem q1683 : (Jvm.Cond.code ({ cls := "CardHolderModel", name := "isCity", desc := "()Z" } : Jvm.MethodName) prog_14_method_35_code (1 : Nat) (Option.some Jvm.ClassFile.FieldType.boolean)) ∈ lw_all := lw_g (lw_at lw_m7 108 rfl) rfl
theorem q1684 : (Jvm.Cond.methodLink "CardHolderModel" (260 : Nat) ({ cls := "CardHolderModel", name := "freeNow", desc := "()I" } : Jvm.MethodName)) ∈ lw_all := lw_g (lw_at lw_m7 109 rfl) rfl
theorem q1685 : (Jvm.Cond.privateMethod ({ cls := "CardHolderModel", name := "freeNow", desc := "()I" } : Jvm.MethodName)) ∈ lw_tbl := lw_at lw_m7 110 rfl
theorem q1686 : (Jvm.Cond.instanceMethod ({ cls := "CardHolderModel", name := "freeNow", desc := "()I" } : Jvm.MethodName)) ∈ lw_all := lw_g (lw_at lw_m7 111 rfl) rfl
theorem q1687 : (Jvm.Cond.code ({ cls := "CardHolderModel", name := "freeNow", desc := "()I" } : Jvm.MethodName) prog_14_method_53_code (3 : Nat) (Option.some Jvm.ClassFile.FieldType.int)) ∈ lw_all := lw_g (lw_at lw_m7 112 rfl) rfl
theorem q1689 : (Jvm.Cond.instanceMethod ({ cls := "CardHolderModel", name := "under", desc := "(I)I" } : Jvm.MethodName)) ∈ lw_all := lw_g (lw_at lw_m7 114 rfl) rfl
theorem q1690 : (Jvm.Cond.selects "CardHolderModel" ({ cls := "CardHolderModel", name := "under", desc := "(I)I" } : Jvm.MethodName) ({ cls := "CardHolderModel", name := "under", desc := "(I)I" } : Jvm.MethodName)) ∈ lw_all := lw_g (lw_at lw_m7 115 rfl) rfl
theorem q1691 : (Jvm.Cond.code ({ cls := "CardHolderModel", name := "under", desc := "(I)I" } : Jvm.MethodName) prog_14_method_55_code (2 : Nat) (Option.some Jvm.ClassFile.FieldType.int)) ∈ lw_all := lw_g (lw_at lw_m7 116 rfl) rfl
theorem q1692 : (Jvm.Cond.methodLink "CardHolderModel" (263 : Nat) ({ cls := "CardHolderModel", name := "underOf", desc := "(I)I" } : Jvm.MethodName)) ∈ lw_all := lw_g (lw_at lw_m7 117 rfl) rfl
theorem q1693 : (Jvm.Cond.privateMethod ({ cls := "CardHolderModel", name := "underOf", desc := "(I)I" } : Jvm.MethodName)) ∈ lw_tbl := lw_at lw_m7 118 rfl
theorem q1694 : (Jvm.Cond.instanceMethod ({ cls := "CardHolderModel", name := "underOf", desc := "(I)I" } : Jvm.MethodName)) ∈ lw_all := lw_g (lw_at lw_m7 119 rfl) rfl
theorem q1695 : (Jvm.Cond.code ({ cls := "CardHolderModel", name := "underOf", desc := "(I)I" } : Jvm.MethodName) prog_14_method_50_code (5 : Nat) (Option.some Jvm.ClassFile.FieldType.int)) ∈ lw_all := lw_g (lw_at lw_m7 120 rfl) rfl
theorem q1697 : (Jvm.Cond.instanceMethod ({ cls := "CardHolderModel", name := "time", desc := "(II)I" } : Jvm.MethodName)) ∈ lw_all := lw_g (lw_at lw_m7 122 rfl) rfl
theorem q1698 : (Jvm.Cond.selects "CardHolderModel" ({ cls := "CardHolderModel", name := "time", desc := "(II)I" } : Jvm.MethodName) ({ cls := "CardHolderModel", name := "time", desc := "(II)I" } : Jvm.MethodName)) ∈ lw_all := lw_g (lw_at lw_m7 123 rfl) rfl
theorem q1699 : (Jvm.Cond.code ({ cls := "CardHolderModel", name := "time", desc := "(II)I" } : Jvm.MethodName) prog_14_method_57_code (3 : Nat) (Option.some Jvm.ClassFile.FieldType.int)) ∈ lw_all := lw_g (lw_at lw_m7 124 rfl) rfl
theorem q1700 : (Jvm.Cond.methodLink "CardHolderModel" (266 : Nat) ({ cls := "CardHolderModel", name := "arePeople", desc := "(II)Z" } : Jvm.MethodName)) ∈ lw_all := lw_g (lw_at lw_m7 125 rfl) rfl
theorem q1701 : (Jvm.Cond.privateMethod ({ cls := "CardHolderModel", name := "arePeople", desc := "(II)Z" } : Jvm.MethodName)) ∈ lw_tbl := lw_at lw_m7 126 rfl
theorem q1702 : (Jvm.Cond.instanceMethod ({ cls := "CardHolderModel", name := "arePeople", desc := "(II)Z" } : Jvm.MethodName)) ∈ lw_all := lw_g (lw_at lw_m7 127 rfl) rfl
theorem q1703 : (Jvm.Cond.code ({ cls := "CardHolderModel", name := "arePeople", desc := "(II)Z" } : Jvm.MethodName) prog_14_method_37_code (3 : Nat) (Option.some Jvm.ClassFile.FieldType.boolean)) ∈ lw_all := lw_g (lw_at lw_m7 128 rfl) rfl
theorem q1704 : (Jvm.Cond.methodLink "CardHolderModel" (269 : Nat) ({ cls := "CardHolderModel", name := "timeOf", desc := "(II)I" } : Jvm.MethodName)) ∈ lw_all := lw_g (lw_at lw_m7 129 rfl) rfl
theorem q1705 : (Jvm.Cond.privateMethod ({ cls := "CardHolderModel", name := "timeOf", desc := "(II)I" } : Jvm.MethodName)) ∈ lw_tbl := lw_at lw_m7 130 rfl
theorem q1706 : (Jvm.Cond.instanceMethod ({ cls := "CardHolderModel", name := "timeOf", desc := "(II)I" } : Jvm.MethodName)) ∈ lw_all := lw_g (lw_at lw_m7 131 rfl) rfl
theorem q1707 : (Jvm.Cond.code ({ cls := "CardHolderModel", name := "timeOf", desc := "(II)I" } : Jvm.MethodName) prog_14_method_56_code (6 : Nat) (Option.some Jvm.ClassFile.FieldType.int)) ∈ lw_all := lw_g (lw_at lw_m7 132 rfl) rfl
theorem q1709 : (Jvm.Cond.instanceMethod ({ cls := "CardHolderModel", name := "top", desc := "(I)I" } : Jvm.MethodName)) ∈ lw_all := lw_g (lw_at lw_m7 134 rfl) rfl
theorem q1710 : (Jvm.Cond.selects "CardHolderModel" ({ cls := "CardHolderModel", name := "top", desc := "(I)I" } : Jvm.MethodName) ({ cls := "CardHolderModel", name := "top", desc := "(I)I" } : Jvm.MethodName)) ∈ lw_all := lw_g (lw_at lw_m7 135 rfl) rfl
theorem q1711 : (Jvm.Cond.code ({ cls := "CardHolderModel", name := "top", desc := "(I)I" } : Jvm.MethodName) prog_14_method_58_code (4 : Nat) (Option.some Jvm.ClassFile.FieldType.int)) ∈ lw_all := lw_g (lw_at lw_m7 136 rfl) rfl
theorem q1713 : (Jvm.Cond.instanceMethod ({ cls := "CardHolderModel", name := "ring", desc := "(I)I" } : Jvm.MethodName)) ∈ lw_all := lw_g (lw_at lw_m7 138 rfl) rfl
theorem q1714 : (Jvm.Cond.selects "CardHolderModel" ({ cls := "CardHolderModel", name := "ring", desc := "(I)I" } : Jvm.MethodName) ({ cls := "CardHolderModel", name := "ring", desc := "(I)I" } : Jvm.MethodName)) ∈ lw_all := lw_g (lw_at lw_m7 139 rfl) rfl
theorem q1715 : (Jvm.Cond.code ({ cls := "CardHolderModel", name := "ring", desc := "(I)I" } : Jvm.MethodName) prog_14_method_61_code (2 : Nat) (Option.some Jvm.ClassFile.FieldType.int)) ∈ lw_all := lw_g (lw_at lw_m7 140 rfl) rfl
theorem q1716 : (Jvm.Cond.methodLink "CardHolderModel" (272 : Nat) ({ cls := "CardHolderModel", name := "ringOf", desc := "(I)I" } : Jvm.MethodName)) ∈ lw_all := lw_g (lw_at lw_m7 141 rfl) rfl
theorem q1717 : (Jvm.Cond.privateMethod ({ cls := "CardHolderModel", name := "ringOf", desc := "(I)I" } : Jvm.MethodName)) ∈ lw_tbl := lw_at lw_m7 142 rfl
theorem q1718 : (Jvm.Cond.instanceMethod ({ cls := "CardHolderModel", name := "ringOf", desc := "(I)I" } : Jvm.MethodName)) ∈ lw_all := lw_g (lw_at lw_m7 143 rfl) rfl
theorem q1719 : (Jvm.Cond.code ({ cls := "CardHolderModel", name := "ringOf", desc := "(I)I" } : Jvm.MethodName) prog_14_method_59_code (4 : Nat) (Option.some Jvm.ClassFile.FieldType.int)) ∈ lw_all := lw_g (lw_at lw_m7 144 rfl) rfl
theorem q1721 : (Jvm.Cond.instanceMethod ({ cls := "CardHolderModel", name := "rings", desc := "()I" } : Jvm.MethodName)) ∈ lw_all := lw_g (lw_at lw_m7 146 rfl) rfl
theorem q1722 : (Jvm.Cond.selects "CardHolderModel" ({ cls := "CardHolderModel", name := "rings", desc := "()I" } : Jvm.MethodName) ({ cls := "CardHolderModel", name := "rings", desc := "()I" } : Jvm.MethodName)) ∈ lw_all := lw_g (lw_at lw_m7 147 rfl) rfl
theorem q1723 : (Jvm.Cond.code ({ cls := "CardHolderModel", name := "rings", desc := "()I" } : Jvm.MethodName) prog_14_method_62_code (1 : Nat) (Option.some Jvm.ClassFile.FieldType.int)) ∈ lw_all := lw_g (lw_at lw_m7 148 rfl) rfl
theorem q1724 : (Jvm.Cond.methodLink "CardHolderModel" (275 : Nat) ({ cls := "CardHolderModel", name := "ringsNow", desc := "()I" } : Jvm.MethodName)) ∈ lw_all := lw_g (lw_at lw_m7 149 rfl) rfl
theorem q1725 : (Jvm.Cond.privateMethod ({ cls := "CardHolderModel", name := "ringsNow", desc := "()I" } : Jvm.MethodName)) ∈ lw_tbl := lw_at lw_m7 150 rfl
theorem q1726 : (Jvm.Cond.instanceMethod ({ cls := "CardHolderModel", name := "ringsNow", desc := "()I" } : Jvm.MethodName)) ∈ lw_all := lw_g (lw_at lw_m7 151 rfl) rfl
theorem q1727 : (Jvm.Cond.code ({ cls := "CardHolderModel", name := "ringsNow", desc := "()I" } : Jvm.MethodName) prog_14_method_60_code (7 : Nat) (Option.some Jvm.ClassFile.FieldType.int)) ∈ lw_all := lw_g (lw_at lw_m7 152 rfl) rfl
theorem q1729 : (Jvm.Cond.instanceMethod ({ cls := "CardHolderModel", name := "chain", desc := "(II)I" } : Jvm.MethodName)) ∈ lw_all := lw_g (lw_at lw_m7 154 rfl) rfl
theorem q1730 : (Jvm.Cond.selects "CardHolderModel" ({ cls := "CardHolderModel", name := "chain", desc := "(II)I" } : Jvm.MethodName) ({ cls := "CardHolderModel", name := "chain", desc := "(II)I" } : Jvm.MethodName)) ∈ lw_all := lw_g (lw_at lw_m7 155 rfl) rfl
theorem q1731 : (Jvm.Cond.code ({ cls := "CardHolderModel", name := "chain", desc := "(II)I" } : Jvm.MethodName) prog_14_method_65_code (4 : Nat) (Option.some Jvm.ClassFile.FieldType.int)) ∈ lw_all := lw_g (lw_at lw_m7 156 rfl) rfl
theorem q1732 : (Jvm.Cond.methodLink "CardHolderModel" (281 : Nat) ({ cls := "CardHolderModel", name := "isChain", desc := "(II)Z" } : Jvm.MethodName)) ∈ lw_all := lw_g (lw_at lw_m7 157 rfl) rfl
theorem q1733 : (Jvm.Cond.privateMethod ({ cls := "CardHolderModel", name := "isChain", desc := "(II)Z" } : Jvm.MethodName)) ∈ lw_tbl := lw_at lw_m7 158 rfl
theorem q1734 : (Jvm.Cond.instanceMethod ({ cls := "CardHolderModel", name := "isChain", desc := "(II)Z" } : Jvm.MethodName)) ∈ lw_all := lw_g (lw_at lw_m7 159 rfl) rfl
theorem q1735 : (Jvm.Cond.code ({ cls := "CardHolderModel", name := "isChain", desc := "(II)Z" } : Jvm.MethodName) prog_14_method_64_code (3 : Nat) (Option.some Jvm.ClassFile.FieldType.boolean)) ∈ lw_all := lw_g (lw_at lw_m7 160 rfl) rfl
theorem q1736 : (Jvm.Cond.methodLink "CardHolderModel" (278 : Nat) ({ cls := "CardHolderModel", name := "isDeed", desc := "(J)Z" } : Jvm.MethodName)) ∈ lw_all := lw_g (lw_at lw_m7 161 rfl) rfl
theorem q1737 : (Jvm.Cond.static ({ cls := "CardHolderModel", name := "isDeed", desc := "(J)Z" } : Jvm.MethodName)) ∈ lw_all := lw_g (lw_at lw_m7 162 rfl) rfl
theorem q1738 : (Jvm.Cond.code ({ cls := "CardHolderModel", name := "isDeed", desc := "(J)Z" } : Jvm.MethodName) prog_14_method_39_code (2 : Nat) (Option.some Jvm.ClassFile.FieldType.boolean)) ∈ lw_all := lw_g (lw_at lw_m7 163 rfl) rfl
theorem q1739 : (Jvm.Cond.constantLong "CardHolderModel" (212 : Nat) (5 : Int64)) ∈ lw_all := lw_g (lw_at lw_m7 164 rfl) rfl
theorem q1740 : (Jvm.Cond.methodLink "CardHolderModel" (284 : Nat) ({ cls := "CardHolderModel", name := "doerOf", desc := "(II)I" } : Jvm.MethodName)) ∈ lw_all := lw_g (lw_at lw_m7 165 rfl) rfl
theorem q1741 : (Jvm.Cond.privateMethod ({ cls := "CardHolderModel", name := "doerOf", desc := "(II)I" } : Jvm.MethodName)) ∈ lw_tbl := lw_at lw_m7 166 rfl
theorem q1742 : (Jvm.Cond.instanceMethod ({ cls := "CardHolderModel", name := "doerOf", desc := "(II)I" } : Jvm.MethodName)) ∈ lw_all := lw_g (lw_at lw_m7 167 rfl) rfl
theorem q1743 : (Jvm.Cond.code ({ cls := "CardHolderModel", name := "doerOf", desc := "(II)I" } : Jvm.MethodName) prog_14_method_63_code (6 : Nat) (Option.some Jvm.ClassFile.FieldType.int)) ∈ lw_all := lw_g (lw_at lw_m7 168 rfl) rfl
theorem q1745 : (Jvm.Cond.instanceMethod ({ cls := "CardHolderModel", name := "doer", desc := "(II)I" } : Jvm.MethodName)) ∈ lw_all := lw_g (lw_at lw_m7 170 rfl) rfl
theorem q1746 : (Jvm.Cond.selects "CardHolderModel" ({ cls := "CardHolderModel", name := "doer", desc := "(II)I" } : Jvm.MethodName) ({ cls := "CardHolderModel", name := "doer", desc := "(II)I" } : Jvm.MethodName)) ∈ lw_all := lw_g (lw_at lw_m7 171 rfl) rfl
theorem q1747 : (Jvm.Cond.code ({ cls := "CardHolderModel", name := "doer", desc := "(II)I" } : Jvm.MethodName) prog_14_method_66_code (3 : Nat) (Option.some Jvm.ClassFile.FieldType.int)) ∈ lw_all := lw_g (lw_at lw_m7 172 rfl) rfl
theorem q1749 : (Jvm.Cond.instanceMethod ({ cls := "CardHolderModel", name := "asked", desc := "(III)I" } : Jvm.MethodName)) ∈ lw_all := lw_g (lw_at lw_m7 174 rfl) rfl
theorem q1750 : (Jvm.Cond.selects "CardHolderModel" ({ cls := "CardHolderModel", name := "asked", desc := "(III)I" } : Jvm.MethodName) ({ cls := "CardHolderModel", name := "asked", desc := "(III)I" } : Jvm.MethodName)) ∈ lw_all := lw_g (lw_at lw_m7 175 rfl) rfl
theorem q1751 : (Jvm.Cond.code ({ cls := "CardHolderModel", name := "asked", desc := "(III)I" } : Jvm.MethodName) prog_14_method_67_code (8 : Nat) (Option.some Jvm.ClassFile.FieldType.int)) ∈ lw_all := lw_g (lw_at lw_m7 176 rfl) rfl
theorem q1753 : (Jvm.Cond.instanceMethod ({ cls := "CardHolderModel", name := "can", desc := "(I)I" } : Jvm.MethodName)) ∈ lw_all := lw_g (lw_at lw_m7 178 rfl) rfl
theorem q1754 : (Jvm.Cond.selects "CardHolderModel" ({ cls := "CardHolderModel", name := "can", desc := "(I)I" } : Jvm.MethodName) ({ cls := "CardHolderModel", name := "can", desc := "(I)I" } : Jvm.MethodName)) ∈ lw_all := lw_g (lw_at lw_m7 179 rfl) rfl
theorem q1755 : (Jvm.Cond.code ({ cls := "CardHolderModel", name := "can", desc := "(I)I" } : Jvm.MethodName) prog_14_method_68_code (4 : Nat) (Option.some Jvm.ClassFile.FieldType.int)) ∈ lw_all := lw_g (lw_at lw_m7 180 rfl) rfl
theorem q1757 : (Jvm.Cond.instanceMethod ({ cls := "CardHolderModel", name := "why", desc := "(III)I" } : Jvm.MethodName)) ∈ lw_all := lw_g (lw_at lw_m7 182 rfl) rfl
theorem q1758 : (Jvm.Cond.selects "CardHolderModel" ({ cls := "CardHolderModel", name := "why", desc := "(III)I" } : Jvm.MethodName) ({ cls := "CardHolderModel", name := "why", desc := "(III)I" } : Jvm.MethodName)) ∈ lw_all := lw_g (lw_at lw_m7 183 rfl) rfl
theorem q1759 : (Jvm.Cond.code ({ cls := "CardHolderModel", name := "why", desc := "(III)I" } : Jvm.MethodName) prog_14_method_70_code (4 : Nat) (Option.some Jvm.ClassFile.FieldType.int)) ∈ lw_all := lw_g (lw_at lw_m7 184 rfl) rfl
theorem q1760 : (Jvm.Cond.methodLink "CardHolderModel" (287 : Nat) ({ cls := "CardHolderModel", name := "whyOf", desc := "(III)I" } : Jvm.MethodName)) ∈ lw_all := lw_g (lw_at lw_m7 185 rfl) rfl
theorem q1761 : (Jvm.Cond.privateMethod ({ cls := "CardHolderModel", name := "whyOf", desc := "(III)I" } : Jvm.MethodName)) ∈ lw_tbl := lw_at lw_m7 186 rfl
theorem q1762 : (Jvm.Cond.instanceMethod ({ cls := "CardHolderModel", name := "whyOf", desc := "(III)I" } : Jvm.MethodName)) ∈ lw_all := lw_g (lw_at lw_m7 187 rfl) rfl
theorem q1763 : (Jvm.Cond.code ({ cls := "CardHolderModel", name := "whyOf", desc := "(III)I" } : Jvm.MethodName) prog_14_method_69_code (4 : Nat) (Option.some Jvm.ClassFile.FieldType.int)) ∈ lw_all := lw_g (lw_at lw_m7 188 rfl) rfl
theorem q1765 : (Jvm.Cond.instanceMethod ({ cls := "CardHolderModel", name := "ask", desc := "(III)I" } : Jvm.MethodName)) ∈ lw_all := lw_g (lw_at lw_m7 190 rfl) rfl
theorem q1766 : (Jvm.Cond.selects "CardHolderModel" ({ cls := "CardHolderModel", name := "ask", desc := "(III)I" } : Jvm.MethodName) ({ cls := "CardHolderModel", name := "ask", desc := "(III)I" } : Jvm.MethodName)) ∈ lw_all := lw_g (lw_at lw_m7 191 rfl) rfl
theorem q1767 : (Jvm.Cond.code ({ cls := "CardHolderModel", name := "ask", desc := "(III)I" } : Jvm.MethodName) prog_14_method_73_code (4 : Nat) (Option.some Jvm.ClassFile.FieldType.int)) ∈ lw_all := lw_g (lw_at lw_m7 192 rfl) rfl
theorem q1768 : (Jvm.Cond.methodLink "CardHolderModel" (291 : Nat) ({ cls := "CardHolderModel", name := "isFull", desc := "()Z" } : Jvm.MethodName)) ∈ lw_all := lw_g (lw_at lw_m7 193 rfl) rfl
theorem q1769 : (Jvm.Cond.privateMethod ({ cls := "CardHolderModel", name := "isFull", desc := "()Z" } : Jvm.MethodName)) ∈ lw_tbl := lw_at lw_m7 194 rfl
theorem q1770 : (Jvm.Cond.instanceMethod ({ cls := "CardHolderModel", name := "isFull", desc := "()Z" } : Jvm.MethodName)) ∈ lw_all := lw_g (lw_at lw_m7 195 rfl) rfl
theorem q1771 : (Jvm.Cond.code ({ cls := "CardHolderModel", name := "isFull", desc := "()Z" } : Jvm.MethodName) prog_14_method_71_code (1 : Nat) (Option.some Jvm.ClassFile.FieldType.boolean)) ∈ lw_all := lw_g (lw_at lw_m7 196 rfl) rfl
theorem q1772 : (Jvm.Cond.methodLink "CardHolderModel" (294 : Nat) ({ cls := "CardHolderModel", name := "acts", desc := "(IIIII)V" } : Jvm.MethodName)) ∈ lw_all := lw_g (lw_at lw_m7 197 rfl) rfl
theorem q1773 : (Jvm.Cond.privateMethod ({ cls := "CardHolderModel", name := "acts", desc := "(IIIII)V" } : Jvm.MethodName)) ∈ lw_tbl := lw_at lw_m7 198 rfl
theorem q1774 : (Jvm.Cond.instanceMethod ({ cls := "CardHolderModel", name := "acts", desc := "(IIIII)V" } : Jvm.MethodName)) ∈ lw_all := lw_g (lw_at lw_m7 199 rfl) rfl
theorem q1775 : (Jvm.Cond.code ({ cls := "CardHolderModel", name := "acts", desc := "(IIIII)V" } : Jvm.MethodName) prog_14_method_72_code (7 : Nat) (Option.none : Option Jvm.ClassFile.FieldType)) ∈ lw_all := lw_g (lw_at lw_m7 200 rfl) rfl
theorem q1777 : (Jvm.Cond.instanceMethod ({ cls := "CardHolderModel", name := "give", desc := "(IIII)I" } : Jvm.MethodName)) ∈ lw_all := lw_g (lw_at lw_m7 202 rfl) rfl
theorem q1778 : (Jvm.Cond.selects "CardHolderModel" ({ cls := "CardHolderModel", name := "give", desc := "(IIII)I" } : Jvm.MethodName) ({ cls := "CardHolderModel", name := "give", desc := "(IIII)I" } : Jvm.MethodName)) ∈ lw_all := lw_g (lw_at lw_m7 203 rfl) rfl
theorem q1779 : (Jvm.Cond.code ({ cls := "CardHolderModel", name := "give", desc := "(IIII)I" } : Jvm.MethodName) prog_14_method_74_code (5 : Nat) (Option.some Jvm.ClassFile.FieldType.int)) ∈ lw_all := lw_g (lw_at lw_m7 204 rfl) rfl
theorem q1781 : (Jvm.Cond.instanceMethod ({ cls := "CardHolderModel", name := "swap", desc := "(II)I" } : Jvm.MethodName)) ∈ lw_all := lw_g (lw_at lw_m7 206 rfl) rfl
theorem q1782 : (Jvm.Cond.selects "CardHolderModel" ({ cls := "CardHolderModel", name := "swap", desc := "(II)I" } : Jvm.MethodName) ({ cls := "CardHolderModel", name := "swap", desc := "(II)I" } : Jvm.MethodName)) ∈ lw_all := lw_g (lw_at lw_m7 207 rfl) rfl
theorem q1783 : (Jvm.Cond.code ({ cls := "CardHolderModel", name := "swap", desc := "(II)I" } : Jvm.MethodName) prog_14_method_75_code (3 : Nat) (Option.some Jvm.ClassFile.FieldType.int)) ∈ lw_all := lw_g (lw_at lw_m7 208 rfl) rfl
theorem q1785 : (Jvm.Cond.instanceMethod ({ cls := "CardHolderModel", name := "steal", desc := "(II)I" } : Jvm.MethodName)) ∈ lw_all := lw_g (lw_at lw_m7 210 rfl) rfl
theorem q1786 : (Jvm.Cond.selects "CardHolderModel" ({ cls := "CardHolderModel", name := "steal", desc := "(II)I" } : Jvm.MethodName) ({ cls := "CardHolderModel", name := "steal", desc := "(II)I" } : Jvm.MethodName)) ∈ lw_all := lw_g (lw_at lw_m7 211 rfl) rfl
theorem q1787 : (Jvm.Cond.code ({ cls := "CardHolderModel", name := "steal", desc := "(II)I" } : Jvm.MethodName) prog_14_method_76_code (3 : Nat) (Option.some Jvm.ClassFile.FieldType.int)) ∈ lw_all := lw_g (lw_at lw_m7 212 rfl) rfl
theorem q1789 : (Jvm.Cond.instanceMethod ({ cls := "CardHolderModel", name := "day", desc := "()I" } : Jvm.MethodName)) ∈ lw_all := lw_g (lw_at lw_m7 214 rfl) rfl
theorem q1790 : (Jvm.Cond.selects "CardHolderModel" ({ cls := "CardHolderModel", name := "day", desc := "()I" } : Jvm.MethodName) ({ cls := "CardHolderModel", name := "day", desc := "()I" } : Jvm.MethodName)) ∈ lw_all := lw_g (lw_at lw_m7 215 rfl) rfl
theorem q1791 : (Jvm.Cond.code ({ cls := "CardHolderModel", name := "day", desc := "()I" } : Jvm.MethodName) prog_14_method_77_code (1 : Nat) (Option.some Jvm.ClassFile.FieldType.int)) ∈ lw_all := lw_g (lw_at lw_m7 216 rfl) rfl
theorem q1793 : (Jvm.Cond.instanceMethod ({ cls := "CardHolderModel", name := "undo", desc := "()I" } : Jvm.MethodName)) ∈ lw_all := lw_g (lw_at lw_m7 218 rfl) rfl
theorem q1794 : (Jvm.Cond.selects "CardHolderModel" ({ cls := "CardHolderModel", name := "undo", desc := "()I" } : Jvm.MethodName) ({ cls := "CardHolderModel", name := "undo", desc := "()I" } : Jvm.MethodName)) ∈ lw_all := lw_g (lw_at lw_m7 219 rfl) rfl
theorem q1795 : (Jvm.Cond.code ({ cls := "CardHolderModel", name := "undo", desc := "()I" } : Jvm.MethodName) prog_14_method_78_code (1 : Nat) (Option.some Jvm.ClassFile.FieldType.int)) ∈ lw_all := lw_g (lw_at lw_m7 220 rfl) rfl
theorem q1797 : (Jvm.Cond.instanceMethod ({ cls := "CardHolderModel", name := "anew", desc := "()I" } : Jvm.MethodName)) ∈ lw_all := lw_g (lw_at lw_m7 222 rfl) rfl
theorem q1798 : (Jvm.Cond.selects "CardHolderModel" ({ cls := "CardHolderModel", name := "anew", desc := "()I" } : Jvm.MethodName) ({ cls := "CardHolderModel", name := "anew", desc := "()I" } : Jvm.MethodName)) ∈ lw_all := lw_g (lw_at lw_m7 223 rfl) rfl
theorem q1799 : (Jvm.Cond.code ({ cls := "CardHolderModel", name := "anew", desc := "()I" } : Jvm.MethodName) prog_14_method_79_code (2 : Nat) (Option.some Jvm.ClassFile.FieldType.int)) ∈ lw_all := lw_g (lw_at lw_m7 224 rfl) rfl
theorem q1801 : (Jvm.Cond.instanceMethod ({ cls := "CardHolderModel", name := "now", desc := "(I)I" } : Jvm.MethodName)) ∈ lw_all := lw_g (lw_at lw_m7 226 rfl) rfl
theorem q1802 : (Jvm.Cond.selects "CardHolderModel" ({ cls := "CardHolderModel", name := "now", desc := "(I)I" } : Jvm.MethodName) ({ cls := "CardHolderModel", name := "now", desc := "(I)I" } : Jvm.MethodName)) ∈ lw_all := lw_g (lw_at lw_m7 227 rfl) rfl
theorem q1803 : (Jvm.Cond.code ({ cls := "CardHolderModel", name := "now", desc := "(I)I" } : Jvm.MethodName) prog_14_method_80_code (2 : Nat) (Option.some Jvm.ClassFile.FieldType.int)) ∈ lw_all := lw_g (lw_at lw_m7 228 rfl) rfl
theorem q1805 : (Jvm.Cond.instanceMethod ({ cls := "CardHolderModel", name := "own", desc := "()I" } : Jvm.MethodName)) ∈ lw_all := lw_g (lw_at lw_m7 230 rfl) rfl
theorem q1806 : (Jvm.Cond.selects "CardHolderModel" ({ cls := "CardHolderModel", name := "own", desc := "()I" } : Jvm.MethodName) ({ cls := "CardHolderModel", name := "own", desc := "()I" } : Jvm.MethodName)) ∈ lw_all := lw_g (lw_at lw_m7 231 rfl) rfl
theorem q1807 : (Jvm.Cond.code ({ cls := "CardHolderModel", name := "own", desc := "()I" } : Jvm.MethodName) prog_14_method_82_code (1 : Nat) (Option.some Jvm.ClassFile.FieldType.int)) ∈ lw_all := lw_g (lw_at lw_m7 232 rfl) rfl
theorem q1808 : (Jvm.Cond.methodLink "CardHolderModel" (300 : Nat) ({ cls := "CardHolderModel", name := "areEven", desc := "()Z" } : Jvm.MethodName)) ∈ lw_all := lw_g (lw_at lw_m7 233 rfl) rfl
theorem q1809 : (Jvm.Cond.privateMethod ({ cls := "CardHolderModel", name := "areEven", desc := "()Z" } : Jvm.MethodName)) ∈ lw_tbl := lw_at lw_m7 234 rfl
theorem q1810 : (Jvm.Cond.instanceMethod ({ cls := "CardHolderModel", name := "areEven", desc := "()Z" } : Jvm.MethodName)) ∈ lw_all := lw_g (lw_at lw_m7 235 rfl) rfl
theorem q1811 : (Jvm.Cond.code ({ cls := "CardHolderModel", name := "areEven", desc := "()Z" } : Jvm.MethodName) prog_14_method_81_code (2 : Nat) (Option.some Jvm.ClassFile.FieldType.boolean)) ∈ lw_all := lw_g (lw_at lw_m7 236 rfl) rfl
theorem q1812 : (Jvm.Cond.methodLink "CardHolderModel" (297 : Nat) ({ cls := "CardHolderModel", name := "sizeOf", desc := "(I)I" } : Jvm.MethodName)) ∈ lw_all := lw_g (lw_at lw_m7 237 rfl) rfl
theorem q1813 : (Jvm.Cond.static ({ cls := "CardHolderModel", name := "sizeOf", desc := "(I)I" } : Jvm.MethodName)) ∈ lw_all := lw_g (lw_at lw_m7 238 rfl) rfl
theorem q1814 : (Jvm.Cond.code ({ cls := "CardHolderModel", name := "sizeOf", desc := "(I)I" } : Jvm.MethodName) prog_14_method_41_code (3 : Nat) (Option.some Jvm.ClassFile.FieldType.int)) ∈ lw_all := lw_g (lw_at lw_m7 239 rfl) rfl
theorem q1816 : (Jvm.Cond.instanceMethod ({ cls := "CardHolderModel", name := "first", desc := "(I)I" } : Jvm.MethodName)) ∈ lw_all := lw_g (lw_at lw_m8 1 rfl) rfl
theorem q1817 : (Jvm.Cond.selects "CardHolderModel" ({ cls := "CardHolderModel", name := "first", desc := "(I)I" } : Jvm.MethodName) ({ cls := "CardHolderModel", name := "first", desc := "(I)I" } : Jvm.MethodName)) ∈ lw_all := lw_g (lw_at lw_m8 2 rfl) rfl
theorem q1818 : (Jvm.Cond.code ({ cls := "CardHolderModel", name := "first", desc := "(I)I" } : Jvm.MethodName) prog_14_method_83_code (4 : Nat) (Option.some Jvm.ClassFile.FieldType.int)) ∈ lw_all := lw_g (lw_at lw_m8 3 rfl) rfl
theorem q1820 : (Jvm.Cond.instanceMethod ({ cls := "CardHolderModel", name := "work", desc := "()I" } : Jvm.MethodName)) ∈ lw_all := lw_g (lw_at lw_m8 5 rfl) rfl
theorem q1821 : (Jvm.Cond.selects "CardHolderModel" ({ cls := "CardHolderModel", name := "work", desc := "()I" } : Jvm.MethodName) ({ cls := "CardHolderModel", name := "work", desc := "()I" } : Jvm.MethodName)) ∈ lw_all := lw_g (lw_at lw_m8 6 rfl) rfl
theorem q1822 : (Jvm.Cond.code ({ cls := "CardHolderModel", name := "work", desc := "()I" } : Jvm.MethodName) prog_14_method_86_code (3 : Nat) (Option.some Jvm.ClassFile.FieldType.int)) ∈ lw_all := lw_g (lw_at lw_m8 7 rfl) rfl
theorem q1823 : (Jvm.Cond.methodLink "CardHolderModel" (306 : Nat) ({ cls := "CardHolderModel", name := "laysWork", desc := "(I)V" } : Jvm.MethodName)) ∈ lw_all := lw_g (lw_at lw_m8 8 rfl) rfl
theorem q1824 : (Jvm.Cond.privateMethod ({ cls := "CardHolderModel", name := "laysWork", desc := "(I)V" } : Jvm.MethodName)) ∈ lw_tbl := lw_at lw_m8 9 rfl
theorem q1825 : (Jvm.Cond.instanceMethod ({ cls := "CardHolderModel", name := "laysWork", desc := "(I)V" } : Jvm.MethodName)) ∈ lw_all := lw_g (lw_at lw_m8 10 rfl) rfl
theorem q1826 : (Jvm.Cond.code ({ cls := "CardHolderModel", name := "laysWork", desc := "(I)V" } : Jvm.MethodName) prog_14_method_85_code (8 : Nat) (Option.none : Option Jvm.ClassFile.FieldType)) ∈ lw_all := lw_g (lw_at lw_m8 11 rfl) rfl
theorem q1827 : (Jvm.Cond.methodLink "CardHolderModel" (303 : Nat) ({ cls := "CardHolderModel", name := "mayDo", desc := "(III)I" } : Jvm.MethodName)) ∈ lw_all := lw_g (lw_at lw_m8 12 rfl) rfl
theorem q1828 : (Jvm.Cond.privateMethod ({ cls := "CardHolderModel", name := "mayDo", desc := "(III)I" } : Jvm.MethodName)) ∈ lw_tbl := lw_at lw_m8 13 rfl
theorem q1829 : (Jvm.Cond.instanceMethod ({ cls := "CardHolderModel", name := "mayDo", desc := "(III)I" } : Jvm.MethodName)) ∈ lw_all := lw_g (lw_at lw_m8 14 rfl) rfl
theorem q1830 : (Jvm.Cond.code ({ cls := "CardHolderModel", name := "mayDo", desc := "(III)I" } : Jvm.MethodName) prog_14_method_84_code (4 : Nat) (Option.some Jvm.ClassFile.FieldType.int)) ∈ lw_all := lw_g (lw_at lw_m8 15 rfl) rfl
theorem q1832 : (Jvm.Cond.instanceMethod ({ cls := "CardHolderModel", name := "works", desc := "(I)I" } : Jvm.MethodName)) ∈ lw_all := lw_g (lw_at lw_m8 17 rfl) rfl
theorem q1833 : (Jvm.Cond.selects "CardHolderModel" ({ cls := "CardHolderModel", name := "works", desc := "(I)I" } : Jvm.MethodName) ({ cls := "CardHolderModel", name := "works", desc := "(I)I" } : Jvm.MethodName)) ∈ lw_all := lw_g (lw_at lw_m8 18 rfl) rfl
theorem q1834 : (Jvm.Cond.code ({ cls := "CardHolderModel", name := "works", desc := "(I)I" } : Jvm.MethodName) prog_14_method_87_code (7 : Nat) (Option.some Jvm.ClassFile.FieldType.int)) ∈ lw_all := lw_g (lw_at lw_m8 19 rfl) rfl
theorem q1836 : (Jvm.Cond.instanceMethod ({ cls := "CardHolderModel", name := "cover", desc := "(I)I" } : Jvm.MethodName)) ∈ lw_all := lw_g (lw_at lw_m8 21 rfl) rfl
theorem q1837 : (Jvm.Cond.selects "CardHolderModel" ({ cls := "CardHolderModel", name := "cover", desc := "(I)I" } : Jvm.MethodName) ({ cls := "CardHolderModel", name := "cover", desc := "(I)I" } : Jvm.MethodName)) ∈ lw_all := lw_g (lw_at lw_m8 22 rfl) rfl
theorem q1838 : (Jvm.Cond.code ({ cls := "CardHolderModel", name := "cover", desc := "(I)I" } : Jvm.MethodName) prog_14_method_93_code (3 : Nat) (Option.some Jvm.ClassFile.FieldType.int)) ∈ lw_all := lw_g (lw_at lw_m8 23 rfl) rfl
theorem q1839 : (Jvm.Cond.methodLink "CardHolderModel" (317 : Nat) ({ cls := "CardHolderModel", name := "areDeeds", desc := "(I)Z" } : Jvm.MethodName)) ∈ lw_all := lw_g (lw_at lw_m8 24 rfl) rfl
theorem q1840 : (Jvm.Cond.privateMethod ({ cls := "CardHolderModel", name := "areDeeds", desc := "(I)Z" } : Jvm.MethodName)) ∈ lw_tbl := lw_at lw_m8 25 rfl
theorem q1841 : (Jvm.Cond.instanceMethod ({ cls := "CardHolderModel", name := "areDeeds", desc := "(I)Z" } : Jvm.MethodName)) ∈ lw_all := lw_g (lw_at lw_m8 26 rfl) rfl
theorem q1842 : (Jvm.Cond.code ({ cls := "CardHolderModel", name := "areDeeds", desc := "(I)Z" } : Jvm.MethodName) prog_14_method_91_code (2 : Nat) (Option.some Jvm.ClassFile.FieldType.boolean)) ∈ lw_all := lw_g (lw_at lw_m8 27 rfl) rfl
theorem q1843 : (Jvm.Cond.constantLong "CardHolderModel" (309 : Nat) (63 : Int64)) ∈ lw_all := lw_g (lw_at lw_m8 28 rfl) rfl
theorem q1844 : (Jvm.Cond.methodLink "CardHolderModel" (320 : Nat) ({ cls := "CardHolderModel", name := "coversOf", desc := "(I)I" } : Jvm.MethodName)) ∈ lw_all := lw_g (lw_at lw_m8 29 rfl) rfl
theorem q1845 : (Jvm.Cond.privateMethod ({ cls := "CardHolderModel", name := "coversOf", desc := "(I)I" } : Jvm.MethodName)) ∈ lw_tbl := lw_at lw_m8 30 rfl
theorem q1846 : (Jvm.Cond.instanceMethod ({ cls := "CardHolderModel", name := "coversOf", desc := "(I)I" } : Jvm.MethodName)) ∈ lw_all := lw_g (lw_at lw_m8 31 rfl) rfl
theorem q1847 : (Jvm.Cond.code ({ cls := "CardHolderModel", name := "coversOf", desc := "(I)I" } : Jvm.MethodName) prog_14_method_92_code (4 : Nat) (Option.some Jvm.ClassFile.FieldType.int)) ∈ lw_all := lw_g (lw_at lw_m8 32 rfl) rfl
theorem q1848 : (Jvm.Cond.methodLink "CardHolderModel" (311 : Nat) ({ cls := "CardHolderModel", name := "handsOf", desc := "(I)I" } : Jvm.MethodName)) ∈ lw_all := lw_g (lw_at lw_m8 33 rfl) rfl
theorem q1849 : (Jvm.Cond.privateMethod ({ cls := "CardHolderModel", name := "handsOf", desc := "(I)I" } : Jvm.MethodName)) ∈ lw_tbl := lw_at lw_m8 34 rfl
theorem q1850 : (Jvm.Cond.instanceMethod ({ cls := "CardHolderModel", name := "handsOf", desc := "(I)I" } : Jvm.MethodName)) ∈ lw_all := lw_g (lw_at lw_m8 35 rfl) rfl
theorem q1851 : (Jvm.Cond.code ({ cls := "CardHolderModel", name := "handsOf", desc := "(I)I" } : Jvm.MethodName) prog_14_method_89_code (4 : Nat) (Option.some Jvm.ClassFile.FieldType.int)) ∈ lw_all := lw_g (lw_at lw_m8 36 rfl) rfl
theorem q1852 : (Jvm.Cond.methodLink "CardHolderModel" (314 : Nat) ({ cls := "CardHolderModel", name := "doneBy", desc := "(I)I" } : Jvm.MethodName)) ∈ lw_all := lw_g (lw_at lw_m8 37 rfl) rfl
theorem q1853 : (Jvm.Cond.privateMethod ({ cls := "CardHolderModel", name := "doneBy", desc := "(I)I" } : Jvm.MethodName)) ∈ lw_tbl := lw_at lw_m8 38 rfl
theorem q1854 : (Jvm.Cond.instanceMethod ({ cls := "CardHolderModel", name := "doneBy", desc := "(I)I" } : Jvm.MethodName)) ∈ lw_all := lw_g (lw_at lw_m8 39 rfl) rfl
theorem q1855 : (Jvm.Cond.code ({ cls := "CardHolderModel", name := "doneBy", desc := "(I)I" } : Jvm.MethodName) prog_14_method_88_code (4 : Nat) (Option.some Jvm.ClassFile.FieldType.int)) ∈ lw_all := lw_g (lw_at lw_m8 40 rfl) rfl
theorem q1857 : (Jvm.Cond.instanceMethod ({ cls := "CardHolderModel", name := "covers", desc := "(I)I" } : Jvm.MethodName)) ∈ lw_all := lw_g (lw_at lw_m8 42 rfl) rfl
theorem q1858 : (Jvm.Cond.selects "CardHolderModel" ({ cls := "CardHolderModel", name := "covers", desc := "(I)I" } : Jvm.MethodName) ({ cls := "CardHolderModel", name := "covers", desc := "(I)I" } : Jvm.MethodName)) ∈ lw_all := lw_g (lw_at lw_m8 43 rfl) rfl
theorem q1859 : (Jvm.Cond.code ({ cls := "CardHolderModel", name := "covers", desc := "(I)I" } : Jvm.MethodName) prog_14_method_94_code (2 : Nat) (Option.some Jvm.ClassFile.FieldType.int)) ∈ lw_all := lw_g (lw_at lw_m8 44 rfl) rfl
theorem q1861 : (Jvm.Cond.instanceMethod ({ cls := "CardHolderModel", name := "buy", desc := "(I)I" } : Jvm.MethodName)) ∈ lw_all := lw_g (lw_at lw_m8 46 rfl) rfl
theorem q1862 : (Jvm.Cond.selects "CardHolderModel" ({ cls := "CardHolderModel", name := "buy", desc := "(I)I" } : Jvm.MethodName) ({ cls := "CardHolderModel", name := "buy", desc := "(I)I" } : Jvm.MethodName)) ∈ lw_all := lw_g (lw_at lw_m8 47 rfl) rfl
theorem q1863 : (Jvm.Cond.code ({ cls := "CardHolderModel", name := "buy", desc := "(I)I" } : Jvm.MethodName) prog_14_method_96_code (3 : Nat) (Option.some Jvm.ClassFile.FieldType.int)) ∈ lw_all := lw_g (lw_at lw_m8 48 rfl) rfl
theorem q1864 : (Jvm.Cond.methodLink "CardHolderModel" (326 : Nat) ({ cls := "CardHolderModel", name := "boughtOf", desc := "(I)I" } : Jvm.MethodName)) ∈ lw_all := lw_g (lw_at lw_m8 49 rfl) rfl
theorem q1865 : (Jvm.Cond.privateMethod ({ cls := "CardHolderModel", name := "boughtOf", desc := "(I)I" } : Jvm.MethodName)) ∈ lw_tbl := lw_at lw_m8 50 rfl
theorem q1866 : (Jvm.Cond.instanceMethod ({ cls := "CardHolderModel", name := "boughtOf", desc := "(I)I" } : Jvm.MethodName)) ∈ lw_all := lw_g (lw_at lw_m8 51 rfl) rfl
theorem q1867 : (Jvm.Cond.code ({ cls := "CardHolderModel", name := "boughtOf", desc := "(I)I" } : Jvm.MethodName) prog_14_method_95_code (4 : Nat) (Option.some Jvm.ClassFile.FieldType.int)) ∈ lw_all := lw_g (lw_at lw_m8 52 rfl) rfl
theorem q1868 : (Jvm.Cond.methodLink "CardHolderModel" (323 : Nat) ({ cls := "CardHolderModel", name := "worthOf", desc := "(I)I" } : Jvm.MethodName)) ∈ lw_all := lw_g (lw_at lw_m8 53 rfl) rfl
theorem q1869 : (Jvm.Cond.privateMethod ({ cls := "CardHolderModel", name := "worthOf", desc := "(I)I" } : Jvm.MethodName)) ∈ lw_tbl := lw_at lw_m8 54 rfl
theorem q1870 : (Jvm.Cond.instanceMethod ({ cls := "CardHolderModel", name := "worthOf", desc := "(I)I" } : Jvm.MethodName)) ∈ lw_all := lw_g (lw_at lw_m8 55 rfl) rfl
theorem q1871 : (Jvm.Cond.code ({ cls := "CardHolderModel", name := "worthOf", desc := "(I)I" } : Jvm.MethodName) prog_14_method_90_code (4 : Nat) (Option.some Jvm.ClassFile.FieldType.int)) ∈ lw_all := lw_g (lw_at lw_m8 56 rfl) rfl
theorem q1873 : (Jvm.Cond.instanceMethod ({ cls := "CardHolderModel", name := "bought", desc := "(I)I" } : Jvm.MethodName)) ∈ lw_all := lw_g (lw_at lw_m8 58 rfl) rfl
theorem q1874 : (Jvm.Cond.selects "CardHolderModel" ({ cls := "CardHolderModel", name := "bought", desc := "(I)I" } : Jvm.MethodName) ({ cls := "CardHolderModel", name := "bought", desc := "(I)I" } : Jvm.MethodName)) ∈ lw_all := lw_g (lw_at lw_m8 59 rfl) rfl
theorem q1875 : (Jvm.Cond.code ({ cls := "CardHolderModel", name := "bought", desc := "(I)I" } : Jvm.MethodName) prog_14_method_97_code (2 : Nat) (Option.some Jvm.ClassFile.FieldType.int)) ∈ lw_all := lw_g (lw_at lw_m8 60 rfl) rfl
theorem q1877 : (Jvm.Cond.instanceMethod ({ cls := "CardHolderModel", name := "deeds", desc := "(I)I" } : Jvm.MethodName)) ∈ lw_all := lw_g (lw_at lw_m8 62 rfl) rfl
theorem q1878 : (Jvm.Cond.selects "CardHolderModel" ({ cls := "CardHolderModel", name := "deeds", desc := "(I)I" } : Jvm.MethodName) ({ cls := "CardHolderModel", name := "deeds", desc := "(I)I" } : Jvm.MethodName)) ∈ lw_all := lw_g (lw_at lw_m8 63 rfl) rfl
theorem q1879 : (Jvm.Cond.code ({ cls := "CardHolderModel", name := "deeds", desc := "(I)I" } : Jvm.MethodName) prog_14_method_99_code (2 : Nat) (Option.some Jvm.ClassFile.FieldType.int)) ∈ lw_all := lw_g (lw_at lw_m8 64 rfl) rfl
theorem q1880 : (Jvm.Cond.constantLong "CardHolderModel" (329 : Nat) (2000 : Int64)) ∈ lw_all := lw_g (lw_at lw_m8 65 rfl) rfl
theorem q1881 : (Jvm.Cond.methodLink "CardHolderModel" (331 : Nat) ({ cls := "CardHolderModel", name := "hiredOf", desc := "(I)I" } : Jvm.MethodName)) ∈ lw_all := lw_g (lw_at lw_m8 66 rfl) rfl
theorem q1882 : (Jvm.Cond.privateMethod ({ cls := "CardHolderModel", name := "hiredOf", desc := "(I)I" } : Jvm.MethodName)) ∈ lw_tbl := lw_at lw_m8 67 rfl
theorem q1883 : (Jvm.Cond.instanceMethod ({ cls := "CardHolderModel", name := "hiredOf", desc := "(I)I" } : Jvm.MethodName)) ∈ lw_all := lw_g (lw_at lw_m8 68 rfl) rfl
theorem q1884 : (Jvm.Cond.code ({ cls := "CardHolderModel", name := "hiredOf", desc := "(I)I" } : Jvm.MethodName) prog_14_method_98_code (4 : Nat) (Option.some Jvm.ClassFile.FieldType.int)) ∈ lw_all := lw_g (lw_at lw_m8 69 rfl) rfl
theorem q1886 : (Jvm.Cond.instanceMethod ({ cls := "CardHolderModel", name := "hired", desc := "(I)I" } : Jvm.MethodName)) ∈ lw_all := lw_g (lw_at lw_m8 71 rfl) rfl
theorem q1887 : (Jvm.Cond.selects "CardHolderModel" ({ cls := "CardHolderModel", name := "hired", desc := "(I)I" } : Jvm.MethodName) ({ cls := "CardHolderModel", name := "hired", desc := "(I)I" } : Jvm.MethodName)) ∈ lw_all := lw_g (lw_at lw_m8 72 rfl) rfl
theorem q1888 : (Jvm.Cond.code ({ cls := "CardHolderModel", name := "hired", desc := "(I)I" } : Jvm.MethodName) prog_14_method_100_code (2 : Nat) (Option.some Jvm.ClassFile.FieldType.int)) ∈ lw_all := lw_g (lw_at lw_m8 73 rfl) rfl
theorem q1890 : (Jvm.Cond.instanceMethod ({ cls := "CardHolderModel", name := "suspects", desc := "(I)I" } : Jvm.MethodName)) ∈ lw_all := lw_g (lw_at lw_m8 75 rfl) rfl
theorem q1891 : (Jvm.Cond.selects "CardHolderModel" ({ cls := "CardHolderModel", name := "suspects", desc := "(I)I" } : Jvm.MethodName) ({ cls := "CardHolderModel", name := "suspects", desc := "(I)I" } : Jvm.MethodName)) ∈ lw_all := lw_g (lw_at lw_m8 76 rfl) rfl
theorem q1892 : (Jvm.Cond.code ({ cls := "CardHolderModel", name := "suspects", desc := "(I)I" } : Jvm.MethodName) prog_14_method_104_code (3 : Nat) (Option.some Jvm.ClassFile.FieldType.int)) ∈ lw_all := lw_g (lw_at lw_m8 77 rfl) rfl
theorem q1893 : (Jvm.Cond.methodLink "CardHolderModel" (334 : Nat) ({ cls := "CardHolderModel", name := "whyNot", desc := "(I)I" } : Jvm.MethodName)) ∈ lw_all := lw_g (lw_at lw_m8 78 rfl) rfl
theorem q1894 : (Jvm.Cond.privateMethod ({ cls := "CardHolderModel", name := "whyNot", desc := "(I)I" } : Jvm.MethodName)) ∈ lw_tbl := lw_at lw_m8 79 rfl
theorem q1895 : (Jvm.Cond.instanceMethod ({ cls := "CardHolderModel", name := "whyNot", desc := "(I)I" } : Jvm.MethodName)) ∈ lw_all := lw_g (lw_at lw_m8 80 rfl) rfl
theorem q1896 : (Jvm.Cond.code ({ cls := "CardHolderModel", name := "whyNot", desc := "(I)I" } : Jvm.MethodName) prog_14_method_101_code (3 : Nat) (Option.some Jvm.ClassFile.FieldType.int)) ∈ lw_all := lw_g (lw_at lw_m8 81 rfl) rfl
theorem q1897 : (Jvm.Cond.methodLink "CardHolderModel" (337 : Nat) ({ cls := "CardHolderModel", name := "rowOf", desc := "(I)I" } : Jvm.MethodName)) ∈ lw_all := lw_g (lw_at lw_m8 82 rfl) rfl
theorem q1898 : (Jvm.Cond.privateMethod ({ cls := "CardHolderModel", name := "rowOf", desc := "(I)I" } : Jvm.MethodName)) ∈ lw_tbl := lw_at lw_m8 83 rfl
theorem q1899 : (Jvm.Cond.instanceMethod ({ cls := "CardHolderModel", name := "rowOf", desc := "(I)I" } : Jvm.MethodName)) ∈ lw_all := lw_g (lw_at lw_m8 84 rfl) rfl
theorem q1900 : (Jvm.Cond.code ({ cls := "CardHolderModel", name := "rowOf", desc := "(I)I" } : Jvm.MethodName) prog_14_method_102_code (4 : Nat) (Option.some Jvm.ClassFile.FieldType.int)) ∈ lw_all := lw_g (lw_at lw_m8 85 rfl) rfl
theorem q1901 : (Jvm.Cond.methodLink "CardHolderModel" (340 : Nat) ({ cls := "CardHolderModel", name := "wishing", desc := "(I)I" } : Jvm.MethodName)) ∈ lw_all := lw_g (lw_at lw_m8 86 rfl) rfl
theorem q1902 : (Jvm.Cond.privateMethod ({ cls := "CardHolderModel", name := "wishing", desc := "(I)I" } : Jvm.MethodName)) ∈ lw_tbl := lw_at lw_m8 87 rfl
theorem q1903 : (Jvm.Cond.instanceMethod ({ cls := "CardHolderModel", name := "wishing", desc := "(I)I" } : Jvm.MethodName)) ∈ lw_all := lw_g (lw_at lw_m8 88 rfl) rfl
theorem q1904 : (Jvm.Cond.code ({ cls := "CardHolderModel", name := "wishing", desc := "(I)I" } : Jvm.MethodName) prog_14_method_103_code (4 : Nat) (Option.some Jvm.ClassFile.FieldType.int)) ∈ lw_all := lw_g (lw_at lw_m8 89 rfl) rfl
theorem q1906 : (Jvm.Cond.instanceMethod ({ cls := "CardHolderModel", name := "watch", desc := "(I)I" } : Jvm.MethodName)) ∈ lw_all := lw_g (lw_at lw_m8 91 rfl) rfl
theorem q1907 : (Jvm.Cond.selects "CardHolderModel" ({ cls := "CardHolderModel", name := "watch", desc := "(I)I" } : Jvm.MethodName) ({ cls := "CardHolderModel", name := "watch", desc := "(I)I" } : Jvm.MethodName)) ∈ lw_all := lw_g (lw_at lw_m8 92 rfl) rfl
theorem q1908 : (Jvm.Cond.code ({ cls := "CardHolderModel", name := "watch", desc := "(I)I" } : Jvm.MethodName) prog_14_method_106_code (3 : Nat) (Option.some Jvm.ClassFile.FieldType.int)) ∈ lw_all := lw_g (lw_at lw_m8 93 rfl) rfl
theorem q1909 : (Jvm.Cond.methodLink "CardHolderModel" (349 : Nat) ({ cls := "CardHolderModel", name := "laysWatch", desc := "(I)V" } : Jvm.MethodName)) ∈ lw_all := lw_g (lw_at lw_m8 94 rfl) rfl
theorem q1910 : (Jvm.Cond.privateMethod ({ cls := "CardHolderModel", name := "laysWatch", desc := "(I)V" } : Jvm.MethodName)) ∈ lw_tbl := lw_at lw_m8 95 rfl
theorem q1911 : (Jvm.Cond.instanceMethod ({ cls := "CardHolderModel", name := "laysWatch", desc := "(I)V" } : Jvm.MethodName)) ∈ lw_all := lw_g (lw_at lw_m8 96 rfl) rfl
theorem q1912 : (Jvm.Cond.code ({ cls := "CardHolderModel", name := "laysWatch", desc := "(I)V" } : Jvm.MethodName) prog_14_method_105_code (7 : Nat) (Option.none : Option Jvm.ClassFile.FieldType)) ∈ lw_all := lw_g (lw_at lw_m8 97 rfl) rfl
theorem q1914 : (Jvm.Cond.instanceMethod ({ cls := "CardHolderModel", name := "leaves", desc := "(I)I" } : Jvm.MethodName)) ∈ lw_all := lw_g (lw_at lw_m8 99 rfl) rfl
theorem q1915 : (Jvm.Cond.selects "CardHolderModel" ({ cls := "CardHolderModel", name := "leaves", desc := "(I)I" } : Jvm.MethodName) ({ cls := "CardHolderModel", name := "leaves", desc := "(I)I" } : Jvm.MethodName)) ∈ lw_all := lw_g (lw_at lw_m8 100 rfl) rfl
theorem q1916 : (Jvm.Cond.code ({ cls := "CardHolderModel", name := "leaves", desc := "(I)I" } : Jvm.MethodName) prog_14_method_107_code (3 : Nat) (Option.some Jvm.ClassFile.FieldType.int)) ∈ lw_all := lw_g (lw_at lw_m8 101 rfl) rfl
theorem q1918 : (Jvm.Cond.instanceMethod ({ cls := "CardHolderModel", name := "proof", desc := "(I)I" } : Jvm.MethodName)) ∈ lw_all := lw_g (lw_at lw_m8 103 rfl) rfl
theorem q1919 : (Jvm.Cond.selects "CardHolderModel" ({ cls := "CardHolderModel", name := "proof", desc := "(I)I" } : Jvm.MethodName) ({ cls := "CardHolderModel", name := "proof", desc := "(I)I" } : Jvm.MethodName)) ∈ lw_all := lw_g (lw_at lw_m8 104 rfl) rfl
theorem q1920 : (Jvm.Cond.code ({ cls := "CardHolderModel", name := "proof", desc := "(I)I" } : Jvm.MethodName) prog_14_method_108_code (6 : Nat) (Option.some Jvm.ClassFile.FieldType.int)) ∈ lw_all := lw_g (lw_at lw_m8 105 rfl) rfl
theorem q1922 : (Jvm.Cond.instanceMethod ({ cls := "CardHolderModel", name := "duel", desc := "(III)I" } : Jvm.MethodName)) ∈ lw_all := lw_g (lw_at lw_m8 107 rfl) rfl
theorem q1923 : (Jvm.Cond.selects "CardHolderModel" ({ cls := "CardHolderModel", name := "duel", desc := "(III)I" } : Jvm.MethodName) ({ cls := "CardHolderModel", name := "duel", desc := "(III)I" } : Jvm.MethodName)) ∈ lw_all := lw_g (lw_at lw_m8 108 rfl) rfl
theorem q1924 : (Jvm.Cond.code ({ cls := "CardHolderModel", name := "duel", desc := "(III)I" } : Jvm.MethodName) prog_14_method_111_code (8 : Nat) (Option.some Jvm.ClassFile.FieldType.int)) ∈ lw_all := lw_g (lw_at lw_m8 109 rfl) rfl
theorem q1925 : (Jvm.Cond.methodLink "CardHolderModel" (355 : Nat) ({ cls := "CardHolderModel", name := "isDuel", desc := "(II)Z" } : Jvm.MethodName)) ∈ lw_all := lw_g (lw_at lw_m8 110 rfl) rfl
theorem q1926 : (Jvm.Cond.privateMethod ({ cls := "CardHolderModel", name := "isDuel", desc := "(II)Z" } : Jvm.MethodName)) ∈ lw_tbl := lw_at lw_m8 111 rfl
theorem q1927 : (Jvm.Cond.instanceMethod ({ cls := "CardHolderModel", name := "isDuel", desc := "(II)Z" } : Jvm.MethodName)) ∈ lw_all := lw_g (lw_at lw_m8 112 rfl) rfl
theorem q1928 : (Jvm.Cond.code ({ cls := "CardHolderModel", name := "isDuel", desc := "(II)Z" } : Jvm.MethodName) prog_14_method_109_code (3 : Nat) (Option.some Jvm.ClassFile.FieldType.boolean)) ∈ lw_all := lw_g (lw_at lw_m8 113 rfl) rfl
theorem q1929 : (Jvm.Cond.methodLink "CardHolderModel" (352 : Nat) ({ cls := "CardHolderModel", name := "common", desc := "(II)I" } : Jvm.MethodName)) ∈ lw_all := lw_g (lw_at lw_m8 114 rfl) rfl
theorem q1930 : (Jvm.Cond.static ({ cls := "CardHolderModel", name := "common", desc := "(II)I" } : Jvm.MethodName)) ∈ lw_all := lw_g (lw_at lw_m8 115 rfl) rfl
theorem q1931 : (Jvm.Cond.code ({ cls := "CardHolderModel", name := "common", desc := "(II)I" } : Jvm.MethodName) prog_14_method_110_code (2 : Nat) (Option.some Jvm.ClassFile.FieldType.int)) ∈ lw_all := lw_g (lw_at lw_m8 116 rfl) rfl
theorem q1933 : (Jvm.Cond.instanceMethod ({ cls := "CardHolderModel", name := "lay", desc := "(II)I" } : Jvm.MethodName)) ∈ lw_all := lw_g (lw_at lw_m8 118 rfl) rfl
theorem q1934 : (Jvm.Cond.selects "CardHolderModel" ({ cls := "CardHolderModel", name := "lay", desc := "(II)I" } : Jvm.MethodName) ({ cls := "CardHolderModel", name := "lay", desc := "(II)I" } : Jvm.MethodName)) ∈ lw_all := lw_g (lw_at lw_m8 119 rfl) rfl
theorem q1935 : (Jvm.Cond.code ({ cls := "CardHolderModel", name := "lay", desc := "(II)I" } : Jvm.MethodName) prog_14_method_115_code (4 : Nat) (Option.some Jvm.ClassFile.FieldType.int)) ∈ lw_all := lw_g (lw_at lw_m8 120 rfl) rfl
theorem q1936 : (Jvm.Cond.methodLink "CardHolderModel" (364 : Nat) ({ cls := "CardHolderModel", name := "laidBy", desc := "(II)I" } : Jvm.MethodName)) ∈ lw_all := lw_g (lw_at lw_m8 121 rfl) rfl
theorem q1937 : (Jvm.Cond.privateMethod ({ cls := "CardHolderModel", name := "laidBy", desc := "(II)I" } : Jvm.MethodName)) ∈ lw_tbl := lw_at lw_m8 122 rfl
theorem q1938 : (Jvm.Cond.instanceMethod ({ cls := "CardHolderModel", name := "laidBy", desc := "(II)I" } : Jvm.MethodName)) ∈ lw_all := lw_g (lw_at lw_m8 123 rfl) rfl
theorem q1939 : (Jvm.Cond.code ({ cls := "CardHolderModel", name := "laidBy", desc := "(II)I" } : Jvm.MethodName) prog_14_method_114_code (5 : Nat) (Option.some Jvm.ClassFile.FieldType.int)) ∈ lw_all := lw_g (lw_at lw_m8 124 rfl) rfl
theorem q1940 : (Jvm.Cond.methodLink "CardHolderModel" (361 : Nat) ({ cls := "CardHolderModel", name := "replyTo", desc := "(II)I" } : Jvm.MethodName)) ∈ lw_all := lw_g (lw_at lw_m8 125 rfl) rfl
theorem q1941 : (Jvm.Cond.privateMethod ({ cls := "CardHolderModel", name := "replyTo", desc := "(II)I" } : Jvm.MethodName)) ∈ lw_tbl := lw_at lw_m8 126 rfl
theorem q1942 : (Jvm.Cond.instanceMethod ({ cls := "CardHolderModel", name := "replyTo", desc := "(II)I" } : Jvm.MethodName)) ∈ lw_all := lw_g (lw_at lw_m8 127 rfl) rfl
theorem q1943 : (Jvm.Cond.code ({ cls := "CardHolderModel", name := "replyTo", desc := "(II)I" } : Jvm.MethodName) prog_14_method_113_code (5 : Nat) (Option.some Jvm.ClassFile.FieldType.int)) ∈ lw_all := lw_g (lw_at lw_m8 128 rfl) rfl
theorem q1944 : (Jvm.Cond.methodLink "CardHolderModel" (358 : Nat) ({ cls := "CardHolderModel", name := "wonBy", desc := "(II)I" } : Jvm.MethodName)) ∈ lw_all := lw_g (lw_at lw_m8 129 rfl) rfl
theorem q1945 : (Jvm.Cond.privateMethod ({ cls := "CardHolderModel", name := "wonBy", desc := "(II)I" } : Jvm.MethodName)) ∈ lw_tbl := lw_at lw_m8 130 rfl
theorem q1946 : (Jvm.Cond.instanceMethod ({ cls := "CardHolderModel", name := "wonBy", desc := "(II)I" } : Jvm.MethodName)) ∈ lw_all := lw_g (lw_at lw_m8 131 rfl) rfl
theorem q1947 : (Jvm.Cond.code ({ cls := "CardHolderModel", name := "wonBy", desc := "(II)I" } : Jvm.MethodName) prog_14_method_112_code (3 : Nat) (Option.some Jvm.ClassFile.FieldType.int)) ∈ lw_all := lw_g (lw_at lw_m8 132 rfl) rfl
theorem q1949 : (Jvm.Cond.instanceMethod ({ cls := "CardHolderModel", name := "lays", desc := "(II)I" } : Jvm.MethodName)) ∈ lw_all := lw_g (lw_at lw_m8 134 rfl) rfl
theorem q1950 : (Jvm.Cond.selects "CardHolderModel" ({ cls := "CardHolderModel", name := "lays", desc := "(II)I" } : Jvm.MethodName) ({ cls := "CardHolderModel", name := "lays", desc := "(II)I" } : Jvm.MethodName)) ∈ lw_all := lw_g (lw_at lw_m8 135 rfl) rfl
theorem q1951 : (Jvm.Cond.code ({ cls := "CardHolderModel", name := "lays", desc := "(II)I" } : Jvm.MethodName) prog_14_method_116_code (3 : Nat) (Option.some Jvm.ClassFile.FieldType.int)) ∈ lw_all := lw_g (lw_at lw_m8 136 rfl) rfl
theorem q1953 : (Jvm.Cond.instanceMethod ({ cls := "CardHolderModel", name := "reply", desc := "(II)I" } : Jvm.MethodName)) ∈ lw_all := lw_g (lw_at lw_m8 138 rfl) rfl
theorem q1954 : (Jvm.Cond.selects "CardHolderModel" ({ cls := "CardHolderModel", name := "reply", desc := "(II)I" } : Jvm.MethodName) ({ cls := "CardHolderModel", name := "reply", desc := "(II)I" } : Jvm.MethodName)) ∈ lw_all := lw_g (lw_at lw_m8 139 rfl) rfl
theorem q1955 : (Jvm.Cond.code ({ cls := "CardHolderModel", name := "reply", desc := "(II)I" } : Jvm.MethodName) prog_14_method_117_code (3 : Nat) (Option.some Jvm.ClassFile.FieldType.int)) ∈ lw_all := lw_g (lw_at lw_m8 140 rfl) rfl
theorem q1957 : (Jvm.Cond.instanceMethod ({ cls := "CardHolderModel", name := "firm", desc := "(I)I" } : Jvm.MethodName)) ∈ lw_all := lw_g (lw_at lw_m8 142 rfl) rfl
theorem q1958 : (Jvm.Cond.selects "CardHolderModel" ({ cls := "CardHolderModel", name := "firm", desc := "(I)I" } : Jvm.MethodName) ({ cls := "CardHolderModel", name := "firm", desc := "(I)I" } : Jvm.MethodName)) ∈ lw_all := lw_g (lw_at lw_m8 143 rfl) rfl
theorem q1959 : (Jvm.Cond.code ({ cls := "CardHolderModel", name := "firm", desc := "(I)I" } : Jvm.MethodName) prog_14_method_120_code (2 : Nat) (Option.some Jvm.ClassFile.FieldType.int)) ∈ lw_all := lw_g (lw_at lw_m8 144 rfl) rfl
theorem q1960 : (Jvm.Cond.methodLink "CardHolderModel" (370 : Nat) ({ cls := "CardHolderModel", name := "isSet", desc := "(I)Z" } : Jvm.MethodName)) ∈ lw_all := lw_g (lw_at lw_m8 145 rfl) rfl
theorem q1961 : (Jvm.Cond.privateMethod ({ cls := "CardHolderModel", name := "isSet", desc := "(I)Z" } : Jvm.MethodName)) ∈ lw_tbl := lw_at lw_m8 146 rfl
theorem q1962 : (Jvm.Cond.instanceMethod ({ cls := "CardHolderModel", name := "isSet", desc := "(I)Z" } : Jvm.MethodName)) ∈ lw_all := lw_g (lw_at lw_m8 147 rfl) rfl
theorem q1963 : (Jvm.Cond.code ({ cls := "CardHolderModel", name := "isSet", desc := "(I)Z" } : Jvm.MethodName) prog_14_method_38_code (2 : Nat) (Option.some Jvm.ClassFile.FieldType.boolean)) ∈ lw_all := lw_g (lw_at lw_m8 148 rfl) rfl
theorem q1964 : (Jvm.Cond.methodLink "CardHolderModel" (373 : Nat) ({ cls := "CardHolderModel", name := "leaveOf", desc := "(I)I" } : Jvm.MethodName)) ∈ lw_all := lw_g (lw_at lw_m8 149 rfl) rfl
theorem q1965 : (Jvm.Cond.privateMethod ({ cls := "CardHolderModel", name := "leaveOf", desc := "(I)I" } : Jvm.MethodName)) ∈ lw_tbl := lw_at lw_m8 150 rfl
theorem q1966 : (Jvm.Cond.instanceMethod ({ cls := "CardHolderModel", name := "leaveOf", desc := "(I)I" } : Jvm.MethodName)) ∈ lw_all := lw_g (lw_at lw_m8 151 rfl) rfl
theorem q1967 : (Jvm.Cond.code ({ cls := "CardHolderModel", name := "leaveOf", desc := "(I)I" } : Jvm.MethodName) prog_14_method_119_code (4 : Nat) (Option.some Jvm.ClassFile.FieldType.int)) ∈ lw_all := lw_g (lw_at lw_m8 152 rfl) rfl
theorem q1968 : (Jvm.Cond.methodLink "CardHolderModel" (367 : Nat) ({ cls := "CardHolderModel", name := "winsOf", desc := "(II)I" } : Jvm.MethodName)) ∈ lw_all := lw_g (lw_at lw_m8 153 rfl) rfl
theorem q1969 : (Jvm.Cond.privateMethod ({ cls := "CardHolderModel", name := "winsOf", desc := "(II)I" } : Jvm.MethodName)) ∈ lw_tbl := lw_at lw_m8 154 rfl
theorem q1970 : (Jvm.Cond.instanceMethod ({ cls := "CardHolderModel", name := "winsOf", desc := "(II)I" } : Jvm.MethodName)) ∈ lw_all := lw_g (lw_at lw_m8 155 rfl) rfl
theorem q1971 : (Jvm.Cond.code ({ cls := "CardHolderModel", name := "winsOf", desc := "(II)I" } : Jvm.MethodName) prog_14_method_118_code (4 : Nat) (Option.some Jvm.ClassFile.FieldType.int)) ∈ lw_all := lw_g (lw_at lw_m8 156 rfl) rfl
theorem q1973 : (Jvm.Cond.instanceMethod ({ cls := "CardHolderModel", name := "firms", desc := "()I" } : Jvm.MethodName)) ∈ lw_all := lw_g (lw_at lw_m8 158 rfl) rfl
theorem q1974 : (Jvm.Cond.selects "CardHolderModel" ({ cls := "CardHolderModel", name := "firms", desc := "()I" } : Jvm.MethodName) ({ cls := "CardHolderModel", name := "firms", desc := "()I" } : Jvm.MethodName)) ∈ lw_all := lw_g (lw_at lw_m8 159 rfl) rfl
theorem q1975 : (Jvm.Cond.code ({ cls := "CardHolderModel", name := "firms", desc := "()I" } : Jvm.MethodName) prog_14_method_121_code (3 : Nat) (Option.some Jvm.ClassFile.FieldType.int)) ∈ lw_all := lw_g (lw_at lw_m8 160 rfl) rfl
theorem q1977 : (Jvm.Cond.instanceMethod ({ cls := "CardHolderModel", name := "firmest", desc := "()I" } : Jvm.MethodName)) ∈ lw_all := lw_g (lw_at lw_m8 162 rfl) rfl
theorem q1978 : (Jvm.Cond.selects "CardHolderModel" ({ cls := "CardHolderModel", name := "firmest", desc := "()I" } : Jvm.MethodName) ({ cls := "CardHolderModel", name := "firmest", desc := "()I" } : Jvm.MethodName)) ∈ lw_all := lw_g (lw_at lw_m8 163 rfl) rfl
theorem q1979 : (Jvm.Cond.code ({ cls := "CardHolderModel", name := "firmest", desc := "()I" } : Jvm.MethodName) prog_14_method_122_code (3 : Nat) (Option.some Jvm.ClassFile.FieldType.int)) ∈ lw_all := lw_g (lw_at lw_m8 164 rfl) rfl
theorem q1981 : (Jvm.Cond.instanceMethod ({ cls := "CardHolderModel", name := "wins", desc := "(II)I" } : Jvm.MethodName)) ∈ lw_all := lw_g (lw_at lw_m8 166 rfl) rfl
theorem q1982 : (Jvm.Cond.selects "CardHolderModel" ({ cls := "CardHolderModel", name := "wins", desc := "(II)I" } : Jvm.MethodName) ({ cls := "CardHolderModel", name := "wins", desc := "(II)I" } : Jvm.MethodName)) ∈ lw_all := lw_g (lw_at lw_m8 167 rfl) rfl
theorem q1983 : (Jvm.Cond.code ({ cls := "CardHolderModel", name := "wins", desc := "(II)I" } : Jvm.MethodName) prog_14_method_123_code (3 : Nat) (Option.some Jvm.ClassFile.FieldType.int)) ∈ lw_all := lw_g (lw_at lw_m8 168 rfl) rfl
theorem q1985 : (Jvm.Cond.instanceMethod ({ cls := "CardHolderModel", name := "leave", desc := "(I)I" } : Jvm.MethodName)) ∈ lw_all := lw_g (lw_at lw_m8 170 rfl) rfl
theorem q1986 : (Jvm.Cond.selects "CardHolderModel" ({ cls := "CardHolderModel", name := "leave", desc := "(I)I" } : Jvm.MethodName) ({ cls := "CardHolderModel", name := "leave", desc := "(I)I" } : Jvm.MethodName)) ∈ lw_all := lw_g (lw_at lw_m8 171 rfl) rfl
theorem q1987 : (Jvm.Cond.code ({ cls := "CardHolderModel", name := "leave", desc := "(I)I" } : Jvm.MethodName) prog_14_method_124_code (2 : Nat) (Option.some Jvm.ClassFile.FieldType.int)) ∈ lw_all := lw_g (lw_at lw_m8 172 rfl) rfl
theorem q1989 : (Jvm.Cond.instanceMethod ({ cls := "CardHolderModel", name := "ransom", desc := "(II)I" } : Jvm.MethodName)) ∈ lw_all := lw_g (lw_at lw_m8 174 rfl) rfl
theorem q1990 : (Jvm.Cond.selects "CardHolderModel" ({ cls := "CardHolderModel", name := "ransom", desc := "(II)I" } : Jvm.MethodName) ({ cls := "CardHolderModel", name := "ransom", desc := "(II)I" } : Jvm.MethodName)) ∈ lw_all := lw_g (lw_at lw_m8 175 rfl) rfl
theorem q1991 : (Jvm.Cond.code ({ cls := "CardHolderModel", name := "ransom", desc := "(II)I" } : Jvm.MethodName) prog_14_method_126_code (4 : Nat) (Option.some Jvm.ClassFile.FieldType.int)) ∈ lw_all := lw_g (lw_at lw_m8 176 rfl) rfl
theorem q1992 : (Jvm.Cond.methodLink "CardHolderModel" (376 : Nat) ({ cls := "CardHolderModel", name := "ransomOf", desc := "(II)I" } : Jvm.MethodName)) ∈ lw_all := lw_g (lw_at lw_m8 177 rfl) rfl
theorem q1993 : (Jvm.Cond.privateMethod ({ cls := "CardHolderModel", name := "ransomOf", desc := "(II)I" } : Jvm.MethodName)) ∈ lw_tbl := lw_at lw_m8 178 rfl
theorem q1994 : (Jvm.Cond.instanceMethod ({ cls := "CardHolderModel", name := "ransomOf", desc := "(II)I" } : Jvm.MethodName)) ∈ lw_all := lw_g (lw_at lw_m8 179 rfl) rfl
theorem q1995 : (Jvm.Cond.code ({ cls := "CardHolderModel", name := "ransomOf", desc := "(II)I" } : Jvm.MethodName) prog_14_method_125_code (6 : Nat) (Option.some Jvm.ClassFile.FieldType.int)) ∈ lw_all := lw_g (lw_at lw_m8 180 rfl) rfl
theorem q1997 : (Jvm.Cond.instanceMethod ({ cls := "CardHolderModel", name := "ransomed", desc := "(II)I" } : Jvm.MethodName)) ∈ lw_all := lw_g (lw_at lw_m8 182 rfl) rfl
theorem q1998 : (Jvm.Cond.selects "CardHolderModel" ({ cls := "CardHolderModel", name := "ransomed", desc := "(II)I" } : Jvm.MethodName) ({ cls := "CardHolderModel", name := "ransomed", desc := "(II)I" } : Jvm.MethodName)) ∈ lw_all := lw_g (lw_at lw_m8 183 rfl) rfl
theorem q1999 : (Jvm.Cond.code ({ cls := "CardHolderModel", name := "ransomed", desc := "(II)I" } : Jvm.MethodName) prog_14_method_127_code (3 : Nat) (Option.some Jvm.ClassFile.FieldType.int)) ∈ lw_all := lw_g (lw_at lw_m8 184 rfl) rfl
theorem q2001 : (Jvm.Cond.instanceMethod ({ cls := "CardHolderModel", name := "power", desc := "(I)I" } : Jvm.MethodName)) ∈ lw_all := lw_g (lw_at lw_m8 186 rfl) rfl
theorem q2002 : (Jvm.Cond.selects "CardHolderModel" ({ cls := "CardHolderModel", name := "power", desc := "(I)I" } : Jvm.MethodName) ({ cls := "CardHolderModel", name := "power", desc := "(I)I" } : Jvm.MethodName)) ∈ lw_all := lw_g (lw_at lw_m8 187 rfl) rfl
theorem q2003 : (Jvm.Cond.code ({ cls := "CardHolderModel", name := "power", desc := "(I)I" } : Jvm.MethodName) prog_14_method_129_code (2 : Nat) (Option.some Jvm.ClassFile.FieldType.int)) ∈ lw_all := lw_g (lw_at lw_m8 188 rfl) rfl
theorem q2004 : (Jvm.Cond.methodLink "CardHolderModel" (379 : Nat) ({ cls := "CardHolderModel", name := "powerOf", desc := "(I)I" } : Jvm.MethodName)) ∈ lw_all := lw_g (lw_at lw_m8 189 rfl) rfl
theorem q2005 : (Jvm.Cond.privateMethod ({ cls := "CardHolderModel", name := "powerOf", desc := "(I)I" } : Jvm.MethodName)) ∈ lw_tbl := lw_at lw_m8 190 rfl
theorem q2006 : (Jvm.Cond.instanceMethod ({ cls := "CardHolderModel", name := "powerOf", desc := "(I)I" } : Jvm.MethodName)) ∈ lw_all := lw_g (lw_at lw_m8 191 rfl) rfl
theorem q2007 : (Jvm.Cond.code ({ cls := "CardHolderModel", name := "powerOf", desc := "(I)I" } : Jvm.MethodName) prog_14_method_128_code (2 : Nat) (Option.some Jvm.ClassFile.FieldType.int)) ∈ lw_all := lw_g (lw_at lw_m8 192 rfl) rfl
theorem q2009 : (Jvm.Cond.instanceMethod ({ cls := "CardHolderModel", name := "mighty", desc := "()I" } : Jvm.MethodName)) ∈ lw_all := lw_g (lw_at lw_m8 194 rfl) rfl
theorem q2010 : (Jvm.Cond.selects "CardHolderModel" ({ cls := "CardHolderModel", name := "mighty", desc := "()I" } : Jvm.MethodName) ({ cls := "CardHolderModel", name := "mighty", desc := "()I" } : Jvm.MethodName)) ∈ lw_all := lw_g (lw_at lw_m8 195 rfl) rfl
theorem q2011 : (Jvm.Cond.code ({ cls := "CardHolderModel", name := "mighty", desc := "()I" } : Jvm.MethodName) prog_14_method_130_code (3 : Nat) (Option.some Jvm.ClassFile.FieldType.int)) ∈ lw_all := lw_g (lw_at lw_m8 196 rfl) rfl
theorem q2013 : (Jvm.Cond.instanceMethod ({ cls := "CardHolderModel", name := "covet", desc := "(I)I" } : Jvm.MethodName)) ∈ lw_all := lw_g (lw_at lw_m8 198 rfl) rfl
theorem q2014 : (Jvm.Cond.selects "CardHolderModel" ({ cls := "CardHolderModel", name := "covet", desc := "(I)I" } : Jvm.MethodName) ({ cls := "CardHolderModel", name := "covet", desc := "(I)I" } : Jvm.MethodName)) ∈ lw_all := lw_g (lw_at lw_m8 199 rfl) rfl
theorem q2015 : (Jvm.Cond.code ({ cls := "CardHolderModel", name := "covet", desc := "(I)I" } : Jvm.MethodName) prog_14_method_131_code (7 : Nat) (Option.some Jvm.ClassFile.FieldType.int)) ∈ lw_all := lw_g (lw_at lw_m8 200 rfl) rfl
theorem q2017 : (Jvm.Cond.instanceMethod ({ cls := "CardHolderModel", name := "judge", desc := "(I)I" } : Jvm.MethodName)) ∈ lw_all := lw_g (lw_at lw_m8 202 rfl) rfl
theorem q2018 : (Jvm.Cond.selects "CardHolderModel" ({ cls := "CardHolderModel", name := "judge", desc := "(I)I" } : Jvm.MethodName) ({ cls := "CardHolderModel", name := "judge", desc := "(I)I" } : Jvm.MethodName)) ∈ lw_all := lw_g (lw_at lw_m8 203 rfl) rfl
theorem q2019 : (Jvm.Cond.code ({ cls := "CardHolderModel", name := "judge", desc := "(I)I" } : Jvm.MethodName) prog_14_method_134_code (3 : Nat) (Option.some Jvm.ClassFile.FieldType.int)) ∈ lw_all := lw_g (lw_at lw_m8 204 rfl) rfl
theorem q2020 : (Jvm.Cond.methodLink "CardHolderModel" (382 : Nat) ({ cls := "CardHolderModel", name := "whyNotJudge", desc := "(I)I" } : Jvm.MethodName)) ∈ lw_all := lw_g (lw_at lw_m8 205 rfl) rfl
theorem q2021 : (Jvm.Cond.privateMethod ({ cls := "CardHolderModel", name := "whyNotJudge", desc := "(I)I" } : Jvm.MethodName)) ∈ lw_tbl := lw_at lw_m8 206 rfl
theorem q2022 : (Jvm.Cond.instanceMethod ({ cls := "CardHolderModel", name := "whyNotJudge", desc := "(I)I" } : Jvm.MethodName)) ∈ lw_all := lw_g (lw_at lw_m8 207 rfl) rfl
theorem q2023 : (Jvm.Cond.code ({ cls := "CardHolderModel", name := "whyNotJudge", desc := "(I)I" } : Jvm.MethodName) prog_14_method_132_code (5 : Nat) (Option.some Jvm.ClassFile.FieldType.int)) ∈ lw_all := lw_g (lw_at lw_m8 208 rfl) rfl
theorem q2024 : (Jvm.Cond.methodLink "CardHolderModel" (385 : Nat) ({ cls := "CardHolderModel", name := "judges", desc := "(I)I" } : Jvm.MethodName)) ∈ lw_all := lw_g (lw_at lw_m8 209 rfl) rfl
theorem q2025 : (Jvm.Cond.privateMethod ({ cls := "CardHolderModel", name := "judges", desc := "(I)I" } : Jvm.MethodName)) ∈ lw_tbl := lw_at lw_m8 210 rfl
theorem q2026 : (Jvm.Cond.instanceMethod ({ cls := "CardHolderModel", name := "judges", desc := "(I)I" } : Jvm.MethodName)) ∈ lw_all := lw_g (lw_at lw_m8 211 rfl) rfl
theorem q2027 : (Jvm.Cond.code ({ cls := "CardHolderModel", name := "judges", desc := "(I)I" } : Jvm.MethodName) prog_14_method_133_code (4 : Nat) (Option.some Jvm.ClassFile.FieldType.int)) ∈ lw_all := lw_g (lw_at lw_m8 212 rfl) rfl
theorem q2029 : (Jvm.Cond.instanceMethod ({ cls := "CardHolderModel", name := "freed", desc := "(I)I" } : Jvm.MethodName)) ∈ lw_all := lw_g (lw_at lw_m8 214 rfl) rfl
theorem q2030 : (Jvm.Cond.selects "CardHolderModel" ({ cls := "CardHolderModel", name := "freed", desc := "(I)I" } : Jvm.MethodName) ({ cls := "CardHolderModel", name := "freed", desc := "(I)I" } : Jvm.MethodName)) ∈ lw_all := lw_g (lw_at lw_m8 215 rfl) rfl
theorem q2031 : (Jvm.Cond.code ({ cls := "CardHolderModel", name := "freed", desc := "(I)I" } : Jvm.MethodName) prog_14_method_135_code (3 : Nat) (Option.some Jvm.ClassFile.FieldType.int)) ∈ lw_all := lw_g (lw_at lw_m8 216 rfl) rfl
theorem q2033 : (Jvm.Cond.instanceMethod ({ cls := "CardHolderModel", name := "drawn", desc := "(II)I" } : Jvm.MethodName)) ∈ lw_all := lw_g (lw_at lw_m8 218 rfl) rfl
theorem q2034 : (Jvm.Cond.selects "CardHolderModel" ({ cls := "CardHolderModel", name := "drawn", desc := "(II)I" } : Jvm.MethodName) ({ cls := "CardHolderModel", name := "drawn", desc := "(II)I" } : Jvm.MethodName)) ∈ lw_all := lw_g (lw_at lw_m8 219 rfl) rfl
theorem q2035 : (Jvm.Cond.code ({ cls := "CardHolderModel", name := "drawn", desc := "(II)I" } : Jvm.MethodName) prog_14_method_138_code (3 : Nat) (Option.some Jvm.ClassFile.FieldType.int)) ∈ lw_all := lw_g (lw_at lw_m8 220 rfl) rfl
theorem q2036 : (Jvm.Cond.methodLink "CardHolderModel" (398 : Nat) ({ cls := "CardHolderModel", name := "isSeed", desc := "(I)Z" } : Jvm.MethodName)) ∈ lw_all := lw_g (lw_at lw_m8 221 rfl) rfl
theorem q2037 : (Jvm.Cond.static ({ cls := "CardHolderModel", name := "isSeed", desc := "(I)Z" } : Jvm.MethodName)) ∈ lw_all := lw_g (lw_at lw_m8 222 rfl) rfl
theorem q2038 : (Jvm.Cond.code ({ cls := "CardHolderModel", name := "isSeed", desc := "(I)Z" } : Jvm.MethodName) prog_14_method_137_code (1 : Nat) (Option.some Jvm.ClassFile.FieldType.boolean)) ∈ lw_all := lw_g (lw_at lw_m8 223 rfl) rfl
theorem q2039 : (Jvm.Cond.constantLong "CardHolderModel" (396 : Nat) (2000000000 : Int64)) ∈ lw_all := lw_g (lw_at lw_m8 224 rfl) rfl
theorem q2040 : (Jvm.Cond.methodLink "CardHolderModel" (401 : Nat) ({ cls := "CardHolderModel", name := "draws", desc := "(J)V" } : Jvm.MethodName)) ∈ lw_all := lw_g (lw_at lw_m8 225 rfl) rfl
theorem q2041 : (Jvm.Cond.privateMethod ({ cls := "CardHolderModel", name := "draws", desc := "(J)V" } : Jvm.MethodName)) ∈ lw_tbl := lw_at lw_m8 226 rfl
theorem q2042 : (Jvm.Cond.instanceMethod ({ cls := "CardHolderModel", name := "draws", desc := "(J)V" } : Jvm.MethodName)) ∈ lw_all := lw_g (lw_at lw_m8 227 rfl) rfl
theorem q2043 : (Jvm.Cond.code ({ cls := "CardHolderModel", name := "draws", desc := "(J)V" } : Jvm.MethodName) prog_14_method_136_code (9 : Nat) (Option.none : Option Jvm.ClassFile.FieldType)) ∈ lw_all := lw_g (lw_at lw_m8 228 rfl) rfl
theorem q2044 : (Jvm.Cond.constantLong "CardHolderModel" (388 : Nat) (1103515245 : Int64)) ∈ lw_all := lw_g (lw_at lw_m8 229 rfl) rfl
theorem q2045 : (Jvm.Cond.constantLong "CardHolderModel" (390 : Nat) (12345 : Int64)) ∈ lw_all := lw_g (lw_at lw_m8 230 rfl) rfl
theorem q2046 : (Jvm.Cond.constantLong "CardHolderModel" (392 : Nat) (2147483648 : Int64)) ∈ lw_all := lw_g (lw_at lw_m8 231 rfl) rfl
theorem q2047 : (Jvm.Cond.constantLong "CardHolderModel" (394 : Nat) (65536 : Int64)) ∈ lw_all := lw_g (lw_at lw_m8 232 rfl) rfl
theorem q2049 : (Jvm.Cond.instanceMethod ({ cls := "CardHolderModel", name := "luck", desc := "(III)I" } : Jvm.MethodName)) ∈ lw_all := lw_g (lw_at lw_m8 234 rfl) rfl
theorem q2050 : (Jvm.Cond.selects "CardHolderModel" ({ cls := "CardHolderModel", name := "luck", desc := "(III)I" } : Jvm.MethodName) ({ cls := "CardHolderModel", name := "luck", desc := "(III)I" } : Jvm.MethodName)) ∈ lw_all := lw_g (lw_at lw_m8 235 rfl) rfl
theorem q2051 : (Jvm.Cond.code ({ cls := "CardHolderModel", name := "luck", desc := "(III)I" } : Jvm.MethodName) prog_14_method_139_code (6 : Nat) (Option.some Jvm.ClassFile.FieldType.int)) ∈ lw_all := lw_g (lw_at lw_m8 236 rfl) rfl
theorem q2052 : (Jvm.Cond.constantLong "CardHolderModel" (404 : Nat) (20 : Int64)) ∈ lw_all := lw_g (lw_at lw_m8 237 rfl) rfl
theorem q2054 : (Jvm.Cond.instanceMethod ({ cls := "CardHolderModel", name := "winds", desc := "(II)I" } : Jvm.MethodName)) ∈ lw_all := lw_g (lw_at lw_m8 239 rfl) rfl
theorem q2055 : (Jvm.Cond.selects "CardHolderModel" ({ cls := "CardHolderModel", name := "winds", desc := "(II)I" } : Jvm.MethodName) ({ cls := "CardHolderModel", name := "winds", desc := "(II)I" } : Jvm.MethodName)) ∈ lw_all := lw_g (lw_at lw_m9 0 rfl) rfl
theorem q2056 : (Jvm.Cond.code ({ cls := "CardHolderModel", name := "winds", desc := "(II)I" } : Jvm.MethodName) prog_14_method_140_code (5 : Nat) (Option.some Jvm.ClassFile.FieldType.int)) ∈ lw_all := lw_g (lw_at lw_m9 1 rfl) rfl
theorem q2058 : (Jvm.Cond.instanceMethod ({ cls := "CardHolderModel", name := "rate", desc := "(II)I" } : Jvm.MethodName)) ∈ lw_all := lw_g (lw_at lw_m9 3 rfl) rfl
theorem q2059 : (Jvm.Cond.selects "CardHolderModel" ({ cls := "CardHolderModel", name := "rate", desc := "(II)I" } : Jvm.MethodName) ({ cls := "CardHolderModel", name := "rate", desc := "(II)I" } : Jvm.MethodName)) ∈ lw_all := lw_g (lw_at lw_m9 4 rfl) rfl
theorem q2060 : (Jvm.Cond.code ({ cls := "CardHolderModel", name := "rate", desc := "(II)I" } : Jvm.MethodName) prog_14_method_141_code (4 : Nat) (Option.some Jvm.ClassFile.FieldType.int)) ∈ lw_all := lw_g (lw_at lw_m9 5 rfl) rfl
theorem q2061 : (Jvm.Cond.constantLong "CardHolderModel" (406 : Nat) (999 : Int64)) ∈ lw_all := lw_g (lw_at lw_m9 6 rfl) rfl
theorem q2063 : (Jvm.Cond.instanceMethod ({ cls := "CardHolderModel", name := "forge", desc := "(II)I" } : Jvm.MethodName)) ∈ lw_all := lw_g (lw_at lw_m9 8 rfl) rfl
theorem q2064 : (Jvm.Cond.selects "CardHolderModel" ({ cls := "CardHolderModel", name := "forge", desc := "(II)I" } : Jvm.MethodName) ({ cls := "CardHolderModel", name := "forge", desc := "(II)I" } : Jvm.MethodName)) ∈ lw_all := lw_g (lw_at lw_m9 9 rfl) rfl
theorem q2065 : (Jvm.Cond.code ({ cls := "CardHolderModel", name := "forge", desc := "(II)I" } : Jvm.MethodName) prog_14_method_142_code (4 : Nat) (Option.some Jvm.ClassFile.FieldType.int)) ∈ lw_all := lw_g (lw_at lw_m9 10 rfl) rfl
theorem q2067 : (Jvm.Cond.instanceMethod ({ cls := "CardHolderModel", name := "count", desc := "(I)I" } : Jvm.MethodName)) ∈ lw_all := lw_g (lw_at lw_m9 12 rfl) rfl
theorem q2068 : (Jvm.Cond.selects "CardHolderModel" ({ cls := "CardHolderModel", name := "count", desc := "(I)I" } : Jvm.MethodName) ({ cls := "CardHolderModel", name := "count", desc := "(I)I" } : Jvm.MethodName)) ∈ lw_all := lw_g (lw_at lw_m9 13 rfl) rfl
theorem q2069 : (Jvm.Cond.code ({ cls := "CardHolderModel", name := "count", desc := "(I)I" } : Jvm.MethodName) prog_14_method_143_code (4 : Nat) (Option.some Jvm.ClassFile.FieldType.int)) ∈ lw_all := lw_g (lw_at lw_m9 14 rfl) rfl
theorem q2071 : (Jvm.Cond.instanceMethod ({ cls := "CardHolderModel", name := "image", desc := "(I)I" } : Jvm.MethodName)) ∈ lw_all := lw_g (lw_at lw_m9 16 rfl) rfl
theorem q2072 : (Jvm.Cond.selects "CardHolderModel" ({ cls := "CardHolderModel", name := "image", desc := "(I)I" } : Jvm.MethodName) ({ cls := "CardHolderModel", name := "image", desc := "(I)I" } : Jvm.MethodName)) ∈ lw_all := lw_g (lw_at lw_m9 17 rfl) rfl
theorem q2073 : (Jvm.Cond.code ({ cls := "CardHolderModel", name := "image", desc := "(I)I" } : Jvm.MethodName) prog_14_method_144_code (2 : Nat) (Option.some Jvm.ClassFile.FieldType.int)) ∈ lw_all := lw_g (lw_at lw_m9 18 rfl) rfl
theorem q2074 : (Jvm.Cond.constantLong "CardHolderModel" (408 : Nat) (2 : Int64)) ∈ lw_all := lw_g (lw_at lw_m9 19 rfl) rfl
theorem q2076 : (Jvm.Cond.instanceMethod ({ cls := "CardHolderModel", name := "back", desc := "(I)I" } : Jvm.MethodName)) ∈ lw_all := lw_g (lw_at lw_m9 21 rfl) rfl
theorem q2077 : (Jvm.Cond.selects "CardHolderModel" ({ cls := "CardHolderModel", name := "back", desc := "(I)I" } : Jvm.MethodName) ({ cls := "CardHolderModel", name := "back", desc := "(I)I" } : Jvm.MethodName)) ∈ lw_all := lw_g (lw_at lw_m9 22 rfl) rfl
theorem q2078 : (Jvm.Cond.code ({ cls := "CardHolderModel", name := "back", desc := "(I)I" } : Jvm.MethodName) prog_14_method_145_code (2 : Nat) (Option.some Jvm.ClassFile.FieldType.int)) ∈ lw_all := lw_g (lw_at lw_m9 23 rfl) rfl
theorem q2093 : (Jvm.Cond.castable "CardHolderModel" "java/lang/Object") ∈ lw_tbl := lw_at lw_m9 38 rfl
theorem in_X3 : ∀ w ∈ wsX30, w ∈ lw_all := lw_in wsX30 [1425, 1427, 1429, 1431, 1433, 1435, 1437, 1439, 1441, 1443, 1445, 1447, 1449, 1451, 1453, 1455, 1457, 1459, 1461, 1463, 1465, 1467, 1469, 1471, 1473, 1475, 1477, 1479, 1481, 1483, 1485] (by decide +kernel) (by decide +kernel)
