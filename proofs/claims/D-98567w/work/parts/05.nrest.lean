/-! OverHill$Dance -/
set_option maxRecDepth 100000
def RX1 : String := "OverHill$Dance"
def TX1 : u_T := fun k => match k with
  | 0 => ("OverHill$Dance", "gap", "I", false)
  | 1 => ("OverHill$Dance", "odds", "I", false)
  | 2 => ("OverHill$Dance", "rain", "I", false)
  | 3 => ("OverHill$Dance", "lines", "I", false)
  | 4 => ("OverHill$Dance", "stumbles", "I", false)
  | 5 => ("OverHill$Dance", "cells", "I", false)
  | 6 => ("OverHill$Dance", "tunes", "I", false)
  | 7 => ("OverHill$Dance", "changes", "I", false)
  | 8 => ("OverHill$Dance", "length", "[I", true)
  | 9 => ("OverHill$Dance", "begins", "[I", true)
  | 10 => ("OverHill$Dance", "round", "[I", true)
  | 11 => ("OverHill$Dance", "answers", "[I", true)
  | 12 => ("OverHill$Dance", "side", "[I", true)
  | 13 => ("OverHill$Dance", "beat", "[I", true)
  | 14 => ("OverHill$Dance", "does", "[I", true)
  | 15 => ("OverHill$Dance", "lag", "[I", true)
  | 16 => ("OverHill$Dance", "every", "[I", true)
  | 17 => ("OverHill$Dance", "at", "[I", true)
  | 18 => ("OverHill$Dance", "tune", "[I", true)
  | 19 => ("OverHill$Dance", "tuneAt", "[I", true)
  | 20 => ("OverHill$Dance", "changed", "[I", true)
  | _ => ("OverHill$Dance", "mud", "[Z", true)
def tyX1 : Nat → FieldType := fun k => match k with
  | 0 => .int
  | 1 => .int
  | 2 => .int
  | 3 => .int
  | 4 => .int
  | 5 => .int
  | 6 => .int
  | 7 => .int
  | 8 => .array .int
  | 9 => .array .int
  | 10 => .array .int
  | 11 => .array .int
  | 12 => .array .int
  | 13 => .array .int
  | 14 => .array .int
  | 15 => .array .int
  | 16 => .array .int
  | 17 => .array .int
  | 18 => .array .int
  | 19 => .array .int
  | 20 => .array .int
  | _ => .array .boolean
abbrev wsX10 : List Cond := u_ws RX1 TX1 22
set_option maxRecDepth 100000 in
theorem nmX1 : ∀ a, a < 22 → ∀ b, b < 22 → a ≠ b → (TX1 a).2.1 ≠ (TX1 b).2.1 := by decide +kernel
set_option maxRecDepth 100000 in
theorem tyX1_ok : ∀ k, k < 22 → parseFieldDescriptor (TX1 k).2.2.1 = some (tyX1 k) := by decide +kernel
abbrev cX1_init : ByteArray := prog_2_method_1_code
def yX1_init : MethodName := ⟨RX1, "<init>", "()V"⟩
def dkwX1_init_6 : List UInt8 := [181, 0, 51, 177]
abbrev dktX1_init_6 : List UInt8 := dkwX1_init_6 ++ []
def dkwX1_init_5 : List UInt8 := [181, 0, 42, 42, 8, 188, 10, 181, 0, 45, 42, 16, 40, 188, 10, 181, 0, 48, 42, 17, 0, 200, 188, 4]
abbrev dktX1_init_5 : List UInt8 := dkwX1_init_5 ++ dktX1_init_6
def dkwX1_init_4 : List UInt8 := [181, 0, 33, 42, 16, 12, 188, 10, 181, 0, 36, 42, 16, 12, 188, 10, 181, 0, 39, 42, 8, 188, 10]
abbrev dktX1_init_4 : List UInt8 := dkwX1_init_4 ++ dktX1_init_5
def dkwX1_init_3 : List UInt8 := [181, 0, 24, 42, 16, 8, 188, 10, 181, 0, 27, 42, 16, 8, 188, 10, 181, 0, 30, 42, 16, 8, 188, 10]
abbrev dktX1_init_3 : List UInt8 := dkwX1_init_3 ++ dktX1_init_4
def dkwX1_init_2 : List UInt8 := [6, 16, 63, 79, 89, 7, 16, 63, 79, 89, 8, 16, 63, 79, 181, 0, 21, 42, 16, 8, 188, 10]
abbrev dktX1_init_2 : List UInt8 := dkwX1_init_2 ++ dktX1_init_3
def dkwX1_init_1 : List UInt8 := [181, 0, 18, 42, 16, 6, 188, 10, 89, 3, 16, 63, 79, 89, 4, 16, 63, 79, 89, 5, 16, 63, 79, 89]
abbrev dktX1_init_1 : List UInt8 := dkwX1_init_1 ++ dktX1_init_2
def dkwX1_init_0 : List UInt8 := [42, 183, 0, 3, 42, 5, 188, 10, 181, 0, 9, 42, 5, 188, 10, 181, 0, 15, 42, 16, 24, 188, 10]
abbrev dktX1_init_0 : List UInt8 := dkwX1_init_0 ++ dktX1_init_1
theorem dksX1_init_0 : cX1_init.data.toList.drop 0 = dktX1_init_0 := by decide +kernel
theorem dksX1_init_1 : cX1_init.data.toList.drop 23 = dktX1_init_1 := dk_seg dksX1_init_0 23 rfl rfl
theorem dksX1_init_2 : cX1_init.data.toList.drop 47 = dktX1_init_2 := dk_seg dksX1_init_1 24 rfl rfl
theorem dksX1_init_3 : cX1_init.data.toList.drop 69 = dktX1_init_3 := dk_seg dksX1_init_2 22 rfl rfl
theorem dksX1_init_4 : cX1_init.data.toList.drop 93 = dktX1_init_4 := dk_seg dksX1_init_3 24 rfl rfl
theorem dksX1_init_5 : cX1_init.data.toList.drop 116 = dktX1_init_5 := dk_seg dksX1_init_4 23 rfl rfl
theorem dksX1_init_6 : cX1_init.data.toList.drop 140 = dktX1_init_6 := dk_seg dksX1_init_5 24 rfl rfl
theorem dX1_init_0 : decode cX1_init 0 = .ok (.aload_n 0, 1) := dk_42 (dk_at dksX1_init_0 0 rfl rfl)
theorem dX1_init_1 : decode cX1_init 1 = .ok (.invokespecial 3, 3) := dk_183 0 3 (dk_at dksX1_init_0 1 rfl rfl)
theorem dX1_init_4 : decode cX1_init 4 = .ok (.aload_n 0, 1) := dk_42 (dk_at dksX1_init_0 4 rfl rfl)
theorem dX1_init_5 : decode cX1_init 5 = .ok (.iconst 2, 1) := dk_5 (dk_at dksX1_init_0 5 rfl rfl)
theorem dX1_init_6 : decode cX1_init 6 = .ok (.newarray .int, 2) := dk_188_10 (dk_at dksX1_init_0 6 rfl rfl)
theorem dX1_init_8 : decode cX1_init 8 = .ok (.putfield 9, 3) := dk_181 0 9 (dk_at dksX1_init_0 8 rfl rfl)
theorem dX1_init_11 : decode cX1_init 11 = .ok (.aload_n 0, 1) := dk_42 (dk_at dksX1_init_0 11 rfl rfl)
theorem dX1_init_12 : decode cX1_init 12 = .ok (.iconst 2, 1) := dk_5 (dk_at dksX1_init_0 12 rfl rfl)
theorem dX1_init_13 : decode cX1_init 13 = .ok (.newarray .int, 2) := dk_188_10 (dk_at dksX1_init_0 13 rfl rfl)
theorem dX1_init_15 : decode cX1_init 15 = .ok (.putfield 15, 3) := dk_181 0 15 (dk_at dksX1_init_0 15 rfl rfl)
theorem dX1_init_18 : decode cX1_init 18 = .ok (.aload_n 0, 1) := dk_42 (dk_at dksX1_init_0 18 rfl rfl)
theorem dX1_init_19 : decode cX1_init 19 = .ok (.bipush 24, 2) := dk_16 24 (dk_at dksX1_init_0 19 rfl rfl)
theorem dX1_init_21 : decode cX1_init 21 = .ok (.newarray .int, 2) := dk_188_10 (dk_at dksX1_init_0 21 rfl rfl)
theorem dX1_init_23 : decode cX1_init 23 = .ok (.putfield 18, 3) := dk_181 0 18 (dk_at dksX1_init_1 0 rfl rfl)
theorem dX1_init_26 : decode cX1_init 26 = .ok (.aload_n 0, 1) := dk_42 (dk_at dksX1_init_1 3 rfl rfl)
theorem dX1_init_27 : decode cX1_init 27 = .ok (.bipush 6, 2) := dk_16 6 (dk_at dksX1_init_1 4 rfl rfl)
theorem dX1_init_29 : decode cX1_init 29 = .ok (.newarray .int, 2) := dk_188_10 (dk_at dksX1_init_1 6 rfl rfl)
theorem dX1_init_31 : decode cX1_init 31 = .ok (.dup, 1) := dk_89 (dk_at dksX1_init_1 8 rfl rfl)
theorem dX1_init_32 : decode cX1_init 32 = .ok (.iconst 0, 1) := dk_3 (dk_at dksX1_init_1 9 rfl rfl)
theorem dX1_init_33 : decode cX1_init 33 = .ok (.bipush 63, 2) := dk_16 63 (dk_at dksX1_init_1 10 rfl rfl)
theorem dX1_init_35 : decode cX1_init 35 = .ok (.iastore, 1) := dk_79 (dk_at dksX1_init_1 12 rfl rfl)
theorem dX1_init_36 : decode cX1_init 36 = .ok (.dup, 1) := dk_89 (dk_at dksX1_init_1 13 rfl rfl)
theorem dX1_init_37 : decode cX1_init 37 = .ok (.iconst 1, 1) := dk_4 (dk_at dksX1_init_1 14 rfl rfl)
theorem dX1_init_38 : decode cX1_init 38 = .ok (.bipush 63, 2) := dk_16 63 (dk_at dksX1_init_1 15 rfl rfl)
theorem dX1_init_40 : decode cX1_init 40 = .ok (.iastore, 1) := dk_79 (dk_at dksX1_init_1 17 rfl rfl)
theorem dX1_init_41 : decode cX1_init 41 = .ok (.dup, 1) := dk_89 (dk_at dksX1_init_1 18 rfl rfl)
theorem dX1_init_42 : decode cX1_init 42 = .ok (.iconst 2, 1) := dk_5 (dk_at dksX1_init_1 19 rfl rfl)
theorem dX1_init_43 : decode cX1_init 43 = .ok (.bipush 63, 2) := dk_16 63 (dk_at dksX1_init_1 20 rfl rfl)
theorem dX1_init_45 : decode cX1_init 45 = .ok (.iastore, 1) := dk_79 (dk_at dksX1_init_1 22 rfl rfl)
theorem dX1_init_46 : decode cX1_init 46 = .ok (.dup, 1) := dk_89 (dk_at dksX1_init_1 23 rfl rfl)
theorem dX1_init_47 : decode cX1_init 47 = .ok (.iconst 3, 1) := dk_6 (dk_at dksX1_init_2 0 rfl rfl)
theorem dX1_init_48 : decode cX1_init 48 = .ok (.bipush 63, 2) := dk_16 63 (dk_at dksX1_init_2 1 rfl rfl)
theorem dX1_init_50 : decode cX1_init 50 = .ok (.iastore, 1) := dk_79 (dk_at dksX1_init_2 3 rfl rfl)
theorem dX1_init_51 : decode cX1_init 51 = .ok (.dup, 1) := dk_89 (dk_at dksX1_init_2 4 rfl rfl)
theorem dX1_init_52 : decode cX1_init 52 = .ok (.iconst 4, 1) := dk_7 (dk_at dksX1_init_2 5 rfl rfl)
theorem dX1_init_53 : decode cX1_init 53 = .ok (.bipush 63, 2) := dk_16 63 (dk_at dksX1_init_2 6 rfl rfl)
theorem dX1_init_55 : decode cX1_init 55 = .ok (.iastore, 1) := dk_79 (dk_at dksX1_init_2 8 rfl rfl)
theorem dX1_init_56 : decode cX1_init 56 = .ok (.dup, 1) := dk_89 (dk_at dksX1_init_2 9 rfl rfl)
theorem dX1_init_57 : decode cX1_init 57 = .ok (.iconst 5, 1) := dk_8 (dk_at dksX1_init_2 10 rfl rfl)
theorem dX1_init_58 : decode cX1_init 58 = .ok (.bipush 63, 2) := dk_16 63 (dk_at dksX1_init_2 11 rfl rfl)
theorem dX1_init_60 : decode cX1_init 60 = .ok (.iastore, 1) := dk_79 (dk_at dksX1_init_2 13 rfl rfl)
theorem dX1_init_61 : decode cX1_init 61 = .ok (.putfield 21, 3) := dk_181 0 21 (dk_at dksX1_init_2 14 rfl rfl)
theorem dX1_init_64 : decode cX1_init 64 = .ok (.aload_n 0, 1) := dk_42 (dk_at dksX1_init_2 17 rfl rfl)
theorem dX1_init_65 : decode cX1_init 65 = .ok (.bipush 8, 2) := dk_16 8 (dk_at dksX1_init_2 18 rfl rfl)
theorem dX1_init_67 : decode cX1_init 67 = .ok (.newarray .int, 2) := dk_188_10 (dk_at dksX1_init_2 20 rfl rfl)
theorem dX1_init_69 : decode cX1_init 69 = .ok (.putfield 24, 3) := dk_181 0 24 (dk_at dksX1_init_3 0 rfl rfl)
theorem dX1_init_72 : decode cX1_init 72 = .ok (.aload_n 0, 1) := dk_42 (dk_at dksX1_init_3 3 rfl rfl)
theorem dX1_init_73 : decode cX1_init 73 = .ok (.bipush 8, 2) := dk_16 8 (dk_at dksX1_init_3 4 rfl rfl)
theorem dX1_init_75 : decode cX1_init 75 = .ok (.newarray .int, 2) := dk_188_10 (dk_at dksX1_init_3 6 rfl rfl)
theorem dX1_init_77 : decode cX1_init 77 = .ok (.putfield 27, 3) := dk_181 0 27 (dk_at dksX1_init_3 8 rfl rfl)
theorem dX1_init_80 : decode cX1_init 80 = .ok (.aload_n 0, 1) := dk_42 (dk_at dksX1_init_3 11 rfl rfl)
theorem dX1_init_81 : decode cX1_init 81 = .ok (.bipush 8, 2) := dk_16 8 (dk_at dksX1_init_3 12 rfl rfl)
theorem dX1_init_83 : decode cX1_init 83 = .ok (.newarray .int, 2) := dk_188_10 (dk_at dksX1_init_3 14 rfl rfl)
theorem dX1_init_85 : decode cX1_init 85 = .ok (.putfield 30, 3) := dk_181 0 30 (dk_at dksX1_init_3 16 rfl rfl)
theorem dX1_init_88 : decode cX1_init 88 = .ok (.aload_n 0, 1) := dk_42 (dk_at dksX1_init_3 19 rfl rfl)
theorem dX1_init_89 : decode cX1_init 89 = .ok (.bipush 8, 2) := dk_16 8 (dk_at dksX1_init_3 20 rfl rfl)
theorem dX1_init_91 : decode cX1_init 91 = .ok (.newarray .int, 2) := dk_188_10 (dk_at dksX1_init_3 22 rfl rfl)
theorem dX1_init_93 : decode cX1_init 93 = .ok (.putfield 33, 3) := dk_181 0 33 (dk_at dksX1_init_4 0 rfl rfl)
theorem dX1_init_96 : decode cX1_init 96 = .ok (.aload_n 0, 1) := dk_42 (dk_at dksX1_init_4 3 rfl rfl)
theorem dX1_init_97 : decode cX1_init 97 = .ok (.bipush 12, 2) := dk_16 12 (dk_at dksX1_init_4 4 rfl rfl)
theorem dX1_init_99 : decode cX1_init 99 = .ok (.newarray .int, 2) := dk_188_10 (dk_at dksX1_init_4 6 rfl rfl)
theorem dX1_init_101 : decode cX1_init 101 = .ok (.putfield 36, 3) := dk_181 0 36 (dk_at dksX1_init_4 8 rfl rfl)
theorem dX1_init_104 : decode cX1_init 104 = .ok (.aload_n 0, 1) := dk_42 (dk_at dksX1_init_4 11 rfl rfl)
theorem dX1_init_105 : decode cX1_init 105 = .ok (.bipush 12, 2) := dk_16 12 (dk_at dksX1_init_4 12 rfl rfl)
theorem dX1_init_107 : decode cX1_init 107 = .ok (.newarray .int, 2) := dk_188_10 (dk_at dksX1_init_4 14 rfl rfl)
theorem dX1_init_109 : decode cX1_init 109 = .ok (.putfield 39, 3) := dk_181 0 39 (dk_at dksX1_init_4 16 rfl rfl)
theorem dX1_init_112 : decode cX1_init 112 = .ok (.aload_n 0, 1) := dk_42 (dk_at dksX1_init_4 19 rfl rfl)
theorem dX1_init_113 : decode cX1_init 113 = .ok (.iconst 5, 1) := dk_8 (dk_at dksX1_init_4 20 rfl rfl)
theorem dX1_init_114 : decode cX1_init 114 = .ok (.newarray .int, 2) := dk_188_10 (dk_at dksX1_init_4 21 rfl rfl)
theorem dX1_init_116 : decode cX1_init 116 = .ok (.putfield 42, 3) := dk_181 0 42 (dk_at dksX1_init_5 0 rfl rfl)
theorem dX1_init_119 : decode cX1_init 119 = .ok (.aload_n 0, 1) := dk_42 (dk_at dksX1_init_5 3 rfl rfl)
theorem dX1_init_120 : decode cX1_init 120 = .ok (.iconst 5, 1) := dk_8 (dk_at dksX1_init_5 4 rfl rfl)
theorem dX1_init_121 : decode cX1_init 121 = .ok (.newarray .int, 2) := dk_188_10 (dk_at dksX1_init_5 5 rfl rfl)
theorem dX1_init_123 : decode cX1_init 123 = .ok (.putfield 45, 3) := dk_181 0 45 (dk_at dksX1_init_5 7 rfl rfl)
theorem dX1_init_126 : decode cX1_init 126 = .ok (.aload_n 0, 1) := dk_42 (dk_at dksX1_init_5 10 rfl rfl)
theorem dX1_init_127 : decode cX1_init 127 = .ok (.bipush 40, 2) := dk_16 40 (dk_at dksX1_init_5 11 rfl rfl)
theorem dX1_init_129 : decode cX1_init 129 = .ok (.newarray .int, 2) := dk_188_10 (dk_at dksX1_init_5 13 rfl rfl)
theorem dX1_init_131 : decode cX1_init 131 = .ok (.putfield 48, 3) := dk_181 0 48 (dk_at dksX1_init_5 15 rfl rfl)
theorem dX1_init_134 : decode cX1_init 134 = .ok (.aload_n 0, 1) := dk_42 (dk_at dksX1_init_5 18 rfl rfl)
theorem dX1_init_135 : decode cX1_init 135 = .ok (.sipush 200, 3) := dk_17 0 200 (dk_at dksX1_init_5 19 rfl rfl)
theorem dX1_init_138 : decode cX1_init 138 = .ok (.newarray .boolean, 2) := dk_188_4 (dk_at dksX1_init_5 22 rfl rfl)
theorem dX1_init_140 : decode cX1_init 140 = .ok (.putfield 51, 3) := dk_181 0 51 (dk_at dksX1_init_6 0 rfl rfl)
theorem dX1_init_143 : decode cX1_init 143 = .ok (.return_, 1) := dk_177 (dk_at dksX1_init_6 3 rfl rfl)
abbrev cX1_stumbleAt : ByteArray := prog_2_method_3_code
def yX1_stumbleAt : MethodName := ⟨RX1, "stumbleAt", "(II)I"⟩
def dkwX1_stumbleAt_1 : List UInt8 := [29, 46, 28, 160, 0, 5, 29, 172, 132, 3, 1, 167, 255, 223, 2, 172]
abbrev dktX1_stumbleAt_1 : List UInt8 := dkwX1_stumbleAt_1 ++ []
def dkwX1_stumbleAt_0 : List UInt8 := [3, 62, 29, 42, 180, 0, 55, 162, 0, 31, 42, 180, 0, 24, 29, 46, 27, 160, 0, 15, 42, 180, 0, 27]
abbrev dktX1_stumbleAt_0 : List UInt8 := dkwX1_stumbleAt_0 ++ dktX1_stumbleAt_1
theorem dksX1_stumbleAt_0 : cX1_stumbleAt.data.toList.drop 0 = dktX1_stumbleAt_0 := by decide +kernel
theorem dksX1_stumbleAt_1 : cX1_stumbleAt.data.toList.drop 24 = dktX1_stumbleAt_1 := dk_seg dksX1_stumbleAt_0 24 rfl rfl
theorem dX1_stumbleAt_0 : decode cX1_stumbleAt 0 = .ok (.iconst 0, 1) := dk_3 (dk_at dksX1_stumbleAt_0 0 rfl rfl)
theorem dX1_stumbleAt_1 : decode cX1_stumbleAt 1 = .ok (.istore_n 3, 1) := dk_62 (dk_at dksX1_stumbleAt_0 1 rfl rfl)
theorem dX1_stumbleAt_2 : decode cX1_stumbleAt 2 = .ok (.iload_n 3, 1) := dk_29 (dk_at dksX1_stumbleAt_0 2 rfl rfl)
theorem dX1_stumbleAt_3 : decode cX1_stumbleAt 3 = .ok (.aload_n 0, 1) := dk_42 (dk_at dksX1_stumbleAt_0 3 rfl rfl)
theorem dX1_stumbleAt_4 : decode cX1_stumbleAt 4 = .ok (.getfield 55, 3) := dk_180 0 55 (dk_at dksX1_stumbleAt_0 4 rfl rfl)
theorem dX1_stumbleAt_7 : decode cX1_stumbleAt 7 = .ok (.if_icmp .ge 31, 3) := dk_162 0 31 (dk_at dksX1_stumbleAt_0 7 rfl rfl)
theorem dX1_stumbleAt_10 : decode cX1_stumbleAt 10 = .ok (.aload_n 0, 1) := dk_42 (dk_at dksX1_stumbleAt_0 10 rfl rfl)
theorem dX1_stumbleAt_11 : decode cX1_stumbleAt 11 = .ok (.getfield 24, 3) := dk_180 0 24 (dk_at dksX1_stumbleAt_0 11 rfl rfl)
theorem dX1_stumbleAt_14 : decode cX1_stumbleAt 14 = .ok (.iload_n 3, 1) := dk_29 (dk_at dksX1_stumbleAt_0 14 rfl rfl)
theorem dX1_stumbleAt_15 : decode cX1_stumbleAt 15 = .ok (.iaload, 1) := dk_46 (dk_at dksX1_stumbleAt_0 15 rfl rfl)
theorem dX1_stumbleAt_16 : decode cX1_stumbleAt 16 = .ok (.iload_n 1, 1) := dk_27 (dk_at dksX1_stumbleAt_0 16 rfl rfl)
theorem dX1_stumbleAt_17 : decode cX1_stumbleAt 17 = .ok (.if_icmp .ne 15, 3) := dk_160 0 15 (dk_at dksX1_stumbleAt_0 17 rfl rfl)
theorem dX1_stumbleAt_20 : decode cX1_stumbleAt 20 = .ok (.aload_n 0, 1) := dk_42 (dk_at dksX1_stumbleAt_0 20 rfl rfl)
theorem dX1_stumbleAt_21 : decode cX1_stumbleAt 21 = .ok (.getfield 27, 3) := dk_180 0 27 (dk_at dksX1_stumbleAt_0 21 rfl rfl)
theorem dX1_stumbleAt_24 : decode cX1_stumbleAt 24 = .ok (.iload_n 3, 1) := dk_29 (dk_at dksX1_stumbleAt_1 0 rfl rfl)
theorem dX1_stumbleAt_25 : decode cX1_stumbleAt 25 = .ok (.iaload, 1) := dk_46 (dk_at dksX1_stumbleAt_1 1 rfl rfl)
theorem dX1_stumbleAt_26 : decode cX1_stumbleAt 26 = .ok (.iload_n 2, 1) := dk_28 (dk_at dksX1_stumbleAt_1 2 rfl rfl)
theorem dX1_stumbleAt_27 : decode cX1_stumbleAt 27 = .ok (.if_icmp .ne 5, 3) := dk_160 0 5 (dk_at dksX1_stumbleAt_1 3 rfl rfl)
theorem dX1_stumbleAt_30 : decode cX1_stumbleAt 30 = .ok (.iload_n 3, 1) := dk_29 (dk_at dksX1_stumbleAt_1 6 rfl rfl)
theorem dX1_stumbleAt_31 : decode cX1_stumbleAt 31 = .ok (.ireturn, 1) := dk_172 (dk_at dksX1_stumbleAt_1 7 rfl rfl)
theorem dX1_stumbleAt_32 : decode cX1_stumbleAt 32 = .ok (.iinc 3 1, 3) := dk_132 3 1 (dk_at dksX1_stumbleAt_1 8 rfl rfl)
theorem dX1_stumbleAt_35 : decode cX1_stumbleAt 35 = .ok (.goto (-33), 3) := dk_167 255 223 (dk_at dksX1_stumbleAt_1 11 rfl rfl)
theorem dX1_stumbleAt_38 : decode cX1_stumbleAt 38 = .ok (.iconst (-1), 1) := dk_2 (dk_at dksX1_stumbleAt_1 14 rfl rfl)
theorem dX1_stumbleAt_39 : decode cX1_stumbleAt 39 = .ok (.ireturn, 1) := dk_172 (dk_at dksX1_stumbleAt_1 15 rfl rfl)
abbrev cX1_step : ByteArray := prog_2_method_2_code
def yX1_step : MethodName := ⟨RX1, "step", "(II)I"⟩
def dkwX1_step_0 : List UInt8 := [42, 180, 0, 18, 16, 12, 27, 104, 28, 96, 46, 172]
abbrev dktX1_step_0 : List UInt8 := dkwX1_step_0 ++ []
theorem dksX1_step_0 : cX1_step.data.toList.drop 0 = dktX1_step_0 := by decide +kernel
theorem dX1_step_0 : decode cX1_step 0 = .ok (.aload_n 0, 1) := dk_42 (dk_at dksX1_step_0 0 rfl rfl)
theorem dX1_step_1 : decode cX1_step 1 = .ok (.getfield 18, 3) := dk_180 0 18 (dk_at dksX1_step_0 1 rfl rfl)
theorem dX1_step_4 : decode cX1_step 4 = .ok (.bipush 12, 2) := dk_16 12 (dk_at dksX1_step_0 4 rfl rfl)
theorem dX1_step_6 : decode cX1_step 6 = .ok (.iload_n 1, 1) := dk_27 (dk_at dksX1_step_0 6 rfl rfl)
theorem dX1_step_7 : decode cX1_step 7 = .ok (.imul, 1) := dk_104 (dk_at dksX1_step_0 7 rfl rfl)
theorem dX1_step_8 : decode cX1_step 8 = .ok (.iload_n 2, 1) := dk_28 (dk_at dksX1_step_0 8 rfl rfl)
theorem dX1_step_9 : decode cX1_step 9 = .ok (.iadd, 1) := dk_96 (dk_at dksX1_step_0 9 rfl rfl)
theorem dX1_step_10 : decode cX1_step 10 = .ok (.iaload, 1) := dk_46 (dk_at dksX1_step_0 10 rfl rfl)
theorem dX1_step_11 : decode cX1_step 11 = .ok (.ireturn, 1) := dk_172 (dk_at dksX1_step_0 11 rfl rfl)
abbrev cX1_copy : ByteArray := prog_2_method_4_code
def yX1_copy : MethodName := ⟨RX1, "copy", "()LOverHill$Dance;"⟩
def dkwX1_copy_11 : List UInt8 := [16, 40, 184, 0, 81, 42, 180, 0, 51, 3, 43, 180, 0, 51, 3, 17, 0, 200, 184, 0, 81, 43, 176]
abbrev dktX1_copy_11 : List UInt8 := dkwX1_copy_11 ++ []
def dkwX1_copy_10 : List UInt8 := [180, 0, 45, 3, 43, 180, 0, 45, 3, 8, 184, 0, 81, 42, 180, 0, 48, 3, 43, 180, 0, 48, 3]
abbrev dktX1_copy_10 : List UInt8 := dkwX1_copy_10 ++ dktX1_copy_11
def dkwX1_copy_9 : List UInt8 := [180, 0, 39, 3, 16, 12, 184, 0, 81, 42, 180, 0, 42, 3, 43, 180, 0, 42, 3, 8, 184, 0, 81, 42]
abbrev dktX1_copy_9 : List UInt8 := dkwX1_copy_9 ++ dktX1_copy_10
def dkwX1_copy_8 : List UInt8 := [184, 0, 81, 42, 180, 0, 36, 3, 43, 180, 0, 36, 3, 16, 12, 184, 0, 81, 42, 180, 0, 39, 3, 43]
abbrev dktX1_copy_8 : List UInt8 := dkwX1_copy_8 ++ dktX1_copy_9
def dkwX1_copy_7 : List UInt8 := [3, 43, 180, 0, 30, 3, 16, 8, 184, 0, 81, 42, 180, 0, 33, 3, 43, 180, 0, 33, 3, 16, 8]
abbrev dktX1_copy_7 : List UInt8 := dkwX1_copy_7 ++ dktX1_copy_8
def dkwX1_copy_6 : List UInt8 := [16, 8, 184, 0, 81, 42, 180, 0, 27, 3, 43, 180, 0, 27, 3, 16, 8, 184, 0, 81, 42, 180, 0, 30]
abbrev dktX1_copy_6 : List UInt8 := dkwX1_copy_6 ++ dktX1_copy_7
def dkwX1_copy_5 : List UInt8 := [180, 0, 21, 3, 43, 180, 0, 21, 3, 16, 6, 184, 0, 81, 42, 180, 0, 24, 3, 43, 180, 0, 24, 3]
abbrev dktX1_copy_5 : List UInt8 := dkwX1_copy_5 ++ dktX1_copy_6
def dkwX1_copy_4 : List UInt8 := [5, 184, 0, 81, 42, 180, 0, 18, 3, 43, 180, 0, 18, 3, 42, 180, 0, 18, 190, 184, 0, 81, 42]
abbrev dktX1_copy_4 : List UInt8 := dkwX1_copy_4 ++ dktX1_copy_5
def dkwX1_copy_3 : List UInt8 := [42, 180, 0, 9, 3, 43, 180, 0, 9, 3, 5, 184, 0, 81, 42, 180, 0, 15, 3, 43, 180, 0, 15, 3]
abbrev dktX1_copy_3 : List UInt8 := dkwX1_copy_3 ++ dktX1_copy_4
def dkwX1_copy_2 : List UInt8 := [43, 42, 180, 0, 72, 181, 0, 72, 43, 42, 180, 0, 75, 181, 0, 75, 43, 42, 180, 0, 78, 181, 0, 78]
abbrev dktX1_copy_2 : List UInt8 := dkwX1_copy_2 ++ dktX1_copy_3
def dkwX1_copy_1 : List UInt8 := [43, 42, 180, 0, 66, 181, 0, 66, 43, 42, 180, 0, 69, 181, 0, 69, 43, 42, 180, 0, 55, 181, 0, 55]
abbrev dktX1_copy_1 : List UInt8 := dkwX1_copy_1 ++ dktX1_copy_2
def dkwX1_copy_0 : List UInt8 := [187, 0, 10, 89, 183, 0, 59, 76, 43, 42, 180, 0, 60, 181, 0, 60, 43, 42, 180, 0, 63, 181, 0, 63]
abbrev dktX1_copy_0 : List UInt8 := dkwX1_copy_0 ++ dktX1_copy_1
theorem dksX1_copy_0 : cX1_copy.data.toList.drop 0 = dktX1_copy_0 := by decide +kernel
theorem dksX1_copy_1 : cX1_copy.data.toList.drop 24 = dktX1_copy_1 := dk_seg dksX1_copy_0 24 rfl rfl
theorem dksX1_copy_2 : cX1_copy.data.toList.drop 48 = dktX1_copy_2 := dk_seg dksX1_copy_1 24 rfl rfl
theorem dksX1_copy_3 : cX1_copy.data.toList.drop 72 = dktX1_copy_3 := dk_seg dksX1_copy_2 24 rfl rfl
theorem dksX1_copy_4 : cX1_copy.data.toList.drop 96 = dktX1_copy_4 := dk_seg dksX1_copy_3 24 rfl rfl
theorem dksX1_copy_5 : cX1_copy.data.toList.drop 119 = dktX1_copy_5 := dk_seg dksX1_copy_4 23 rfl rfl
theorem dksX1_copy_6 : cX1_copy.data.toList.drop 143 = dktX1_copy_6 := dk_seg dksX1_copy_5 24 rfl rfl
theorem dksX1_copy_7 : cX1_copy.data.toList.drop 167 = dktX1_copy_7 := dk_seg dksX1_copy_6 24 rfl rfl
theorem dksX1_copy_8 : cX1_copy.data.toList.drop 190 = dktX1_copy_8 := dk_seg dksX1_copy_7 23 rfl rfl
theorem dksX1_copy_9 : cX1_copy.data.toList.drop 214 = dktX1_copy_9 := dk_seg dksX1_copy_8 24 rfl rfl
theorem dksX1_copy_10 : cX1_copy.data.toList.drop 238 = dktX1_copy_10 := dk_seg dksX1_copy_9 24 rfl rfl
theorem dksX1_copy_11 : cX1_copy.data.toList.drop 261 = dktX1_copy_11 := dk_seg dksX1_copy_10 23 rfl rfl
theorem dX1_copy_0 : decode cX1_copy 0 = .ok (.new 10, 3) := dk_187 0 10 (dk_at dksX1_copy_0 0 rfl rfl)
theorem dX1_copy_3 : decode cX1_copy 3 = .ok (.dup, 1) := dk_89 (dk_at dksX1_copy_0 3 rfl rfl)
theorem dX1_copy_4 : decode cX1_copy 4 = .ok (.invokespecial 59, 3) := dk_183 0 59 (dk_at dksX1_copy_0 4 rfl rfl)
theorem dX1_copy_7 : decode cX1_copy 7 = .ok (.astore_n 1, 1) := dk_76 (dk_at dksX1_copy_0 7 rfl rfl)
theorem dX1_copy_8 : decode cX1_copy 8 = .ok (.aload_n 1, 1) := dk_43 (dk_at dksX1_copy_0 8 rfl rfl)
theorem dX1_copy_9 : decode cX1_copy 9 = .ok (.aload_n 0, 1) := dk_42 (dk_at dksX1_copy_0 9 rfl rfl)
theorem dX1_copy_10 : decode cX1_copy 10 = .ok (.getfield 60, 3) := dk_180 0 60 (dk_at dksX1_copy_0 10 rfl rfl)
theorem dX1_copy_13 : decode cX1_copy 13 = .ok (.putfield 60, 3) := dk_181 0 60 (dk_at dksX1_copy_0 13 rfl rfl)
theorem dX1_copy_16 : decode cX1_copy 16 = .ok (.aload_n 1, 1) := dk_43 (dk_at dksX1_copy_0 16 rfl rfl)
theorem dX1_copy_17 : decode cX1_copy 17 = .ok (.aload_n 0, 1) := dk_42 (dk_at dksX1_copy_0 17 rfl rfl)
theorem dX1_copy_18 : decode cX1_copy 18 = .ok (.getfield 63, 3) := dk_180 0 63 (dk_at dksX1_copy_0 18 rfl rfl)
theorem dX1_copy_21 : decode cX1_copy 21 = .ok (.putfield 63, 3) := dk_181 0 63 (dk_at dksX1_copy_0 21 rfl rfl)
theorem dX1_copy_24 : decode cX1_copy 24 = .ok (.aload_n 1, 1) := dk_43 (dk_at dksX1_copy_1 0 rfl rfl)
theorem dX1_copy_25 : decode cX1_copy 25 = .ok (.aload_n 0, 1) := dk_42 (dk_at dksX1_copy_1 1 rfl rfl)
theorem dX1_copy_26 : decode cX1_copy 26 = .ok (.getfield 66, 3) := dk_180 0 66 (dk_at dksX1_copy_1 2 rfl rfl)
theorem dX1_copy_29 : decode cX1_copy 29 = .ok (.putfield 66, 3) := dk_181 0 66 (dk_at dksX1_copy_1 5 rfl rfl)
theorem dX1_copy_32 : decode cX1_copy 32 = .ok (.aload_n 1, 1) := dk_43 (dk_at dksX1_copy_1 8 rfl rfl)
theorem dX1_copy_33 : decode cX1_copy 33 = .ok (.aload_n 0, 1) := dk_42 (dk_at dksX1_copy_1 9 rfl rfl)
theorem dX1_copy_34 : decode cX1_copy 34 = .ok (.getfield 69, 3) := dk_180 0 69 (dk_at dksX1_copy_1 10 rfl rfl)
theorem dX1_copy_37 : decode cX1_copy 37 = .ok (.putfield 69, 3) := dk_181 0 69 (dk_at dksX1_copy_1 13 rfl rfl)
theorem dX1_copy_40 : decode cX1_copy 40 = .ok (.aload_n 1, 1) := dk_43 (dk_at dksX1_copy_1 16 rfl rfl)
theorem dX1_copy_41 : decode cX1_copy 41 = .ok (.aload_n 0, 1) := dk_42 (dk_at dksX1_copy_1 17 rfl rfl)
theorem dX1_copy_42 : decode cX1_copy 42 = .ok (.getfield 55, 3) := dk_180 0 55 (dk_at dksX1_copy_1 18 rfl rfl)
theorem dX1_copy_45 : decode cX1_copy 45 = .ok (.putfield 55, 3) := dk_181 0 55 (dk_at dksX1_copy_1 21 rfl rfl)
theorem dX1_copy_48 : decode cX1_copy 48 = .ok (.aload_n 1, 1) := dk_43 (dk_at dksX1_copy_2 0 rfl rfl)
theorem dX1_copy_49 : decode cX1_copy 49 = .ok (.aload_n 0, 1) := dk_42 (dk_at dksX1_copy_2 1 rfl rfl)
theorem dX1_copy_50 : decode cX1_copy 50 = .ok (.getfield 72, 3) := dk_180 0 72 (dk_at dksX1_copy_2 2 rfl rfl)
theorem dX1_copy_53 : decode cX1_copy 53 = .ok (.putfield 72, 3) := dk_181 0 72 (dk_at dksX1_copy_2 5 rfl rfl)
theorem dX1_copy_56 : decode cX1_copy 56 = .ok (.aload_n 1, 1) := dk_43 (dk_at dksX1_copy_2 8 rfl rfl)
theorem dX1_copy_57 : decode cX1_copy 57 = .ok (.aload_n 0, 1) := dk_42 (dk_at dksX1_copy_2 9 rfl rfl)
theorem dX1_copy_58 : decode cX1_copy 58 = .ok (.getfield 75, 3) := dk_180 0 75 (dk_at dksX1_copy_2 10 rfl rfl)
theorem dX1_copy_61 : decode cX1_copy 61 = .ok (.putfield 75, 3) := dk_181 0 75 (dk_at dksX1_copy_2 13 rfl rfl)
theorem dX1_copy_64 : decode cX1_copy 64 = .ok (.aload_n 1, 1) := dk_43 (dk_at dksX1_copy_2 16 rfl rfl)
theorem dX1_copy_65 : decode cX1_copy 65 = .ok (.aload_n 0, 1) := dk_42 (dk_at dksX1_copy_2 17 rfl rfl)
theorem dX1_copy_66 : decode cX1_copy 66 = .ok (.getfield 78, 3) := dk_180 0 78 (dk_at dksX1_copy_2 18 rfl rfl)
theorem dX1_copy_69 : decode cX1_copy 69 = .ok (.putfield 78, 3) := dk_181 0 78 (dk_at dksX1_copy_2 21 rfl rfl)
theorem dX1_copy_72 : decode cX1_copy 72 = .ok (.aload_n 0, 1) := dk_42 (dk_at dksX1_copy_3 0 rfl rfl)
theorem dX1_copy_73 : decode cX1_copy 73 = .ok (.getfield 9, 3) := dk_180 0 9 (dk_at dksX1_copy_3 1 rfl rfl)
theorem dX1_copy_76 : decode cX1_copy 76 = .ok (.iconst 0, 1) := dk_3 (dk_at dksX1_copy_3 4 rfl rfl)
theorem dX1_copy_77 : decode cX1_copy 77 = .ok (.aload_n 1, 1) := dk_43 (dk_at dksX1_copy_3 5 rfl rfl)
theorem dX1_copy_78 : decode cX1_copy 78 = .ok (.getfield 9, 3) := dk_180 0 9 (dk_at dksX1_copy_3 6 rfl rfl)
theorem dX1_copy_81 : decode cX1_copy 81 = .ok (.iconst 0, 1) := dk_3 (dk_at dksX1_copy_3 9 rfl rfl)
theorem dX1_copy_82 : decode cX1_copy 82 = .ok (.iconst 2, 1) := dk_5 (dk_at dksX1_copy_3 10 rfl rfl)
theorem dX1_copy_83 : decode cX1_copy 83 = .ok (.invokestatic 81, 3) := dk_184 0 81 (dk_at dksX1_copy_3 11 rfl rfl)
theorem dX1_copy_86 : decode cX1_copy 86 = .ok (.aload_n 0, 1) := dk_42 (dk_at dksX1_copy_3 14 rfl rfl)
theorem dX1_copy_87 : decode cX1_copy 87 = .ok (.getfield 15, 3) := dk_180 0 15 (dk_at dksX1_copy_3 15 rfl rfl)
theorem dX1_copy_90 : decode cX1_copy 90 = .ok (.iconst 0, 1) := dk_3 (dk_at dksX1_copy_3 18 rfl rfl)
theorem dX1_copy_91 : decode cX1_copy 91 = .ok (.aload_n 1, 1) := dk_43 (dk_at dksX1_copy_3 19 rfl rfl)
theorem dX1_copy_92 : decode cX1_copy 92 = .ok (.getfield 15, 3) := dk_180 0 15 (dk_at dksX1_copy_3 20 rfl rfl)
theorem dX1_copy_95 : decode cX1_copy 95 = .ok (.iconst 0, 1) := dk_3 (dk_at dksX1_copy_3 23 rfl rfl)
theorem dX1_copy_96 : decode cX1_copy 96 = .ok (.iconst 2, 1) := dk_5 (dk_at dksX1_copy_4 0 rfl rfl)
theorem dX1_copy_97 : decode cX1_copy 97 = .ok (.invokestatic 81, 3) := dk_184 0 81 (dk_at dksX1_copy_4 1 rfl rfl)
theorem dX1_copy_100 : decode cX1_copy 100 = .ok (.aload_n 0, 1) := dk_42 (dk_at dksX1_copy_4 4 rfl rfl)
theorem dX1_copy_101 : decode cX1_copy 101 = .ok (.getfield 18, 3) := dk_180 0 18 (dk_at dksX1_copy_4 5 rfl rfl)
theorem dX1_copy_104 : decode cX1_copy 104 = .ok (.iconst 0, 1) := dk_3 (dk_at dksX1_copy_4 8 rfl rfl)
theorem dX1_copy_105 : decode cX1_copy 105 = .ok (.aload_n 1, 1) := dk_43 (dk_at dksX1_copy_4 9 rfl rfl)
theorem dX1_copy_106 : decode cX1_copy 106 = .ok (.getfield 18, 3) := dk_180 0 18 (dk_at dksX1_copy_4 10 rfl rfl)
theorem dX1_copy_109 : decode cX1_copy 109 = .ok (.iconst 0, 1) := dk_3 (dk_at dksX1_copy_4 13 rfl rfl)
theorem dX1_copy_110 : decode cX1_copy 110 = .ok (.aload_n 0, 1) := dk_42 (dk_at dksX1_copy_4 14 rfl rfl)
theorem dX1_copy_111 : decode cX1_copy 111 = .ok (.getfield 18, 3) := dk_180 0 18 (dk_at dksX1_copy_4 15 rfl rfl)
theorem dX1_copy_114 : decode cX1_copy 114 = .ok (.arraylength, 1) := dk_190 (dk_at dksX1_copy_4 18 rfl rfl)
theorem dX1_copy_115 : decode cX1_copy 115 = .ok (.invokestatic 81, 3) := dk_184 0 81 (dk_at dksX1_copy_4 19 rfl rfl)
theorem dX1_copy_118 : decode cX1_copy 118 = .ok (.aload_n 0, 1) := dk_42 (dk_at dksX1_copy_4 22 rfl rfl)
theorem dX1_copy_119 : decode cX1_copy 119 = .ok (.getfield 21, 3) := dk_180 0 21 (dk_at dksX1_copy_5 0 rfl rfl)
theorem dX1_copy_122 : decode cX1_copy 122 = .ok (.iconst 0, 1) := dk_3 (dk_at dksX1_copy_5 3 rfl rfl)
theorem dX1_copy_123 : decode cX1_copy 123 = .ok (.aload_n 1, 1) := dk_43 (dk_at dksX1_copy_5 4 rfl rfl)
theorem dX1_copy_124 : decode cX1_copy 124 = .ok (.getfield 21, 3) := dk_180 0 21 (dk_at dksX1_copy_5 5 rfl rfl)
theorem dX1_copy_127 : decode cX1_copy 127 = .ok (.iconst 0, 1) := dk_3 (dk_at dksX1_copy_5 8 rfl rfl)
theorem dX1_copy_128 : decode cX1_copy 128 = .ok (.bipush 6, 2) := dk_16 6 (dk_at dksX1_copy_5 9 rfl rfl)
theorem dX1_copy_130 : decode cX1_copy 130 = .ok (.invokestatic 81, 3) := dk_184 0 81 (dk_at dksX1_copy_5 11 rfl rfl)
theorem dX1_copy_133 : decode cX1_copy 133 = .ok (.aload_n 0, 1) := dk_42 (dk_at dksX1_copy_5 14 rfl rfl)
theorem dX1_copy_134 : decode cX1_copy 134 = .ok (.getfield 24, 3) := dk_180 0 24 (dk_at dksX1_copy_5 15 rfl rfl)
theorem dX1_copy_137 : decode cX1_copy 137 = .ok (.iconst 0, 1) := dk_3 (dk_at dksX1_copy_5 18 rfl rfl)
theorem dX1_copy_138 : decode cX1_copy 138 = .ok (.aload_n 1, 1) := dk_43 (dk_at dksX1_copy_5 19 rfl rfl)
theorem dX1_copy_139 : decode cX1_copy 139 = .ok (.getfield 24, 3) := dk_180 0 24 (dk_at dksX1_copy_5 20 rfl rfl)
theorem dX1_copy_142 : decode cX1_copy 142 = .ok (.iconst 0, 1) := dk_3 (dk_at dksX1_copy_5 23 rfl rfl)
theorem dX1_copy_143 : decode cX1_copy 143 = .ok (.bipush 8, 2) := dk_16 8 (dk_at dksX1_copy_6 0 rfl rfl)
theorem dX1_copy_145 : decode cX1_copy 145 = .ok (.invokestatic 81, 3) := dk_184 0 81 (dk_at dksX1_copy_6 2 rfl rfl)
theorem dX1_copy_148 : decode cX1_copy 148 = .ok (.aload_n 0, 1) := dk_42 (dk_at dksX1_copy_6 5 rfl rfl)
theorem dX1_copy_149 : decode cX1_copy 149 = .ok (.getfield 27, 3) := dk_180 0 27 (dk_at dksX1_copy_6 6 rfl rfl)
theorem dX1_copy_152 : decode cX1_copy 152 = .ok (.iconst 0, 1) := dk_3 (dk_at dksX1_copy_6 9 rfl rfl)
theorem dX1_copy_153 : decode cX1_copy 153 = .ok (.aload_n 1, 1) := dk_43 (dk_at dksX1_copy_6 10 rfl rfl)
theorem dX1_copy_154 : decode cX1_copy 154 = .ok (.getfield 27, 3) := dk_180 0 27 (dk_at dksX1_copy_6 11 rfl rfl)
theorem dX1_copy_157 : decode cX1_copy 157 = .ok (.iconst 0, 1) := dk_3 (dk_at dksX1_copy_6 14 rfl rfl)
theorem dX1_copy_158 : decode cX1_copy 158 = .ok (.bipush 8, 2) := dk_16 8 (dk_at dksX1_copy_6 15 rfl rfl)
theorem dX1_copy_160 : decode cX1_copy 160 = .ok (.invokestatic 81, 3) := dk_184 0 81 (dk_at dksX1_copy_6 17 rfl rfl)
theorem dX1_copy_163 : decode cX1_copy 163 = .ok (.aload_n 0, 1) := dk_42 (dk_at dksX1_copy_6 20 rfl rfl)
theorem dX1_copy_164 : decode cX1_copy 164 = .ok (.getfield 30, 3) := dk_180 0 30 (dk_at dksX1_copy_6 21 rfl rfl)
theorem dX1_copy_167 : decode cX1_copy 167 = .ok (.iconst 0, 1) := dk_3 (dk_at dksX1_copy_7 0 rfl rfl)
theorem dX1_copy_168 : decode cX1_copy 168 = .ok (.aload_n 1, 1) := dk_43 (dk_at dksX1_copy_7 1 rfl rfl)
theorem dX1_copy_169 : decode cX1_copy 169 = .ok (.getfield 30, 3) := dk_180 0 30 (dk_at dksX1_copy_7 2 rfl rfl)
theorem dX1_copy_172 : decode cX1_copy 172 = .ok (.iconst 0, 1) := dk_3 (dk_at dksX1_copy_7 5 rfl rfl)
theorem dX1_copy_173 : decode cX1_copy 173 = .ok (.bipush 8, 2) := dk_16 8 (dk_at dksX1_copy_7 6 rfl rfl)
theorem dX1_copy_175 : decode cX1_copy 175 = .ok (.invokestatic 81, 3) := dk_184 0 81 (dk_at dksX1_copy_7 8 rfl rfl)
theorem dX1_copy_178 : decode cX1_copy 178 = .ok (.aload_n 0, 1) := dk_42 (dk_at dksX1_copy_7 11 rfl rfl)
theorem dX1_copy_179 : decode cX1_copy 179 = .ok (.getfield 33, 3) := dk_180 0 33 (dk_at dksX1_copy_7 12 rfl rfl)
theorem dX1_copy_182 : decode cX1_copy 182 = .ok (.iconst 0, 1) := dk_3 (dk_at dksX1_copy_7 15 rfl rfl)
theorem dX1_copy_183 : decode cX1_copy 183 = .ok (.aload_n 1, 1) := dk_43 (dk_at dksX1_copy_7 16 rfl rfl)
theorem dX1_copy_184 : decode cX1_copy 184 = .ok (.getfield 33, 3) := dk_180 0 33 (dk_at dksX1_copy_7 17 rfl rfl)
theorem dX1_copy_187 : decode cX1_copy 187 = .ok (.iconst 0, 1) := dk_3 (dk_at dksX1_copy_7 20 rfl rfl)
theorem dX1_copy_188 : decode cX1_copy 188 = .ok (.bipush 8, 2) := dk_16 8 (dk_at dksX1_copy_7 21 rfl rfl)
theorem dX1_copy_190 : decode cX1_copy 190 = .ok (.invokestatic 81, 3) := dk_184 0 81 (dk_at dksX1_copy_8 0 rfl rfl)
theorem dX1_copy_193 : decode cX1_copy 193 = .ok (.aload_n 0, 1) := dk_42 (dk_at dksX1_copy_8 3 rfl rfl)
theorem dX1_copy_194 : decode cX1_copy 194 = .ok (.getfield 36, 3) := dk_180 0 36 (dk_at dksX1_copy_8 4 rfl rfl)
theorem dX1_copy_197 : decode cX1_copy 197 = .ok (.iconst 0, 1) := dk_3 (dk_at dksX1_copy_8 7 rfl rfl)
theorem dX1_copy_198 : decode cX1_copy 198 = .ok (.aload_n 1, 1) := dk_43 (dk_at dksX1_copy_8 8 rfl rfl)
theorem dX1_copy_199 : decode cX1_copy 199 = .ok (.getfield 36, 3) := dk_180 0 36 (dk_at dksX1_copy_8 9 rfl rfl)
theorem dX1_copy_202 : decode cX1_copy 202 = .ok (.iconst 0, 1) := dk_3 (dk_at dksX1_copy_8 12 rfl rfl)
theorem dX1_copy_203 : decode cX1_copy 203 = .ok (.bipush 12, 2) := dk_16 12 (dk_at dksX1_copy_8 13 rfl rfl)
theorem dX1_copy_205 : decode cX1_copy 205 = .ok (.invokestatic 81, 3) := dk_184 0 81 (dk_at dksX1_copy_8 15 rfl rfl)
theorem dX1_copy_208 : decode cX1_copy 208 = .ok (.aload_n 0, 1) := dk_42 (dk_at dksX1_copy_8 18 rfl rfl)
theorem dX1_copy_209 : decode cX1_copy 209 = .ok (.getfield 39, 3) := dk_180 0 39 (dk_at dksX1_copy_8 19 rfl rfl)
theorem dX1_copy_212 : decode cX1_copy 212 = .ok (.iconst 0, 1) := dk_3 (dk_at dksX1_copy_8 22 rfl rfl)
theorem dX1_copy_213 : decode cX1_copy 213 = .ok (.aload_n 1, 1) := dk_43 (dk_at dksX1_copy_8 23 rfl rfl)
theorem dX1_copy_214 : decode cX1_copy 214 = .ok (.getfield 39, 3) := dk_180 0 39 (dk_at dksX1_copy_9 0 rfl rfl)
theorem dX1_copy_217 : decode cX1_copy 217 = .ok (.iconst 0, 1) := dk_3 (dk_at dksX1_copy_9 3 rfl rfl)
theorem dX1_copy_218 : decode cX1_copy 218 = .ok (.bipush 12, 2) := dk_16 12 (dk_at dksX1_copy_9 4 rfl rfl)
theorem dX1_copy_220 : decode cX1_copy 220 = .ok (.invokestatic 81, 3) := dk_184 0 81 (dk_at dksX1_copy_9 6 rfl rfl)
theorem dX1_copy_223 : decode cX1_copy 223 = .ok (.aload_n 0, 1) := dk_42 (dk_at dksX1_copy_9 9 rfl rfl)
theorem dX1_copy_224 : decode cX1_copy 224 = .ok (.getfield 42, 3) := dk_180 0 42 (dk_at dksX1_copy_9 10 rfl rfl)
theorem dX1_copy_227 : decode cX1_copy 227 = .ok (.iconst 0, 1) := dk_3 (dk_at dksX1_copy_9 13 rfl rfl)
theorem dX1_copy_228 : decode cX1_copy 228 = .ok (.aload_n 1, 1) := dk_43 (dk_at dksX1_copy_9 14 rfl rfl)
theorem dX1_copy_229 : decode cX1_copy 229 = .ok (.getfield 42, 3) := dk_180 0 42 (dk_at dksX1_copy_9 15 rfl rfl)
theorem dX1_copy_232 : decode cX1_copy 232 = .ok (.iconst 0, 1) := dk_3 (dk_at dksX1_copy_9 18 rfl rfl)
theorem dX1_copy_233 : decode cX1_copy 233 = .ok (.iconst 5, 1) := dk_8 (dk_at dksX1_copy_9 19 rfl rfl)
theorem dX1_copy_234 : decode cX1_copy 234 = .ok (.invokestatic 81, 3) := dk_184 0 81 (dk_at dksX1_copy_9 20 rfl rfl)
theorem dX1_copy_237 : decode cX1_copy 237 = .ok (.aload_n 0, 1) := dk_42 (dk_at dksX1_copy_9 23 rfl rfl)
theorem dX1_copy_238 : decode cX1_copy 238 = .ok (.getfield 45, 3) := dk_180 0 45 (dk_at dksX1_copy_10 0 rfl rfl)
theorem dX1_copy_241 : decode cX1_copy 241 = .ok (.iconst 0, 1) := dk_3 (dk_at dksX1_copy_10 3 rfl rfl)
theorem dX1_copy_242 : decode cX1_copy 242 = .ok (.aload_n 1, 1) := dk_43 (dk_at dksX1_copy_10 4 rfl rfl)
theorem dX1_copy_243 : decode cX1_copy 243 = .ok (.getfield 45, 3) := dk_180 0 45 (dk_at dksX1_copy_10 5 rfl rfl)
theorem dX1_copy_246 : decode cX1_copy 246 = .ok (.iconst 0, 1) := dk_3 (dk_at dksX1_copy_10 8 rfl rfl)
theorem dX1_copy_247 : decode cX1_copy 247 = .ok (.iconst 5, 1) := dk_8 (dk_at dksX1_copy_10 9 rfl rfl)
theorem dX1_copy_248 : decode cX1_copy 248 = .ok (.invokestatic 81, 3) := dk_184 0 81 (dk_at dksX1_copy_10 10 rfl rfl)
theorem dX1_copy_251 : decode cX1_copy 251 = .ok (.aload_n 0, 1) := dk_42 (dk_at dksX1_copy_10 13 rfl rfl)
theorem dX1_copy_252 : decode cX1_copy 252 = .ok (.getfield 48, 3) := dk_180 0 48 (dk_at dksX1_copy_10 14 rfl rfl)
theorem dX1_copy_255 : decode cX1_copy 255 = .ok (.iconst 0, 1) := dk_3 (dk_at dksX1_copy_10 17 rfl rfl)
theorem dX1_copy_256 : decode cX1_copy 256 = .ok (.aload_n 1, 1) := dk_43 (dk_at dksX1_copy_10 18 rfl rfl)
theorem dX1_copy_257 : decode cX1_copy 257 = .ok (.getfield 48, 3) := dk_180 0 48 (dk_at dksX1_copy_10 19 rfl rfl)
theorem dX1_copy_260 : decode cX1_copy 260 = .ok (.iconst 0, 1) := dk_3 (dk_at dksX1_copy_10 22 rfl rfl)
theorem dX1_copy_261 : decode cX1_copy 261 = .ok (.bipush 40, 2) := dk_16 40 (dk_at dksX1_copy_11 0 rfl rfl)
theorem dX1_copy_263 : decode cX1_copy 263 = .ok (.invokestatic 81, 3) := dk_184 0 81 (dk_at dksX1_copy_11 2 rfl rfl)
theorem dX1_copy_266 : decode cX1_copy 266 = .ok (.aload_n 0, 1) := dk_42 (dk_at dksX1_copy_11 5 rfl rfl)
theorem dX1_copy_267 : decode cX1_copy 267 = .ok (.getfield 51, 3) := dk_180 0 51 (dk_at dksX1_copy_11 6 rfl rfl)
theorem dX1_copy_270 : decode cX1_copy 270 = .ok (.iconst 0, 1) := dk_3 (dk_at dksX1_copy_11 9 rfl rfl)
theorem dX1_copy_271 : decode cX1_copy 271 = .ok (.aload_n 1, 1) := dk_43 (dk_at dksX1_copy_11 10 rfl rfl)
theorem dX1_copy_272 : decode cX1_copy 272 = .ok (.getfield 51, 3) := dk_180 0 51 (dk_at dksX1_copy_11 11 rfl rfl)
theorem dX1_copy_275 : decode cX1_copy 275 = .ok (.iconst 0, 1) := dk_3 (dk_at dksX1_copy_11 14 rfl rfl)
theorem dX1_copy_276 : decode cX1_copy 276 = .ok (.sipush 200, 3) := dk_17 0 200 (dk_at dksX1_copy_11 15 rfl rfl)
theorem dX1_copy_279 : decode cX1_copy 279 = .ok (.invokestatic 81, 3) := dk_184 0 81 (dk_at dksX1_copy_11 18 rfl rfl)
theorem dX1_copy_282 : decode cX1_copy 282 = .ok (.aload_n 1, 1) := dk_43 (dk_at dksX1_copy_11 21 rfl rfl)
theorem dX1_copy_283 : decode cX1_copy 283 = .ok (.areturn, 1) := dk_176 (dk_at dksX1_copy_11 22 rfl rfl)
theorem q140 : (Jvm.Cond.initialized "OverHill$Dance") ∈ lw_all := lw_g (lw_at lw_m1 2 rfl) rfl
theorem q182 : (Jvm.Cond.instantiable "OverHill$Dance" (22 : Nat)) ∈ lw_all := lw_g (lw_at lw_m1 44 rfl) rfl
theorem q184 : (Jvm.Cond.instanceMethod ({ cls := "OverHill$Dance", name := "<init>", desc := "()V" } : Jvm.MethodName)) ∈ lw_all := lw_g (lw_at lw_m1 46 rfl) rfl
theorem q185 : (Jvm.Cond.code ({ cls := "OverHill$Dance", name := "<init>", desc := "()V" } : Jvm.MethodName) prog_2_method_1_code (1 : Nat) (Option.none : Option Jvm.ClassFile.FieldType)) ∈ lw_all := lw_g (lw_at lw_m1 47 rfl) rfl
theorem q186 : (Jvm.Cond.methodLink "OverHill$Dance" (3 : Nat) ({ cls := "java/lang/Object", name := "<init>", desc := "()V" } : Jvm.MethodName)) ∈ lw_all := lw_g (lw_at lw_m1 48 rfl) rfl
theorem q187 : (Jvm.Cond.fieldLink "OverHill$Dance" (60 : Nat) "OverHill$Dance" "gap" "I") ∈ lw_all := lw_g (lw_at lw_m1 49 rfl) rfl
theorem q190 : (Jvm.Cond.fieldLink "OverHill$Dance" (63 : Nat) "OverHill$Dance" "odds" "I") ∈ lw_all := lw_g (lw_at lw_m1 52 rfl) rfl
theorem q193 : (Jvm.Cond.fieldLink "OverHill$Dance" (66 : Nat) "OverHill$Dance" "rain" "I") ∈ lw_all := lw_g (lw_at lw_m1 55 rfl) rfl
theorem q196 : (Jvm.Cond.fieldLink "OverHill$Dance" (69 : Nat) "OverHill$Dance" "lines" "I") ∈ lw_all := lw_g (lw_at lw_m1 58 rfl) rfl
theorem q199 : (Jvm.Cond.fieldLink "OverHill$Dance" (55 : Nat) "OverHill$Dance" "stumbles" "I") ∈ lw_all := lw_g (lw_at lw_m1 61 rfl) rfl
theorem q202 : (Jvm.Cond.fieldLink "OverHill$Dance" (72 : Nat) "OverHill$Dance" "cells" "I") ∈ lw_all := lw_g (lw_at lw_m1 64 rfl) rfl
theorem q205 : (Jvm.Cond.fieldLink "OverHill$Dance" (75 : Nat) "OverHill$Dance" "tunes" "I") ∈ lw_all := lw_g (lw_at lw_m1 67 rfl) rfl
theorem q208 : (Jvm.Cond.fieldLink "OverHill$Dance" (78 : Nat) "OverHill$Dance" "changes" "I") ∈ lw_all := lw_g (lw_at lw_m1 70 rfl) rfl
theorem q210 : (Jvm.Cond.fieldLink "OverHill$Dance" (9 : Nat) "OverHill$Dance" "length" "[I") ∈ lw_all := lw_g (lw_at lw_m1 72 rfl) rfl
theorem q214 : (Jvm.Cond.fieldLink "OverHill$Dance" (15 : Nat) "OverHill$Dance" "begins" "[I") ∈ lw_all := lw_g (lw_at lw_m1 76 rfl) rfl
theorem q218 : (Jvm.Cond.fieldLink "OverHill$Dance" (18 : Nat) "OverHill$Dance" "round" "[I") ∈ lw_all := lw_g (lw_at lw_m1 80 rfl) rfl
theorem q221 : (Jvm.Cond.fieldLink "OverHill$Dance" (21 : Nat) "OverHill$Dance" "answers" "[I") ∈ lw_all := lw_g (lw_at lw_m1 83 rfl) rfl
theorem q224 : (Jvm.Cond.fieldLink "OverHill$Dance" (24 : Nat) "OverHill$Dance" "side" "[I") ∈ lw_all := lw_g (lw_at lw_m1 86 rfl) rfl
theorem q227 : (Jvm.Cond.fieldLink "OverHill$Dance" (27 : Nat) "OverHill$Dance" "beat" "[I") ∈ lw_all := lw_g (lw_at lw_m1 89 rfl) rfl
theorem q230 : (Jvm.Cond.fieldLink "OverHill$Dance" (30 : Nat) "OverHill$Dance" "does" "[I") ∈ lw_all := lw_g (lw_at lw_m1 92 rfl) rfl
theorem q234 : (Jvm.Cond.fieldLink "OverHill$Dance" (33 : Nat) "OverHill$Dance" "lag" "[I") ∈ lw_all := lw_g (lw_at lw_m1 96 rfl) rfl
theorem q238 : (Jvm.Cond.fieldLink "OverHill$Dance" (36 : Nat) "OverHill$Dance" "every" "[I") ∈ lw_all := lw_g (lw_at lw_m1 100 rfl) rfl
theorem q241 : (Jvm.Cond.fieldLink "OverHill$Dance" (39 : Nat) "OverHill$Dance" "at" "[I") ∈ lw_all := lw_g (lw_at lw_m1 103 rfl) rfl
theorem q244 : (Jvm.Cond.fieldLink "OverHill$Dance" (42 : Nat) "OverHill$Dance" "tune" "[I") ∈ lw_all := lw_g (lw_at lw_m1 106 rfl) rfl
theorem q247 : (Jvm.Cond.fieldLink "OverHill$Dance" (45 : Nat) "OverHill$Dance" "tuneAt" "[I") ∈ lw_all := lw_g (lw_at lw_m1 109 rfl) rfl
theorem q250 : (Jvm.Cond.fieldLink "OverHill$Dance" (48 : Nat) "OverHill$Dance" "changed" "[I") ∈ lw_all := lw_g (lw_at lw_m1 112 rfl) rfl
theorem q252 : (Jvm.Cond.fieldLink "OverHill$Dance" (51 : Nat) "OverHill$Dance" "mud" "[Z") ∈ lw_all := lw_g (lw_at lw_m1 114 rfl) rfl
theorem q256 : (Jvm.Cond.lays "OverHill$Dance" "OverHill$Dance" "gap" "I") ∈ lw_all := lw_g (lw_at lw_m1 118 rfl) rfl
theorem q257 : (Jvm.Cond.soleField "OverHill$Dance" "gap") ∈ lw_all := lw_g (lw_at lw_m1 119 rfl) rfl
theorem q258 : (Jvm.Cond.lays "OverHill$Dance" "OverHill$Dance" "odds" "I") ∈ lw_all := lw_g (lw_at lw_m1 120 rfl) rfl
theorem q259 : (Jvm.Cond.soleField "OverHill$Dance" "odds") ∈ lw_all := lw_g (lw_at lw_m1 121 rfl) rfl
theorem q260 : (Jvm.Cond.lays "OverHill$Dance" "OverHill$Dance" "rain" "I") ∈ lw_all := lw_g (lw_at lw_m1 122 rfl) rfl
theorem q261 : (Jvm.Cond.soleField "OverHill$Dance" "rain") ∈ lw_all := lw_g (lw_at lw_m1 123 rfl) rfl
theorem q262 : (Jvm.Cond.lays "OverHill$Dance" "OverHill$Dance" "lines" "I") ∈ lw_all := lw_g (lw_at lw_m1 124 rfl) rfl
theorem q263 : (Jvm.Cond.soleField "OverHill$Dance" "lines") ∈ lw_all := lw_g (lw_at lw_m1 125 rfl) rfl
theorem q264 : (Jvm.Cond.lays "OverHill$Dance" "OverHill$Dance" "stumbles" "I") ∈ lw_all := lw_g (lw_at lw_m1 126 rfl) rfl
theorem q265 : (Jvm.Cond.soleField "OverHill$Dance" "stumbles") ∈ lw_all := lw_g (lw_at lw_m1 127 rfl) rfl
theorem q266 : (Jvm.Cond.lays "OverHill$Dance" "OverHill$Dance" "cells" "I") ∈ lw_all := lw_g (lw_at lw_m1 128 rfl) rfl
theorem q267 : (Jvm.Cond.soleField "OverHill$Dance" "cells") ∈ lw_all := lw_g (lw_at lw_m1 129 rfl) rfl
theorem q268 : (Jvm.Cond.lays "OverHill$Dance" "OverHill$Dance" "tunes" "I") ∈ lw_all := lw_g (lw_at lw_m1 130 rfl) rfl
theorem q269 : (Jvm.Cond.soleField "OverHill$Dance" "tunes") ∈ lw_all := lw_g (lw_at lw_m1 131 rfl) rfl
theorem q270 : (Jvm.Cond.lays "OverHill$Dance" "OverHill$Dance" "changes" "I") ∈ lw_all := lw_g (lw_at lw_m1 132 rfl) rfl
theorem q271 : (Jvm.Cond.soleField "OverHill$Dance" "changes") ∈ lw_all := lw_g (lw_at lw_m1 133 rfl) rfl
theorem q272 : (Jvm.Cond.laysFinal "OverHill$Dance" "OverHill$Dance" "length" "[I") ∈ lw_all := lw_g (lw_at lw_m1 134 rfl) rfl
theorem q273 : (Jvm.Cond.soleField "OverHill$Dance" "length") ∈ lw_all := lw_g (lw_at lw_m1 135 rfl) rfl
theorem q274 : (Jvm.Cond.laysFinal "OverHill$Dance" "OverHill$Dance" "begins" "[I") ∈ lw_all := lw_g (lw_at lw_m1 136 rfl) rfl
theorem q275 : (Jvm.Cond.soleField "OverHill$Dance" "begins") ∈ lw_all := lw_g (lw_at lw_m1 137 rfl) rfl
theorem q276 : (Jvm.Cond.laysFinal "OverHill$Dance" "OverHill$Dance" "round" "[I") ∈ lw_all := lw_g (lw_at lw_m1 138 rfl) rfl
theorem q277 : (Jvm.Cond.soleField "OverHill$Dance" "round") ∈ lw_all := lw_g (lw_at lw_m1 139 rfl) rfl
theorem q278 : (Jvm.Cond.laysFinal "OverHill$Dance" "OverHill$Dance" "answers" "[I") ∈ lw_all := lw_g (lw_at lw_m1 140 rfl) rfl
theorem q279 : (Jvm.Cond.soleField "OverHill$Dance" "answers") ∈ lw_all := lw_g (lw_at lw_m1 141 rfl) rfl
theorem q280 : (Jvm.Cond.laysFinal "OverHill$Dance" "OverHill$Dance" "side" "[I") ∈ lw_all := lw_g (lw_at lw_m1 142 rfl) rfl
theorem q281 : (Jvm.Cond.soleField "OverHill$Dance" "side") ∈ lw_all := lw_g (lw_at lw_m1 143 rfl) rfl
theorem q282 : (Jvm.Cond.laysFinal "OverHill$Dance" "OverHill$Dance" "beat" "[I") ∈ lw_all := lw_g (lw_at lw_m1 144 rfl) rfl
theorem q283 : (Jvm.Cond.soleField "OverHill$Dance" "beat") ∈ lw_all := lw_g (lw_at lw_m1 145 rfl) rfl
theorem q284 : (Jvm.Cond.laysFinal "OverHill$Dance" "OverHill$Dance" "does" "[I") ∈ lw_all := lw_g (lw_at lw_m1 146 rfl) rfl
theorem q285 : (Jvm.Cond.soleField "OverHill$Dance" "does") ∈ lw_all := lw_g (lw_at lw_m1 147 rfl) rfl
theorem q286 : (Jvm.Cond.laysFinal "OverHill$Dance" "OverHill$Dance" "lag" "[I") ∈ lw_all := lw_g (lw_at lw_m1 148 rfl) rfl
theorem q287 : (Jvm.Cond.soleField "OverHill$Dance" "lag") ∈ lw_all := lw_g (lw_at lw_m1 149 rfl) rfl
theorem q288 : (Jvm.Cond.laysFinal "OverHill$Dance" "OverHill$Dance" "every" "[I") ∈ lw_all := lw_g (lw_at lw_m1 150 rfl) rfl
theorem q289 : (Jvm.Cond.soleField "OverHill$Dance" "every") ∈ lw_all := lw_g (lw_at lw_m1 151 rfl) rfl
theorem q290 : (Jvm.Cond.laysFinal "OverHill$Dance" "OverHill$Dance" "at" "[I") ∈ lw_all := lw_g (lw_at lw_m1 152 rfl) rfl
theorem q291 : (Jvm.Cond.soleField "OverHill$Dance" "at") ∈ lw_all := lw_g (lw_at lw_m1 153 rfl) rfl
theorem q292 : (Jvm.Cond.laysFinal "OverHill$Dance" "OverHill$Dance" "tune" "[I") ∈ lw_all := lw_g (lw_at lw_m1 154 rfl) rfl
theorem q293 : (Jvm.Cond.soleField "OverHill$Dance" "tune") ∈ lw_all := lw_g (lw_at lw_m1 155 rfl) rfl
theorem q294 : (Jvm.Cond.laysFinal "OverHill$Dance" "OverHill$Dance" "tuneAt" "[I") ∈ lw_all := lw_g (lw_at lw_m1 156 rfl) rfl
theorem q295 : (Jvm.Cond.soleField "OverHill$Dance" "tuneAt") ∈ lw_all := lw_g (lw_at lw_m1 157 rfl) rfl
theorem q296 : (Jvm.Cond.laysFinal "OverHill$Dance" "OverHill$Dance" "changed" "[I") ∈ lw_all := lw_g (lw_at lw_m1 158 rfl) rfl
theorem q297 : (Jvm.Cond.soleField "OverHill$Dance" "changed") ∈ lw_all := lw_g (lw_at lw_m1 159 rfl) rfl
theorem q298 : (Jvm.Cond.laysFinal "OverHill$Dance" "OverHill$Dance" "mud" "[Z") ∈ lw_all := lw_g (lw_at lw_m1 160 rfl) rfl
theorem q299 : (Jvm.Cond.soleField "OverHill$Dance" "mud") ∈ lw_all := lw_g (lw_at lw_m1 161 rfl) rfl
theorem q300 : (Jvm.Cond.superclass "OverHill$Dance" "java/lang/Object") ∈ lw_all := lw_g (lw_at lw_m1 162 rfl) rfl
theorem q784 : (Jvm.Cond.instanceMethod ({ cls := "OverHill$Dance", name := "stumbleAt", desc := "(II)I" } : Jvm.MethodName)) ∈ lw_all := lw_g (lw_at lw_m3 166 rfl) rfl
theorem q785 : (Jvm.Cond.selects "OverHill$Dance" ({ cls := "OverHill$Dance", name := "stumbleAt", desc := "(II)I" } : Jvm.MethodName) ({ cls := "OverHill$Dance", name := "stumbleAt", desc := "(II)I" } : Jvm.MethodName)) ∈ lw_all := lw_g (lw_at lw_m3 167 rfl) rfl
theorem q786 : (Jvm.Cond.code ({ cls := "OverHill$Dance", name := "stumbleAt", desc := "(II)I" } : Jvm.MethodName) prog_2_method_3_code (4 : Nat) (Option.some Jvm.ClassFile.FieldType.int)) ∈ lw_all := lw_g (lw_at lw_m3 168 rfl) rfl
theorem q829 : (Jvm.Cond.instanceMethod ({ cls := "OverHill$Dance", name := "step", desc := "(II)I" } : Jvm.MethodName)) ∈ lw_all := lw_g (lw_at lw_m3 211 rfl) rfl
theorem q830 : (Jvm.Cond.selects "OverHill$Dance" ({ cls := "OverHill$Dance", name := "step", desc := "(II)I" } : Jvm.MethodName) ({ cls := "OverHill$Dance", name := "step", desc := "(II)I" } : Jvm.MethodName)) ∈ lw_all := lw_g (lw_at lw_m3 212 rfl) rfl
theorem q831 : (Jvm.Cond.code ({ cls := "OverHill$Dance", name := "step", desc := "(II)I" } : Jvm.MethodName) prog_2_method_2_code (3 : Nat) (Option.some Jvm.ClassFile.FieldType.int)) ∈ lw_all := lw_g (lw_at lw_m3 213 rfl) rfl
theorem q1420 : (Jvm.Cond.selects "OverHill$Dance" ({ cls := "java/lang/Object", name := "getClass", desc := "()Ljava/lang/Class;" } : Jvm.MethodName) ({ cls := "java/lang/Object", name := "getClass", desc := "()Ljava/lang/Class;" } : Jvm.MethodName)) ∈ lw_all := lw_g (lw_at lw_m6 82 rfl) rfl
theorem q1447 : (Jvm.Cond.instanceMethod ({ cls := "OverHill$Dance", name := "copy", desc := "()LOverHill$Dance;" } : Jvm.MethodName)) ∈ lw_all := lw_g (lw_at lw_m6 109 rfl) rfl
theorem q1448 : (Jvm.Cond.selects "OverHill$Dance" ({ cls := "OverHill$Dance", name := "copy", desc := "()LOverHill$Dance;" } : Jvm.MethodName) ({ cls := "OverHill$Dance", name := "copy", desc := "()LOverHill$Dance;" } : Jvm.MethodName)) ∈ lw_all := lw_g (lw_at lw_m6 110 rfl) rfl
theorem q1449 : (Jvm.Cond.code ({ cls := "OverHill$Dance", name := "copy", desc := "()LOverHill$Dance;" } : Jvm.MethodName) prog_2_method_4_code (2 : Nat) (Option.some (Jvm.ClassFile.FieldType.object "OverHill$Dance"))) ∈ lw_all := lw_g (lw_at lw_m6 111 rfl) rfl
theorem q1450 : (Jvm.Cond.classLink "OverHill$Dance" (10 : Nat) "OverHill$Dance") ∈ lw_all := lw_g (lw_at lw_m6 112 rfl) rfl
theorem q1451 : (Jvm.Cond.methodLink "OverHill$Dance" (59 : Nat) ({ cls := "OverHill$Dance", name := "<init>", desc := "()V" } : Jvm.MethodName)) ∈ lw_all := lw_g (lw_at lw_m6 113 rfl) rfl
theorem q1452 : (Jvm.Cond.methodLink "OverHill$Dance" (81 : Nat) ({ cls := "java/lang/System", name := "arraycopy", desc := "(Ljava/lang/Object;ILjava/lang/Object;II)V" } : Jvm.MethodName)) ∈ lw_all := lw_g (lw_at lw_m6 114 rfl) rfl
theorem q2298 : (Jvm.Cond.castable "OverHill$Dance" "java/lang/Object") ∈ lw_tbl := lw_at lw_m10 0 rfl
theorem in_X1 : ∀ w ∈ wsX10, w ∈ lw_all := lw_in wsX10 [256, 258, 260, 262, 264, 266, 268, 270, 272, 274, 276, 278, 280, 282, 284, 286, 288, 290, 292, 294, 296, 298] (by decide +kernel) (by decide +kernel)

/-! OverHill$Plain -/
set_option maxRecDepth 100000
def RX2 : String := "OverHill$Plain"
def TX2 : u_T := fun k => match k with
  | _ => ("OverHill$Plain", "this$0", "LOverHill;", true)
def tyX2 : Nat → FieldType := fun k => match k with
  | _ => .object "OverHill"
abbrev wsX20 : List Cond := u_ws RX2 TX2 1
theorem nmX2 : ∀ a, a < 1 → ∀ b, b < 1 → a ≠ b → (TX2 a).2.1 ≠ (TX2 b).2.1 := by decide +kernel
theorem tyX2_ok : ∀ k, k < 1 → parseFieldDescriptor (TX2 k).2.2.1 = some (tyX2 k) := by decide +kernel
abbrev cX2_init : ByteArray := prog_5_method_1_code
def yX2_init : MethodName := ⟨RX2, "<init>", "(LOverHill;)V"⟩
def dkwX2_init_0 : List UInt8 := [42, 43, 181, 0, 3, 42, 183, 0, 9, 177]
abbrev dktX2_init_0 : List UInt8 := dkwX2_init_0 ++ []
theorem dksX2_init_0 : cX2_init.data.toList.drop 0 = dktX2_init_0 := by decide +kernel
theorem dX2_init_0 : decode cX2_init 0 = .ok (.aload_n 0, 1) := dk_42 (dk_at dksX2_init_0 0 rfl rfl)
theorem dX2_init_1 : decode cX2_init 1 = .ok (.aload_n 1, 1) := dk_43 (dk_at dksX2_init_0 1 rfl rfl)
theorem dX2_init_2 : decode cX2_init 2 = .ok (.putfield 3, 3) := dk_181 0 3 (dk_at dksX2_init_0 2 rfl rfl)
theorem dX2_init_5 : decode cX2_init 5 = .ok (.aload_n 0, 1) := dk_42 (dk_at dksX2_init_0 5 rfl rfl)
theorem dX2_init_6 : decode cX2_init 6 = .ok (.invokespecial 9, 3) := dk_183 0 9 (dk_at dksX2_init_0 6 rfl rfl)
theorem dX2_init_9 : decode cX2_init 9 = .ok (.return_, 1) := dk_177 (dk_at dksX2_init_0 9 rfl rfl)
abbrev cX2_goesBoth : ByteArray := prog_5_method_7_code
def yX2_goesBoth : MethodName := ⟨RX2, "goesBoth", "()V"⟩
def dkwX2_goesBoth_0 : List UInt8 := [42, 3, 182, 0, 57, 42, 4, 182, 0, 57, 177]
abbrev dktX2_goesBoth_0 : List UInt8 := dkwX2_goesBoth_0 ++ []
theorem dksX2_goesBoth_0 : cX2_goesBoth.data.toList.drop 0 = dktX2_goesBoth_0 := by decide +kernel
theorem dX2_goesBoth_0 : decode cX2_goesBoth 0 = .ok (.aload_n 0, 1) := dk_42 (dk_at dksX2_goesBoth_0 0 rfl rfl)
theorem dX2_goesBoth_1 : decode cX2_goesBoth 1 = .ok (.iconst 0, 1) := dk_3 (dk_at dksX2_goesBoth_0 1 rfl rfl)
theorem dX2_goesBoth_2 : decode cX2_goesBoth 2 = .ok (.invokevirtual 57, 3) := dk_182 0 57 (dk_at dksX2_goesBoth_0 2 rfl rfl)
theorem dX2_goesBoth_5 : decode cX2_goesBoth 5 = .ok (.aload_n 0, 1) := dk_42 (dk_at dksX2_goesBoth_0 5 rfl rfl)
theorem dX2_goesBoth_6 : decode cX2_goesBoth 6 = .ok (.iconst 1, 1) := dk_4 (dk_at dksX2_goesBoth_0 6 rfl rfl)
theorem dX2_goesBoth_7 : decode cX2_goesBoth 7 = .ok (.invokevirtual 57, 3) := dk_182 0 57 (dk_at dksX2_goesBoth_0 7 rfl rfl)
theorem dX2_goesBoth_10 : decode cX2_goesBoth 10 = .ok (.return_, 1) := dk_177 (dk_at dksX2_goesBoth_0 10 rfl rfl)
abbrev cX2_goes : ByteArray := prog_5_method_6_code
def yX2_goes : MethodName := ⟨RX2, "goes", "(I)V"⟩
def dkwX2_goes_8 : List UInt8 := [180, 0, 28, 27, 46, 184, 0, 52, 61, 132, 3, 1, 167, 255, 72, 177]
abbrev dktX2_goes_8 : List UInt8 := dkwX2_goes_8 ++ []
def dkwX2_goes_7 : List UInt8 := [46, 112, 61, 21, 4, 2, 159, 0, 27, 28, 42, 21, 4, 182, 0, 49, 100, 42, 180, 0, 3, 180, 0, 15]
abbrev dktX2_goes_7 : List UInt8 := dkwX2_goes_7 ++ dktX2_goes_8
def dkwX2_goes_6 : List UInt8 := [167, 0, 9, 42, 21, 4, 182, 0, 45, 79, 28, 4, 96, 42, 180, 0, 3, 180, 0, 15, 180, 0, 28, 27]
abbrev dktX2_goes_6 : List UInt8 := dkwX2_goes_6 ++ dktX2_goes_7
def dkwX2_goes_5 : List UInt8 := [27, 104, 29, 96, 21, 4, 2, 160, 0, 18, 42, 180, 0, 3, 180, 0, 15, 27, 28, 182, 0, 42]
abbrev dktX2_goes_5 : List UInt8 := dkwX2_goes_5 ++ dktX2_goes_6
def dkwX2_goes_4 : List UInt8 := [153, 0, 6, 167, 0, 100, 42, 27, 29, 182, 0, 38, 54, 4, 42, 180, 0, 3, 180, 0, 31, 17, 0, 200]
abbrev dktX2_goes_4 : List UInt8 := dkwX2_goes_4 ++ dktX2_goes_5
def dkwX2_goes_3 : List UInt8 := [2, 79, 42, 180, 0, 3, 180, 0, 15, 180, 0, 28, 27, 46, 153, 0, 111, 42, 29, 182, 0, 34]
abbrev dktX2_goes_3 : List UInt8 := dkwX2_goes_3 ++ dktX2_goes_4
def dkwX2_goes_2 : List UInt8 := [46, 154, 0, 7, 2, 167, 0, 4, 28, 79, 42, 180, 0, 3, 180, 0, 31, 17, 0, 200, 27, 104, 29, 96]
abbrev dktX2_goes_2 : List UInt8 := dkwX2_goes_2 ++ dktX2_goes_3
def dkwX2_goes_1 : List UInt8 := [180, 0, 3, 180, 0, 25, 17, 0, 200, 27, 104, 29, 96, 42, 180, 0, 3, 180, 0, 15, 180, 0, 28, 27]
abbrev dktX2_goes_1 : List UInt8 := dkwX2_goes_1 ++ dktX2_goes_2
def dkwX2_goes_0 : List UInt8 := [42, 180, 0, 3, 180, 0, 15, 180, 0, 19, 27, 46, 61, 3, 62, 29, 17, 0, 200, 162, 0, 183, 42]
abbrev dktX2_goes_0 : List UInt8 := dkwX2_goes_0 ++ dktX2_goes_1
theorem dksX2_goes_0 : cX2_goes.data.toList.drop 0 = dktX2_goes_0 := by decide +kernel
theorem dksX2_goes_1 : cX2_goes.data.toList.drop 23 = dktX2_goes_1 := dk_seg dksX2_goes_0 23 rfl rfl
theorem dksX2_goes_2 : cX2_goes.data.toList.drop 47 = dktX2_goes_2 := dk_seg dksX2_goes_1 24 rfl rfl
theorem dksX2_goes_3 : cX2_goes.data.toList.drop 71 = dktX2_goes_3 := dk_seg dksX2_goes_2 24 rfl rfl
theorem dksX2_goes_4 : cX2_goes.data.toList.drop 93 = dktX2_goes_4 := dk_seg dksX2_goes_3 22 rfl rfl
theorem dksX2_goes_5 : cX2_goes.data.toList.drop 117 = dktX2_goes_5 := dk_seg dksX2_goes_4 24 rfl rfl
theorem dksX2_goes_6 : cX2_goes.data.toList.drop 139 = dktX2_goes_6 := dk_seg dksX2_goes_5 22 rfl rfl
theorem dksX2_goes_7 : cX2_goes.data.toList.drop 163 = dktX2_goes_7 := dk_seg dksX2_goes_6 24 rfl rfl
theorem dksX2_goes_8 : cX2_goes.data.toList.drop 187 = dktX2_goes_8 := dk_seg dksX2_goes_7 24 rfl rfl
theorem dX2_goes_0 : decode cX2_goes 0 = .ok (.aload_n 0, 1) := dk_42 (dk_at dksX2_goes_0 0 rfl rfl)
theorem dX2_goes_1 : decode cX2_goes 1 = .ok (.getfield 3, 3) := dk_180 0 3 (dk_at dksX2_goes_0 1 rfl rfl)
theorem dX2_goes_4 : decode cX2_goes 4 = .ok (.getfield 15, 3) := dk_180 0 15 (dk_at dksX2_goes_0 4 rfl rfl)
theorem dX2_goes_7 : decode cX2_goes 7 = .ok (.getfield 19, 3) := dk_180 0 19 (dk_at dksX2_goes_0 7 rfl rfl)
theorem dX2_goes_10 : decode cX2_goes 10 = .ok (.iload_n 1, 1) := dk_27 (dk_at dksX2_goes_0 10 rfl rfl)
theorem dX2_goes_11 : decode cX2_goes 11 = .ok (.iaload, 1) := dk_46 (dk_at dksX2_goes_0 11 rfl rfl)
theorem dX2_goes_12 : decode cX2_goes 12 = .ok (.istore_n 2, 1) := dk_61 (dk_at dksX2_goes_0 12 rfl rfl)
theorem dX2_goes_13 : decode cX2_goes 13 = .ok (.iconst 0, 1) := dk_3 (dk_at dksX2_goes_0 13 rfl rfl)
theorem dX2_goes_14 : decode cX2_goes 14 = .ok (.istore_n 3, 1) := dk_62 (dk_at dksX2_goes_0 14 rfl rfl)
theorem dX2_goes_15 : decode cX2_goes 15 = .ok (.iload_n 3, 1) := dk_29 (dk_at dksX2_goes_0 15 rfl rfl)
theorem dX2_goes_16 : decode cX2_goes 16 = .ok (.sipush 200, 3) := dk_17 0 200 (dk_at dksX2_goes_0 16 rfl rfl)
theorem dX2_goes_19 : decode cX2_goes 19 = .ok (.if_icmp .ge 183, 3) := dk_162 0 183 (dk_at dksX2_goes_0 19 rfl rfl)
theorem dX2_goes_22 : decode cX2_goes 22 = .ok (.aload_n 0, 1) := dk_42 (dk_at dksX2_goes_0 22 rfl rfl)
theorem dX2_goes_23 : decode cX2_goes 23 = .ok (.getfield 3, 3) := dk_180 0 3 (dk_at dksX2_goes_1 0 rfl rfl)
theorem dX2_goes_26 : decode cX2_goes 26 = .ok (.getfield 25, 3) := dk_180 0 25 (dk_at dksX2_goes_1 3 rfl rfl)
theorem dX2_goes_29 : decode cX2_goes 29 = .ok (.sipush 200, 3) := dk_17 0 200 (dk_at dksX2_goes_1 6 rfl rfl)
theorem dX2_goes_32 : decode cX2_goes 32 = .ok (.iload_n 1, 1) := dk_27 (dk_at dksX2_goes_1 9 rfl rfl)
theorem dX2_goes_33 : decode cX2_goes 33 = .ok (.imul, 1) := dk_104 (dk_at dksX2_goes_1 10 rfl rfl)
theorem dX2_goes_34 : decode cX2_goes 34 = .ok (.iload_n 3, 1) := dk_29 (dk_at dksX2_goes_1 11 rfl rfl)
theorem dX2_goes_35 : decode cX2_goes 35 = .ok (.iadd, 1) := dk_96 (dk_at dksX2_goes_1 12 rfl rfl)
theorem dX2_goes_36 : decode cX2_goes 36 = .ok (.aload_n 0, 1) := dk_42 (dk_at dksX2_goes_1 13 rfl rfl)
theorem dX2_goes_37 : decode cX2_goes 37 = .ok (.getfield 3, 3) := dk_180 0 3 (dk_at dksX2_goes_1 14 rfl rfl)
theorem dX2_goes_40 : decode cX2_goes 40 = .ok (.getfield 15, 3) := dk_180 0 15 (dk_at dksX2_goes_1 17 rfl rfl)
theorem dX2_goes_43 : decode cX2_goes 43 = .ok (.getfield 28, 3) := dk_180 0 28 (dk_at dksX2_goes_1 20 rfl rfl)
theorem dX2_goes_46 : decode cX2_goes 46 = .ok (.iload_n 1, 1) := dk_27 (dk_at dksX2_goes_1 23 rfl rfl)
theorem dX2_goes_47 : decode cX2_goes 47 = .ok (.iaload, 1) := dk_46 (dk_at dksX2_goes_2 0 rfl rfl)
theorem dX2_goes_48 : decode cX2_goes 48 = .ok (.ifCond .ne 7, 3) := dk_154 0 7 (dk_at dksX2_goes_2 1 rfl rfl)
theorem dX2_goes_51 : decode cX2_goes 51 = .ok (.iconst (-1), 1) := dk_2 (dk_at dksX2_goes_2 4 rfl rfl)
theorem dX2_goes_52 : decode cX2_goes 52 = .ok (.goto 4, 3) := dk_167 0 4 (dk_at dksX2_goes_2 5 rfl rfl)
theorem dX2_goes_55 : decode cX2_goes 55 = .ok (.iload_n 2, 1) := dk_28 (dk_at dksX2_goes_2 8 rfl rfl)
theorem dX2_goes_56 : decode cX2_goes 56 = .ok (.iastore, 1) := dk_79 (dk_at dksX2_goes_2 9 rfl rfl)
theorem dX2_goes_57 : decode cX2_goes 57 = .ok (.aload_n 0, 1) := dk_42 (dk_at dksX2_goes_2 10 rfl rfl)
theorem dX2_goes_58 : decode cX2_goes 58 = .ok (.getfield 3, 3) := dk_180 0 3 (dk_at dksX2_goes_2 11 rfl rfl)
theorem dX2_goes_61 : decode cX2_goes 61 = .ok (.getfield 31, 3) := dk_180 0 31 (dk_at dksX2_goes_2 14 rfl rfl)
theorem dX2_goes_64 : decode cX2_goes 64 = .ok (.sipush 200, 3) := dk_17 0 200 (dk_at dksX2_goes_2 17 rfl rfl)
theorem dX2_goes_67 : decode cX2_goes 67 = .ok (.iload_n 1, 1) := dk_27 (dk_at dksX2_goes_2 20 rfl rfl)
theorem dX2_goes_68 : decode cX2_goes 68 = .ok (.imul, 1) := dk_104 (dk_at dksX2_goes_2 21 rfl rfl)
theorem dX2_goes_69 : decode cX2_goes 69 = .ok (.iload_n 3, 1) := dk_29 (dk_at dksX2_goes_2 22 rfl rfl)
theorem dX2_goes_70 : decode cX2_goes 70 = .ok (.iadd, 1) := dk_96 (dk_at dksX2_goes_2 23 rfl rfl)
theorem dX2_goes_71 : decode cX2_goes 71 = .ok (.iconst (-1), 1) := dk_2 (dk_at dksX2_goes_3 0 rfl rfl)
theorem dX2_goes_72 : decode cX2_goes 72 = .ok (.iastore, 1) := dk_79 (dk_at dksX2_goes_3 1 rfl rfl)
theorem dX2_goes_73 : decode cX2_goes 73 = .ok (.aload_n 0, 1) := dk_42 (dk_at dksX2_goes_3 2 rfl rfl)
theorem dX2_goes_74 : decode cX2_goes 74 = .ok (.getfield 3, 3) := dk_180 0 3 (dk_at dksX2_goes_3 3 rfl rfl)
theorem dX2_goes_77 : decode cX2_goes 77 = .ok (.getfield 15, 3) := dk_180 0 15 (dk_at dksX2_goes_3 6 rfl rfl)
theorem dX2_goes_80 : decode cX2_goes 80 = .ok (.getfield 28, 3) := dk_180 0 28 (dk_at dksX2_goes_3 9 rfl rfl)
theorem dX2_goes_83 : decode cX2_goes 83 = .ok (.iload_n 1, 1) := dk_27 (dk_at dksX2_goes_3 12 rfl rfl)
theorem dX2_goes_84 : decode cX2_goes 84 = .ok (.iaload, 1) := dk_46 (dk_at dksX2_goes_3 13 rfl rfl)
theorem dX2_goes_85 : decode cX2_goes 85 = .ok (.ifCond .eq 111, 3) := dk_153 0 111 (dk_at dksX2_goes_3 14 rfl rfl)
theorem dX2_goes_88 : decode cX2_goes 88 = .ok (.aload_n 0, 1) := dk_42 (dk_at dksX2_goes_3 17 rfl rfl)
theorem dX2_goes_89 : decode cX2_goes 89 = .ok (.iload_n 3, 1) := dk_29 (dk_at dksX2_goes_3 18 rfl rfl)
theorem dX2_goes_90 : decode cX2_goes 90 = .ok (.invokevirtual 34, 3) := dk_182 0 34 (dk_at dksX2_goes_3 19 rfl rfl)
theorem dX2_goes_93 : decode cX2_goes 93 = .ok (.ifCond .eq 6, 3) := dk_153 0 6 (dk_at dksX2_goes_4 0 rfl rfl)
theorem dX2_goes_96 : decode cX2_goes 96 = .ok (.goto 100, 3) := dk_167 0 100 (dk_at dksX2_goes_4 3 rfl rfl)
theorem dX2_goes_99 : decode cX2_goes 99 = .ok (.aload_n 0, 1) := dk_42 (dk_at dksX2_goes_4 6 rfl rfl)
theorem dX2_goes_100 : decode cX2_goes 100 = .ok (.iload_n 1, 1) := dk_27 (dk_at dksX2_goes_4 7 rfl rfl)
theorem dX2_goes_101 : decode cX2_goes 101 = .ok (.iload_n 3, 1) := dk_29 (dk_at dksX2_goes_4 8 rfl rfl)
theorem dX2_goes_102 : decode cX2_goes 102 = .ok (.invokevirtual 38, 3) := dk_182 0 38 (dk_at dksX2_goes_4 9 rfl rfl)
theorem dX2_goes_105 : decode cX2_goes 105 = .ok (.istore 4, 2) := dk_54 4 (dk_at dksX2_goes_4 12 rfl rfl)
theorem dX2_goes_107 : decode cX2_goes 107 = .ok (.aload_n 0, 1) := dk_42 (dk_at dksX2_goes_4 14 rfl rfl)
theorem dX2_goes_108 : decode cX2_goes 108 = .ok (.getfield 3, 3) := dk_180 0 3 (dk_at dksX2_goes_4 15 rfl rfl)
theorem dX2_goes_111 : decode cX2_goes 111 = .ok (.getfield 31, 3) := dk_180 0 31 (dk_at dksX2_goes_4 18 rfl rfl)
theorem dX2_goes_114 : decode cX2_goes 114 = .ok (.sipush 200, 3) := dk_17 0 200 (dk_at dksX2_goes_4 21 rfl rfl)
theorem dX2_goes_117 : decode cX2_goes 117 = .ok (.iload_n 1, 1) := dk_27 (dk_at dksX2_goes_5 0 rfl rfl)
theorem dX2_goes_118 : decode cX2_goes 118 = .ok (.imul, 1) := dk_104 (dk_at dksX2_goes_5 1 rfl rfl)
theorem dX2_goes_119 : decode cX2_goes 119 = .ok (.iload_n 3, 1) := dk_29 (dk_at dksX2_goes_5 2 rfl rfl)
theorem dX2_goes_120 : decode cX2_goes 120 = .ok (.iadd, 1) := dk_96 (dk_at dksX2_goes_5 3 rfl rfl)
theorem dX2_goes_121 : decode cX2_goes 121 = .ok (.iload 4, 2) := dk_21 4 (dk_at dksX2_goes_5 4 rfl rfl)
theorem dX2_goes_123 : decode cX2_goes 123 = .ok (.iconst (-1), 1) := dk_2 (dk_at dksX2_goes_5 6 rfl rfl)
theorem dX2_goes_124 : decode cX2_goes 124 = .ok (.if_icmp .ne 18, 3) := dk_160 0 18 (dk_at dksX2_goes_5 7 rfl rfl)
theorem dX2_goes_127 : decode cX2_goes 127 = .ok (.aload_n 0, 1) := dk_42 (dk_at dksX2_goes_5 10 rfl rfl)
theorem dX2_goes_128 : decode cX2_goes 128 = .ok (.getfield 3, 3) := dk_180 0 3 (dk_at dksX2_goes_5 11 rfl rfl)
theorem dX2_goes_131 : decode cX2_goes 131 = .ok (.getfield 15, 3) := dk_180 0 15 (dk_at dksX2_goes_5 14 rfl rfl)
theorem dX2_goes_134 : decode cX2_goes 134 = .ok (.iload_n 1, 1) := dk_27 (dk_at dksX2_goes_5 17 rfl rfl)
theorem dX2_goes_135 : decode cX2_goes 135 = .ok (.iload_n 2, 1) := dk_28 (dk_at dksX2_goes_5 18 rfl rfl)
theorem dX2_goes_136 : decode cX2_goes 136 = .ok (.invokevirtual 42, 3) := dk_182 0 42 (dk_at dksX2_goes_5 19 rfl rfl)
theorem dX2_goes_139 : decode cX2_goes 139 = .ok (.goto 9, 3) := dk_167 0 9 (dk_at dksX2_goes_6 0 rfl rfl)
theorem dX2_goes_142 : decode cX2_goes 142 = .ok (.aload_n 0, 1) := dk_42 (dk_at dksX2_goes_6 3 rfl rfl)
theorem dX2_goes_143 : decode cX2_goes 143 = .ok (.iload 4, 2) := dk_21 4 (dk_at dksX2_goes_6 4 rfl rfl)
theorem dX2_goes_145 : decode cX2_goes 145 = .ok (.invokevirtual 45, 3) := dk_182 0 45 (dk_at dksX2_goes_6 6 rfl rfl)
theorem dX2_goes_148 : decode cX2_goes 148 = .ok (.iastore, 1) := dk_79 (dk_at dksX2_goes_6 9 rfl rfl)
theorem dX2_goes_149 : decode cX2_goes 149 = .ok (.iload_n 2, 1) := dk_28 (dk_at dksX2_goes_6 10 rfl rfl)
theorem dX2_goes_150 : decode cX2_goes 150 = .ok (.iconst 1, 1) := dk_4 (dk_at dksX2_goes_6 11 rfl rfl)
theorem dX2_goes_151 : decode cX2_goes 151 = .ok (.iadd, 1) := dk_96 (dk_at dksX2_goes_6 12 rfl rfl)
theorem dX2_goes_152 : decode cX2_goes 152 = .ok (.aload_n 0, 1) := dk_42 (dk_at dksX2_goes_6 13 rfl rfl)
theorem dX2_goes_153 : decode cX2_goes 153 = .ok (.getfield 3, 3) := dk_180 0 3 (dk_at dksX2_goes_6 14 rfl rfl)
theorem dX2_goes_156 : decode cX2_goes 156 = .ok (.getfield 15, 3) := dk_180 0 15 (dk_at dksX2_goes_6 17 rfl rfl)
theorem dX2_goes_159 : decode cX2_goes 159 = .ok (.getfield 28, 3) := dk_180 0 28 (dk_at dksX2_goes_6 20 rfl rfl)
theorem dX2_goes_162 : decode cX2_goes 162 = .ok (.iload_n 1, 1) := dk_27 (dk_at dksX2_goes_6 23 rfl rfl)
theorem dX2_goes_163 : decode cX2_goes 163 = .ok (.iaload, 1) := dk_46 (dk_at dksX2_goes_7 0 rfl rfl)
theorem dX2_goes_164 : decode cX2_goes 164 = .ok (.irem, 1) := dk_112 (dk_at dksX2_goes_7 1 rfl rfl)
theorem dX2_goes_165 : decode cX2_goes 165 = .ok (.istore_n 2, 1) := dk_61 (dk_at dksX2_goes_7 2 rfl rfl)
theorem dX2_goes_166 : decode cX2_goes 166 = .ok (.iload 4, 2) := dk_21 4 (dk_at dksX2_goes_7 3 rfl rfl)
theorem dX2_goes_168 : decode cX2_goes 168 = .ok (.iconst (-1), 1) := dk_2 (dk_at dksX2_goes_7 5 rfl rfl)
theorem dX2_goes_169 : decode cX2_goes 169 = .ok (.if_icmp .eq 27, 3) := dk_159 0 27 (dk_at dksX2_goes_7 6 rfl rfl)
theorem dX2_goes_172 : decode cX2_goes 172 = .ok (.iload_n 2, 1) := dk_28 (dk_at dksX2_goes_7 9 rfl rfl)
theorem dX2_goes_173 : decode cX2_goes 173 = .ok (.aload_n 0, 1) := dk_42 (dk_at dksX2_goes_7 10 rfl rfl)
theorem dX2_goes_174 : decode cX2_goes 174 = .ok (.iload 4, 2) := dk_21 4 (dk_at dksX2_goes_7 11 rfl rfl)
theorem dX2_goes_176 : decode cX2_goes 176 = .ok (.invokevirtual 49, 3) := dk_182 0 49 (dk_at dksX2_goes_7 13 rfl rfl)
theorem dX2_goes_179 : decode cX2_goes 179 = .ok (.isub, 1) := dk_100 (dk_at dksX2_goes_7 16 rfl rfl)
theorem dX2_goes_180 : decode cX2_goes 180 = .ok (.aload_n 0, 1) := dk_42 (dk_at dksX2_goes_7 17 rfl rfl)
theorem dX2_goes_181 : decode cX2_goes 181 = .ok (.getfield 3, 3) := dk_180 0 3 (dk_at dksX2_goes_7 18 rfl rfl)
theorem dX2_goes_184 : decode cX2_goes 184 = .ok (.getfield 15, 3) := dk_180 0 15 (dk_at dksX2_goes_7 21 rfl rfl)
theorem dX2_goes_187 : decode cX2_goes 187 = .ok (.getfield 28, 3) := dk_180 0 28 (dk_at dksX2_goes_8 0 rfl rfl)
theorem dX2_goes_190 : decode cX2_goes 190 = .ok (.iload_n 1, 1) := dk_27 (dk_at dksX2_goes_8 3 rfl rfl)
theorem dX2_goes_191 : decode cX2_goes 191 = .ok (.iaload, 1) := dk_46 (dk_at dksX2_goes_8 4 rfl rfl)
theorem dX2_goes_192 : decode cX2_goes 192 = .ok (.invokestatic 52, 3) := dk_184 0 52 (dk_at dksX2_goes_8 5 rfl rfl)
theorem dX2_goes_195 : decode cX2_goes 195 = .ok (.istore_n 2, 1) := dk_61 (dk_at dksX2_goes_8 8 rfl rfl)
theorem dX2_goes_196 : decode cX2_goes 196 = .ok (.iinc 3 1, 3) := dk_132 3 1 (dk_at dksX2_goes_8 9 rfl rfl)
theorem dX2_goes_199 : decode cX2_goes 199 = .ok (.goto (-184), 3) := dk_167 255 72 (dk_at dksX2_goes_8 12 rfl rfl)
theorem dX2_goes_202 : decode cX2_goes 202 = .ok (.return_, 1) := dk_177 (dk_at dksX2_goes_8 15 rfl rfl)
abbrev cX2_isMud : ByteArray := prog_5_method_3_code
def yX2_isMud : MethodName := ⟨RX2, "isMud", "(I)Z"⟩
theorem dX2_isMud_0 : decode cX2_isMud 0 = .ok (.iconst 0, 1) := by decide +kernel
theorem dX2_isMud_1 : decode cX2_isMud 1 = .ok (.ireturn, 1) := by decide +kernel
abbrev cX2_stumble : ByteArray := prog_5_method_2_code
def yX2_stumble : MethodName := ⟨RX2, "stumble", "(II)I"⟩
theorem dX2_stumble_0 : decode cX2_stumble 0 = .ok (.iconst (-1), 1) := by decide +kernel
theorem dX2_stumble_1 : decode cX2_stumble 1 = .ok (.ireturn, 1) := by decide +kernel
abbrev cX2_does : ByteArray := prog_5_method_4_code
def yX2_does : MethodName := ⟨RX2, "does", "(I)I"⟩
theorem dX2_does_0 : decode cX2_does 0 = .ok (.iconst (-1), 1) := by decide +kernel
theorem dX2_does_1 : decode cX2_does 1 = .ok (.ireturn, 1) := by decide +kernel
abbrev cX2_lag : ByteArray := prog_5_method_5_code
def yX2_lag : MethodName := ⟨RX2, "lag", "(I)I"⟩
theorem dX2_lag_0 : decode cX2_lag 0 = .ok (.iconst 0, 1) := by decide +kernel
theorem dX2_lag_1 : decode cX2_lag 1 = .ok (.ireturn, 1) := by decide +kernel
theorem q141 : (Jvm.Cond.initialized "OverHill$Plain") ∈ lw_all := lw_g (lw_at lw_m1 3 rfl) rfl
theorem q211 : (Jvm.Cond.fieldLinkNest "OverHill$Plain" (28 : Nat) "OverHill$Dance" "length" "[I" "OverHill") ∈ lw_tbl := lw_at lw_m1 73 rfl
theorem q215 : (Jvm.Cond.fieldLinkNest "OverHill$Plain" (19 : Nat) "OverHill$Dance" "begins" "[I" "OverHill") ∈ lw_tbl := lw_at lw_m1 77 rfl
theorem q304 : (Jvm.Cond.instantiable "OverHill$Plain" (1 : Nat)) ∈ lw_all := lw_g (lw_at lw_m1 166 rfl) rfl
theorem q306 : (Jvm.Cond.instanceMethod ({ cls := "OverHill$Plain", name := "<init>", desc := "(LOverHill;)V" } : Jvm.MethodName)) ∈ lw_all := lw_g (lw_at lw_m1 168 rfl) rfl
theorem q307 : (Jvm.Cond.code ({ cls := "OverHill$Plain", name := "<init>", desc := "(LOverHill;)V" } : Jvm.MethodName) prog_5_method_1_code (2 : Nat) (Option.none : Option Jvm.ClassFile.FieldType)) ∈ lw_all := lw_g (lw_at lw_m1 169 rfl) rfl
theorem q308 : (Jvm.Cond.methodLink "OverHill$Plain" (9 : Nat) ({ cls := "java/lang/Object", name := "<init>", desc := "()V" } : Jvm.MethodName)) ∈ lw_all := lw_g (lw_at lw_m1 170 rfl) rfl
theorem q309 : (Jvm.Cond.fieldLink "OverHill$Plain" (3 : Nat) "OverHill$Plain" "this$0" "LOverHill;") ∈ lw_all := lw_g (lw_at lw_m1 171 rfl) rfl
theorem q310 : (Jvm.Cond.laysFinal "OverHill$Plain" "OverHill$Plain" "this$0" "LOverHill;") ∈ lw_all := lw_g (lw_at lw_m1 172 rfl) rfl
theorem q311 : (Jvm.Cond.soleField "OverHill$Plain" "this$0") ∈ lw_all := lw_g (lw_at lw_m1 173 rfl) rfl
theorem q312 : (Jvm.Cond.superclass "OverHill$Plain" "java/lang/Object") ∈ lw_all := lw_g (lw_at lw_m1 174 rfl) rfl
theorem q405 : (Jvm.Cond.fieldLinkNest "OverHill$Plain" (15 : Nat) "OverHill" "dance" "LOverHill$Dance;" "OverHill") ∈ lw_tbl := lw_at lw_m2 27 rfl
theorem q413 : (Jvm.Cond.fieldLinkNest "OverHill$Plain" (25 : Nat) "OverHill" "placeAt" "[I" "OverHill") ∈ lw_tbl := lw_at lw_m2 35 rfl
theorem q415 : (Jvm.Cond.fieldLinkNest "OverHill$Plain" (31 : Nat) "OverHill" "stepAt" "[I" "OverHill") ∈ lw_tbl := lw_at lw_m2 37 rfl
theorem q868 : (Jvm.Cond.declares ({ cls := "OverHill$Plain", name := "goesBoth", desc := "()V" } : Jvm.MethodName)) ∈ lw_tbl := lw_at lw_m4 10 rfl
theorem q871 : (Jvm.Cond.instanceMethod ({ cls := "OverHill$Plain", name := "goesBoth", desc := "()V" } : Jvm.MethodName)) ∈ lw_all := lw_g (lw_at lw_m4 13 rfl) rfl
theorem q872 : (Jvm.Cond.code ({ cls := "OverHill$Plain", name := "goesBoth", desc := "()V" } : Jvm.MethodName) prog_5_method_7_code (1 : Nat) (Option.none : Option Jvm.ClassFile.FieldType)) ∈ lw_all := lw_g (lw_at lw_m4 14 rfl) rfl
theorem q873 : (Jvm.Cond.methodLink "OverHill$Plain" (57 : Nat) ({ cls := "OverHill$Plain", name := "goes", desc := "(I)V" } : Jvm.MethodName)) ∈ lw_all := lw_g (lw_at lw_m4 15 rfl) rfl
theorem q874 : (Jvm.Cond.instanceMethod ({ cls := "OverHill$Plain", name := "goes", desc := "(I)V" } : Jvm.MethodName)) ∈ lw_all := lw_g (lw_at lw_m4 16 rfl) rfl
theorem q875 : (Jvm.Cond.selects "OverHill$Plain" ({ cls := "OverHill$Plain", name := "goes", desc := "(I)V" } : Jvm.MethodName) ({ cls := "OverHill$Plain", name := "goes", desc := "(I)V" } : Jvm.MethodName)) ∈ lw_all := lw_g (lw_at lw_m4 17 rfl) rfl
theorem q876 : (Jvm.Cond.sameMethod "OverHill$Plain" "OverHill$Plain" "goes" "(I)V") ∈ lw_all := lw_g (lw_at lw_m4 18 rfl) rfl
theorem q880 : (Jvm.Cond.code ({ cls := "OverHill$Plain", name := "goes", desc := "(I)V" } : Jvm.MethodName) prog_5_method_6_code (5 : Nat) (Option.none : Option Jvm.ClassFile.FieldType)) ∈ lw_all := lw_g (lw_at lw_m4 22 rfl) rfl
theorem q881 : (Jvm.Cond.methodLink "OverHill$Plain" (34 : Nat) ({ cls := "OverHill$Plain", name := "isMud", desc := "(I)Z" } : Jvm.MethodName)) ∈ lw_all := lw_g (lw_at lw_m4 23 rfl) rfl
theorem q882 : (Jvm.Cond.instanceMethod ({ cls := "OverHill$Plain", name := "isMud", desc := "(I)Z" } : Jvm.MethodName)) ∈ lw_all := lw_g (lw_at lw_m4 24 rfl) rfl
theorem q883 : (Jvm.Cond.selects "OverHill$Plain" ({ cls := "OverHill$Plain", name := "isMud", desc := "(I)Z" } : Jvm.MethodName) ({ cls := "OverHill$Plain", name := "isMud", desc := "(I)Z" } : Jvm.MethodName)) ∈ lw_all := lw_g (lw_at lw_m4 25 rfl) rfl
theorem q884 : (Jvm.Cond.sameMethod "OverHill$Plain" "OverHill$Plain" "isMud" "(I)Z") ∈ lw_all := lw_g (lw_at lw_m4 26 rfl) rfl
theorem q890 : (Jvm.Cond.code ({ cls := "OverHill$Plain", name := "isMud", desc := "(I)Z" } : Jvm.MethodName) prog_5_method_3_code (2 : Nat) (Option.some Jvm.ClassFile.FieldType.boolean)) ∈ lw_all := lw_g (lw_at lw_m4 32 rfl) rfl
theorem q891 : (Jvm.Cond.methodLink "OverHill$Plain" (38 : Nat) ({ cls := "OverHill$Plain", name := "stumble", desc := "(II)I" } : Jvm.MethodName)) ∈ lw_all := lw_g (lw_at lw_m4 33 rfl) rfl
theorem q892 : (Jvm.Cond.instanceMethod ({ cls := "OverHill$Plain", name := "stumble", desc := "(II)I" } : Jvm.MethodName)) ∈ lw_all := lw_g (lw_at lw_m4 34 rfl) rfl
theorem q893 : (Jvm.Cond.selects "OverHill$Plain" ({ cls := "OverHill$Plain", name := "stumble", desc := "(II)I" } : Jvm.MethodName) ({ cls := "OverHill$Plain", name := "stumble", desc := "(II)I" } : Jvm.MethodName)) ∈ lw_all := lw_g (lw_at lw_m4 35 rfl) rfl
theorem q894 : (Jvm.Cond.sameMethod "OverHill$Plain" "OverHill$Plain" "stumble" "(II)I") ∈ lw_all := lw_g (lw_at lw_m4 36 rfl) rfl
theorem q906 : (Jvm.Cond.code ({ cls := "OverHill$Plain", name := "stumble", desc := "(II)I" } : Jvm.MethodName) prog_5_method_2_code (3 : Nat) (Option.some Jvm.ClassFile.FieldType.int)) ∈ lw_all := lw_g (lw_at lw_m4 48 rfl) rfl
theorem q907 : (Jvm.Cond.methodLink "OverHill$Plain" (42 : Nat) ({ cls := "OverHill$Dance", name := "step", desc := "(II)I" } : Jvm.MethodName)) ∈ lw_all := lw_g (lw_at lw_m4 49 rfl) rfl
theorem q908 : (Jvm.Cond.methodLink "OverHill$Plain" (45 : Nat) ({ cls := "OverHill$Plain", name := "does", desc := "(I)I" } : Jvm.MethodName)) ∈ lw_all := lw_g (lw_at lw_m4 50 rfl) rfl
theorem q909 : (Jvm.Cond.instanceMethod ({ cls := "OverHill$Plain", name := "does", desc := "(I)I" } : Jvm.MethodName)) ∈ lw_all := lw_g (lw_at lw_m4 51 rfl) rfl
theorem q910 : (Jvm.Cond.selects "OverHill$Plain" ({ cls := "OverHill$Plain", name := "does", desc := "(I)I" } : Jvm.MethodName) ({ cls := "OverHill$Plain", name := "does", desc := "(I)I" } : Jvm.MethodName)) ∈ lw_all := lw_g (lw_at lw_m4 52 rfl) rfl
theorem q911 : (Jvm.Cond.sameMethod "OverHill$Plain" "OverHill$Plain" "does" "(I)I") ∈ lw_all := lw_g (lw_at lw_m4 53 rfl) rfl
theorem q919 : (Jvm.Cond.code ({ cls := "OverHill$Plain", name := "does", desc := "(I)I" } : Jvm.MethodName) prog_5_method_4_code (2 : Nat) (Option.some Jvm.ClassFile.FieldType.int)) ∈ lw_all := lw_g (lw_at lw_m4 61 rfl) rfl
theorem q920 : (Jvm.Cond.methodLink "OverHill$Plain" (49 : Nat) ({ cls := "OverHill$Plain", name := "lag", desc := "(I)I" } : Jvm.MethodName)) ∈ lw_all := lw_g (lw_at lw_m4 62 rfl) rfl
theorem q921 : (Jvm.Cond.instanceMethod ({ cls := "OverHill$Plain", name := "lag", desc := "(I)I" } : Jvm.MethodName)) ∈ lw_all := lw_g (lw_at lw_m4 63 rfl) rfl
theorem q922 : (Jvm.Cond.selects "OverHill$Plain" ({ cls := "OverHill$Plain", name := "lag", desc := "(I)I" } : Jvm.MethodName) ({ cls := "OverHill$Plain", name := "lag", desc := "(I)I" } : Jvm.MethodName)) ∈ lw_all := lw_g (lw_at lw_m4 64 rfl) rfl
theorem q923 : (Jvm.Cond.sameMethod "OverHill$Plain" "OverHill$Plain" "lag" "(I)I") ∈ lw_all := lw_g (lw_at lw_m4 65 rfl) rfl
theorem q931 : (Jvm.Cond.code ({ cls := "OverHill$Plain", name := "lag", desc := "(I)I" } : Jvm.MethodName) prog_5_method_5_code (2 : Nat) (Option.some Jvm.ClassFile.FieldType.int)) ∈ lw_all := lw_g (lw_at lw_m4 73 rfl) rfl
theorem q932 : (Jvm.Cond.methodLink "OverHill$Plain" (52 : Nat) ({ cls := "java/lang/Math", name := "floorMod", desc := "(II)I" } : Jvm.MethodName)) ∈ lw_all := lw_g (lw_at lw_m4 74 rfl) rfl
theorem q1143 : (Jvm.Cond.declares ({ cls := "OverHill$Plain", name := "goes", desc := "(I)V" } : Jvm.MethodName)) ∈ lw_tbl := lw_at lw_m5 45 rfl
theorem q1422 : (Jvm.Cond.selects "OverHill$Plain" ({ cls := "java/lang/Object", name := "getClass", desc := "()Ljava/lang/Class;" } : Jvm.MethodName) ({ cls := "java/lang/Object", name := "getClass", desc := "()Ljava/lang/Class;" } : Jvm.MethodName)) ∈ lw_all := lw_g (lw_at lw_m6 84 rfl) rfl
theorem q2299 : (Jvm.Cond.castable "OverHill$Plain" "java/lang/Object") ∈ lw_tbl := lw_at lw_m10 1 rfl
theorem in_X2 : ∀ w ∈ wsX20, w ∈ lw_all := lw_in wsX20 [310] (by decide +kernel) (by decide +kernel)

/-! OverHill$Muddy -/
set_option maxRecDepth 100000
def RX3 : String := "OverHill$Muddy"
abbrev cX3_init : ByteArray := prog_4_method_1_code
def yX3_init : MethodName := ⟨RX3, "<init>", "(LOverHill;)V"⟩
def dkwX3_init_0 : List UInt8 := [42, 43, 181, 0, 1, 42, 43, 183, 0, 7, 177]
abbrev dktX3_init_0 : List UInt8 := dkwX3_init_0 ++ []
theorem dksX3_init_0 : cX3_init.data.toList.drop 0 = dktX3_init_0 := by decide +kernel
theorem dX3_init_0 : decode cX3_init 0 = .ok (.aload_n 0, 1) := dk_42 (dk_at dksX3_init_0 0 rfl rfl)
theorem dX3_init_1 : decode cX3_init 1 = .ok (.aload_n 1, 1) := dk_43 (dk_at dksX3_init_0 1 rfl rfl)
theorem dX3_init_2 : decode cX3_init 2 = .ok (.putfield 1, 3) := dk_181 0 1 (dk_at dksX3_init_0 2 rfl rfl)
theorem dX3_init_5 : decode cX3_init 5 = .ok (.aload_n 0, 1) := dk_42 (dk_at dksX3_init_0 5 rfl rfl)
theorem dX3_init_6 : decode cX3_init 6 = .ok (.aload_n 1, 1) := dk_43 (dk_at dksX3_init_0 6 rfl rfl)
theorem dX3_init_7 : decode cX3_init 7 = .ok (.invokespecial 7, 3) := dk_183 0 7 (dk_at dksX3_init_0 7 rfl rfl)
theorem dX3_init_10 : decode cX3_init 10 = .ok (.return_, 1) := dk_177 (dk_at dksX3_init_0 10 rfl rfl)
abbrev cX3_isMud : ByteArray := prog_4_method_2_code
def yX3_isMud : MethodName := ⟨RX3, "isMud", "(I)Z"⟩
def dkwX3_isMud_0 : List UInt8 := [42, 180, 0, 1, 180, 0, 13, 180, 0, 19, 27, 51, 172]
abbrev dktX3_isMud_0 : List UInt8 := dkwX3_isMud_0 ++ []
theorem dksX3_isMud_0 : cX3_isMud.data.toList.drop 0 = dktX3_isMud_0 := by decide +kernel
theorem dX3_isMud_0 : decode cX3_isMud 0 = .ok (.aload_n 0, 1) := dk_42 (dk_at dksX3_isMud_0 0 rfl rfl)
theorem dX3_isMud_1 : decode cX3_isMud 1 = .ok (.getfield 1, 3) := dk_180 0 1 (dk_at dksX3_isMud_0 1 rfl rfl)
theorem dX3_isMud_4 : decode cX3_isMud 4 = .ok (.getfield 13, 3) := dk_180 0 13 (dk_at dksX3_isMud_0 4 rfl rfl)
theorem dX3_isMud_7 : decode cX3_isMud 7 = .ok (.getfield 19, 3) := dk_180 0 19 (dk_at dksX3_isMud_0 7 rfl rfl)
theorem dX3_isMud_10 : decode cX3_isMud 10 = .ok (.iload_n 1, 1) := dk_27 (dk_at dksX3_isMud_0 10 rfl rfl)
theorem dX3_isMud_11 : decode cX3_isMud 11 = .ok (.baload, 1) := dk_51 (dk_at dksX3_isMud_0 11 rfl rfl)
theorem dX3_isMud_12 : decode cX3_isMud 12 = .ok (.ireturn, 1) := dk_172 (dk_at dksX3_isMud_0 12 rfl rfl)
theorem q142 : (Jvm.Cond.initialized "OverHill$Muddy") ∈ lw_all := lw_g (lw_at lw_m1 4 rfl) rfl
theorem q253 : (Jvm.Cond.fieldLinkNest "OverHill$Muddy" (19 : Nat) "OverHill$Dance" "mud" "[Z" "OverHill") ∈ lw_tbl := lw_at lw_m1 115 rfl
theorem q320 : (Jvm.Cond.instanceMethod ({ cls := "OverHill$Muddy", name := "<init>", desc := "(LOverHill;)V" } : Jvm.MethodName)) ∈ lw_all := lw_g (lw_at lw_m1 182 rfl) rfl
theorem q321 : (Jvm.Cond.code ({ cls := "OverHill$Muddy", name := "<init>", desc := "(LOverHill;)V" } : Jvm.MethodName) prog_4_method_1_code (2 : Nat) (Option.none : Option Jvm.ClassFile.FieldType)) ∈ lw_all := lw_g (lw_at lw_m1 183 rfl) rfl
theorem q322 : (Jvm.Cond.methodLinkNest "OverHill$Muddy" (7 : Nat) ({ cls := "OverHill$Plain", name := "<init>", desc := "(LOverHill;)V" } : Jvm.MethodName) "OverHill") ∈ lw_tbl := lw_at lw_m1 184 rfl
theorem q324 : (Jvm.Cond.fieldLink "OverHill$Muddy" (1 : Nat) "OverHill$Muddy" "this$0" "LOverHill;") ∈ lw_all := lw_g (lw_at lw_m1 186 rfl) rfl
theorem q328 : (Jvm.Cond.soleField "OverHill$Muddy" "this$0") ∈ lw_all := lw_g (lw_at lw_m1 190 rfl) rfl
theorem q402 : (Jvm.Cond.fieldLinkNest "OverHill$Muddy" (13 : Nat) "OverHill" "dance" "LOverHill$Dance;" "OverHill") ∈ lw_tbl := lw_at lw_m2 24 rfl
theorem q886 : (Jvm.Cond.instanceMethod ({ cls := "OverHill$Muddy", name := "isMud", desc := "(I)Z" } : Jvm.MethodName)) ∈ lw_all := lw_g (lw_at lw_m4 28 rfl) rfl
theorem q887 : (Jvm.Cond.code ({ cls := "OverHill$Muddy", name := "isMud", desc := "(I)Z" } : Jvm.MethodName) prog_4_method_2_code (2 : Nat) (Option.some Jvm.ClassFile.FieldType.boolean)) ∈ lw_all := lw_g (lw_at lw_m4 29 rfl) rfl

/-! OverHill$Told -/
set_option maxRecDepth 100000
def RX4 : String := "OverHill$Told"
def TX4 : u_T := fun k => match k with
  | 0 => ("OverHill$Muddy", "this$0", "LOverHill;", true)
  | 1 => ("OverHill$Plain", "this$0", "LOverHill;", true)
  | _ => ("OverHill$Told", "this$0", "LOverHill;", true)
def tyX4 : Nat → FieldType := fun k => match k with
  | 0 => .object "OverHill"
  | 1 => .object "OverHill"
  | _ => .object "OverHill"
abbrev wsX40 : List Cond := u_ws RX4 TX4 3
-- two fields of one name: no nmX4
theorem tyX4_ok : ∀ k, k < 3 → parseFieldDescriptor (TX4 k).2.2.1 = some (tyX4 k) := by decide +kernel
abbrev cX4_init : ByteArray := prog_10_method_1_code
def yX4_init : MethodName := ⟨RX4, "<init>", "(LOverHill;)V"⟩
def dkwX4_init_0 : List UInt8 := [42, 43, 181, 0, 1, 42, 43, 183, 0, 7, 177]
abbrev dktX4_init_0 : List UInt8 := dkwX4_init_0 ++ []
theorem dksX4_init_0 : cX4_init.data.toList.drop 0 = dktX4_init_0 := by decide +kernel
theorem dX4_init_0 : decode cX4_init 0 = .ok (.aload_n 0, 1) := dk_42 (dk_at dksX4_init_0 0 rfl rfl)
theorem dX4_init_1 : decode cX4_init 1 = .ok (.aload_n 1, 1) := dk_43 (dk_at dksX4_init_0 1 rfl rfl)
theorem dX4_init_2 : decode cX4_init 2 = .ok (.putfield 1, 3) := dk_181 0 1 (dk_at dksX4_init_0 2 rfl rfl)
theorem dX4_init_5 : decode cX4_init 5 = .ok (.aload_n 0, 1) := dk_42 (dk_at dksX4_init_0 5 rfl rfl)
theorem dX4_init_6 : decode cX4_init 6 = .ok (.aload_n 1, 1) := dk_43 (dk_at dksX4_init_0 6 rfl rfl)
theorem dX4_init_7 : decode cX4_init 7 = .ok (.invokespecial 7, 3) := dk_183 0 7 (dk_at dksX4_init_0 7 rfl rfl)
theorem dX4_init_10 : decode cX4_init 10 = .ok (.return_, 1) := dk_177 (dk_at dksX4_init_0 10 rfl rfl)
abbrev cX4_stumble : ByteArray := prog_10_method_2_code
def yX4_stumble : MethodName := ⟨RX4, "stumble", "(II)I"⟩
def dkwX4_stumble_0 : List UInt8 := [42, 180, 0, 1, 180, 0, 13, 27, 28, 182, 0, 19, 172]
abbrev dktX4_stumble_0 : List UInt8 := dkwX4_stumble_0 ++ []
theorem dksX4_stumble_0 : cX4_stumble.data.toList.drop 0 = dktX4_stumble_0 := by decide +kernel
theorem dX4_stumble_0 : decode cX4_stumble 0 = .ok (.aload_n 0, 1) := dk_42 (dk_at dksX4_stumble_0 0 rfl rfl)
theorem dX4_stumble_1 : decode cX4_stumble 1 = .ok (.getfield 1, 3) := dk_180 0 1 (dk_at dksX4_stumble_0 1 rfl rfl)
theorem dX4_stumble_4 : decode cX4_stumble 4 = .ok (.getfield 13, 3) := dk_180 0 13 (dk_at dksX4_stumble_0 4 rfl rfl)
theorem dX4_stumble_7 : decode cX4_stumble 7 = .ok (.iload_n 1, 1) := dk_27 (dk_at dksX4_stumble_0 7 rfl rfl)
theorem dX4_stumble_8 : decode cX4_stumble 8 = .ok (.iload_n 2, 1) := dk_28 (dk_at dksX4_stumble_0 8 rfl rfl)
theorem dX4_stumble_9 : decode cX4_stumble 9 = .ok (.invokevirtual 19, 3) := dk_182 0 19 (dk_at dksX4_stumble_0 9 rfl rfl)
theorem dX4_stumble_12 : decode cX4_stumble 12 = .ok (.ireturn, 1) := dk_172 (dk_at dksX4_stumble_0 12 rfl rfl)
abbrev cX4_does : ByteArray := prog_10_method_3_code
def yX4_does : MethodName := ⟨RX4, "does", "(I)I"⟩
def dkwX4_does_0 : List UInt8 := [42, 180, 0, 1, 180, 0, 13, 180, 0, 25, 27, 46, 172]
abbrev dktX4_does_0 : List UInt8 := dkwX4_does_0 ++ []
theorem dksX4_does_0 : cX4_does.data.toList.drop 0 = dktX4_does_0 := by decide +kernel
theorem dX4_does_0 : decode cX4_does 0 = .ok (.aload_n 0, 1) := dk_42 (dk_at dksX4_does_0 0 rfl rfl)
theorem dX4_does_1 : decode cX4_does 1 = .ok (.getfield 1, 3) := dk_180 0 1 (dk_at dksX4_does_0 1 rfl rfl)
theorem dX4_does_4 : decode cX4_does 4 = .ok (.getfield 13, 3) := dk_180 0 13 (dk_at dksX4_does_0 4 rfl rfl)
theorem dX4_does_7 : decode cX4_does 7 = .ok (.getfield 25, 3) := dk_180 0 25 (dk_at dksX4_does_0 7 rfl rfl)
theorem dX4_does_10 : decode cX4_does 10 = .ok (.iload_n 1, 1) := dk_27 (dk_at dksX4_does_0 10 rfl rfl)
theorem dX4_does_11 : decode cX4_does 11 = .ok (.iaload, 1) := dk_46 (dk_at dksX4_does_0 11 rfl rfl)
theorem dX4_does_12 : decode cX4_does 12 = .ok (.ireturn, 1) := dk_172 (dk_at dksX4_does_0 12 rfl rfl)
abbrev cX4_lag : ByteArray := prog_10_method_4_code
def yX4_lag : MethodName := ⟨RX4, "lag", "(I)I"⟩
def dkwX4_lag_0 : List UInt8 := [42, 180, 0, 1, 180, 0, 13, 180, 0, 29, 27, 46, 172]
abbrev dktX4_lag_0 : List UInt8 := dkwX4_lag_0 ++ []
theorem dksX4_lag_0 : cX4_lag.data.toList.drop 0 = dktX4_lag_0 := by decide +kernel
theorem dX4_lag_0 : decode cX4_lag 0 = .ok (.aload_n 0, 1) := dk_42 (dk_at dksX4_lag_0 0 rfl rfl)
theorem dX4_lag_1 : decode cX4_lag 1 = .ok (.getfield 1, 3) := dk_180 0 1 (dk_at dksX4_lag_0 1 rfl rfl)
theorem dX4_lag_4 : decode cX4_lag 4 = .ok (.getfield 13, 3) := dk_180 0 13 (dk_at dksX4_lag_0 4 rfl rfl)
theorem dX4_lag_7 : decode cX4_lag 7 = .ok (.getfield 29, 3) := dk_180 0 29 (dk_at dksX4_lag_0 7 rfl rfl)
theorem dX4_lag_10 : decode cX4_lag 10 = .ok (.iload_n 1, 1) := dk_27 (dk_at dksX4_lag_0 10 rfl rfl)
theorem dX4_lag_11 : decode cX4_lag 11 = .ok (.iaload, 1) := dk_46 (dk_at dksX4_lag_0 11 rfl rfl)
theorem dX4_lag_12 : decode cX4_lag 12 = .ok (.ireturn, 1) := dk_172 (dk_at dksX4_lag_0 12 rfl rfl)
theorem q143 : (Jvm.Cond.initialized "OverHill$Told") ∈ lw_all := lw_g (lw_at lw_m1 5 rfl) rfl
theorem q231 : (Jvm.Cond.fieldLinkNest "OverHill$Told" (25 : Nat) "OverHill$Dance" "does" "[I" "OverHill") ∈ lw_tbl := lw_at lw_m1 93 rfl
theorem q235 : (Jvm.Cond.fieldLinkNest "OverHill$Told" (29 : Nat) "OverHill$Dance" "lag" "[I" "OverHill") ∈ lw_tbl := lw_at lw_m1 97 rfl
theorem q315 : (Jvm.Cond.instantiable "OverHill$Told" (3 : Nat)) ∈ lw_all := lw_g (lw_at lw_m1 177 rfl) rfl
theorem q317 : (Jvm.Cond.instanceMethod ({ cls := "OverHill$Told", name := "<init>", desc := "(LOverHill;)V" } : Jvm.MethodName)) ∈ lw_all := lw_g (lw_at lw_m1 179 rfl) rfl
theorem q318 : (Jvm.Cond.code ({ cls := "OverHill$Told", name := "<init>", desc := "(LOverHill;)V" } : Jvm.MethodName) prog_10_method_1_code (2 : Nat) (Option.none : Option Jvm.ClassFile.FieldType)) ∈ lw_all := lw_g (lw_at lw_m1 180 rfl) rfl
theorem q319 : (Jvm.Cond.methodLinkNest "OverHill$Told" (7 : Nat) ({ cls := "OverHill$Muddy", name := "<init>", desc := "(LOverHill;)V" } : Jvm.MethodName) "OverHill") ∈ lw_tbl := lw_at lw_m1 181 rfl
theorem q323 : (Jvm.Cond.fieldLink "OverHill$Told" (1 : Nat) "OverHill$Told" "this$0" "LOverHill;") ∈ lw_all := lw_g (lw_at lw_m1 185 rfl) rfl
theorem q325 : (Jvm.Cond.laysFinal "OverHill$Told" "OverHill$Told" "this$0" "LOverHill;") ∈ lw_all := lw_g (lw_at lw_m1 187 rfl) rfl
theorem q326 : (Jvm.Cond.soleField "OverHill$Told" "this$0") ∈ lw_all := lw_g (lw_at lw_m1 188 rfl) rfl
theorem q327 : (Jvm.Cond.laysFinal "OverHill$Told" "OverHill$Muddy" "this$0" "LOverHill;") ∈ lw_all := lw_g (lw_at lw_m1 189 rfl) rfl
theorem q329 : (Jvm.Cond.laysFinal "OverHill$Told" "OverHill$Plain" "this$0" "LOverHill;") ∈ lw_all := lw_g (lw_at lw_m1 191 rfl) rfl
theorem q330 : (Jvm.Cond.superclass "OverHill$Told" "OverHill$Muddy") ∈ lw_all := lw_g (lw_at lw_m1 192 rfl) rfl
theorem q403 : (Jvm.Cond.fieldLinkNest "OverHill$Told" (13 : Nat) "OverHill" "dance" "LOverHill$Dance;" "OverHill") ∈ lw_tbl := lw_at lw_m2 25 rfl
theorem q867 : (Jvm.Cond.sameMethod "OverHill$Told" "OverHill$Plain" "goesBoth" "()V") ∈ lw_all := lw_g (lw_at lw_m4 9 rfl) rfl
theorem q869 : (Jvm.Cond.selects "OverHill$Told" ({ cls := "OverHill$Told", name := "goesBoth", desc := "()V" } : Jvm.MethodName) ({ cls := "OverHill$Plain", name := "goesBoth", desc := "()V" } : Jvm.MethodName)) ∈ lw_all := lw_g (lw_at lw_m4 11 rfl) rfl
theorem q878 : (Jvm.Cond.selects "OverHill$Told" ({ cls := "OverHill$Plain", name := "goes", desc := "(I)V" } : Jvm.MethodName) ({ cls := "OverHill$Plain", name := "goes", desc := "(I)V" } : Jvm.MethodName)) ∈ lw_all := lw_g (lw_at lw_m4 20 rfl) rfl
theorem q888 : (Jvm.Cond.selects "OverHill$Told" ({ cls := "OverHill$Plain", name := "isMud", desc := "(I)Z" } : Jvm.MethodName) ({ cls := "OverHill$Muddy", name := "isMud", desc := "(I)Z" } : Jvm.MethodName)) ∈ lw_all := lw_g (lw_at lw_m4 30 rfl) rfl
theorem q898 : (Jvm.Cond.selects "OverHill$Told" ({ cls := "OverHill$Plain", name := "stumble", desc := "(II)I" } : Jvm.MethodName) ({ cls := "OverHill$Told", name := "stumble", desc := "(II)I" } : Jvm.MethodName)) ∈ lw_all := lw_g (lw_at lw_m4 40 rfl) rfl
theorem q899 : (Jvm.Cond.instanceMethod ({ cls := "OverHill$Told", name := "stumble", desc := "(II)I" } : Jvm.MethodName)) ∈ lw_all := lw_g (lw_at lw_m4 41 rfl) rfl
theorem q900 : (Jvm.Cond.code ({ cls := "OverHill$Told", name := "stumble", desc := "(II)I" } : Jvm.MethodName) prog_10_method_2_code (3 : Nat) (Option.some Jvm.ClassFile.FieldType.int)) ∈ lw_all := lw_g (lw_at lw_m4 42 rfl) rfl
theorem q901 : (Jvm.Cond.methodLink "OverHill$Told" (19 : Nat) ({ cls := "OverHill$Dance", name := "stumbleAt", desc := "(II)I" } : Jvm.MethodName)) ∈ lw_all := lw_g (lw_at lw_m4 43 rfl) rfl
theorem q915 : (Jvm.Cond.selects "OverHill$Told" ({ cls := "OverHill$Plain", name := "does", desc := "(I)I" } : Jvm.MethodName) ({ cls := "OverHill$Told", name := "does", desc := "(I)I" } : Jvm.MethodName)) ∈ lw_all := lw_g (lw_at lw_m4 57 rfl) rfl
theorem q916 : (Jvm.Cond.instanceMethod ({ cls := "OverHill$Told", name := "does", desc := "(I)I" } : Jvm.MethodName)) ∈ lw_all := lw_g (lw_at lw_m4 58 rfl) rfl
theorem q917 : (Jvm.Cond.code ({ cls := "OverHill$Told", name := "does", desc := "(I)I" } : Jvm.MethodName) prog_10_method_3_code (2 : Nat) (Option.some Jvm.ClassFile.FieldType.int)) ∈ lw_all := lw_g (lw_at lw_m4 59 rfl) rfl
theorem q927 : (Jvm.Cond.selects "OverHill$Told" ({ cls := "OverHill$Plain", name := "lag", desc := "(I)I" } : Jvm.MethodName) ({ cls := "OverHill$Told", name := "lag", desc := "(I)I" } : Jvm.MethodName)) ∈ lw_all := lw_g (lw_at lw_m4 69 rfl) rfl
theorem q928 : (Jvm.Cond.instanceMethod ({ cls := "OverHill$Told", name := "lag", desc := "(I)I" } : Jvm.MethodName)) ∈ lw_all := lw_g (lw_at lw_m4 70 rfl) rfl
theorem q929 : (Jvm.Cond.code ({ cls := "OverHill$Told", name := "lag", desc := "(I)I" } : Jvm.MethodName) prog_10_method_4_code (2 : Nat) (Option.some Jvm.ClassFile.FieldType.int)) ∈ lw_all := lw_g (lw_at lw_m4 71 rfl) rfl
theorem q1427 : (Jvm.Cond.selects "OverHill$Told" ({ cls := "java/lang/Object", name := "getClass", desc := "()Ljava/lang/Class;" } : Jvm.MethodName) ({ cls := "java/lang/Object", name := "getClass", desc := "()Ljava/lang/Class;" } : Jvm.MethodName)) ∈ lw_all := lw_g (lw_at lw_m6 89 rfl) rfl
theorem q2293 : (Jvm.Cond.sameMethod "OverHill$Told" "OverHill$Told" "stumble" "(II)I") ∈ lw_all := lw_g (lw_at lw_m9 235 rfl) rfl
theorem q2300 : (Jvm.Cond.castable "OverHill$Told" "java/lang/Object") ∈ lw_tbl := lw_at lw_m10 2 rfl
theorem in_X4 : ∀ w ∈ wsX40, w ∈ lw_all := lw_in wsX40 [327, 329, 325] (by decide +kernel) (by decide +kernel)

/-! OverHill$Without -/
set_option maxRecDepth 100000
def RX5 : String := "OverHill$Without"
def TX5 : u_T := fun k => match k with
  | 0 => ("OverHill$Muddy", "this$0", "LOverHill;", true)
  | 1 => ("OverHill$Told", "this$0", "LOverHill;", true)
  | 2 => ("OverHill$Plain", "this$0", "LOverHill;", true)
  | 3 => ("OverHill$Without", "without", "I", false)
  | _ => ("OverHill$Without", "this$0", "LOverHill;", true)
def tyX5 : Nat → FieldType := fun k => match k with
  | 0 => .object "OverHill"
  | 1 => .object "OverHill"
  | 2 => .object "OverHill"
  | 3 => .int
  | _ => .object "OverHill"
abbrev wsX50 : List Cond := u_ws RX5 TX5 5
-- two fields of one name: no nmX5
theorem tyX5_ok : ∀ k, k < 5 → parseFieldDescriptor (TX5 k).2.2.1 = some (tyX5 k) := by decide +kernel
abbrev cX5_init : ByteArray := prog_11_method_1_code
def yX5_init : MethodName := ⟨RX5, "<init>", "(LOverHill;)V"⟩
def dkwX5_init_0 : List UInt8 := [42, 43, 181, 0, 3, 42, 43, 183, 0, 9, 177]
abbrev dktX5_init_0 : List UInt8 := dkwX5_init_0 ++ []
theorem dksX5_init_0 : cX5_init.data.toList.drop 0 = dktX5_init_0 := by decide +kernel
theorem dX5_init_0 : decode cX5_init 0 = .ok (.aload_n 0, 1) := dk_42 (dk_at dksX5_init_0 0 rfl rfl)
theorem dX5_init_1 : decode cX5_init 1 = .ok (.aload_n 1, 1) := dk_43 (dk_at dksX5_init_0 1 rfl rfl)
theorem dX5_init_2 : decode cX5_init 2 = .ok (.putfield 3, 3) := dk_181 0 3 (dk_at dksX5_init_0 2 rfl rfl)
theorem dX5_init_5 : decode cX5_init 5 = .ok (.aload_n 0, 1) := dk_42 (dk_at dksX5_init_0 5 rfl rfl)
theorem dX5_init_6 : decode cX5_init 6 = .ok (.aload_n 1, 1) := dk_43 (dk_at dksX5_init_0 6 rfl rfl)
theorem dX5_init_7 : decode cX5_init 7 = .ok (.invokespecial 9, 3) := dk_183 0 9 (dk_at dksX5_init_0 7 rfl rfl)
theorem dX5_init_10 : decode cX5_init 10 = .ok (.return_, 1) := dk_177 (dk_at dksX5_init_0 10 rfl rfl)
abbrev cX5_stumble : ByteArray := prog_11_method_2_code
def yX5_stumble : MethodName := ⟨RX5, "stumble", "(II)I"⟩
def dkwX5_stumble_0 : List UInt8 := [42, 27, 28, 183, 0, 15, 62, 29, 42, 180, 0, 19, 160, 0, 7, 2, 167, 0, 4, 29, 172]
abbrev dktX5_stumble_0 : List UInt8 := dkwX5_stumble_0 ++ []
theorem dksX5_stumble_0 : cX5_stumble.data.toList.drop 0 = dktX5_stumble_0 := by decide +kernel
theorem dX5_stumble_0 : decode cX5_stumble 0 = .ok (.aload_n 0, 1) := dk_42 (dk_at dksX5_stumble_0 0 rfl rfl)
theorem dX5_stumble_1 : decode cX5_stumble 1 = .ok (.iload_n 1, 1) := dk_27 (dk_at dksX5_stumble_0 1 rfl rfl)
theorem dX5_stumble_2 : decode cX5_stumble 2 = .ok (.iload_n 2, 1) := dk_28 (dk_at dksX5_stumble_0 2 rfl rfl)
theorem dX5_stumble_3 : decode cX5_stumble 3 = .ok (.invokespecial 15, 3) := dk_183 0 15 (dk_at dksX5_stumble_0 3 rfl rfl)
theorem dX5_stumble_6 : decode cX5_stumble 6 = .ok (.istore_n 3, 1) := dk_62 (dk_at dksX5_stumble_0 6 rfl rfl)
theorem dX5_stumble_7 : decode cX5_stumble 7 = .ok (.iload_n 3, 1) := dk_29 (dk_at dksX5_stumble_0 7 rfl rfl)
theorem dX5_stumble_8 : decode cX5_stumble 8 = .ok (.aload_n 0, 1) := dk_42 (dk_at dksX5_stumble_0 8 rfl rfl)
theorem dX5_stumble_9 : decode cX5_stumble 9 = .ok (.getfield 19, 3) := dk_180 0 19 (dk_at dksX5_stumble_0 9 rfl rfl)
theorem dX5_stumble_12 : decode cX5_stumble 12 = .ok (.if_icmp .ne 7, 3) := dk_160 0 7 (dk_at dksX5_stumble_0 12 rfl rfl)
theorem dX5_stumble_15 : decode cX5_stumble 15 = .ok (.iconst (-1), 1) := dk_2 (dk_at dksX5_stumble_0 15 rfl rfl)
theorem dX5_stumble_16 : decode cX5_stumble 16 = .ok (.goto 4, 3) := dk_167 0 4 (dk_at dksX5_stumble_0 16 rfl rfl)
theorem dX5_stumble_19 : decode cX5_stumble 19 = .ok (.iload_n 3, 1) := dk_29 (dk_at dksX5_stumble_0 19 rfl rfl)
theorem dX5_stumble_20 : decode cX5_stumble 20 = .ok (.ireturn, 1) := dk_172 (dk_at dksX5_stumble_0 20 rfl rfl)
theorem q144 : (Jvm.Cond.initialized "OverHill$Without") ∈ lw_all := lw_g (lw_at lw_m1 6 rfl) rfl
theorem q332 : (Jvm.Cond.instantiable "OverHill$Without" (5 : Nat)) ∈ lw_all := lw_g (lw_at lw_m1 194 rfl) rfl
theorem q334 : (Jvm.Cond.instanceMethod ({ cls := "OverHill$Without", name := "<init>", desc := "(LOverHill;)V" } : Jvm.MethodName)) ∈ lw_all := lw_g (lw_at lw_m1 196 rfl) rfl
theorem q335 : (Jvm.Cond.code ({ cls := "OverHill$Without", name := "<init>", desc := "(LOverHill;)V" } : Jvm.MethodName) prog_11_method_1_code (2 : Nat) (Option.none : Option Jvm.ClassFile.FieldType)) ∈ lw_all := lw_g (lw_at lw_m1 197 rfl) rfl
theorem q336 : (Jvm.Cond.methodLinkNest "OverHill$Without" (9 : Nat) ({ cls := "OverHill$Told", name := "<init>", desc := "(LOverHill;)V" } : Jvm.MethodName) "OverHill") ∈ lw_tbl := lw_at lw_m1 198 rfl
theorem q337 : (Jvm.Cond.fieldLink "OverHill$Without" (19 : Nat) "OverHill$Without" "without" "I") ∈ lw_all := lw_g (lw_at lw_m1 199 rfl) rfl
theorem q339 : (Jvm.Cond.fieldLink "OverHill$Without" (3 : Nat) "OverHill$Without" "this$0" "LOverHill;") ∈ lw_all := lw_g (lw_at lw_m1 201 rfl) rfl
theorem q340 : (Jvm.Cond.lays "OverHill$Without" "OverHill$Without" "without" "I") ∈ lw_all := lw_g (lw_at lw_m1 202 rfl) rfl
theorem q341 : (Jvm.Cond.soleField "OverHill$Without" "without") ∈ lw_all := lw_g (lw_at lw_m1 203 rfl) rfl
theorem q342 : (Jvm.Cond.laysFinal "OverHill$Without" "OverHill$Without" "this$0" "LOverHill;") ∈ lw_all := lw_g (lw_at lw_m1 204 rfl) rfl
theorem q343 : (Jvm.Cond.soleField "OverHill$Without" "this$0") ∈ lw_all := lw_g (lw_at lw_m1 205 rfl) rfl
theorem q344 : (Jvm.Cond.laysFinal "OverHill$Without" "OverHill$Told" "this$0" "LOverHill;") ∈ lw_all := lw_g (lw_at lw_m1 206 rfl) rfl
theorem q345 : (Jvm.Cond.laysFinal "OverHill$Without" "OverHill$Muddy" "this$0" "LOverHill;") ∈ lw_all := lw_g (lw_at lw_m1 207 rfl) rfl
theorem q346 : (Jvm.Cond.laysFinal "OverHill$Without" "OverHill$Plain" "this$0" "LOverHill;") ∈ lw_all := lw_g (lw_at lw_m1 208 rfl) rfl
theorem q347 : (Jvm.Cond.superclass "OverHill$Without" "OverHill$Told") ∈ lw_all := lw_g (lw_at lw_m1 209 rfl) rfl
theorem q870 : (Jvm.Cond.selects "OverHill$Without" ({ cls := "OverHill$Told", name := "goesBoth", desc := "()V" } : Jvm.MethodName) ({ cls := "OverHill$Plain", name := "goesBoth", desc := "()V" } : Jvm.MethodName)) ∈ lw_all := lw_g (lw_at lw_m4 12 rfl) rfl
theorem q879 : (Jvm.Cond.selects "OverHill$Without" ({ cls := "OverHill$Plain", name := "goes", desc := "(I)V" } : Jvm.MethodName) ({ cls := "OverHill$Plain", name := "goes", desc := "(I)V" } : Jvm.MethodName)) ∈ lw_all := lw_g (lw_at lw_m4 21 rfl) rfl
theorem q889 : (Jvm.Cond.selects "OverHill$Without" ({ cls := "OverHill$Plain", name := "isMud", desc := "(I)Z" } : Jvm.MethodName) ({ cls := "OverHill$Muddy", name := "isMud", desc := "(I)Z" } : Jvm.MethodName)) ∈ lw_all := lw_g (lw_at lw_m4 31 rfl) rfl
theorem q902 : (Jvm.Cond.selects "OverHill$Without" ({ cls := "OverHill$Plain", name := "stumble", desc := "(II)I" } : Jvm.MethodName) ({ cls := "OverHill$Without", name := "stumble", desc := "(II)I" } : Jvm.MethodName)) ∈ lw_all := lw_g (lw_at lw_m4 44 rfl) rfl
theorem q903 : (Jvm.Cond.instanceMethod ({ cls := "OverHill$Without", name := "stumble", desc := "(II)I" } : Jvm.MethodName)) ∈ lw_all := lw_g (lw_at lw_m4 45 rfl) rfl
theorem q904 : (Jvm.Cond.code ({ cls := "OverHill$Without", name := "stumble", desc := "(II)I" } : Jvm.MethodName) prog_11_method_2_code (4 : Nat) (Option.some Jvm.ClassFile.FieldType.int)) ∈ lw_all := lw_g (lw_at lw_m4 46 rfl) rfl
theorem q905 : (Jvm.Cond.methodLink "OverHill$Without" (15 : Nat) ({ cls := "OverHill$Told", name := "stumble", desc := "(II)I" } : Jvm.MethodName)) ∈ lw_all := lw_g (lw_at lw_m4 47 rfl) rfl
theorem q918 : (Jvm.Cond.selects "OverHill$Without" ({ cls := "OverHill$Plain", name := "does", desc := "(I)I" } : Jvm.MethodName) ({ cls := "OverHill$Told", name := "does", desc := "(I)I" } : Jvm.MethodName)) ∈ lw_all := lw_g (lw_at lw_m4 60 rfl) rfl
theorem q930 : (Jvm.Cond.selects "OverHill$Without" ({ cls := "OverHill$Plain", name := "lag", desc := "(I)I" } : Jvm.MethodName) ({ cls := "OverHill$Told", name := "lag", desc := "(I)I" } : Jvm.MethodName)) ∈ lw_all := lw_g (lw_at lw_m4 72 rfl) rfl
theorem q1004 : (Jvm.Cond.sameMethod "OverHill$Without" "OverHill$Plain" "goesBoth" "()V") ∈ lw_all := lw_g (lw_at lw_m4 146 rfl) rfl
theorem q1005 : (Jvm.Cond.selects "OverHill$Without" ({ cls := "OverHill$Without", name := "goesBoth", desc := "()V" } : Jvm.MethodName) ({ cls := "OverHill$Plain", name := "goesBoth", desc := "()V" } : Jvm.MethodName)) ∈ lw_all := lw_g (lw_at lw_m4 147 rfl) rfl
theorem q1428 : (Jvm.Cond.selects "OverHill$Without" ({ cls := "java/lang/Object", name := "getClass", desc := "()Ljava/lang/Class;" } : Jvm.MethodName) ({ cls := "java/lang/Object", name := "getClass", desc := "()Ljava/lang/Class;" } : Jvm.MethodName)) ∈ lw_all := lw_g (lw_at lw_m6 90 rfl) rfl
theorem q2301 : (Jvm.Cond.castable "OverHill$Without" "java/lang/Object") ∈ lw_tbl := lw_at lw_m10 3 rfl
theorem in_X5 : ∀ w ∈ wsX50, w ∈ lw_all := lw_in wsX50 [345, 344, 346, 340, 342] (by decide +kernel) (by decide +kernel)

/-! OverHill$Thought -/
set_option maxRecDepth 100000
def RX6 : String := "OverHill$Thought"
def TX6 : u_T := fun k => match k with
  | 0 => ("OverHill$Muddy", "this$0", "LOverHill;", true)
  | 1 => ("OverHill$Plain", "this$0", "LOverHill;", true)
  | 2 => ("OverHill$Thought", "number", "I", false)
  | _ => ("OverHill$Thought", "this$0", "LOverHill;", true)
def tyX6 : Nat → FieldType := fun k => match k with
  | 0 => .object "OverHill"
  | 1 => .object "OverHill"
  | 2 => .int
  | _ => .object "OverHill"
abbrev wsX60 : List Cond := u_ws RX6 TX6 4
-- two fields of one name: no nmX6
theorem tyX6_ok : ∀ k, k < 4 → parseFieldDescriptor (TX6 k).2.2.1 = some (tyX6 k) := by decide +kernel
abbrev cX6_init : ByteArray := prog_8_method_1_code
def yX6_init : MethodName := ⟨RX6, "<init>", "(LOverHill;)V"⟩
def dkwX6_init_0 : List UInt8 := [42, 43, 181, 0, 3, 42, 43, 183, 0, 9, 177]
abbrev dktX6_init_0 : List UInt8 := dkwX6_init_0 ++ []
theorem dksX6_init_0 : cX6_init.data.toList.drop 0 = dktX6_init_0 := by decide +kernel
theorem dX6_init_0 : decode cX6_init 0 = .ok (.aload_n 0, 1) := dk_42 (dk_at dksX6_init_0 0 rfl rfl)
theorem dX6_init_1 : decode cX6_init 1 = .ok (.aload_n 1, 1) := dk_43 (dk_at dksX6_init_0 1 rfl rfl)
theorem dX6_init_2 : decode cX6_init 2 = .ok (.putfield 3, 3) := dk_181 0 3 (dk_at dksX6_init_0 2 rfl rfl)
theorem dX6_init_5 : decode cX6_init 5 = .ok (.aload_n 0, 1) := dk_42 (dk_at dksX6_init_0 5 rfl rfl)
theorem dX6_init_6 : decode cX6_init 6 = .ok (.aload_n 1, 1) := dk_43 (dk_at dksX6_init_0 6 rfl rfl)
theorem dX6_init_7 : decode cX6_init 7 = .ok (.invokespecial 9, 3) := dk_183 0 9 (dk_at dksX6_init_0 7 rfl rfl)
theorem dX6_init_10 : decode cX6_init 10 = .ok (.return_, 1) := dk_177 (dk_at dksX6_init_0 10 rfl rfl)
abbrev cX6_stumble : ByteArray := prog_8_method_2_code
def yX6_stumble : MethodName := ⟨RX6, "stumble", "(II)I"⟩
def dkwX6_stumble_1 : List UInt8 := [167, 0, 4, 2, 172]
abbrev dktX6_stumble_1 : List UInt8 := dkwX6_stumble_1 ++ []
def dkwX6_stumble_0 : List UInt8 := [42, 180, 0, 15, 158, 0, 23, 42, 180, 0, 15, 4, 100, 16, 60, 108, 28, 160, 0, 10, 42, 180, 0, 15]
abbrev dktX6_stumble_0 : List UInt8 := dkwX6_stumble_0 ++ dktX6_stumble_1
theorem dksX6_stumble_0 : cX6_stumble.data.toList.drop 0 = dktX6_stumble_0 := by decide +kernel
theorem dksX6_stumble_1 : cX6_stumble.data.toList.drop 24 = dktX6_stumble_1 := dk_seg dksX6_stumble_0 24 rfl rfl
theorem dX6_stumble_0 : decode cX6_stumble 0 = .ok (.aload_n 0, 1) := dk_42 (dk_at dksX6_stumble_0 0 rfl rfl)
theorem dX6_stumble_1 : decode cX6_stumble 1 = .ok (.getfield 15, 3) := dk_180 0 15 (dk_at dksX6_stumble_0 1 rfl rfl)
theorem dX6_stumble_4 : decode cX6_stumble 4 = .ok (.ifCond .le 23, 3) := dk_158 0 23 (dk_at dksX6_stumble_0 4 rfl rfl)
theorem dX6_stumble_7 : decode cX6_stumble 7 = .ok (.aload_n 0, 1) := dk_42 (dk_at dksX6_stumble_0 7 rfl rfl)
theorem dX6_stumble_8 : decode cX6_stumble 8 = .ok (.getfield 15, 3) := dk_180 0 15 (dk_at dksX6_stumble_0 8 rfl rfl)
theorem dX6_stumble_11 : decode cX6_stumble 11 = .ok (.iconst 1, 1) := dk_4 (dk_at dksX6_stumble_0 11 rfl rfl)
theorem dX6_stumble_12 : decode cX6_stumble 12 = .ok (.isub, 1) := dk_100 (dk_at dksX6_stumble_0 12 rfl rfl)
theorem dX6_stumble_13 : decode cX6_stumble 13 = .ok (.bipush 60, 2) := dk_16 60 (dk_at dksX6_stumble_0 13 rfl rfl)
theorem dX6_stumble_15 : decode cX6_stumble 15 = .ok (.idiv, 1) := dk_108 (dk_at dksX6_stumble_0 15 rfl rfl)
theorem dX6_stumble_16 : decode cX6_stumble 16 = .ok (.iload_n 2, 1) := dk_28 (dk_at dksX6_stumble_0 16 rfl rfl)
theorem dX6_stumble_17 : decode cX6_stumble 17 = .ok (.if_icmp .ne 10, 3) := dk_160 0 10 (dk_at dksX6_stumble_0 17 rfl rfl)
theorem dX6_stumble_20 : decode cX6_stumble 20 = .ok (.aload_n 0, 1) := dk_42 (dk_at dksX6_stumble_0 20 rfl rfl)
theorem dX6_stumble_21 : decode cX6_stumble 21 = .ok (.getfield 15, 3) := dk_180 0 15 (dk_at dksX6_stumble_0 21 rfl rfl)
theorem dX6_stumble_24 : decode cX6_stumble 24 = .ok (.goto 4, 3) := dk_167 0 4 (dk_at dksX6_stumble_1 0 rfl rfl)
theorem dX6_stumble_27 : decode cX6_stumble 27 = .ok (.iconst (-1), 1) := dk_2 (dk_at dksX6_stumble_1 3 rfl rfl)
theorem dX6_stumble_28 : decode cX6_stumble 28 = .ok (.ireturn, 1) := dk_172 (dk_at dksX6_stumble_1 4 rfl rfl)
abbrev cX6_does : ByteArray := prog_8_method_3_code
def yX6_does : MethodName := ⟨RX6, "does", "(I)I"⟩
def dkwX6_does_0 : List UInt8 := [27, 4, 100, 16, 60, 112, 16, 10, 108, 172]
abbrev dktX6_does_0 : List UInt8 := dkwX6_does_0 ++ []
theorem dksX6_does_0 : cX6_does.data.toList.drop 0 = dktX6_does_0 := by decide +kernel
theorem dX6_does_0 : decode cX6_does 0 = .ok (.iload_n 1, 1) := dk_27 (dk_at dksX6_does_0 0 rfl rfl)
theorem dX6_does_1 : decode cX6_does 1 = .ok (.iconst 1, 1) := dk_4 (dk_at dksX6_does_0 1 rfl rfl)
theorem dX6_does_2 : decode cX6_does 2 = .ok (.isub, 1) := dk_100 (dk_at dksX6_does_0 2 rfl rfl)
theorem dX6_does_3 : decode cX6_does 3 = .ok (.bipush 60, 2) := dk_16 60 (dk_at dksX6_does_0 3 rfl rfl)
theorem dX6_does_5 : decode cX6_does 5 = .ok (.irem, 1) := dk_112 (dk_at dksX6_does_0 5 rfl rfl)
theorem dX6_does_6 : decode cX6_does 6 = .ok (.bipush 10, 2) := dk_16 10 (dk_at dksX6_does_0 6 rfl rfl)
theorem dX6_does_8 : decode cX6_does 8 = .ok (.idiv, 1) := dk_108 (dk_at dksX6_does_0 8 rfl rfl)
theorem dX6_does_9 : decode cX6_does 9 = .ok (.ireturn, 1) := dk_172 (dk_at dksX6_does_0 9 rfl rfl)
abbrev cX6_lag : ByteArray := prog_8_method_4_code
def yX6_lag : MethodName := ⟨RX6, "lag", "(I)I"⟩
def dkwX6_lag_0 : List UInt8 := [27, 4, 100, 16, 10, 112, 172]
abbrev dktX6_lag_0 : List UInt8 := dkwX6_lag_0 ++ []
theorem dksX6_lag_0 : cX6_lag.data.toList.drop 0 = dktX6_lag_0 := by decide +kernel
theorem dX6_lag_0 : decode cX6_lag 0 = .ok (.iload_n 1, 1) := dk_27 (dk_at dksX6_lag_0 0 rfl rfl)
theorem dX6_lag_1 : decode cX6_lag 1 = .ok (.iconst 1, 1) := dk_4 (dk_at dksX6_lag_0 1 rfl rfl)
theorem dX6_lag_2 : decode cX6_lag 2 = .ok (.isub, 1) := dk_100 (dk_at dksX6_lag_0 2 rfl rfl)
theorem dX6_lag_3 : decode cX6_lag 3 = .ok (.bipush 10, 2) := dk_16 10 (dk_at dksX6_lag_0 3 rfl rfl)
theorem dX6_lag_5 : decode cX6_lag 5 = .ok (.irem, 1) := dk_112 (dk_at dksX6_lag_0 5 rfl rfl)
theorem dX6_lag_6 : decode cX6_lag 6 = .ok (.ireturn, 1) := dk_172 (dk_at dksX6_lag_0 6 rfl rfl)
theorem q145 : (Jvm.Cond.initialized "OverHill$Thought") ∈ lw_all := lw_g (lw_at lw_m1 7 rfl) rfl
theorem q349 : (Jvm.Cond.instantiable "OverHill$Thought" (4 : Nat)) ∈ lw_all := lw_g (lw_at lw_m1 211 rfl) rfl
theorem q351 : (Jvm.Cond.instanceMethod ({ cls := "OverHill$Thought", name := "<init>", desc := "(LOverHill;)V" } : Jvm.MethodName)) ∈ lw_all := lw_g (lw_at lw_m1 213 rfl) rfl
theorem q352 : (Jvm.Cond.code ({ cls := "OverHill$Thought", name := "<init>", desc := "(LOverHill;)V" } : Jvm.MethodName) prog_8_method_1_code (2 : Nat) (Option.none : Option Jvm.ClassFile.FieldType)) ∈ lw_all := lw_g (lw_at lw_m1 214 rfl) rfl
theorem q353 : (Jvm.Cond.methodLinkNest "OverHill$Thought" (9 : Nat) ({ cls := "OverHill$Muddy", name := "<init>", desc := "(LOverHill;)V" } : Jvm.MethodName) "OverHill") ∈ lw_tbl := lw_at lw_m1 215 rfl
theorem q354 : (Jvm.Cond.fieldLink "OverHill$Thought" (15 : Nat) "OverHill$Thought" "number" "I") ∈ lw_all := lw_g (lw_at lw_m1 216 rfl) rfl
theorem q356 : (Jvm.Cond.fieldLink "OverHill$Thought" (3 : Nat) "OverHill$Thought" "this$0" "LOverHill;") ∈ lw_all := lw_g (lw_at lw_m1 218 rfl) rfl
theorem q357 : (Jvm.Cond.lays "OverHill$Thought" "OverHill$Thought" "number" "I") ∈ lw_all := lw_g (lw_at lw_m1 219 rfl) rfl
theorem q358 : (Jvm.Cond.soleField "OverHill$Thought" "number") ∈ lw_all := lw_g (lw_at lw_m1 220 rfl) rfl
theorem q359 : (Jvm.Cond.laysFinal "OverHill$Thought" "OverHill$Thought" "this$0" "LOverHill;") ∈ lw_all := lw_g (lw_at lw_m1 221 rfl) rfl
theorem q360 : (Jvm.Cond.soleField "OverHill$Thought" "this$0") ∈ lw_all := lw_g (lw_at lw_m1 222 rfl) rfl
theorem q361 : (Jvm.Cond.laysFinal "OverHill$Thought" "OverHill$Muddy" "this$0" "LOverHill;") ∈ lw_all := lw_g (lw_at lw_m1 223 rfl) rfl
theorem q362 : (Jvm.Cond.laysFinal "OverHill$Thought" "OverHill$Plain" "this$0" "LOverHill;") ∈ lw_all := lw_g (lw_at lw_m1 224 rfl) rfl
theorem q363 : (Jvm.Cond.superclass "OverHill$Thought" "OverHill$Muddy") ∈ lw_all := lw_g (lw_at lw_m1 225 rfl) rfl
theorem q877 : (Jvm.Cond.selects "OverHill$Thought" ({ cls := "OverHill$Plain", name := "goes", desc := "(I)V" } : Jvm.MethodName) ({ cls := "OverHill$Plain", name := "goes", desc := "(I)V" } : Jvm.MethodName)) ∈ lw_all := lw_g (lw_at lw_m4 19 rfl) rfl
theorem q885 : (Jvm.Cond.selects "OverHill$Thought" ({ cls := "OverHill$Plain", name := "isMud", desc := "(I)Z" } : Jvm.MethodName) ({ cls := "OverHill$Muddy", name := "isMud", desc := "(I)Z" } : Jvm.MethodName)) ∈ lw_all := lw_g (lw_at lw_m4 27 rfl) rfl
theorem q895 : (Jvm.Cond.selects "OverHill$Thought" ({ cls := "OverHill$Plain", name := "stumble", desc := "(II)I" } : Jvm.MethodName) ({ cls := "OverHill$Thought", name := "stumble", desc := "(II)I" } : Jvm.MethodName)) ∈ lw_all := lw_g (lw_at lw_m4 37 rfl) rfl
theorem q896 : (Jvm.Cond.instanceMethod ({ cls := "OverHill$Thought", name := "stumble", desc := "(II)I" } : Jvm.MethodName)) ∈ lw_all := lw_g (lw_at lw_m4 38 rfl) rfl
theorem q897 : (Jvm.Cond.code ({ cls := "OverHill$Thought", name := "stumble", desc := "(II)I" } : Jvm.MethodName) prog_8_method_2_code (3 : Nat) (Option.some Jvm.ClassFile.FieldType.int)) ∈ lw_all := lw_g (lw_at lw_m4 39 rfl) rfl
theorem q912 : (Jvm.Cond.selects "OverHill$Thought" ({ cls := "OverHill$Plain", name := "does", desc := "(I)I" } : Jvm.MethodName) ({ cls := "OverHill$Thought", name := "does", desc := "(I)I" } : Jvm.MethodName)) ∈ lw_all := lw_g (lw_at lw_m4 54 rfl) rfl
theorem q913 : (Jvm.Cond.instanceMethod ({ cls := "OverHill$Thought", name := "does", desc := "(I)I" } : Jvm.MethodName)) ∈ lw_all := lw_g (lw_at lw_m4 55 rfl) rfl
theorem q914 : (Jvm.Cond.code ({ cls := "OverHill$Thought", name := "does", desc := "(I)I" } : Jvm.MethodName) prog_8_method_3_code (2 : Nat) (Option.some Jvm.ClassFile.FieldType.int)) ∈ lw_all := lw_g (lw_at lw_m4 56 rfl) rfl
theorem q924 : (Jvm.Cond.selects "OverHill$Thought" ({ cls := "OverHill$Plain", name := "lag", desc := "(I)I" } : Jvm.MethodName) ({ cls := "OverHill$Thought", name := "lag", desc := "(I)I" } : Jvm.MethodName)) ∈ lw_all := lw_g (lw_at lw_m4 66 rfl) rfl
theorem q925 : (Jvm.Cond.instanceMethod ({ cls := "OverHill$Thought", name := "lag", desc := "(I)I" } : Jvm.MethodName)) ∈ lw_all := lw_g (lw_at lw_m4 67 rfl) rfl
theorem q926 : (Jvm.Cond.code ({ cls := "OverHill$Thought", name := "lag", desc := "(I)I" } : Jvm.MethodName) prog_8_method_4_code (2 : Nat) (Option.some Jvm.ClassFile.FieldType.int)) ∈ lw_all := lw_g (lw_at lw_m4 68 rfl) rfl
theorem q1142 : (Jvm.Cond.sameMethod "OverHill$Thought" "OverHill$Plain" "goes" "(I)V") ∈ lw_all := lw_g (lw_at lw_m5 44 rfl) rfl
theorem q1144 : (Jvm.Cond.selects "OverHill$Thought" ({ cls := "OverHill$Thought", name := "goes", desc := "(I)V" } : Jvm.MethodName) ({ cls := "OverHill$Plain", name := "goes", desc := "(I)V" } : Jvm.MethodName)) ∈ lw_all := lw_g (lw_at lw_m5 46 rfl) rfl
theorem q1425 : (Jvm.Cond.selects "OverHill$Thought" ({ cls := "java/lang/Object", name := "getClass", desc := "()Ljava/lang/Class;" } : Jvm.MethodName) ({ cls := "java/lang/Object", name := "getClass", desc := "()Ljava/lang/Class;" } : Jvm.MethodName)) ∈ lw_all := lw_g (lw_at lw_m6 87 rfl) rfl
theorem q2302 : (Jvm.Cond.castable "OverHill$Thought" "java/lang/Object") ∈ lw_tbl := lw_at lw_m10 4 rfl
theorem in_X6 : ∀ w ∈ wsX60, w ∈ lw_all := lw_in wsX60 [361, 362, 357, 359] (by decide +kernel) (by decide +kernel)

/-! OverHill$Slot -/
set_option maxRecDepth 100000
def RX7 : String := "OverHill$Slot"
def TX7 : u_T := fun k => match k with
  | _ => ("OverHill$Slot", "row", "Ljava/lang/Object;", false)
def tyX7 : Nat → FieldType := fun k => match k with
  | _ => .object "java/lang/Object"
abbrev wsX70 : List Cond := u_ws RX7 TX7 1
theorem nmX7 : ∀ a, a < 1 → ∀ b, b < 1 → a ≠ b → (TX7 a).2.1 ≠ (TX7 b).2.1 := by decide +kernel
theorem tyX7_ok : ∀ k, k < 1 → parseFieldDescriptor (TX7 k).2.2.1 = some (tyX7 k) := by decide +kernel
abbrev cX7_init : ByteArray := prog_7_method_1_code
def yX7_init : MethodName := ⟨RX7, "<init>", "()V"⟩
theorem dX7_init_0 : decode cX7_init 0 = .ok (.aload_n 0, 1) := by decide +kernel
theorem dX7_init_1 : decode cX7_init 1 = .ok (.invokespecial 1, 3) := by decide +kernel
theorem dX7_init_4 : decode cX7_init 4 = .ok (.return_, 1) := by decide +kernel
abbrev cX7_size : ByteArray := prog_7_method_3_code
def yX7_size : MethodName := ⟨RX7, "size", "()I"⟩
def dkwX7_size_3 : List UInt8 := [190, 172]
abbrev dktX7_size_3 : List UInt8 := dkwX7_size_3 ++ []
def dkwX7_size_2 : List UInt8 := [193, 0, 17, 153, 0, 14, 42, 180, 0, 7, 192, 0, 17, 190, 167, 0, 11, 42, 180, 0, 7, 192, 0, 19]
abbrev dktX7_size_2 : List UInt8 := dkwX7_size_2 ++ dktX7_size_3
def dkwX7_size_1 : List UInt8 := [180, 0, 7, 193, 0, 15, 153, 0, 14, 42, 180, 0, 7, 192, 0, 15, 190, 167, 0, 32, 42, 180, 0, 7]
abbrev dktX7_size_1 : List UInt8 := dkwX7_size_1 ++ dktX7_size_2
def dkwX7_size_0 : List UInt8 := [42, 180, 0, 7, 193, 0, 13, 153, 0, 14, 42, 180, 0, 7, 192, 0, 13, 190, 167, 0, 53, 42]
abbrev dktX7_size_0 : List UInt8 := dkwX7_size_0 ++ dktX7_size_1
theorem dksX7_size_0 : cX7_size.data.toList.drop 0 = dktX7_size_0 := by decide +kernel
theorem dksX7_size_1 : cX7_size.data.toList.drop 22 = dktX7_size_1 := dk_seg dksX7_size_0 22 rfl rfl
theorem dksX7_size_2 : cX7_size.data.toList.drop 46 = dktX7_size_2 := dk_seg dksX7_size_1 24 rfl rfl
theorem dksX7_size_3 : cX7_size.data.toList.drop 70 = dktX7_size_3 := dk_seg dksX7_size_2 24 rfl rfl
theorem dX7_size_0 : decode cX7_size 0 = .ok (.aload_n 0, 1) := dk_42 (dk_at dksX7_size_0 0 rfl rfl)
theorem dX7_size_1 : decode cX7_size 1 = .ok (.getfield 7, 3) := dk_180 0 7 (dk_at dksX7_size_0 1 rfl rfl)
theorem dX7_size_4 : decode cX7_size 4 = .ok (.instanceof 13, 3) := dk_193 0 13 (dk_at dksX7_size_0 4 rfl rfl)
theorem dX7_size_7 : decode cX7_size 7 = .ok (.ifCond .eq 14, 3) := dk_153 0 14 (dk_at dksX7_size_0 7 rfl rfl)
theorem dX7_size_10 : decode cX7_size 10 = .ok (.aload_n 0, 1) := dk_42 (dk_at dksX7_size_0 10 rfl rfl)
theorem dX7_size_11 : decode cX7_size 11 = .ok (.getfield 7, 3) := dk_180 0 7 (dk_at dksX7_size_0 11 rfl rfl)
theorem dX7_size_14 : decode cX7_size 14 = .ok (.checkcast 13, 3) := dk_192 0 13 (dk_at dksX7_size_0 14 rfl rfl)
theorem dX7_size_17 : decode cX7_size 17 = .ok (.arraylength, 1) := dk_190 (dk_at dksX7_size_0 17 rfl rfl)
theorem dX7_size_18 : decode cX7_size 18 = .ok (.goto 53, 3) := dk_167 0 53 (dk_at dksX7_size_0 18 rfl rfl)
theorem dX7_size_21 : decode cX7_size 21 = .ok (.aload_n 0, 1) := dk_42 (dk_at dksX7_size_0 21 rfl rfl)
theorem dX7_size_22 : decode cX7_size 22 = .ok (.getfield 7, 3) := dk_180 0 7 (dk_at dksX7_size_1 0 rfl rfl)
theorem dX7_size_25 : decode cX7_size 25 = .ok (.instanceof 15, 3) := dk_193 0 15 (dk_at dksX7_size_1 3 rfl rfl)
theorem dX7_size_28 : decode cX7_size 28 = .ok (.ifCond .eq 14, 3) := dk_153 0 14 (dk_at dksX7_size_1 6 rfl rfl)
theorem dX7_size_31 : decode cX7_size 31 = .ok (.aload_n 0, 1) := dk_42 (dk_at dksX7_size_1 9 rfl rfl)
theorem dX7_size_32 : decode cX7_size 32 = .ok (.getfield 7, 3) := dk_180 0 7 (dk_at dksX7_size_1 10 rfl rfl)
theorem dX7_size_35 : decode cX7_size 35 = .ok (.checkcast 15, 3) := dk_192 0 15 (dk_at dksX7_size_1 13 rfl rfl)
theorem dX7_size_38 : decode cX7_size 38 = .ok (.arraylength, 1) := dk_190 (dk_at dksX7_size_1 16 rfl rfl)
theorem dX7_size_39 : decode cX7_size 39 = .ok (.goto 32, 3) := dk_167 0 32 (dk_at dksX7_size_1 17 rfl rfl)
theorem dX7_size_42 : decode cX7_size 42 = .ok (.aload_n 0, 1) := dk_42 (dk_at dksX7_size_1 20 rfl rfl)
theorem dX7_size_43 : decode cX7_size 43 = .ok (.getfield 7, 3) := dk_180 0 7 (dk_at dksX7_size_1 21 rfl rfl)
theorem dX7_size_46 : decode cX7_size 46 = .ok (.instanceof 17, 3) := dk_193 0 17 (dk_at dksX7_size_2 0 rfl rfl)
theorem dX7_size_49 : decode cX7_size 49 = .ok (.ifCond .eq 14, 3) := dk_153 0 14 (dk_at dksX7_size_2 3 rfl rfl)
theorem dX7_size_52 : decode cX7_size 52 = .ok (.aload_n 0, 1) := dk_42 (dk_at dksX7_size_2 6 rfl rfl)
theorem dX7_size_53 : decode cX7_size 53 = .ok (.getfield 7, 3) := dk_180 0 7 (dk_at dksX7_size_2 7 rfl rfl)
theorem dX7_size_56 : decode cX7_size 56 = .ok (.checkcast 17, 3) := dk_192 0 17 (dk_at dksX7_size_2 10 rfl rfl)
theorem dX7_size_59 : decode cX7_size 59 = .ok (.arraylength, 1) := dk_190 (dk_at dksX7_size_2 13 rfl rfl)
theorem dX7_size_60 : decode cX7_size 60 = .ok (.goto 11, 3) := dk_167 0 11 (dk_at dksX7_size_2 14 rfl rfl)
theorem dX7_size_63 : decode cX7_size 63 = .ok (.aload_n 0, 1) := dk_42 (dk_at dksX7_size_2 17 rfl rfl)
theorem dX7_size_64 : decode cX7_size 64 = .ok (.getfield 7, 3) := dk_180 0 7 (dk_at dksX7_size_2 18 rfl rfl)
theorem dX7_size_67 : decode cX7_size 67 = .ok (.checkcast 19, 3) := dk_192 0 19 (dk_at dksX7_size_2 21 rfl rfl)
theorem dX7_size_70 : decode cX7_size 70 = .ok (.arraylength, 1) := dk_190 (dk_at dksX7_size_3 0 rfl rfl)
theorem dX7_size_71 : decode cX7_size 71 = .ok (.ireturn, 1) := dk_172 (dk_at dksX7_size_3 1 rfl rfl)
abbrev cX7_at : ByteArray := prog_7_method_4_code
def yX7_at : MethodName := ⟨RX7, "at", "(I)J"⟩
def dkwX7_at_3 : List UInt8 := [180, 0, 7, 192, 0, 19, 27, 47, 173]
abbrev dktX7_at_3 : List UInt8 := dkwX7_at_3 ++ []
def dkwX7_at_2 : List UInt8 := [180, 0, 7, 193, 0, 17, 153, 0, 16, 42, 180, 0, 7, 192, 0, 17, 27, 46, 133, 167, 0, 12, 42]
abbrev dktX7_at_2 : List UInt8 := dkwX7_at_2 ++ dktX7_at_3
def dkwX7_at_1 : List UInt8 := [180, 0, 7, 193, 0, 15, 153, 0, 16, 42, 180, 0, 7, 192, 0, 15, 27, 53, 133, 167, 0, 35, 42]
abbrev dktX7_at_1 : List UInt8 := dkwX7_at_1 ++ dktX7_at_2
def dkwX7_at_0 : List UInt8 := [42, 180, 0, 7, 193, 0, 13, 153, 0, 16, 42, 180, 0, 7, 192, 0, 13, 27, 51, 133, 167, 0, 58, 42]
abbrev dktX7_at_0 : List UInt8 := dkwX7_at_0 ++ dktX7_at_1
theorem dksX7_at_0 : cX7_at.data.toList.drop 0 = dktX7_at_0 := by decide +kernel
theorem dksX7_at_1 : cX7_at.data.toList.drop 24 = dktX7_at_1 := dk_seg dksX7_at_0 24 rfl rfl
theorem dksX7_at_2 : cX7_at.data.toList.drop 47 = dktX7_at_2 := dk_seg dksX7_at_1 23 rfl rfl
theorem dksX7_at_3 : cX7_at.data.toList.drop 70 = dktX7_at_3 := dk_seg dksX7_at_2 23 rfl rfl
theorem dX7_at_0 : decode cX7_at 0 = .ok (.aload_n 0, 1) := dk_42 (dk_at dksX7_at_0 0 rfl rfl)
theorem dX7_at_1 : decode cX7_at 1 = .ok (.getfield 7, 3) := dk_180 0 7 (dk_at dksX7_at_0 1 rfl rfl)
theorem dX7_at_4 : decode cX7_at 4 = .ok (.instanceof 13, 3) := dk_193 0 13 (dk_at dksX7_at_0 4 rfl rfl)
theorem dX7_at_7 : decode cX7_at 7 = .ok (.ifCond .eq 16, 3) := dk_153 0 16 (dk_at dksX7_at_0 7 rfl rfl)
theorem dX7_at_10 : decode cX7_at 10 = .ok (.aload_n 0, 1) := dk_42 (dk_at dksX7_at_0 10 rfl rfl)
theorem dX7_at_11 : decode cX7_at 11 = .ok (.getfield 7, 3) := dk_180 0 7 (dk_at dksX7_at_0 11 rfl rfl)
theorem dX7_at_14 : decode cX7_at 14 = .ok (.checkcast 13, 3) := dk_192 0 13 (dk_at dksX7_at_0 14 rfl rfl)
theorem dX7_at_17 : decode cX7_at 17 = .ok (.iload_n 1, 1) := dk_27 (dk_at dksX7_at_0 17 rfl rfl)
theorem dX7_at_18 : decode cX7_at 18 = .ok (.baload, 1) := dk_51 (dk_at dksX7_at_0 18 rfl rfl)
theorem dX7_at_19 : decode cX7_at 19 = .ok (.i2l, 1) := dk_133 (dk_at dksX7_at_0 19 rfl rfl)
theorem dX7_at_20 : decode cX7_at 20 = .ok (.goto 58, 3) := dk_167 0 58 (dk_at dksX7_at_0 20 rfl rfl)
theorem dX7_at_23 : decode cX7_at 23 = .ok (.aload_n 0, 1) := dk_42 (dk_at dksX7_at_0 23 rfl rfl)
theorem dX7_at_24 : decode cX7_at 24 = .ok (.getfield 7, 3) := dk_180 0 7 (dk_at dksX7_at_1 0 rfl rfl)
theorem dX7_at_27 : decode cX7_at 27 = .ok (.instanceof 15, 3) := dk_193 0 15 (dk_at dksX7_at_1 3 rfl rfl)
theorem dX7_at_30 : decode cX7_at 30 = .ok (.ifCond .eq 16, 3) := dk_153 0 16 (dk_at dksX7_at_1 6 rfl rfl)
theorem dX7_at_33 : decode cX7_at 33 = .ok (.aload_n 0, 1) := dk_42 (dk_at dksX7_at_1 9 rfl rfl)
theorem dX7_at_34 : decode cX7_at 34 = .ok (.getfield 7, 3) := dk_180 0 7 (dk_at dksX7_at_1 10 rfl rfl)
theorem dX7_at_37 : decode cX7_at 37 = .ok (.checkcast 15, 3) := dk_192 0 15 (dk_at dksX7_at_1 13 rfl rfl)
theorem dX7_at_40 : decode cX7_at 40 = .ok (.iload_n 1, 1) := dk_27 (dk_at dksX7_at_1 16 rfl rfl)
theorem dX7_at_41 : decode cX7_at 41 = .ok (.saload, 1) := dk_53 (dk_at dksX7_at_1 17 rfl rfl)
theorem dX7_at_42 : decode cX7_at 42 = .ok (.i2l, 1) := dk_133 (dk_at dksX7_at_1 18 rfl rfl)
theorem dX7_at_43 : decode cX7_at 43 = .ok (.goto 35, 3) := dk_167 0 35 (dk_at dksX7_at_1 19 rfl rfl)
theorem dX7_at_46 : decode cX7_at 46 = .ok (.aload_n 0, 1) := dk_42 (dk_at dksX7_at_1 22 rfl rfl)
theorem dX7_at_47 : decode cX7_at 47 = .ok (.getfield 7, 3) := dk_180 0 7 (dk_at dksX7_at_2 0 rfl rfl)
theorem dX7_at_50 : decode cX7_at 50 = .ok (.instanceof 17, 3) := dk_193 0 17 (dk_at dksX7_at_2 3 rfl rfl)
theorem dX7_at_53 : decode cX7_at 53 = .ok (.ifCond .eq 16, 3) := dk_153 0 16 (dk_at dksX7_at_2 6 rfl rfl)
theorem dX7_at_56 : decode cX7_at 56 = .ok (.aload_n 0, 1) := dk_42 (dk_at dksX7_at_2 9 rfl rfl)
theorem dX7_at_57 : decode cX7_at 57 = .ok (.getfield 7, 3) := dk_180 0 7 (dk_at dksX7_at_2 10 rfl rfl)
theorem dX7_at_60 : decode cX7_at 60 = .ok (.checkcast 17, 3) := dk_192 0 17 (dk_at dksX7_at_2 13 rfl rfl)
theorem dX7_at_63 : decode cX7_at 63 = .ok (.iload_n 1, 1) := dk_27 (dk_at dksX7_at_2 16 rfl rfl)
theorem dX7_at_64 : decode cX7_at 64 = .ok (.iaload, 1) := dk_46 (dk_at dksX7_at_2 17 rfl rfl)
theorem dX7_at_65 : decode cX7_at 65 = .ok (.i2l, 1) := dk_133 (dk_at dksX7_at_2 18 rfl rfl)
theorem dX7_at_66 : decode cX7_at 66 = .ok (.goto 12, 3) := dk_167 0 12 (dk_at dksX7_at_2 19 rfl rfl)
theorem dX7_at_69 : decode cX7_at 69 = .ok (.aload_n 0, 1) := dk_42 (dk_at dksX7_at_2 22 rfl rfl)
theorem dX7_at_70 : decode cX7_at 70 = .ok (.getfield 7, 3) := dk_180 0 7 (dk_at dksX7_at_3 0 rfl rfl)
theorem dX7_at_73 : decode cX7_at 73 = .ok (.checkcast 19, 3) := dk_192 0 19 (dk_at dksX7_at_3 3 rfl rfl)
theorem dX7_at_76 : decode cX7_at 76 = .ok (.iload_n 1, 1) := dk_27 (dk_at dksX7_at_3 6 rfl rfl)
theorem dX7_at_77 : decode cX7_at 77 = .ok (.laload, 1) := dk_47 (dk_at dksX7_at_3 7 rfl rfl)
theorem dX7_at_78 : decode cX7_at 78 = .ok (.lreturn, 1) := dk_173 (dk_at dksX7_at_3 8 rfl rfl)
abbrev cX7_make : ByteArray := prog_7_method_2_code
def yX7_make : MethodName := ⟨RX7, "make", "(II)V"⟩
def dkwX7_make_1 : List UInt8 := [160, 0, 9, 28, 188, 10, 167, 0, 6, 28, 188, 11, 181, 0, 7, 177]
abbrev dktX7_make_1 : List UInt8 := dkwX7_make_1 ++ []
def dkwX7_make_0 : List UInt8 := [42, 27, 154, 0, 9, 28, 188, 8, 167, 0, 28, 27, 4, 160, 0, 9, 28, 188, 9, 167, 0, 17, 27, 5]
abbrev dktX7_make_0 : List UInt8 := dkwX7_make_0 ++ dktX7_make_1
theorem dksX7_make_0 : cX7_make.data.toList.drop 0 = dktX7_make_0 := by decide +kernel
theorem dksX7_make_1 : cX7_make.data.toList.drop 24 = dktX7_make_1 := dk_seg dksX7_make_0 24 rfl rfl
theorem dX7_make_0 : decode cX7_make 0 = .ok (.aload_n 0, 1) := dk_42 (dk_at dksX7_make_0 0 rfl rfl)
theorem dX7_make_1 : decode cX7_make 1 = .ok (.iload_n 1, 1) := dk_27 (dk_at dksX7_make_0 1 rfl rfl)
theorem dX7_make_2 : decode cX7_make 2 = .ok (.ifCond .ne 9, 3) := dk_154 0 9 (dk_at dksX7_make_0 2 rfl rfl)
theorem dX7_make_5 : decode cX7_make 5 = .ok (.iload_n 2, 1) := dk_28 (dk_at dksX7_make_0 5 rfl rfl)
theorem dX7_make_6 : decode cX7_make 6 = .ok (.newarray .byte, 2) := dk_188_8 (dk_at dksX7_make_0 6 rfl rfl)
theorem dX7_make_8 : decode cX7_make 8 = .ok (.goto 28, 3) := dk_167 0 28 (dk_at dksX7_make_0 8 rfl rfl)
theorem dX7_make_11 : decode cX7_make 11 = .ok (.iload_n 1, 1) := dk_27 (dk_at dksX7_make_0 11 rfl rfl)
theorem dX7_make_12 : decode cX7_make 12 = .ok (.iconst 1, 1) := dk_4 (dk_at dksX7_make_0 12 rfl rfl)
theorem dX7_make_13 : decode cX7_make 13 = .ok (.if_icmp .ne 9, 3) := dk_160 0 9 (dk_at dksX7_make_0 13 rfl rfl)
theorem dX7_make_16 : decode cX7_make 16 = .ok (.iload_n 2, 1) := dk_28 (dk_at dksX7_make_0 16 rfl rfl)
theorem dX7_make_17 : decode cX7_make 17 = .ok (.newarray .short, 2) := dk_188_9 (dk_at dksX7_make_0 17 rfl rfl)
theorem dX7_make_19 : decode cX7_make 19 = .ok (.goto 17, 3) := dk_167 0 17 (dk_at dksX7_make_0 19 rfl rfl)
theorem dX7_make_22 : decode cX7_make 22 = .ok (.iload_n 1, 1) := dk_27 (dk_at dksX7_make_0 22 rfl rfl)
theorem dX7_make_23 : decode cX7_make 23 = .ok (.iconst 2, 1) := dk_5 (dk_at dksX7_make_0 23 rfl rfl)
theorem dX7_make_24 : decode cX7_make 24 = .ok (.if_icmp .ne 9, 3) := dk_160 0 9 (dk_at dksX7_make_1 0 rfl rfl)
theorem dX7_make_27 : decode cX7_make 27 = .ok (.iload_n 2, 1) := dk_28 (dk_at dksX7_make_1 3 rfl rfl)
theorem dX7_make_28 : decode cX7_make 28 = .ok (.newarray .int, 2) := dk_188_10 (dk_at dksX7_make_1 4 rfl rfl)
theorem dX7_make_30 : decode cX7_make 30 = .ok (.goto 6, 3) := dk_167 0 6 (dk_at dksX7_make_1 6 rfl rfl)
theorem dX7_make_33 : decode cX7_make 33 = .ok (.iload_n 2, 1) := dk_28 (dk_at dksX7_make_1 9 rfl rfl)
theorem dX7_make_34 : decode cX7_make 34 = .ok (.newarray .long, 2) := dk_188_11 (dk_at dksX7_make_1 10 rfl rfl)
theorem dX7_make_36 : decode cX7_make 36 = .ok (.putfield 7, 3) := dk_181 0 7 (dk_at dksX7_make_1 12 rfl rfl)
theorem dX7_make_39 : decode cX7_make 39 = .ok (.return_, 1) := dk_177 (dk_at dksX7_make_1 15 rfl rfl)
abbrev cX7_put : ByteArray := prog_7_method_5_code
def yX7_put : MethodName := ⟨RX7, "put", "(IJ)V"⟩
def dkwX7_put_3 : List UInt8 := [79, 167, 0, 13, 42, 180, 0, 7, 192, 0, 19, 27, 32, 80, 177]
abbrev dktX7_put_3 : List UInt8 := dkwX7_put_3 ++ []
def dkwX7_put_2 : List UInt8 := [86, 167, 0, 37, 42, 180, 0, 7, 193, 0, 17, 153, 0, 17, 42, 180, 0, 7, 192, 0, 17, 27, 32, 136]
abbrev dktX7_put_2 : List UInt8 := dkwX7_put_2 ++ dktX7_put_3
def dkwX7_put_1 : List UInt8 := [167, 0, 62, 42, 180, 0, 7, 193, 0, 15, 153, 0, 18, 42, 180, 0, 7, 192, 0, 15, 27, 32, 136, 147]
abbrev dktX7_put_1 : List UInt8 := dkwX7_put_1 ++ dktX7_put_2
def dkwX7_put_0 : List UInt8 := [42, 180, 0, 7, 193, 0, 13, 153, 0, 18, 42, 180, 0, 7, 192, 0, 13, 27, 32, 136, 145, 84]
abbrev dktX7_put_0 : List UInt8 := dkwX7_put_0 ++ dktX7_put_1
theorem dksX7_put_0 : cX7_put.data.toList.drop 0 = dktX7_put_0 := by decide +kernel
theorem dksX7_put_1 : cX7_put.data.toList.drop 22 = dktX7_put_1 := dk_seg dksX7_put_0 22 rfl rfl
theorem dksX7_put_2 : cX7_put.data.toList.drop 46 = dktX7_put_2 := dk_seg dksX7_put_1 24 rfl rfl
theorem dksX7_put_3 : cX7_put.data.toList.drop 70 = dktX7_put_3 := dk_seg dksX7_put_2 24 rfl rfl
theorem dX7_put_0 : decode cX7_put 0 = .ok (.aload_n 0, 1) := dk_42 (dk_at dksX7_put_0 0 rfl rfl)
theorem dX7_put_1 : decode cX7_put 1 = .ok (.getfield 7, 3) := dk_180 0 7 (dk_at dksX7_put_0 1 rfl rfl)
theorem dX7_put_4 : decode cX7_put 4 = .ok (.instanceof 13, 3) := dk_193 0 13 (dk_at dksX7_put_0 4 rfl rfl)
theorem dX7_put_7 : decode cX7_put 7 = .ok (.ifCond .eq 18, 3) := dk_153 0 18 (dk_at dksX7_put_0 7 rfl rfl)
theorem dX7_put_10 : decode cX7_put 10 = .ok (.aload_n 0, 1) := dk_42 (dk_at dksX7_put_0 10 rfl rfl)
theorem dX7_put_11 : decode cX7_put 11 = .ok (.getfield 7, 3) := dk_180 0 7 (dk_at dksX7_put_0 11 rfl rfl)
theorem dX7_put_14 : decode cX7_put 14 = .ok (.checkcast 13, 3) := dk_192 0 13 (dk_at dksX7_put_0 14 rfl rfl)
theorem dX7_put_17 : decode cX7_put 17 = .ok (.iload_n 1, 1) := dk_27 (dk_at dksX7_put_0 17 rfl rfl)
theorem dX7_put_18 : decode cX7_put 18 = .ok (.lload_n 2, 1) := dk_32 (dk_at dksX7_put_0 18 rfl rfl)
theorem dX7_put_19 : decode cX7_put 19 = .ok (.l2i, 1) := dk_136 (dk_at dksX7_put_0 19 rfl rfl)
theorem dX7_put_20 : decode cX7_put 20 = .ok (.i2b, 1) := dk_145 (dk_at dksX7_put_0 20 rfl rfl)
theorem dX7_put_21 : decode cX7_put 21 = .ok (.bastore, 1) := dk_84 (dk_at dksX7_put_0 21 rfl rfl)
theorem dX7_put_22 : decode cX7_put 22 = .ok (.goto 62, 3) := dk_167 0 62 (dk_at dksX7_put_1 0 rfl rfl)
theorem dX7_put_25 : decode cX7_put 25 = .ok (.aload_n 0, 1) := dk_42 (dk_at dksX7_put_1 3 rfl rfl)
theorem dX7_put_26 : decode cX7_put 26 = .ok (.getfield 7, 3) := dk_180 0 7 (dk_at dksX7_put_1 4 rfl rfl)
theorem dX7_put_29 : decode cX7_put 29 = .ok (.instanceof 15, 3) := dk_193 0 15 (dk_at dksX7_put_1 7 rfl rfl)
theorem dX7_put_32 : decode cX7_put 32 = .ok (.ifCond .eq 18, 3) := dk_153 0 18 (dk_at dksX7_put_1 10 rfl rfl)
theorem dX7_put_35 : decode cX7_put 35 = .ok (.aload_n 0, 1) := dk_42 (dk_at dksX7_put_1 13 rfl rfl)
theorem dX7_put_36 : decode cX7_put 36 = .ok (.getfield 7, 3) := dk_180 0 7 (dk_at dksX7_put_1 14 rfl rfl)
theorem dX7_put_39 : decode cX7_put 39 = .ok (.checkcast 15, 3) := dk_192 0 15 (dk_at dksX7_put_1 17 rfl rfl)
theorem dX7_put_42 : decode cX7_put 42 = .ok (.iload_n 1, 1) := dk_27 (dk_at dksX7_put_1 20 rfl rfl)
theorem dX7_put_43 : decode cX7_put 43 = .ok (.lload_n 2, 1) := dk_32 (dk_at dksX7_put_1 21 rfl rfl)
theorem dX7_put_44 : decode cX7_put 44 = .ok (.l2i, 1) := dk_136 (dk_at dksX7_put_1 22 rfl rfl)
theorem dX7_put_45 : decode cX7_put 45 = .ok (.i2s, 1) := dk_147 (dk_at dksX7_put_1 23 rfl rfl)
theorem dX7_put_46 : decode cX7_put 46 = .ok (.sastore, 1) := dk_86 (dk_at dksX7_put_2 0 rfl rfl)
theorem dX7_put_47 : decode cX7_put 47 = .ok (.goto 37, 3) := dk_167 0 37 (dk_at dksX7_put_2 1 rfl rfl)
theorem dX7_put_50 : decode cX7_put 50 = .ok (.aload_n 0, 1) := dk_42 (dk_at dksX7_put_2 4 rfl rfl)
theorem dX7_put_51 : decode cX7_put 51 = .ok (.getfield 7, 3) := dk_180 0 7 (dk_at dksX7_put_2 5 rfl rfl)
theorem dX7_put_54 : decode cX7_put 54 = .ok (.instanceof 17, 3) := dk_193 0 17 (dk_at dksX7_put_2 8 rfl rfl)
theorem dX7_put_57 : decode cX7_put 57 = .ok (.ifCond .eq 17, 3) := dk_153 0 17 (dk_at dksX7_put_2 11 rfl rfl)
theorem dX7_put_60 : decode cX7_put 60 = .ok (.aload_n 0, 1) := dk_42 (dk_at dksX7_put_2 14 rfl rfl)
theorem dX7_put_61 : decode cX7_put 61 = .ok (.getfield 7, 3) := dk_180 0 7 (dk_at dksX7_put_2 15 rfl rfl)
theorem dX7_put_64 : decode cX7_put 64 = .ok (.checkcast 17, 3) := dk_192 0 17 (dk_at dksX7_put_2 18 rfl rfl)
theorem dX7_put_67 : decode cX7_put 67 = .ok (.iload_n 1, 1) := dk_27 (dk_at dksX7_put_2 21 rfl rfl)
theorem dX7_put_68 : decode cX7_put 68 = .ok (.lload_n 2, 1) := dk_32 (dk_at dksX7_put_2 22 rfl rfl)
theorem dX7_put_69 : decode cX7_put 69 = .ok (.l2i, 1) := dk_136 (dk_at dksX7_put_2 23 rfl rfl)
theorem dX7_put_70 : decode cX7_put 70 = .ok (.iastore, 1) := dk_79 (dk_at dksX7_put_3 0 rfl rfl)
theorem dX7_put_71 : decode cX7_put 71 = .ok (.goto 13, 3) := dk_167 0 13 (dk_at dksX7_put_3 1 rfl rfl)
theorem dX7_put_74 : decode cX7_put 74 = .ok (.aload_n 0, 1) := dk_42 (dk_at dksX7_put_3 4 rfl rfl)
theorem dX7_put_75 : decode cX7_put 75 = .ok (.getfield 7, 3) := dk_180 0 7 (dk_at dksX7_put_3 5 rfl rfl)
theorem dX7_put_78 : decode cX7_put 78 = .ok (.checkcast 19, 3) := dk_192 0 19 (dk_at dksX7_put_3 8 rfl rfl)
theorem dX7_put_81 : decode cX7_put 81 = .ok (.iload_n 1, 1) := dk_27 (dk_at dksX7_put_3 11 rfl rfl)
theorem dX7_put_82 : decode cX7_put 82 = .ok (.lload_n 2, 1) := dk_32 (dk_at dksX7_put_3 12 rfl rfl)
theorem dX7_put_83 : decode cX7_put 83 = .ok (.lastore, 1) := dk_80 (dk_at dksX7_put_3 13 rfl rfl)
theorem dX7_put_84 : decode cX7_put 84 = .ok (.return_, 1) := dk_177 (dk_at dksX7_put_3 14 rfl rfl)
theorem q146 : (Jvm.Cond.initialized "OverHill$Slot") ∈ lw_all := lw_g (lw_at lw_m1 8 rfl) rfl
theorem q366 : (Jvm.Cond.instantiable "OverHill$Slot" (1 : Nat)) ∈ lw_all := lw_g (lw_at lw_m1 228 rfl) rfl
theorem q368 : (Jvm.Cond.instanceMethod ({ cls := "OverHill$Slot", name := "<init>", desc := "()V" } : Jvm.MethodName)) ∈ lw_all := lw_g (lw_at lw_m1 230 rfl) rfl
theorem q369 : (Jvm.Cond.code ({ cls := "OverHill$Slot", name := "<init>", desc := "()V" } : Jvm.MethodName) prog_7_method_1_code (1 : Nat) (Option.none : Option Jvm.ClassFile.FieldType)) ∈ lw_all := lw_g (lw_at lw_m1 231 rfl) rfl
theorem q370 : (Jvm.Cond.methodLink "OverHill$Slot" (1 : Nat) ({ cls := "java/lang/Object", name := "<init>", desc := "()V" } : Jvm.MethodName)) ∈ lw_all := lw_g (lw_at lw_m1 232 rfl) rfl
theorem q371 : (Jvm.Cond.fieldLink "OverHill$Slot" (7 : Nat) "OverHill$Slot" "row" "Ljava/lang/Object;") ∈ lw_all := lw_g (lw_at lw_m1 233 rfl) rfl
theorem q373 : (Jvm.Cond.lays "OverHill$Slot" "OverHill$Slot" "row" "Ljava/lang/Object;") ∈ lw_all := lw_g (lw_at lw_m1 235 rfl) rfl
theorem q374 : (Jvm.Cond.soleField "OverHill$Slot" "row") ∈ lw_all := lw_g (lw_at lw_m1 236 rfl) rfl
theorem q375 : (Jvm.Cond.superclass "OverHill$Slot" "java/lang/Object") ∈ lw_all := lw_g (lw_at lw_m1 237 rfl) rfl
theorem q1117 : (Jvm.Cond.instanceMethod ({ cls := "OverHill$Slot", name := "size", desc := "()I" } : Jvm.MethodName)) ∈ lw_all := lw_g (lw_at lw_m5 19 rfl) rfl
theorem q1118 : (Jvm.Cond.selects "OverHill$Slot" ({ cls := "OverHill$Slot", name := "size", desc := "()I" } : Jvm.MethodName) ({ cls := "OverHill$Slot", name := "size", desc := "()I" } : Jvm.MethodName)) ∈ lw_all := lw_g (lw_at lw_m5 20 rfl) rfl
theorem q1119 : (Jvm.Cond.code ({ cls := "OverHill$Slot", name := "size", desc := "()I" } : Jvm.MethodName) prog_7_method_3_code (1 : Nat) (Option.some Jvm.ClassFile.FieldType.int)) ∈ lw_all := lw_g (lw_at lw_m5 21 rfl) rfl
theorem q1120 : (Jvm.Cond.classLink "OverHill$Slot" (13 : Nat) "[B") ∈ lw_all := lw_g (lw_at lw_m5 22 rfl) rfl
theorem q1121 : (Jvm.Cond.classLink "OverHill$Slot" (15 : Nat) "[S") ∈ lw_all := lw_g (lw_at lw_m5 23 rfl) rfl
theorem q1122 : (Jvm.Cond.classLink "OverHill$Slot" (17 : Nat) "[I") ∈ lw_all := lw_g (lw_at lw_m5 24 rfl) rfl
theorem q1123 : (Jvm.Cond.classLink "OverHill$Slot" (19 : Nat) "[J") ∈ lw_all := lw_g (lw_at lw_m5 25 rfl) rfl
theorem q1129 : (Jvm.Cond.instanceMethod ({ cls := "OverHill$Slot", name := "at", desc := "(I)J" } : Jvm.MethodName)) ∈ lw_all := lw_g (lw_at lw_m5 31 rfl) rfl
theorem q1130 : (Jvm.Cond.selects "OverHill$Slot" ({ cls := "OverHill$Slot", name := "at", desc := "(I)J" } : Jvm.MethodName) ({ cls := "OverHill$Slot", name := "at", desc := "(I)J" } : Jvm.MethodName)) ∈ lw_all := lw_g (lw_at lw_m5 32 rfl) rfl
theorem q1131 : (Jvm.Cond.code ({ cls := "OverHill$Slot", name := "at", desc := "(I)J" } : Jvm.MethodName) prog_7_method_4_code (2 : Nat) (Option.some Jvm.ClassFile.FieldType.long)) ∈ lw_all := lw_g (lw_at lw_m5 33 rfl) rfl
theorem q1424 : (Jvm.Cond.selects "OverHill$Slot" ({ cls := "java/lang/Object", name := "getClass", desc := "()Ljava/lang/Class;" } : Jvm.MethodName) ({ cls := "java/lang/Object", name := "getClass", desc := "()Ljava/lang/Class;" } : Jvm.MethodName)) ∈ lw_all := lw_g (lw_at lw_m6 86 rfl) rfl
theorem q1509 : (Jvm.Cond.instanceMethod ({ cls := "OverHill$Slot", name := "make", desc := "(II)V" } : Jvm.MethodName)) ∈ lw_all := lw_g (lw_at lw_m6 171 rfl) rfl
theorem q1510 : (Jvm.Cond.selects "OverHill$Slot" ({ cls := "OverHill$Slot", name := "make", desc := "(II)V" } : Jvm.MethodName) ({ cls := "OverHill$Slot", name := "make", desc := "(II)V" } : Jvm.MethodName)) ∈ lw_all := lw_g (lw_at lw_m6 172 rfl) rfl
theorem q1511 : (Jvm.Cond.code ({ cls := "OverHill$Slot", name := "make", desc := "(II)V" } : Jvm.MethodName) prog_7_method_2_code (3 : Nat) (Option.none : Option Jvm.ClassFile.FieldType)) ∈ lw_all := lw_g (lw_at lw_m6 173 rfl) rfl
theorem q1538 : (Jvm.Cond.instanceMethod ({ cls := "OverHill$Slot", name := "put", desc := "(IJ)V" } : Jvm.MethodName)) ∈ lw_all := lw_g (lw_at lw_m6 200 rfl) rfl
theorem q1539 : (Jvm.Cond.selects "OverHill$Slot" ({ cls := "OverHill$Slot", name := "put", desc := "(IJ)V" } : Jvm.MethodName) ({ cls := "OverHill$Slot", name := "put", desc := "(IJ)V" } : Jvm.MethodName)) ∈ lw_all := lw_g (lw_at lw_m6 201 rfl) rfl
theorem q1540 : (Jvm.Cond.code ({ cls := "OverHill$Slot", name := "put", desc := "(IJ)V" } : Jvm.MethodName) prog_7_method_5_code (4 : Nat) (Option.none : Option Jvm.ClassFile.FieldType)) ∈ lw_all := lw_g (lw_at lw_m6 202 rfl) rfl
theorem q2296 : (Jvm.Cond.castable "OverHill$Slot" "java/lang/Object") ∈ lw_tbl := lw_at lw_m9 238 rfl
theorem in_X7 : ∀ w ∈ wsX70, w ∈ lw_all := lw_in wsX70 [373] (by decide +kernel) (by decide +kernel)

/-! OverHill$Reader -/
set_option maxRecDepth 100000
def RX9 : String := "OverHill$Reader"
def TX9 : u_T := fun k => match k with
  | 0 => ("OverHill$Reader", "size", "I", true)
  | 1 => ("OverHill$Reader", "dance", "LOverHill$Dance;", true)
  | 2 => ("OverHill$Reader", "at", "I", false)
  | 3 => ("OverHill$Reader", "from", "I", false)
  | 4 => ("OverHill$Reader", "value", "I", false)
  | 5 => ("OverHill$Reader", "token", "LOverHill$Token;", false)
  | _ => ("OverHill$Reader", "this$0", "LOverHill;", true)
def tyX9 : Nat → FieldType := fun k => match k with
  | 0 => .int
  | 1 => .object "OverHill$Dance"
  | 2 => .int
  | 3 => .int
  | 4 => .int
  | 5 => .object "OverHill$Token"
  | _ => .object "OverHill"
abbrev wsX90 : List Cond := u_ws RX9 TX9 7
theorem nmX9 : ∀ a, a < 7 → ∀ b, b < 7 → a ≠ b → (TX9 a).2.1 ≠ (TX9 b).2.1 := by decide +kernel
theorem tyX9_ok : ∀ k, k < 7 → parseFieldDescriptor (TX9 k).2.2.1 = some (tyX9 k) := by decide +kernel
abbrev cX9_init : ByteArray := prog_6_method_1_code
def yX9_init : MethodName := ⟨RX9, "<init>", "(LOverHill;)V"⟩
def dkwX9_init_1 : List UInt8 := [89, 183, 0, 24, 181, 0, 25, 42, 178, 0, 29, 181, 0, 35, 42, 182, 0, 38, 177]
abbrev dktX9_init_1 : List UInt8 := dkwX9_init_1 ++ []
def dkwX9_init_0 : List UInt8 := [42, 43, 181, 0, 3, 42, 183, 0, 9, 42, 42, 180, 0, 3, 180, 0, 15, 181, 0, 19, 42, 187, 0, 22]
abbrev dktX9_init_0 : List UInt8 := dkwX9_init_0 ++ dktX9_init_1
theorem dksX9_init_0 : cX9_init.data.toList.drop 0 = dktX9_init_0 := by decide +kernel
theorem dksX9_init_1 : cX9_init.data.toList.drop 24 = dktX9_init_1 := dk_seg dksX9_init_0 24 rfl rfl
theorem dX9_init_0 : decode cX9_init 0 = .ok (.aload_n 0, 1) := dk_42 (dk_at dksX9_init_0 0 rfl rfl)
theorem dX9_init_1 : decode cX9_init 1 = .ok (.aload_n 1, 1) := dk_43 (dk_at dksX9_init_0 1 rfl rfl)
theorem dX9_init_2 : decode cX9_init 2 = .ok (.putfield 3, 3) := dk_181 0 3 (dk_at dksX9_init_0 2 rfl rfl)
theorem dX9_init_5 : decode cX9_init 5 = .ok (.aload_n 0, 1) := dk_42 (dk_at dksX9_init_0 5 rfl rfl)
theorem dX9_init_6 : decode cX9_init 6 = .ok (.invokespecial 9, 3) := dk_183 0 9 (dk_at dksX9_init_0 6 rfl rfl)
theorem dX9_init_9 : decode cX9_init 9 = .ok (.aload_n 0, 1) := dk_42 (dk_at dksX9_init_0 9 rfl rfl)
theorem dX9_init_10 : decode cX9_init 10 = .ok (.aload_n 0, 1) := dk_42 (dk_at dksX9_init_0 10 rfl rfl)
theorem dX9_init_11 : decode cX9_init 11 = .ok (.getfield 3, 3) := dk_180 0 3 (dk_at dksX9_init_0 11 rfl rfl)
theorem dX9_init_14 : decode cX9_init 14 = .ok (.getfield 15, 3) := dk_180 0 15 (dk_at dksX9_init_0 14 rfl rfl)
theorem dX9_init_17 : decode cX9_init 17 = .ok (.putfield 19, 3) := dk_181 0 19 (dk_at dksX9_init_0 17 rfl rfl)
theorem dX9_init_20 : decode cX9_init 20 = .ok (.aload_n 0, 1) := dk_42 (dk_at dksX9_init_0 20 rfl rfl)
theorem dX9_init_21 : decode cX9_init 21 = .ok (.new 22, 3) := dk_187 0 22 (dk_at dksX9_init_0 21 rfl rfl)
theorem dX9_init_24 : decode cX9_init 24 = .ok (.dup, 1) := dk_89 (dk_at dksX9_init_1 0 rfl rfl)
theorem dX9_init_25 : decode cX9_init 25 = .ok (.invokespecial 24, 3) := dk_183 0 24 (dk_at dksX9_init_1 1 rfl rfl)
theorem dX9_init_28 : decode cX9_init 28 = .ok (.putfield 25, 3) := dk_181 0 25 (dk_at dksX9_init_1 4 rfl rfl)
theorem dX9_init_31 : decode cX9_init 31 = .ok (.aload_n 0, 1) := dk_42 (dk_at dksX9_init_1 7 rfl rfl)
theorem dX9_init_32 : decode cX9_init 32 = .ok (.getstatic 29, 3) := dk_178 0 29 (dk_at dksX9_init_1 8 rfl rfl)
theorem dX9_init_35 : decode cX9_init 35 = .ok (.putfield 35, 3) := dk_181 0 35 (dk_at dksX9_init_1 11 rfl rfl)
theorem dX9_init_38 : decode cX9_init 38 = .ok (.aload_n 0, 1) := dk_42 (dk_at dksX9_init_1 14 rfl rfl)
theorem dX9_init_39 : decode cX9_init 39 = .ok (.invokevirtual 38, 3) := dk_182 0 38 (dk_at dksX9_init_1 15 rfl rfl)
theorem dX9_init_42 : decode cX9_init 42 = .ok (.return_, 1) := dk_177 (dk_at dksX9_init_1 18 rfl rfl)
abbrev cX9_next : ByteArray := prog_6_method_3_code
def yX9_next : MethodName := ⟨RX9, "next", "()V"⟩
def dkwX9_next_10 : List UInt8 := [167, 0, 6, 178, 0, 78, 181, 0, 35, 42, 89, 180, 0, 41, 4, 96, 181, 0, 41, 177]
abbrev dktX9_next_10 : List UInt8 := dkwX9_next_10 ++ []
def dkwX9_next_9 : List UInt8 := [167, 0, 43, 42, 42, 180, 0, 3, 180, 0, 44, 42, 180, 0, 41, 51, 16, 59, 160, 0, 9, 178, 0, 75]
abbrev dktX9_next_9 : List UInt8 := dkwX9_next_9 ++ dktX9_next_10
def dkwX9_next_8 : List UInt8 := [181, 0, 62, 42, 89, 180, 0, 41, 4, 96, 181, 0, 41, 167, 255, 203, 42, 178, 0, 72, 181, 0, 35]
abbrev dktX9_next_8 : List UInt8 := dkwX9_next_8 ++ dktX9_next_9
def dkwX9_next_7 : List UInt8 := [180, 0, 62, 104, 42, 180, 0, 3, 180, 0, 44, 42, 180, 0, 41, 51, 96, 16, 48, 100, 184, 0, 66]
abbrev dktX9_next_7 : List UInt8 := dkwX9_next_7 ++ dktX9_next_8
def dkwX9_next_6 : List UInt8 := [42, 3, 181, 0, 62, 42, 16, 48, 16, 57, 182, 0, 55, 153, 0, 48, 42, 18, 65, 16, 10, 42]
abbrev dktX9_next_6 : List UInt8 := dkwX9_next_6 ++ dktX9_next_7
def dkwX9_next_5 : List UInt8 := [167, 255, 235, 42, 178, 0, 59, 181, 0, 35, 167, 0, 125, 42, 16, 48, 16, 57, 182, 0, 55, 153, 0, 74]
abbrev dktX9_next_5 : List UInt8 := dkwX9_next_5 ++ dktX9_next_6
def dkwX9_next_4 : List UInt8 := [153, 0, 37, 42, 16, 97, 16, 122, 182, 0, 55, 153, 0, 16, 42, 89, 180, 0, 41, 4, 96, 181, 0, 41]
abbrev dktX9_next_4 : List UInt8 := dkwX9_next_4 ++ dktX9_next_5
def dkwX9_next_3 : List UInt8 := [180, 0, 19, 160, 0, 13, 42, 178, 0, 29, 181, 0, 35, 167, 0, 170, 42, 16, 97, 16, 122, 182, 0, 55]
abbrev dktX9_next_3 : List UInt8 := dkwX9_next_3 ++ dktX9_next_4
def dkwX9_next_2 : List UInt8 := [180, 0, 41, 4, 96, 181, 0, 41, 167, 255, 201, 42, 42, 180, 0, 41, 181, 0, 52, 42, 180, 0, 41, 42]
abbrev dktX9_next_2 : List UInt8 := dkwX9_next_2 ++ dktX9_next_3
def dkwX9_next_1 : List UInt8 := [16, 32, 159, 0, 20, 42, 180, 0, 3, 180, 0, 44, 42, 180, 0, 41, 51, 16, 10, 160, 0, 16, 42, 89]
abbrev dktX9_next_1 : List UInt8 := dkwX9_next_1 ++ dktX9_next_2
def dkwX9_next_0 : List UInt8 := [42, 180, 0, 41, 42, 180, 0, 19, 162, 0, 50, 42, 180, 0, 3, 180, 0, 44, 42, 180, 0, 41, 51]
abbrev dktX9_next_0 : List UInt8 := dkwX9_next_0 ++ dktX9_next_1
theorem dksX9_next_0 : cX9_next.data.toList.drop 0 = dktX9_next_0 := by decide +kernel
theorem dksX9_next_1 : cX9_next.data.toList.drop 23 = dktX9_next_1 := dk_seg dksX9_next_0 23 rfl rfl
theorem dksX9_next_2 : cX9_next.data.toList.drop 47 = dktX9_next_2 := dk_seg dksX9_next_1 24 rfl rfl
theorem dksX9_next_3 : cX9_next.data.toList.drop 71 = dktX9_next_3 := dk_seg dksX9_next_2 24 rfl rfl
theorem dksX9_next_4 : cX9_next.data.toList.drop 95 = dktX9_next_4 := dk_seg dksX9_next_3 24 rfl rfl
theorem dksX9_next_5 : cX9_next.data.toList.drop 119 = dktX9_next_5 := dk_seg dksX9_next_4 24 rfl rfl
theorem dksX9_next_6 : cX9_next.data.toList.drop 143 = dktX9_next_6 := dk_seg dksX9_next_5 24 rfl rfl
theorem dksX9_next_7 : cX9_next.data.toList.drop 165 = dktX9_next_7 := dk_seg dksX9_next_6 22 rfl rfl
theorem dksX9_next_8 : cX9_next.data.toList.drop 188 = dktX9_next_8 := dk_seg dksX9_next_7 23 rfl rfl
theorem dksX9_next_9 : cX9_next.data.toList.drop 211 = dktX9_next_9 := dk_seg dksX9_next_8 23 rfl rfl
theorem dksX9_next_10 : cX9_next.data.toList.drop 235 = dktX9_next_10 := dk_seg dksX9_next_9 24 rfl rfl
theorem dX9_next_0 : decode cX9_next 0 = .ok (.aload_n 0, 1) := dk_42 (dk_at dksX9_next_0 0 rfl rfl)
theorem dX9_next_1 : decode cX9_next 1 = .ok (.getfield 41, 3) := dk_180 0 41 (dk_at dksX9_next_0 1 rfl rfl)
theorem dX9_next_4 : decode cX9_next 4 = .ok (.aload_n 0, 1) := dk_42 (dk_at dksX9_next_0 4 rfl rfl)
theorem dX9_next_5 : decode cX9_next 5 = .ok (.getfield 19, 3) := dk_180 0 19 (dk_at dksX9_next_0 5 rfl rfl)
theorem dX9_next_8 : decode cX9_next 8 = .ok (.if_icmp .ge 50, 3) := dk_162 0 50 (dk_at dksX9_next_0 8 rfl rfl)
theorem dX9_next_11 : decode cX9_next 11 = .ok (.aload_n 0, 1) := dk_42 (dk_at dksX9_next_0 11 rfl rfl)
theorem dX9_next_12 : decode cX9_next 12 = .ok (.getfield 3, 3) := dk_180 0 3 (dk_at dksX9_next_0 12 rfl rfl)
theorem dX9_next_15 : decode cX9_next 15 = .ok (.getfield 44, 3) := dk_180 0 44 (dk_at dksX9_next_0 15 rfl rfl)
theorem dX9_next_18 : decode cX9_next 18 = .ok (.aload_n 0, 1) := dk_42 (dk_at dksX9_next_0 18 rfl rfl)
theorem dX9_next_19 : decode cX9_next 19 = .ok (.getfield 41, 3) := dk_180 0 41 (dk_at dksX9_next_0 19 rfl rfl)
theorem dX9_next_22 : decode cX9_next 22 = .ok (.baload, 1) := dk_51 (dk_at dksX9_next_0 22 rfl rfl)
theorem dX9_next_23 : decode cX9_next 23 = .ok (.bipush 32, 2) := dk_16 32 (dk_at dksX9_next_1 0 rfl rfl)
theorem dX9_next_25 : decode cX9_next 25 = .ok (.if_icmp .eq 20, 3) := dk_159 0 20 (dk_at dksX9_next_1 2 rfl rfl)
theorem dX9_next_28 : decode cX9_next 28 = .ok (.aload_n 0, 1) := dk_42 (dk_at dksX9_next_1 5 rfl rfl)
theorem dX9_next_29 : decode cX9_next 29 = .ok (.getfield 3, 3) := dk_180 0 3 (dk_at dksX9_next_1 6 rfl rfl)
theorem dX9_next_32 : decode cX9_next 32 = .ok (.getfield 44, 3) := dk_180 0 44 (dk_at dksX9_next_1 9 rfl rfl)
theorem dX9_next_35 : decode cX9_next 35 = .ok (.aload_n 0, 1) := dk_42 (dk_at dksX9_next_1 12 rfl rfl)
theorem dX9_next_36 : decode cX9_next 36 = .ok (.getfield 41, 3) := dk_180 0 41 (dk_at dksX9_next_1 13 rfl rfl)
theorem dX9_next_39 : decode cX9_next 39 = .ok (.baload, 1) := dk_51 (dk_at dksX9_next_1 16 rfl rfl)
theorem dX9_next_40 : decode cX9_next 40 = .ok (.bipush 10, 2) := dk_16 10 (dk_at dksX9_next_1 17 rfl rfl)
theorem dX9_next_42 : decode cX9_next 42 = .ok (.if_icmp .ne 16, 3) := dk_160 0 16 (dk_at dksX9_next_1 19 rfl rfl)
theorem dX9_next_45 : decode cX9_next 45 = .ok (.aload_n 0, 1) := dk_42 (dk_at dksX9_next_1 22 rfl rfl)
theorem dX9_next_46 : decode cX9_next 46 = .ok (.dup, 1) := dk_89 (dk_at dksX9_next_1 23 rfl rfl)
theorem dX9_next_47 : decode cX9_next 47 = .ok (.getfield 41, 3) := dk_180 0 41 (dk_at dksX9_next_2 0 rfl rfl)
theorem dX9_next_50 : decode cX9_next 50 = .ok (.iconst 1, 1) := dk_4 (dk_at dksX9_next_2 3 rfl rfl)
theorem dX9_next_51 : decode cX9_next 51 = .ok (.iadd, 1) := dk_96 (dk_at dksX9_next_2 4 rfl rfl)
theorem dX9_next_52 : decode cX9_next 52 = .ok (.putfield 41, 3) := dk_181 0 41 (dk_at dksX9_next_2 5 rfl rfl)
theorem dX9_next_55 : decode cX9_next 55 = .ok (.goto (-55), 3) := dk_167 255 201 (dk_at dksX9_next_2 8 rfl rfl)
theorem dX9_next_58 : decode cX9_next 58 = .ok (.aload_n 0, 1) := dk_42 (dk_at dksX9_next_2 11 rfl rfl)
theorem dX9_next_59 : decode cX9_next 59 = .ok (.aload_n 0, 1) := dk_42 (dk_at dksX9_next_2 12 rfl rfl)
theorem dX9_next_60 : decode cX9_next 60 = .ok (.getfield 41, 3) := dk_180 0 41 (dk_at dksX9_next_2 13 rfl rfl)
theorem dX9_next_63 : decode cX9_next 63 = .ok (.putfield 52, 3) := dk_181 0 52 (dk_at dksX9_next_2 16 rfl rfl)
theorem dX9_next_66 : decode cX9_next 66 = .ok (.aload_n 0, 1) := dk_42 (dk_at dksX9_next_2 19 rfl rfl)
theorem dX9_next_67 : decode cX9_next 67 = .ok (.getfield 41, 3) := dk_180 0 41 (dk_at dksX9_next_2 20 rfl rfl)
theorem dX9_next_70 : decode cX9_next 70 = .ok (.aload_n 0, 1) := dk_42 (dk_at dksX9_next_2 23 rfl rfl)
theorem dX9_next_71 : decode cX9_next 71 = .ok (.getfield 19, 3) := dk_180 0 19 (dk_at dksX9_next_3 0 rfl rfl)
theorem dX9_next_74 : decode cX9_next 74 = .ok (.if_icmp .ne 13, 3) := dk_160 0 13 (dk_at dksX9_next_3 3 rfl rfl)
theorem dX9_next_77 : decode cX9_next 77 = .ok (.aload_n 0, 1) := dk_42 (dk_at dksX9_next_3 6 rfl rfl)
theorem dX9_next_78 : decode cX9_next 78 = .ok (.getstatic 29, 3) := dk_178 0 29 (dk_at dksX9_next_3 7 rfl rfl)
theorem dX9_next_81 : decode cX9_next 81 = .ok (.putfield 35, 3) := dk_181 0 35 (dk_at dksX9_next_3 10 rfl rfl)
theorem dX9_next_84 : decode cX9_next 84 = .ok (.goto 170, 3) := dk_167 0 170 (dk_at dksX9_next_3 13 rfl rfl)
theorem dX9_next_87 : decode cX9_next 87 = .ok (.aload_n 0, 1) := dk_42 (dk_at dksX9_next_3 16 rfl rfl)
theorem dX9_next_88 : decode cX9_next 88 = .ok (.bipush 97, 2) := dk_16 97 (dk_at dksX9_next_3 17 rfl rfl)
theorem dX9_next_90 : decode cX9_next 90 = .ok (.bipush 122, 2) := dk_16 122 (dk_at dksX9_next_3 19 rfl rfl)
theorem dX9_next_92 : decode cX9_next 92 = .ok (.invokevirtual 55, 3) := dk_182 0 55 (dk_at dksX9_next_3 21 rfl rfl)
theorem dX9_next_95 : decode cX9_next 95 = .ok (.ifCond .eq 37, 3) := dk_153 0 37 (dk_at dksX9_next_4 0 rfl rfl)
theorem dX9_next_98 : decode cX9_next 98 = .ok (.aload_n 0, 1) := dk_42 (dk_at dksX9_next_4 3 rfl rfl)
theorem dX9_next_99 : decode cX9_next 99 = .ok (.bipush 97, 2) := dk_16 97 (dk_at dksX9_next_4 4 rfl rfl)
theorem dX9_next_101 : decode cX9_next 101 = .ok (.bipush 122, 2) := dk_16 122 (dk_at dksX9_next_4 6 rfl rfl)
theorem dX9_next_103 : decode cX9_next 103 = .ok (.invokevirtual 55, 3) := dk_182 0 55 (dk_at dksX9_next_4 8 rfl rfl)
theorem dX9_next_106 : decode cX9_next 106 = .ok (.ifCond .eq 16, 3) := dk_153 0 16 (dk_at dksX9_next_4 11 rfl rfl)
theorem dX9_next_109 : decode cX9_next 109 = .ok (.aload_n 0, 1) := dk_42 (dk_at dksX9_next_4 14 rfl rfl)
theorem dX9_next_110 : decode cX9_next 110 = .ok (.dup, 1) := dk_89 (dk_at dksX9_next_4 15 rfl rfl)
theorem dX9_next_111 : decode cX9_next 111 = .ok (.getfield 41, 3) := dk_180 0 41 (dk_at dksX9_next_4 16 rfl rfl)
theorem dX9_next_114 : decode cX9_next 114 = .ok (.iconst 1, 1) := dk_4 (dk_at dksX9_next_4 19 rfl rfl)
theorem dX9_next_115 : decode cX9_next 115 = .ok (.iadd, 1) := dk_96 (dk_at dksX9_next_4 20 rfl rfl)
theorem dX9_next_116 : decode cX9_next 116 = .ok (.putfield 41, 3) := dk_181 0 41 (dk_at dksX9_next_4 21 rfl rfl)
theorem dX9_next_119 : decode cX9_next 119 = .ok (.goto (-21), 3) := dk_167 255 235 (dk_at dksX9_next_5 0 rfl rfl)
theorem dX9_next_122 : decode cX9_next 122 = .ok (.aload_n 0, 1) := dk_42 (dk_at dksX9_next_5 3 rfl rfl)
theorem dX9_next_123 : decode cX9_next 123 = .ok (.getstatic 59, 3) := dk_178 0 59 (dk_at dksX9_next_5 4 rfl rfl)
theorem dX9_next_126 : decode cX9_next 126 = .ok (.putfield 35, 3) := dk_181 0 35 (dk_at dksX9_next_5 7 rfl rfl)
theorem dX9_next_129 : decode cX9_next 129 = .ok (.goto 125, 3) := dk_167 0 125 (dk_at dksX9_next_5 10 rfl rfl)
theorem dX9_next_132 : decode cX9_next 132 = .ok (.aload_n 0, 1) := dk_42 (dk_at dksX9_next_5 13 rfl rfl)
theorem dX9_next_133 : decode cX9_next 133 = .ok (.bipush 48, 2) := dk_16 48 (dk_at dksX9_next_5 14 rfl rfl)
theorem dX9_next_135 : decode cX9_next 135 = .ok (.bipush 57, 2) := dk_16 57 (dk_at dksX9_next_5 16 rfl rfl)
theorem dX9_next_137 : decode cX9_next 137 = .ok (.invokevirtual 55, 3) := dk_182 0 55 (dk_at dksX9_next_5 18 rfl rfl)
theorem dX9_next_140 : decode cX9_next 140 = .ok (.ifCond .eq 74, 3) := dk_153 0 74 (dk_at dksX9_next_5 21 rfl rfl)
theorem dX9_next_143 : decode cX9_next 143 = .ok (.aload_n 0, 1) := dk_42 (dk_at dksX9_next_6 0 rfl rfl)
theorem dX9_next_144 : decode cX9_next 144 = .ok (.iconst 0, 1) := dk_3 (dk_at dksX9_next_6 1 rfl rfl)
theorem dX9_next_145 : decode cX9_next 145 = .ok (.putfield 62, 3) := dk_181 0 62 (dk_at dksX9_next_6 2 rfl rfl)
theorem dX9_next_148 : decode cX9_next 148 = .ok (.aload_n 0, 1) := dk_42 (dk_at dksX9_next_6 5 rfl rfl)
theorem dX9_next_149 : decode cX9_next 149 = .ok (.bipush 48, 2) := dk_16 48 (dk_at dksX9_next_6 6 rfl rfl)
theorem dX9_next_151 : decode cX9_next 151 = .ok (.bipush 57, 2) := dk_16 57 (dk_at dksX9_next_6 8 rfl rfl)
theorem dX9_next_153 : decode cX9_next 153 = .ok (.invokevirtual 55, 3) := dk_182 0 55 (dk_at dksX9_next_6 10 rfl rfl)
theorem dX9_next_156 : decode cX9_next 156 = .ok (.ifCond .eq 48, 3) := dk_153 0 48 (dk_at dksX9_next_6 13 rfl rfl)
theorem dX9_next_159 : decode cX9_next 159 = .ok (.aload_n 0, 1) := dk_42 (dk_at dksX9_next_6 16 rfl rfl)
theorem dX9_next_160 : decode cX9_next 160 = .ok (.ldc 65, 2) := dk_18 65 (dk_at dksX9_next_6 17 rfl rfl)
theorem dX9_next_162 : decode cX9_next 162 = .ok (.bipush 10, 2) := dk_16 10 (dk_at dksX9_next_6 19 rfl rfl)
theorem dX9_next_164 : decode cX9_next 164 = .ok (.aload_n 0, 1) := dk_42 (dk_at dksX9_next_6 21 rfl rfl)
theorem dX9_next_165 : decode cX9_next 165 = .ok (.getfield 62, 3) := dk_180 0 62 (dk_at dksX9_next_7 0 rfl rfl)
theorem dX9_next_168 : decode cX9_next 168 = .ok (.imul, 1) := dk_104 (dk_at dksX9_next_7 3 rfl rfl)
theorem dX9_next_169 : decode cX9_next 169 = .ok (.aload_n 0, 1) := dk_42 (dk_at dksX9_next_7 4 rfl rfl)
theorem dX9_next_170 : decode cX9_next 170 = .ok (.getfield 3, 3) := dk_180 0 3 (dk_at dksX9_next_7 5 rfl rfl)
theorem dX9_next_173 : decode cX9_next 173 = .ok (.getfield 44, 3) := dk_180 0 44 (dk_at dksX9_next_7 8 rfl rfl)
theorem dX9_next_176 : decode cX9_next 176 = .ok (.aload_n 0, 1) := dk_42 (dk_at dksX9_next_7 11 rfl rfl)
theorem dX9_next_177 : decode cX9_next 177 = .ok (.getfield 41, 3) := dk_180 0 41 (dk_at dksX9_next_7 12 rfl rfl)
theorem dX9_next_180 : decode cX9_next 180 = .ok (.baload, 1) := dk_51 (dk_at dksX9_next_7 15 rfl rfl)
theorem dX9_next_181 : decode cX9_next 181 = .ok (.iadd, 1) := dk_96 (dk_at dksX9_next_7 16 rfl rfl)
theorem dX9_next_182 : decode cX9_next 182 = .ok (.bipush 48, 2) := dk_16 48 (dk_at dksX9_next_7 17 rfl rfl)
theorem dX9_next_184 : decode cX9_next 184 = .ok (.isub, 1) := dk_100 (dk_at dksX9_next_7 19 rfl rfl)
theorem dX9_next_185 : decode cX9_next 185 = .ok (.invokestatic 66, 3) := dk_184 0 66 (dk_at dksX9_next_7 20 rfl rfl)
theorem dX9_next_188 : decode cX9_next 188 = .ok (.putfield 62, 3) := dk_181 0 62 (dk_at dksX9_next_8 0 rfl rfl)
theorem dX9_next_191 : decode cX9_next 191 = .ok (.aload_n 0, 1) := dk_42 (dk_at dksX9_next_8 3 rfl rfl)
theorem dX9_next_192 : decode cX9_next 192 = .ok (.dup, 1) := dk_89 (dk_at dksX9_next_8 4 rfl rfl)
theorem dX9_next_193 : decode cX9_next 193 = .ok (.getfield 41, 3) := dk_180 0 41 (dk_at dksX9_next_8 5 rfl rfl)
theorem dX9_next_196 : decode cX9_next 196 = .ok (.iconst 1, 1) := dk_4 (dk_at dksX9_next_8 8 rfl rfl)
theorem dX9_next_197 : decode cX9_next 197 = .ok (.iadd, 1) := dk_96 (dk_at dksX9_next_8 9 rfl rfl)
theorem dX9_next_198 : decode cX9_next 198 = .ok (.putfield 41, 3) := dk_181 0 41 (dk_at dksX9_next_8 10 rfl rfl)
theorem dX9_next_201 : decode cX9_next 201 = .ok (.goto (-53), 3) := dk_167 255 203 (dk_at dksX9_next_8 13 rfl rfl)
theorem dX9_next_204 : decode cX9_next 204 = .ok (.aload_n 0, 1) := dk_42 (dk_at dksX9_next_8 16 rfl rfl)
theorem dX9_next_205 : decode cX9_next 205 = .ok (.getstatic 72, 3) := dk_178 0 72 (dk_at dksX9_next_8 17 rfl rfl)
theorem dX9_next_208 : decode cX9_next 208 = .ok (.putfield 35, 3) := dk_181 0 35 (dk_at dksX9_next_8 20 rfl rfl)
theorem dX9_next_211 : decode cX9_next 211 = .ok (.goto 43, 3) := dk_167 0 43 (dk_at dksX9_next_9 0 rfl rfl)
theorem dX9_next_214 : decode cX9_next 214 = .ok (.aload_n 0, 1) := dk_42 (dk_at dksX9_next_9 3 rfl rfl)
theorem dX9_next_215 : decode cX9_next 215 = .ok (.aload_n 0, 1) := dk_42 (dk_at dksX9_next_9 4 rfl rfl)
theorem dX9_next_216 : decode cX9_next 216 = .ok (.getfield 3, 3) := dk_180 0 3 (dk_at dksX9_next_9 5 rfl rfl)
theorem dX9_next_219 : decode cX9_next 219 = .ok (.getfield 44, 3) := dk_180 0 44 (dk_at dksX9_next_9 8 rfl rfl)
theorem dX9_next_222 : decode cX9_next 222 = .ok (.aload_n 0, 1) := dk_42 (dk_at dksX9_next_9 11 rfl rfl)
theorem dX9_next_223 : decode cX9_next 223 = .ok (.getfield 41, 3) := dk_180 0 41 (dk_at dksX9_next_9 12 rfl rfl)
theorem dX9_next_226 : decode cX9_next 226 = .ok (.baload, 1) := dk_51 (dk_at dksX9_next_9 15 rfl rfl)
theorem dX9_next_227 : decode cX9_next 227 = .ok (.bipush 59, 2) := dk_16 59 (dk_at dksX9_next_9 16 rfl rfl)
theorem dX9_next_229 : decode cX9_next 229 = .ok (.if_icmp .ne 9, 3) := dk_160 0 9 (dk_at dksX9_next_9 18 rfl rfl)
theorem dX9_next_232 : decode cX9_next 232 = .ok (.getstatic 75, 3) := dk_178 0 75 (dk_at dksX9_next_9 21 rfl rfl)
theorem dX9_next_235 : decode cX9_next 235 = .ok (.goto 6, 3) := dk_167 0 6 (dk_at dksX9_next_10 0 rfl rfl)
theorem dX9_next_238 : decode cX9_next 238 = .ok (.getstatic 78, 3) := dk_178 0 78 (dk_at dksX9_next_10 3 rfl rfl)
theorem dX9_next_241 : decode cX9_next 241 = .ok (.putfield 35, 3) := dk_181 0 35 (dk_at dksX9_next_10 6 rfl rfl)
theorem dX9_next_244 : decode cX9_next 244 = .ok (.aload_n 0, 1) := dk_42 (dk_at dksX9_next_10 9 rfl rfl)
theorem dX9_next_245 : decode cX9_next 245 = .ok (.dup, 1) := dk_89 (dk_at dksX9_next_10 10 rfl rfl)
theorem dX9_next_246 : decode cX9_next 246 = .ok (.getfield 41, 3) := dk_180 0 41 (dk_at dksX9_next_10 11 rfl rfl)
theorem dX9_next_249 : decode cX9_next 249 = .ok (.iconst 1, 1) := dk_4 (dk_at dksX9_next_10 14 rfl rfl)
theorem dX9_next_250 : decode cX9_next 250 = .ok (.iadd, 1) := dk_96 (dk_at dksX9_next_10 15 rfl rfl)
theorem dX9_next_251 : decode cX9_next 251 = .ok (.putfield 41, 3) := dk_181 0 41 (dk_at dksX9_next_10 16 rfl rfl)
theorem dX9_next_254 : decode cX9_next 254 = .ok (.return_, 1) := dk_177 (dk_at dksX9_next_10 19 rfl rfl)
abbrev cX9_isNext : ByteArray := prog_6_method_2_code
def yX9_isNext : MethodName := ⟨RX9, "isNext", "(II)Z"⟩
def dkwX9_isNext_1 : List UInt8 := [27, 133, 28, 133, 184, 0, 48, 153, 0, 7, 4, 167, 0, 4, 3, 172]
abbrev dktX9_isNext_1 : List UInt8 := dkwX9_isNext_1 ++ []
def dkwX9_isNext_0 : List UInt8 := [42, 180, 0, 41, 42, 180, 0, 19, 162, 0, 30, 42, 180, 0, 3, 180, 0, 44, 42, 180, 0, 41, 51, 133]
abbrev dktX9_isNext_0 : List UInt8 := dkwX9_isNext_0 ++ dktX9_isNext_1
theorem dksX9_isNext_0 : cX9_isNext.data.toList.drop 0 = dktX9_isNext_0 := by decide +kernel
theorem dksX9_isNext_1 : cX9_isNext.data.toList.drop 24 = dktX9_isNext_1 := dk_seg dksX9_isNext_0 24 rfl rfl
theorem dX9_isNext_0 : decode cX9_isNext 0 = .ok (.aload_n 0, 1) := dk_42 (dk_at dksX9_isNext_0 0 rfl rfl)
theorem dX9_isNext_1 : decode cX9_isNext 1 = .ok (.getfield 41, 3) := dk_180 0 41 (dk_at dksX9_isNext_0 1 rfl rfl)
theorem dX9_isNext_4 : decode cX9_isNext 4 = .ok (.aload_n 0, 1) := dk_42 (dk_at dksX9_isNext_0 4 rfl rfl)
theorem dX9_isNext_5 : decode cX9_isNext 5 = .ok (.getfield 19, 3) := dk_180 0 19 (dk_at dksX9_isNext_0 5 rfl rfl)
theorem dX9_isNext_8 : decode cX9_isNext 8 = .ok (.if_icmp .ge 30, 3) := dk_162 0 30 (dk_at dksX9_isNext_0 8 rfl rfl)
theorem dX9_isNext_11 : decode cX9_isNext 11 = .ok (.aload_n 0, 1) := dk_42 (dk_at dksX9_isNext_0 11 rfl rfl)
theorem dX9_isNext_12 : decode cX9_isNext 12 = .ok (.getfield 3, 3) := dk_180 0 3 (dk_at dksX9_isNext_0 12 rfl rfl)
theorem dX9_isNext_15 : decode cX9_isNext 15 = .ok (.getfield 44, 3) := dk_180 0 44 (dk_at dksX9_isNext_0 15 rfl rfl)
theorem dX9_isNext_18 : decode cX9_isNext 18 = .ok (.aload_n 0, 1) := dk_42 (dk_at dksX9_isNext_0 18 rfl rfl)
theorem dX9_isNext_19 : decode cX9_isNext 19 = .ok (.getfield 41, 3) := dk_180 0 41 (dk_at dksX9_isNext_0 19 rfl rfl)
theorem dX9_isNext_22 : decode cX9_isNext 22 = .ok (.baload, 1) := dk_51 (dk_at dksX9_isNext_0 22 rfl rfl)
theorem dX9_isNext_23 : decode cX9_isNext 23 = .ok (.i2l, 1) := dk_133 (dk_at dksX9_isNext_0 23 rfl rfl)
theorem dX9_isNext_24 : decode cX9_isNext 24 = .ok (.iload_n 1, 1) := dk_27 (dk_at dksX9_isNext_1 0 rfl rfl)
theorem dX9_isNext_25 : decode cX9_isNext 25 = .ok (.i2l, 1) := dk_133 (dk_at dksX9_isNext_1 1 rfl rfl)
theorem dX9_isNext_26 : decode cX9_isNext 26 = .ok (.iload_n 2, 1) := dk_28 (dk_at dksX9_isNext_1 2 rfl rfl)
theorem dX9_isNext_27 : decode cX9_isNext 27 = .ok (.i2l, 1) := dk_133 (dk_at dksX9_isNext_1 3 rfl rfl)
theorem dX9_isNext_28 : decode cX9_isNext 28 = .ok (.invokestatic 48, 3) := dk_184 0 48 (dk_at dksX9_isNext_1 4 rfl rfl)
theorem dX9_isNext_31 : decode cX9_isNext 31 = .ok (.ifCond .eq 7, 3) := dk_153 0 7 (dk_at dksX9_isNext_1 7 rfl rfl)
theorem dX9_isNext_34 : decode cX9_isNext 34 = .ok (.iconst 1, 1) := dk_4 (dk_at dksX9_isNext_1 10 rfl rfl)
theorem dX9_isNext_35 : decode cX9_isNext 35 = .ok (.goto 4, 3) := dk_167 0 4 (dk_at dksX9_isNext_1 11 rfl rfl)
theorem dX9_isNext_38 : decode cX9_isNext 38 = .ok (.iconst 0, 1) := dk_3 (dk_at dksX9_isNext_1 14 rfl rfl)
theorem dX9_isNext_39 : decode cX9_isNext 39 = .ok (.ireturn, 1) := dk_172 (dk_at dksX9_isNext_1 15 rfl rfl)
abbrev cX9_read : ByteArray := prog_6_method_20_code
def yX9_read : MethodName := ⟨RX9, "read", "()LOverHill$Dance;"⟩
def dkwX9_read_2 : List UInt8 := [182, 0, 38, 42, 180, 0, 25, 89, 180, 0, 221, 4, 96, 181, 0, 221, 167, 255, 192, 42, 180, 0, 25, 176]
abbrev dktX9_read_2 : List UInt8 := dkwX9_read_2 ++ []
def dkwX9_read_1 : List UInt8 := [167, 0, 7, 42, 182, 0, 227, 42, 180, 0, 35, 178, 0, 75, 165, 0, 9, 42, 4, 182, 0, 103, 191, 42]
abbrev dktX9_read_1 : List UInt8 := dkwX9_read_1 ++ dktX9_read_2
def dkwX9_read_0 : List UInt8 := [42, 180, 0, 35, 178, 0, 29, 165, 0, 60, 42, 180, 0, 25, 180, 0, 221, 154, 0, 10, 42, 182, 0, 224]
abbrev dktX9_read_0 : List UInt8 := dkwX9_read_0 ++ dktX9_read_1
theorem dksX9_read_0 : cX9_read.data.toList.drop 0 = dktX9_read_0 := by decide +kernel
theorem dksX9_read_1 : cX9_read.data.toList.drop 24 = dktX9_read_1 := dk_seg dksX9_read_0 24 rfl rfl
theorem dksX9_read_2 : cX9_read.data.toList.drop 48 = dktX9_read_2 := dk_seg dksX9_read_1 24 rfl rfl
theorem dX9_read_0 : decode cX9_read 0 = .ok (.aload_n 0, 1) := dk_42 (dk_at dksX9_read_0 0 rfl rfl)
theorem dX9_read_1 : decode cX9_read 1 = .ok (.getfield 35, 3) := dk_180 0 35 (dk_at dksX9_read_0 1 rfl rfl)
theorem dX9_read_4 : decode cX9_read 4 = .ok (.getstatic 29, 3) := dk_178 0 29 (dk_at dksX9_read_0 4 rfl rfl)
theorem dX9_read_7 : decode cX9_read 7 = .ok (.if_acmp .eq 60, 3) := dk_165 0 60 (dk_at dksX9_read_0 7 rfl rfl)
theorem dX9_read_10 : decode cX9_read 10 = .ok (.aload_n 0, 1) := dk_42 (dk_at dksX9_read_0 10 rfl rfl)
theorem dX9_read_11 : decode cX9_read 11 = .ok (.getfield 25, 3) := dk_180 0 25 (dk_at dksX9_read_0 11 rfl rfl)
theorem dX9_read_14 : decode cX9_read 14 = .ok (.getfield 221, 3) := dk_180 0 221 (dk_at dksX9_read_0 14 rfl rfl)
theorem dX9_read_17 : decode cX9_read 17 = .ok (.ifCond .ne 10, 3) := dk_154 0 10 (dk_at dksX9_read_0 17 rfl rfl)
theorem dX9_read_20 : decode cX9_read 20 = .ok (.aload_n 0, 1) := dk_42 (dk_at dksX9_read_0 20 rfl rfl)
theorem dX9_read_21 : decode cX9_read 21 = .ok (.invokevirtual 224, 3) := dk_182 0 224 (dk_at dksX9_read_0 21 rfl rfl)
theorem dX9_read_24 : decode cX9_read 24 = .ok (.goto 7, 3) := dk_167 0 7 (dk_at dksX9_read_1 0 rfl rfl)
theorem dX9_read_27 : decode cX9_read 27 = .ok (.aload_n 0, 1) := dk_42 (dk_at dksX9_read_1 3 rfl rfl)
theorem dX9_read_28 : decode cX9_read 28 = .ok (.invokevirtual 227, 3) := dk_182 0 227 (dk_at dksX9_read_1 4 rfl rfl)
theorem dX9_read_31 : decode cX9_read 31 = .ok (.aload_n 0, 1) := dk_42 (dk_at dksX9_read_1 7 rfl rfl)
theorem dX9_read_32 : decode cX9_read 32 = .ok (.getfield 35, 3) := dk_180 0 35 (dk_at dksX9_read_1 8 rfl rfl)
theorem dX9_read_35 : decode cX9_read 35 = .ok (.getstatic 75, 3) := dk_178 0 75 (dk_at dksX9_read_1 11 rfl rfl)
theorem dX9_read_38 : decode cX9_read 38 = .ok (.if_acmp .eq 9, 3) := dk_165 0 9 (dk_at dksX9_read_1 14 rfl rfl)
theorem dX9_read_41 : decode cX9_read 41 = .ok (.aload_n 0, 1) := dk_42 (dk_at dksX9_read_1 17 rfl rfl)
theorem dX9_read_42 : decode cX9_read 42 = .ok (.iconst 1, 1) := dk_4 (dk_at dksX9_read_1 18 rfl rfl)
theorem dX9_read_43 : decode cX9_read 43 = .ok (.invokevirtual 103, 3) := dk_182 0 103 (dk_at dksX9_read_1 19 rfl rfl)
theorem dX9_read_46 : decode cX9_read 46 = .ok (.athrow, 1) := dk_191 (dk_at dksX9_read_1 22 rfl rfl)
theorem dX9_read_47 : decode cX9_read 47 = .ok (.aload_n 0, 1) := dk_42 (dk_at dksX9_read_1 23 rfl rfl)
theorem dX9_read_48 : decode cX9_read 48 = .ok (.invokevirtual 38, 3) := dk_182 0 38 (dk_at dksX9_read_2 0 rfl rfl)
theorem dX9_read_51 : decode cX9_read 51 = .ok (.aload_n 0, 1) := dk_42 (dk_at dksX9_read_2 3 rfl rfl)
theorem dX9_read_52 : decode cX9_read 52 = .ok (.getfield 25, 3) := dk_180 0 25 (dk_at dksX9_read_2 4 rfl rfl)
theorem dX9_read_55 : decode cX9_read 55 = .ok (.dup, 1) := dk_89 (dk_at dksX9_read_2 7 rfl rfl)
theorem dX9_read_56 : decode cX9_read 56 = .ok (.getfield 221, 3) := dk_180 0 221 (dk_at dksX9_read_2 8 rfl rfl)
theorem dX9_read_59 : decode cX9_read 59 = .ok (.iconst 1, 1) := dk_4 (dk_at dksX9_read_2 11 rfl rfl)
theorem dX9_read_60 : decode cX9_read 60 = .ok (.iadd, 1) := dk_96 (dk_at dksX9_read_2 12 rfl rfl)
theorem dX9_read_61 : decode cX9_read 61 = .ok (.putfield 221, 3) := dk_181 0 221 (dk_at dksX9_read_2 13 rfl rfl)
theorem dX9_read_64 : decode cX9_read 64 = .ok (.goto (-64), 3) := dk_167 255 192 (dk_at dksX9_read_2 16 rfl rfl)
theorem dX9_read_67 : decode cX9_read 67 = .ok (.aload_n 0, 1) := dk_42 (dk_at dksX9_read_2 19 rfl rfl)
theorem dX9_read_68 : decode cX9_read 68 = .ok (.getfield 25, 3) := dk_180 0 25 (dk_at dksX9_read_2 20 rfl rfl)
theorem dX9_read_71 : decode cX9_read 71 = .ok (.areturn, 1) := dk_176 (dk_at dksX9_read_2 23 rfl rfl)
abbrev cX9_first : ByteArray := prog_6_method_11_code
def yX9_first : MethodName := ⟨RX9, "first", "()V"⟩
def dkwX9_first_2 : List UInt8 := [16, 100, 182, 0, 117, 181, 0, 129, 177]
abbrev dktX9_first_2 : List UInt8 := dkwX9_first_2 ++ []
def dkwX9_first_1 : List UInt8 := [180, 0, 25, 42, 18, 123, 3, 16, 100, 182, 0, 117, 181, 0, 125, 42, 180, 0, 25, 42, 18, 127, 3]
abbrev dktX9_first_1 : List UInt8 := dkwX9_first_1 ++ dktX9_first_2
def dkwX9_first_0 : List UInt8 := [42, 18, 114, 182, 0, 107, 42, 180, 0, 25, 42, 18, 115, 3, 16, 20, 182, 0, 117, 181, 0, 121, 42]
abbrev dktX9_first_0 : List UInt8 := dkwX9_first_0 ++ dktX9_first_1
theorem dksX9_first_0 : cX9_first.data.toList.drop 0 = dktX9_first_0 := by decide +kernel
theorem dksX9_first_1 : cX9_first.data.toList.drop 23 = dktX9_first_1 := dk_seg dksX9_first_0 23 rfl rfl
theorem dksX9_first_2 : cX9_first.data.toList.drop 46 = dktX9_first_2 := dk_seg dksX9_first_1 23 rfl rfl
theorem dX9_first_0 : decode cX9_first 0 = .ok (.aload_n 0, 1) := dk_42 (dk_at dksX9_first_0 0 rfl rfl)
theorem dX9_first_1 : decode cX9_first 1 = .ok (.ldc 114, 2) := dk_18 114 (dk_at dksX9_first_0 1 rfl rfl)
theorem dX9_first_3 : decode cX9_first 3 = .ok (.invokevirtual 107, 3) := dk_182 0 107 (dk_at dksX9_first_0 3 rfl rfl)
theorem dX9_first_6 : decode cX9_first 6 = .ok (.aload_n 0, 1) := dk_42 (dk_at dksX9_first_0 6 rfl rfl)
theorem dX9_first_7 : decode cX9_first 7 = .ok (.getfield 25, 3) := dk_180 0 25 (dk_at dksX9_first_0 7 rfl rfl)
theorem dX9_first_10 : decode cX9_first 10 = .ok (.aload_n 0, 1) := dk_42 (dk_at dksX9_first_0 10 rfl rfl)
theorem dX9_first_11 : decode cX9_first 11 = .ok (.ldc 115, 2) := dk_18 115 (dk_at dksX9_first_0 11 rfl rfl)
theorem dX9_first_13 : decode cX9_first 13 = .ok (.iconst 0, 1) := dk_3 (dk_at dksX9_first_0 13 rfl rfl)
theorem dX9_first_14 : decode cX9_first 14 = .ok (.bipush 20, 2) := dk_16 20 (dk_at dksX9_first_0 14 rfl rfl)
theorem dX9_first_16 : decode cX9_first 16 = .ok (.invokevirtual 117, 3) := dk_182 0 117 (dk_at dksX9_first_0 16 rfl rfl)
theorem dX9_first_19 : decode cX9_first 19 = .ok (.putfield 121, 3) := dk_181 0 121 (dk_at dksX9_first_0 19 rfl rfl)
theorem dX9_first_22 : decode cX9_first 22 = .ok (.aload_n 0, 1) := dk_42 (dk_at dksX9_first_0 22 rfl rfl)
theorem dX9_first_23 : decode cX9_first 23 = .ok (.getfield 25, 3) := dk_180 0 25 (dk_at dksX9_first_1 0 rfl rfl)
theorem dX9_first_26 : decode cX9_first 26 = .ok (.aload_n 0, 1) := dk_42 (dk_at dksX9_first_1 3 rfl rfl)
theorem dX9_first_27 : decode cX9_first 27 = .ok (.ldc 123, 2) := dk_18 123 (dk_at dksX9_first_1 4 rfl rfl)
theorem dX9_first_29 : decode cX9_first 29 = .ok (.iconst 0, 1) := dk_3 (dk_at dksX9_first_1 6 rfl rfl)
theorem dX9_first_30 : decode cX9_first 30 = .ok (.bipush 100, 2) := dk_16 100 (dk_at dksX9_first_1 7 rfl rfl)
theorem dX9_first_32 : decode cX9_first 32 = .ok (.invokevirtual 117, 3) := dk_182 0 117 (dk_at dksX9_first_1 9 rfl rfl)
theorem dX9_first_35 : decode cX9_first 35 = .ok (.putfield 125, 3) := dk_181 0 125 (dk_at dksX9_first_1 12 rfl rfl)
theorem dX9_first_38 : decode cX9_first 38 = .ok (.aload_n 0, 1) := dk_42 (dk_at dksX9_first_1 15 rfl rfl)
theorem dX9_first_39 : decode cX9_first 39 = .ok (.getfield 25, 3) := dk_180 0 25 (dk_at dksX9_first_1 16 rfl rfl)
theorem dX9_first_42 : decode cX9_first 42 = .ok (.aload_n 0, 1) := dk_42 (dk_at dksX9_first_1 19 rfl rfl)
theorem dX9_first_43 : decode cX9_first 43 = .ok (.ldc 127, 2) := dk_18 127 (dk_at dksX9_first_1 20 rfl rfl)
theorem dX9_first_45 : decode cX9_first 45 = .ok (.iconst 0, 1) := dk_3 (dk_at dksX9_first_1 22 rfl rfl)
theorem dX9_first_46 : decode cX9_first 46 = .ok (.bipush 100, 2) := dk_16 100 (dk_at dksX9_first_2 0 rfl rfl)
theorem dX9_first_48 : decode cX9_first 48 = .ok (.invokevirtual 117, 3) := dk_182 0 117 (dk_at dksX9_first_2 2 rfl rfl)
theorem dX9_first_51 : decode cX9_first 51 = .ok (.putfield 129, 3) := dk_181 0 129 (dk_at dksX9_first_2 5 rfl rfl)
theorem dX9_first_54 : decode cX9_first 54 = .ok (.return_, 1) := dk_177 (dk_at dksX9_first_2 8 rfl rfl)
abbrev cX9_needs : ByteArray := prog_6_method_7_code
def yX9_needs : MethodName := ⟨RX9, "needs", "(Ljava/lang/String;)V"⟩
def dkwX9_needs_0 : List UInt8 := [42, 43, 182, 0, 100, 154, 0, 9, 42, 4, 182, 0, 103, 191, 177]
abbrev dktX9_needs_0 : List UInt8 := dkwX9_needs_0 ++ []
theorem dksX9_needs_0 : cX9_needs.data.toList.drop 0 = dktX9_needs_0 := by decide +kernel
theorem dX9_needs_0 : decode cX9_needs 0 = .ok (.aload_n 0, 1) := dk_42 (dk_at dksX9_needs_0 0 rfl rfl)
theorem dX9_needs_1 : decode cX9_needs 1 = .ok (.aload_n 1, 1) := dk_43 (dk_at dksX9_needs_0 1 rfl rfl)
theorem dX9_needs_2 : decode cX9_needs 2 = .ok (.invokevirtual 100, 3) := dk_182 0 100 (dk_at dksX9_needs_0 2 rfl rfl)
theorem dX9_needs_5 : decode cX9_needs 5 = .ok (.ifCond .ne 9, 3) := dk_154 0 9 (dk_at dksX9_needs_0 5 rfl rfl)
theorem dX9_needs_8 : decode cX9_needs 8 = .ok (.aload_n 0, 1) := dk_42 (dk_at dksX9_needs_0 8 rfl rfl)
theorem dX9_needs_9 : decode cX9_needs 9 = .ok (.iconst 1, 1) := dk_4 (dk_at dksX9_needs_0 9 rfl rfl)
theorem dX9_needs_10 : decode cX9_needs 10 = .ok (.invokevirtual 103, 3) := dk_182 0 103 (dk_at dksX9_needs_0 10 rfl rfl)
theorem dX9_needs_13 : decode cX9_needs 13 = .ok (.athrow, 1) := dk_191 (dk_at dksX9_needs_0 13 rfl rfl)
theorem dX9_needs_14 : decode cX9_needs 14 = .ok (.return_, 1) := dk_177 (dk_at dksX9_needs_0 14 rfl rfl)
abbrev cX9_takes : ByteArray := prog_6_method_6_code
def yX9_takes : MethodName := ⟨RX9, "takes", "(Ljava/lang/String;)Z"⟩
def dkwX9_takes_0 : List UInt8 := [42, 43, 182, 0, 96, 61, 28, 153, 0, 7, 42, 182, 0, 38, 28, 172]
abbrev dktX9_takes_0 : List UInt8 := dkwX9_takes_0 ++ []
theorem dksX9_takes_0 : cX9_takes.data.toList.drop 0 = dktX9_takes_0 := by decide +kernel
theorem dX9_takes_0 : decode cX9_takes 0 = .ok (.aload_n 0, 1) := dk_42 (dk_at dksX9_takes_0 0 rfl rfl)
theorem dX9_takes_1 : decode cX9_takes 1 = .ok (.aload_n 1, 1) := dk_43 (dk_at dksX9_takes_0 1 rfl rfl)
theorem dX9_takes_2 : decode cX9_takes 2 = .ok (.invokevirtual 96, 3) := dk_182 0 96 (dk_at dksX9_takes_0 2 rfl rfl)
theorem dX9_takes_5 : decode cX9_takes 5 = .ok (.istore_n 2, 1) := dk_61 (dk_at dksX9_takes_0 5 rfl rfl)
theorem dX9_takes_6 : decode cX9_takes 6 = .ok (.iload_n 2, 1) := dk_28 (dk_at dksX9_takes_0 6 rfl rfl)
theorem dX9_takes_7 : decode cX9_takes 7 = .ok (.ifCond .eq 7, 3) := dk_153 0 7 (dk_at dksX9_takes_0 7 rfl rfl)
theorem dX9_takes_10 : decode cX9_takes 10 = .ok (.aload_n 0, 1) := dk_42 (dk_at dksX9_takes_0 10 rfl rfl)
theorem dX9_takes_11 : decode cX9_takes 11 = .ok (.invokevirtual 38, 3) := dk_182 0 38 (dk_at dksX9_takes_0 11 rfl rfl)
theorem dX9_takes_14 : decode cX9_takes 14 = .ok (.iload_n 2, 1) := dk_28 (dk_at dksX9_takes_0 14 rfl rfl)
theorem dX9_takes_15 : decode cX9_takes 15 = .ok (.ireturn, 1) := dk_172 (dk_at dksX9_takes_0 15 rfl rfl)
abbrev cX9_is : ByteArray := prog_6_method_5_code
def yX9_is : MethodName := ⟨RX9, "is", "(Ljava/lang/String;)Z"⟩
def dkwX9_is_2 : List UInt8 := [180, 0, 52, 28, 96, 51, 43, 28, 182, 0, 92, 159, 0, 5, 3, 172, 132, 2, 1, 167, 255, 221, 4, 172]
abbrev dktX9_is_2 : List UInt8 := dkwX9_is_2 ++ []
def dkwX9_is_1 : List UInt8 := [159, 0, 5, 3, 172, 3, 61, 28, 43, 182, 0, 86, 162, 0, 33, 42, 180, 0, 3, 180, 0, 44, 42]
abbrev dktX9_is_1 : List UInt8 := dkwX9_is_1 ++ dktX9_is_2
def dkwX9_is_0 : List UInt8 := [42, 180, 0, 35, 178, 0, 59, 166, 0, 19, 42, 180, 0, 41, 42, 180, 0, 52, 100, 43, 182, 0, 86]
abbrev dktX9_is_0 : List UInt8 := dkwX9_is_0 ++ dktX9_is_1
theorem dksX9_is_0 : cX9_is.data.toList.drop 0 = dktX9_is_0 := by decide +kernel
theorem dksX9_is_1 : cX9_is.data.toList.drop 23 = dktX9_is_1 := dk_seg dksX9_is_0 23 rfl rfl
theorem dksX9_is_2 : cX9_is.data.toList.drop 46 = dktX9_is_2 := dk_seg dksX9_is_1 23 rfl rfl
theorem dX9_is_0 : decode cX9_is 0 = .ok (.aload_n 0, 1) := dk_42 (dk_at dksX9_is_0 0 rfl rfl)
theorem dX9_is_1 : decode cX9_is 1 = .ok (.getfield 35, 3) := dk_180 0 35 (dk_at dksX9_is_0 1 rfl rfl)
theorem dX9_is_4 : decode cX9_is 4 = .ok (.getstatic 59, 3) := dk_178 0 59 (dk_at dksX9_is_0 4 rfl rfl)
theorem dX9_is_7 : decode cX9_is 7 = .ok (.if_acmp .ne 19, 3) := dk_166 0 19 (dk_at dksX9_is_0 7 rfl rfl)
theorem dX9_is_10 : decode cX9_is 10 = .ok (.aload_n 0, 1) := dk_42 (dk_at dksX9_is_0 10 rfl rfl)
theorem dX9_is_11 : decode cX9_is 11 = .ok (.getfield 41, 3) := dk_180 0 41 (dk_at dksX9_is_0 11 rfl rfl)
theorem dX9_is_14 : decode cX9_is 14 = .ok (.aload_n 0, 1) := dk_42 (dk_at dksX9_is_0 14 rfl rfl)
theorem dX9_is_15 : decode cX9_is 15 = .ok (.getfield 52, 3) := dk_180 0 52 (dk_at dksX9_is_0 15 rfl rfl)
theorem dX9_is_18 : decode cX9_is 18 = .ok (.isub, 1) := dk_100 (dk_at dksX9_is_0 18 rfl rfl)
theorem dX9_is_19 : decode cX9_is 19 = .ok (.aload_n 1, 1) := dk_43 (dk_at dksX9_is_0 19 rfl rfl)
theorem dX9_is_20 : decode cX9_is 20 = .ok (.invokevirtual 86, 3) := dk_182 0 86 (dk_at dksX9_is_0 20 rfl rfl)
theorem dX9_is_23 : decode cX9_is 23 = .ok (.if_icmp .eq 5, 3) := dk_159 0 5 (dk_at dksX9_is_1 0 rfl rfl)
theorem dX9_is_26 : decode cX9_is 26 = .ok (.iconst 0, 1) := dk_3 (dk_at dksX9_is_1 3 rfl rfl)
theorem dX9_is_27 : decode cX9_is 27 = .ok (.ireturn, 1) := dk_172 (dk_at dksX9_is_1 4 rfl rfl)
theorem dX9_is_28 : decode cX9_is 28 = .ok (.iconst 0, 1) := dk_3 (dk_at dksX9_is_1 5 rfl rfl)
theorem dX9_is_29 : decode cX9_is 29 = .ok (.istore_n 2, 1) := dk_61 (dk_at dksX9_is_1 6 rfl rfl)
theorem dX9_is_30 : decode cX9_is 30 = .ok (.iload_n 2, 1) := dk_28 (dk_at dksX9_is_1 7 rfl rfl)
theorem dX9_is_31 : decode cX9_is 31 = .ok (.aload_n 1, 1) := dk_43 (dk_at dksX9_is_1 8 rfl rfl)
theorem dX9_is_32 : decode cX9_is 32 = .ok (.invokevirtual 86, 3) := dk_182 0 86 (dk_at dksX9_is_1 9 rfl rfl)
theorem dX9_is_35 : decode cX9_is 35 = .ok (.if_icmp .ge 33, 3) := dk_162 0 33 (dk_at dksX9_is_1 12 rfl rfl)
theorem dX9_is_38 : decode cX9_is 38 = .ok (.aload_n 0, 1) := dk_42 (dk_at dksX9_is_1 15 rfl rfl)
theorem dX9_is_39 : decode cX9_is 39 = .ok (.getfield 3, 3) := dk_180 0 3 (dk_at dksX9_is_1 16 rfl rfl)
theorem dX9_is_42 : decode cX9_is 42 = .ok (.getfield 44, 3) := dk_180 0 44 (dk_at dksX9_is_1 19 rfl rfl)
theorem dX9_is_45 : decode cX9_is 45 = .ok (.aload_n 0, 1) := dk_42 (dk_at dksX9_is_1 22 rfl rfl)
theorem dX9_is_46 : decode cX9_is 46 = .ok (.getfield 52, 3) := dk_180 0 52 (dk_at dksX9_is_2 0 rfl rfl)
theorem dX9_is_49 : decode cX9_is 49 = .ok (.iload_n 2, 1) := dk_28 (dk_at dksX9_is_2 3 rfl rfl)
theorem dX9_is_50 : decode cX9_is 50 = .ok (.iadd, 1) := dk_96 (dk_at dksX9_is_2 4 rfl rfl)
theorem dX9_is_51 : decode cX9_is 51 = .ok (.baload, 1) := dk_51 (dk_at dksX9_is_2 5 rfl rfl)
theorem dX9_is_52 : decode cX9_is 52 = .ok (.aload_n 1, 1) := dk_43 (dk_at dksX9_is_2 6 rfl rfl)
theorem dX9_is_53 : decode cX9_is 53 = .ok (.iload_n 2, 1) := dk_28 (dk_at dksX9_is_2 7 rfl rfl)
theorem dX9_is_54 : decode cX9_is 54 = .ok (.invokevirtual 92, 3) := dk_182 0 92 (dk_at dksX9_is_2 8 rfl rfl)
theorem dX9_is_57 : decode cX9_is 57 = .ok (.if_icmp .eq 5, 3) := dk_159 0 5 (dk_at dksX9_is_2 11 rfl rfl)
theorem dX9_is_60 : decode cX9_is 60 = .ok (.iconst 0, 1) := dk_3 (dk_at dksX9_is_2 14 rfl rfl)
theorem dX9_is_61 : decode cX9_is 61 = .ok (.ireturn, 1) := dk_172 (dk_at dksX9_is_2 15 rfl rfl)
theorem dX9_is_62 : decode cX9_is 62 = .ok (.iinc 2 1, 3) := dk_132 2 1 (dk_at dksX9_is_2 16 rfl rfl)
theorem dX9_is_65 : decode cX9_is 65 = .ok (.goto (-35), 3) := dk_167 255 221 (dk_at dksX9_is_2 19 rfl rfl)
theorem dX9_is_68 : decode cX9_is 68 = .ok (.iconst 1, 1) := dk_4 (dk_at dksX9_is_2 22 rfl rfl)
theorem dX9_is_69 : decode cX9_is 69 = .ok (.ireturn, 1) := dk_172 (dk_at dksX9_is_2 23 rfl rfl)
abbrev cX9_wrong : ByteArray := prog_6_method_4_code
def yX9_wrong : MethodName := ⟨RX9, "wrong", "(I)LOverHill$Fault;"⟩
def dkwX9_wrong_0 : List UInt8 := [187, 0, 81, 89, 27, 42, 180, 0, 52, 183, 0, 83, 176]
abbrev dktX9_wrong_0 : List UInt8 := dkwX9_wrong_0 ++ []
theorem dksX9_wrong_0 : cX9_wrong.data.toList.drop 0 = dktX9_wrong_0 := by decide +kernel
theorem dX9_wrong_0 : decode cX9_wrong 0 = .ok (.new 81, 3) := dk_187 0 81 (dk_at dksX9_wrong_0 0 rfl rfl)
theorem dX9_wrong_3 : decode cX9_wrong 3 = .ok (.dup, 1) := dk_89 (dk_at dksX9_wrong_0 3 rfl rfl)
theorem dX9_wrong_4 : decode cX9_wrong 4 = .ok (.iload_n 1, 1) := dk_27 (dk_at dksX9_wrong_0 4 rfl rfl)
theorem dX9_wrong_5 : decode cX9_wrong 5 = .ok (.aload_n 0, 1) := dk_42 (dk_at dksX9_wrong_0 5 rfl rfl)
theorem dX9_wrong_6 : decode cX9_wrong 6 = .ok (.getfield 52, 3) := dk_180 0 52 (dk_at dksX9_wrong_0 6 rfl rfl)
theorem dX9_wrong_9 : decode cX9_wrong 9 = .ok (.invokespecial 83, 3) := dk_183 0 83 (dk_at dksX9_wrong_0 9 rfl rfl)
theorem dX9_wrong_12 : decode cX9_wrong 12 = .ok (.areturn, 1) := dk_176 (dk_at dksX9_wrong_0 12 rfl rfl)
abbrev cX9_told : ByteArray := prog_6_method_9_code
def yX9_told : MethodName := ⟨RX9, "told", "(Ljava/lang/String;II)I"⟩
def dkwX9_told_0 : List UInt8 := [42, 43, 182, 0, 107, 42, 28, 29, 182, 0, 111, 172]
abbrev dktX9_told_0 : List UInt8 := dkwX9_told_0 ++ []
theorem dksX9_told_0 : cX9_told.data.toList.drop 0 = dktX9_told_0 := by decide +kernel
theorem dX9_told_0 : decode cX9_told 0 = .ok (.aload_n 0, 1) := dk_42 (dk_at dksX9_told_0 0 rfl rfl)
theorem dX9_told_1 : decode cX9_told 1 = .ok (.aload_n 1, 1) := dk_43 (dk_at dksX9_told_0 1 rfl rfl)
theorem dX9_told_2 : decode cX9_told 2 = .ok (.invokevirtual 107, 3) := dk_182 0 107 (dk_at dksX9_told_0 2 rfl rfl)
theorem dX9_told_5 : decode cX9_told 5 = .ok (.aload_n 0, 1) := dk_42 (dk_at dksX9_told_0 5 rfl rfl)
theorem dX9_told_6 : decode cX9_told 6 = .ok (.iload_n 2, 1) := dk_28 (dk_at dksX9_told_0 6 rfl rfl)
theorem dX9_told_7 : decode cX9_told 7 = .ok (.iload_n 3, 1) := dk_29 (dk_at dksX9_told_0 7 rfl rfl)
theorem dX9_told_8 : decode cX9_told 8 = .ok (.invokevirtual 111, 3) := dk_182 0 111 (dk_at dksX9_told_0 8 rfl rfl)
theorem dX9_told_11 : decode cX9_told 11 = .ok (.ireturn, 1) := dk_172 (dk_at dksX9_told_0 11 rfl rfl)
abbrev cX9_number : ByteArray := prog_6_method_8_code
def yX9_number : MethodName := ⟨RX9, "number", "(II)I"⟩
def dkwX9_number_1 : List UInt8 := [133, 184, 0, 48, 154, 0, 9, 42, 5, 182, 0, 103, 191, 42, 180, 0, 62, 62, 42, 182, 0, 38, 29, 172]
abbrev dktX9_number_1 : List UInt8 := dkwX9_number_1 ++ []
def dkwX9_number_0 : List UInt8 := [42, 180, 0, 35, 178, 0, 72, 165, 0, 9, 42, 4, 182, 0, 103, 191, 42, 180, 0, 62, 133, 27, 133, 28]
abbrev dktX9_number_0 : List UInt8 := dkwX9_number_0 ++ dktX9_number_1
theorem dksX9_number_0 : cX9_number.data.toList.drop 0 = dktX9_number_0 := by decide +kernel
theorem dksX9_number_1 : cX9_number.data.toList.drop 24 = dktX9_number_1 := dk_seg dksX9_number_0 24 rfl rfl
theorem dX9_number_0 : decode cX9_number 0 = .ok (.aload_n 0, 1) := dk_42 (dk_at dksX9_number_0 0 rfl rfl)
theorem dX9_number_1 : decode cX9_number 1 = .ok (.getfield 35, 3) := dk_180 0 35 (dk_at dksX9_number_0 1 rfl rfl)
theorem dX9_number_4 : decode cX9_number 4 = .ok (.getstatic 72, 3) := dk_178 0 72 (dk_at dksX9_number_0 4 rfl rfl)
theorem dX9_number_7 : decode cX9_number 7 = .ok (.if_acmp .eq 9, 3) := dk_165 0 9 (dk_at dksX9_number_0 7 rfl rfl)
theorem dX9_number_10 : decode cX9_number 10 = .ok (.aload_n 0, 1) := dk_42 (dk_at dksX9_number_0 10 rfl rfl)
theorem dX9_number_11 : decode cX9_number 11 = .ok (.iconst 1, 1) := dk_4 (dk_at dksX9_number_0 11 rfl rfl)
theorem dX9_number_12 : decode cX9_number 12 = .ok (.invokevirtual 103, 3) := dk_182 0 103 (dk_at dksX9_number_0 12 rfl rfl)
theorem dX9_number_15 : decode cX9_number 15 = .ok (.athrow, 1) := dk_191 (dk_at dksX9_number_0 15 rfl rfl)
theorem dX9_number_16 : decode cX9_number 16 = .ok (.aload_n 0, 1) := dk_42 (dk_at dksX9_number_0 16 rfl rfl)
theorem dX9_number_17 : decode cX9_number 17 = .ok (.getfield 62, 3) := dk_180 0 62 (dk_at dksX9_number_0 17 rfl rfl)
theorem dX9_number_20 : decode cX9_number 20 = .ok (.i2l, 1) := dk_133 (dk_at dksX9_number_0 20 rfl rfl)
theorem dX9_number_21 : decode cX9_number 21 = .ok (.iload_n 1, 1) := dk_27 (dk_at dksX9_number_0 21 rfl rfl)
theorem dX9_number_22 : decode cX9_number 22 = .ok (.i2l, 1) := dk_133 (dk_at dksX9_number_0 22 rfl rfl)
theorem dX9_number_23 : decode cX9_number 23 = .ok (.iload_n 2, 1) := dk_28 (dk_at dksX9_number_0 23 rfl rfl)
theorem dX9_number_24 : decode cX9_number 24 = .ok (.i2l, 1) := dk_133 (dk_at dksX9_number_1 0 rfl rfl)
theorem dX9_number_25 : decode cX9_number 25 = .ok (.invokestatic 48, 3) := dk_184 0 48 (dk_at dksX9_number_1 1 rfl rfl)
theorem dX9_number_28 : decode cX9_number 28 = .ok (.ifCond .ne 9, 3) := dk_154 0 9 (dk_at dksX9_number_1 4 rfl rfl)
theorem dX9_number_31 : decode cX9_number 31 = .ok (.aload_n 0, 1) := dk_42 (dk_at dksX9_number_1 7 rfl rfl)
theorem dX9_number_32 : decode cX9_number 32 = .ok (.iconst 2, 1) := dk_5 (dk_at dksX9_number_1 8 rfl rfl)
theorem dX9_number_33 : decode cX9_number 33 = .ok (.invokevirtual 103, 3) := dk_182 0 103 (dk_at dksX9_number_1 9 rfl rfl)
theorem dX9_number_36 : decode cX9_number 36 = .ok (.athrow, 1) := dk_191 (dk_at dksX9_number_1 12 rfl rfl)
theorem dX9_number_37 : decode cX9_number 37 = .ok (.aload_n 0, 1) := dk_42 (dk_at dksX9_number_1 13 rfl rfl)
theorem dX9_number_38 : decode cX9_number 38 = .ok (.getfield 62, 3) := dk_180 0 62 (dk_at dksX9_number_1 14 rfl rfl)
theorem dX9_number_41 : decode cX9_number 41 = .ok (.istore_n 3, 1) := dk_62 (dk_at dksX9_number_1 17 rfl rfl)
theorem dX9_number_42 : decode cX9_number 42 = .ok (.aload_n 0, 1) := dk_42 (dk_at dksX9_number_1 18 rfl rfl)
theorem dX9_number_43 : decode cX9_number 43 = .ok (.invokevirtual 38, 3) := dk_182 0 38 (dk_at dksX9_number_1 19 rfl rfl)
theorem dX9_number_46 : decode cX9_number 46 = .ok (.iload_n 3, 1) := dk_29 (dk_at dksX9_number_1 22 rfl rfl)
theorem dX9_number_47 : decode cX9_number 47 = .ok (.ireturn, 1) := dk_172 (dk_at dksX9_number_1 23 rfl rfl)
abbrev cX9_line : ByteArray := prog_6_method_19_code
def yX9_line : MethodName := ⟨RX9, "line", "()V"⟩
def dkwX9_line_6 : List UInt8 := [42, 182, 0, 218, 167, 0, 9, 42, 4, 182, 0, 103, 191, 177]
abbrev dktX9_line_6 : List UInt8 := dkwX9_line_6 ++ []
def dkwX9_line_5 : List UInt8 := [18, 217, 42, 180, 0, 25, 180, 0, 183, 8, 160, 0, 7, 4, 167, 0, 4, 3, 182, 0, 202, 153, 0, 10]
abbrev dktX9_line_5 : List UInt8 := dkwX9_line_5 ++ dktX9_line_6
def dkwX9_line_4 : List UInt8 := [16, 12, 160, 0, 7, 4, 167, 0, 4, 3, 182, 0, 202, 153, 0, 10, 42, 182, 0, 214, 167, 0, 41, 42]
abbrev dktX9_line_4 : List UInt8 := dkwX9_line_4 ++ dktX9_line_5
def dkwX9_line_3 : List UInt8 := [182, 0, 100, 153, 0, 10, 42, 182, 0, 209, 167, 0, 74, 42, 18, 212, 42, 180, 0, 25, 180, 0, 174]
abbrev dktX9_line_3 : List UInt8 := dkwX9_line_3 ++ dktX9_line_4
def dkwX9_line_2 : List UInt8 := [160, 0, 7, 4, 167, 0, 4, 3, 182, 0, 202, 153, 0, 10, 42, 182, 0, 205, 167, 0, 90, 42, 18, 208]
abbrev dktX9_line_2 : List UInt8 := dkwX9_line_2 ++ dktX9_line_3
def dkwX9_line_1 : List UInt8 := [153, 0, 10, 42, 182, 0, 197, 167, 0, 123, 42, 18, 200, 42, 180, 0, 25, 180, 0, 149, 16, 8]
abbrev dktX9_line_1 : List UInt8 := dkwX9_line_1 ++ dktX9_line_2
def dkwX9_line_0 : List UInt8 := [42, 18, 192, 182, 0, 100, 153, 0, 10, 42, 182, 0, 193, 167, 0, 139, 42, 18, 196, 182, 0, 100]
abbrev dktX9_line_0 : List UInt8 := dkwX9_line_0 ++ dktX9_line_1
theorem dksX9_line_0 : cX9_line.data.toList.drop 0 = dktX9_line_0 := by decide +kernel
theorem dksX9_line_1 : cX9_line.data.toList.drop 22 = dktX9_line_1 := dk_seg dksX9_line_0 22 rfl rfl
theorem dksX9_line_2 : cX9_line.data.toList.drop 44 = dktX9_line_2 := dk_seg dksX9_line_1 22 rfl rfl
theorem dksX9_line_3 : cX9_line.data.toList.drop 68 = dktX9_line_3 := dk_seg dksX9_line_2 24 rfl rfl
theorem dksX9_line_4 : cX9_line.data.toList.drop 91 = dktX9_line_4 := dk_seg dksX9_line_3 23 rfl rfl
theorem dksX9_line_5 : cX9_line.data.toList.drop 115 = dktX9_line_5 := dk_seg dksX9_line_4 24 rfl rfl
theorem dksX9_line_6 : cX9_line.data.toList.drop 139 = dktX9_line_6 := dk_seg dksX9_line_5 24 rfl rfl
theorem dX9_line_0 : decode cX9_line 0 = .ok (.aload_n 0, 1) := dk_42 (dk_at dksX9_line_0 0 rfl rfl)
theorem dX9_line_1 : decode cX9_line 1 = .ok (.ldc 192, 2) := dk_18 192 (dk_at dksX9_line_0 1 rfl rfl)
theorem dX9_line_3 : decode cX9_line 3 = .ok (.invokevirtual 100, 3) := dk_182 0 100 (dk_at dksX9_line_0 3 rfl rfl)
theorem dX9_line_6 : decode cX9_line 6 = .ok (.ifCond .eq 10, 3) := dk_153 0 10 (dk_at dksX9_line_0 6 rfl rfl)
theorem dX9_line_9 : decode cX9_line 9 = .ok (.aload_n 0, 1) := dk_42 (dk_at dksX9_line_0 9 rfl rfl)
theorem dX9_line_10 : decode cX9_line 10 = .ok (.invokevirtual 193, 3) := dk_182 0 193 (dk_at dksX9_line_0 10 rfl rfl)
theorem dX9_line_13 : decode cX9_line 13 = .ok (.goto 139, 3) := dk_167 0 139 (dk_at dksX9_line_0 13 rfl rfl)
theorem dX9_line_16 : decode cX9_line 16 = .ok (.aload_n 0, 1) := dk_42 (dk_at dksX9_line_0 16 rfl rfl)
theorem dX9_line_17 : decode cX9_line 17 = .ok (.ldc 196, 2) := dk_18 196 (dk_at dksX9_line_0 17 rfl rfl)
theorem dX9_line_19 : decode cX9_line 19 = .ok (.invokevirtual 100, 3) := dk_182 0 100 (dk_at dksX9_line_0 19 rfl rfl)
theorem dX9_line_22 : decode cX9_line 22 = .ok (.ifCond .eq 10, 3) := dk_153 0 10 (dk_at dksX9_line_1 0 rfl rfl)
theorem dX9_line_25 : decode cX9_line 25 = .ok (.aload_n 0, 1) := dk_42 (dk_at dksX9_line_1 3 rfl rfl)
theorem dX9_line_26 : decode cX9_line 26 = .ok (.invokevirtual 197, 3) := dk_182 0 197 (dk_at dksX9_line_1 4 rfl rfl)
theorem dX9_line_29 : decode cX9_line 29 = .ok (.goto 123, 3) := dk_167 0 123 (dk_at dksX9_line_1 7 rfl rfl)
theorem dX9_line_32 : decode cX9_line 32 = .ok (.aload_n 0, 1) := dk_42 (dk_at dksX9_line_1 10 rfl rfl)
theorem dX9_line_33 : decode cX9_line 33 = .ok (.ldc 200, 2) := dk_18 200 (dk_at dksX9_line_1 11 rfl rfl)
theorem dX9_line_35 : decode cX9_line 35 = .ok (.aload_n 0, 1) := dk_42 (dk_at dksX9_line_1 13 rfl rfl)
theorem dX9_line_36 : decode cX9_line 36 = .ok (.getfield 25, 3) := dk_180 0 25 (dk_at dksX9_line_1 14 rfl rfl)
theorem dX9_line_39 : decode cX9_line 39 = .ok (.getfield 149, 3) := dk_180 0 149 (dk_at dksX9_line_1 17 rfl rfl)
theorem dX9_line_42 : decode cX9_line 42 = .ok (.bipush 8, 2) := dk_16 8 (dk_at dksX9_line_1 20 rfl rfl)
theorem dX9_line_44 : decode cX9_line 44 = .ok (.if_icmp .ne 7, 3) := dk_160 0 7 (dk_at dksX9_line_2 0 rfl rfl)
theorem dX9_line_47 : decode cX9_line 47 = .ok (.iconst 1, 1) := dk_4 (dk_at dksX9_line_2 3 rfl rfl)
theorem dX9_line_48 : decode cX9_line 48 = .ok (.goto 4, 3) := dk_167 0 4 (dk_at dksX9_line_2 4 rfl rfl)
theorem dX9_line_51 : decode cX9_line 51 = .ok (.iconst 0, 1) := dk_3 (dk_at dksX9_line_2 7 rfl rfl)
theorem dX9_line_52 : decode cX9_line 52 = .ok (.invokevirtual 202, 3) := dk_182 0 202 (dk_at dksX9_line_2 8 rfl rfl)
theorem dX9_line_55 : decode cX9_line 55 = .ok (.ifCond .eq 10, 3) := dk_153 0 10 (dk_at dksX9_line_2 11 rfl rfl)
theorem dX9_line_58 : decode cX9_line 58 = .ok (.aload_n 0, 1) := dk_42 (dk_at dksX9_line_2 14 rfl rfl)
theorem dX9_line_59 : decode cX9_line 59 = .ok (.invokevirtual 205, 3) := dk_182 0 205 (dk_at dksX9_line_2 15 rfl rfl)
theorem dX9_line_62 : decode cX9_line 62 = .ok (.goto 90, 3) := dk_167 0 90 (dk_at dksX9_line_2 18 rfl rfl)
theorem dX9_line_65 : decode cX9_line 65 = .ok (.aload_n 0, 1) := dk_42 (dk_at dksX9_line_2 21 rfl rfl)
theorem dX9_line_66 : decode cX9_line 66 = .ok (.ldc 208, 2) := dk_18 208 (dk_at dksX9_line_2 22 rfl rfl)
theorem dX9_line_68 : decode cX9_line 68 = .ok (.invokevirtual 100, 3) := dk_182 0 100 (dk_at dksX9_line_3 0 rfl rfl)
theorem dX9_line_71 : decode cX9_line 71 = .ok (.ifCond .eq 10, 3) := dk_153 0 10 (dk_at dksX9_line_3 3 rfl rfl)
theorem dX9_line_74 : decode cX9_line 74 = .ok (.aload_n 0, 1) := dk_42 (dk_at dksX9_line_3 6 rfl rfl)
theorem dX9_line_75 : decode cX9_line 75 = .ok (.invokevirtual 209, 3) := dk_182 0 209 (dk_at dksX9_line_3 7 rfl rfl)
theorem dX9_line_78 : decode cX9_line 78 = .ok (.goto 74, 3) := dk_167 0 74 (dk_at dksX9_line_3 10 rfl rfl)
theorem dX9_line_81 : decode cX9_line 81 = .ok (.aload_n 0, 1) := dk_42 (dk_at dksX9_line_3 13 rfl rfl)
theorem dX9_line_82 : decode cX9_line 82 = .ok (.ldc 212, 2) := dk_18 212 (dk_at dksX9_line_3 14 rfl rfl)
theorem dX9_line_84 : decode cX9_line 84 = .ok (.aload_n 0, 1) := dk_42 (dk_at dksX9_line_3 16 rfl rfl)
theorem dX9_line_85 : decode cX9_line 85 = .ok (.getfield 25, 3) := dk_180 0 25 (dk_at dksX9_line_3 17 rfl rfl)
theorem dX9_line_88 : decode cX9_line 88 = .ok (.getfield 174, 3) := dk_180 0 174 (dk_at dksX9_line_3 20 rfl rfl)
theorem dX9_line_91 : decode cX9_line 91 = .ok (.bipush 12, 2) := dk_16 12 (dk_at dksX9_line_4 0 rfl rfl)
theorem dX9_line_93 : decode cX9_line 93 = .ok (.if_icmp .ne 7, 3) := dk_160 0 7 (dk_at dksX9_line_4 2 rfl rfl)
theorem dX9_line_96 : decode cX9_line 96 = .ok (.iconst 1, 1) := dk_4 (dk_at dksX9_line_4 5 rfl rfl)
theorem dX9_line_97 : decode cX9_line 97 = .ok (.goto 4, 3) := dk_167 0 4 (dk_at dksX9_line_4 6 rfl rfl)
theorem dX9_line_100 : decode cX9_line 100 = .ok (.iconst 0, 1) := dk_3 (dk_at dksX9_line_4 9 rfl rfl)
theorem dX9_line_101 : decode cX9_line 101 = .ok (.invokevirtual 202, 3) := dk_182 0 202 (dk_at dksX9_line_4 10 rfl rfl)
theorem dX9_line_104 : decode cX9_line 104 = .ok (.ifCond .eq 10, 3) := dk_153 0 10 (dk_at dksX9_line_4 13 rfl rfl)
theorem dX9_line_107 : decode cX9_line 107 = .ok (.aload_n 0, 1) := dk_42 (dk_at dksX9_line_4 16 rfl rfl)
theorem dX9_line_108 : decode cX9_line 108 = .ok (.invokevirtual 214, 3) := dk_182 0 214 (dk_at dksX9_line_4 17 rfl rfl)
theorem dX9_line_111 : decode cX9_line 111 = .ok (.goto 41, 3) := dk_167 0 41 (dk_at dksX9_line_4 20 rfl rfl)
theorem dX9_line_114 : decode cX9_line 114 = .ok (.aload_n 0, 1) := dk_42 (dk_at dksX9_line_4 23 rfl rfl)
theorem dX9_line_115 : decode cX9_line 115 = .ok (.ldc 217, 2) := dk_18 217 (dk_at dksX9_line_5 0 rfl rfl)
theorem dX9_line_117 : decode cX9_line 117 = .ok (.aload_n 0, 1) := dk_42 (dk_at dksX9_line_5 2 rfl rfl)
theorem dX9_line_118 : decode cX9_line 118 = .ok (.getfield 25, 3) := dk_180 0 25 (dk_at dksX9_line_5 3 rfl rfl)
theorem dX9_line_121 : decode cX9_line 121 = .ok (.getfield 183, 3) := dk_180 0 183 (dk_at dksX9_line_5 6 rfl rfl)
theorem dX9_line_124 : decode cX9_line 124 = .ok (.iconst 5, 1) := dk_8 (dk_at dksX9_line_5 9 rfl rfl)
theorem dX9_line_125 : decode cX9_line 125 = .ok (.if_icmp .ne 7, 3) := dk_160 0 7 (dk_at dksX9_line_5 10 rfl rfl)
theorem dX9_line_128 : decode cX9_line 128 = .ok (.iconst 1, 1) := dk_4 (dk_at dksX9_line_5 13 rfl rfl)
theorem dX9_line_129 : decode cX9_line 129 = .ok (.goto 4, 3) := dk_167 0 4 (dk_at dksX9_line_5 14 rfl rfl)
theorem dX9_line_132 : decode cX9_line 132 = .ok (.iconst 0, 1) := dk_3 (dk_at dksX9_line_5 17 rfl rfl)
theorem dX9_line_133 : decode cX9_line 133 = .ok (.invokevirtual 202, 3) := dk_182 0 202 (dk_at dksX9_line_5 18 rfl rfl)
theorem dX9_line_136 : decode cX9_line 136 = .ok (.ifCond .eq 10, 3) := dk_153 0 10 (dk_at dksX9_line_5 21 rfl rfl)
theorem dX9_line_139 : decode cX9_line 139 = .ok (.aload_n 0, 1) := dk_42 (dk_at dksX9_line_6 0 rfl rfl)
theorem dX9_line_140 : decode cX9_line 140 = .ok (.invokevirtual 218, 3) := dk_182 0 218 (dk_at dksX9_line_6 1 rfl rfl)
theorem dX9_line_143 : decode cX9_line 143 = .ok (.goto 9, 3) := dk_167 0 9 (dk_at dksX9_line_6 4 rfl rfl)
theorem dX9_line_146 : decode cX9_line 146 = .ok (.aload_n 0, 1) := dk_42 (dk_at dksX9_line_6 7 rfl rfl)
theorem dX9_line_147 : decode cX9_line 147 = .ok (.iconst 1, 1) := dk_4 (dk_at dksX9_line_6 8 rfl rfl)
theorem dX9_line_148 : decode cX9_line 148 = .ok (.invokevirtual 103, 3) := dk_182 0 103 (dk_at dksX9_line_6 9 rfl rfl)
theorem dX9_line_151 : decode cX9_line 151 = .ok (.athrow, 1) := dk_191 (dk_at dksX9_line_6 12 rfl rfl)
theorem dX9_line_152 : decode cX9_line 152 = .ok (.return_, 1) := dk_177 (dk_at dksX9_line_6 13 rfl rfl)
abbrev cX9_newRound : ByteArray := prog_6_method_12_code
def yX9_newRound : MethodName := ⟨RX9, "newRound", "()V"⟩
def dkwX9_newRound_4 : List UInt8 := [180, 0, 144, 27, 42, 18, 140, 3, 28, 4, 100, 182, 0, 117, 79, 177]
abbrev dktX9_newRound_4 : List UInt8 := dkwX9_newRound_4 ++ []
def dkwX9_newRound_3 : List UInt8 := [18, 140, 182, 0, 96, 153, 255, 196, 42, 180, 0, 25, 180, 0, 142, 27, 28, 79, 42, 180, 0, 25]
abbrev dktX9_newRound_3 : List UInt8 := dkwX9_newRound_3 ++ dktX9_newRound_4
def dkwX9_newRound_2 : List UInt8 := [42, 182, 0, 133, 62, 42, 180, 0, 25, 180, 0, 136, 16, 12, 27, 104, 28, 96, 29, 79, 132, 2, 1, 42]
abbrev dktX9_newRound_2 : List UInt8 := dkwX9_newRound_2 ++ dktX9_newRound_3
def dkwX9_newRound_1 : List UInt8 := [180, 0, 35, 178, 0, 72, 166, 0, 18, 42, 180, 0, 62, 16, 6, 162, 0, 9, 42, 6, 182, 0, 103, 191]
abbrev dktX9_newRound_1 : List UInt8 := dkwX9_newRound_1 ++ dktX9_newRound_2
def dkwX9_newRound_0 : List UInt8 := [42, 3, 4, 182, 0, 111, 60, 42, 18, 131, 182, 0, 107, 3, 61, 28, 16, 12, 160, 0, 28, 42]
abbrev dktX9_newRound_0 : List UInt8 := dkwX9_newRound_0 ++ dktX9_newRound_1
theorem dksX9_newRound_0 : cX9_newRound.data.toList.drop 0 = dktX9_newRound_0 := by decide +kernel
theorem dksX9_newRound_1 : cX9_newRound.data.toList.drop 22 = dktX9_newRound_1 := dk_seg dksX9_newRound_0 22 rfl rfl
theorem dksX9_newRound_2 : cX9_newRound.data.toList.drop 46 = dktX9_newRound_2 := dk_seg dksX9_newRound_1 24 rfl rfl
theorem dksX9_newRound_3 : cX9_newRound.data.toList.drop 70 = dktX9_newRound_3 := dk_seg dksX9_newRound_2 24 rfl rfl
theorem dksX9_newRound_4 : cX9_newRound.data.toList.drop 92 = dktX9_newRound_4 := dk_seg dksX9_newRound_3 22 rfl rfl
theorem dX9_newRound_0 : decode cX9_newRound 0 = .ok (.aload_n 0, 1) := dk_42 (dk_at dksX9_newRound_0 0 rfl rfl)
theorem dX9_newRound_1 : decode cX9_newRound 1 = .ok (.iconst 0, 1) := dk_3 (dk_at dksX9_newRound_0 1 rfl rfl)
theorem dX9_newRound_2 : decode cX9_newRound 2 = .ok (.iconst 1, 1) := dk_4 (dk_at dksX9_newRound_0 2 rfl rfl)
theorem dX9_newRound_3 : decode cX9_newRound 3 = .ok (.invokevirtual 111, 3) := dk_182 0 111 (dk_at dksX9_newRound_0 3 rfl rfl)
theorem dX9_newRound_6 : decode cX9_newRound 6 = .ok (.istore_n 1, 1) := dk_60 (dk_at dksX9_newRound_0 6 rfl rfl)
theorem dX9_newRound_7 : decode cX9_newRound 7 = .ok (.aload_n 0, 1) := dk_42 (dk_at dksX9_newRound_0 7 rfl rfl)
theorem dX9_newRound_8 : decode cX9_newRound 8 = .ok (.ldc 131, 2) := dk_18 131 (dk_at dksX9_newRound_0 8 rfl rfl)
theorem dX9_newRound_10 : decode cX9_newRound 10 = .ok (.invokevirtual 107, 3) := dk_182 0 107 (dk_at dksX9_newRound_0 10 rfl rfl)
theorem dX9_newRound_13 : decode cX9_newRound 13 = .ok (.iconst 0, 1) := dk_3 (dk_at dksX9_newRound_0 13 rfl rfl)
theorem dX9_newRound_14 : decode cX9_newRound 14 = .ok (.istore_n 2, 1) := dk_61 (dk_at dksX9_newRound_0 14 rfl rfl)
theorem dX9_newRound_15 : decode cX9_newRound 15 = .ok (.iload_n 2, 1) := dk_28 (dk_at dksX9_newRound_0 15 rfl rfl)
theorem dX9_newRound_16 : decode cX9_newRound 16 = .ok (.bipush 12, 2) := dk_16 12 (dk_at dksX9_newRound_0 16 rfl rfl)
theorem dX9_newRound_18 : decode cX9_newRound 18 = .ok (.if_icmp .ne 28, 3) := dk_160 0 28 (dk_at dksX9_newRound_0 18 rfl rfl)
theorem dX9_newRound_21 : decode cX9_newRound 21 = .ok (.aload_n 0, 1) := dk_42 (dk_at dksX9_newRound_0 21 rfl rfl)
theorem dX9_newRound_22 : decode cX9_newRound 22 = .ok (.getfield 35, 3) := dk_180 0 35 (dk_at dksX9_newRound_1 0 rfl rfl)
theorem dX9_newRound_25 : decode cX9_newRound 25 = .ok (.getstatic 72, 3) := dk_178 0 72 (dk_at dksX9_newRound_1 3 rfl rfl)
theorem dX9_newRound_28 : decode cX9_newRound 28 = .ok (.if_acmp .ne 18, 3) := dk_166 0 18 (dk_at dksX9_newRound_1 6 rfl rfl)
theorem dX9_newRound_31 : decode cX9_newRound 31 = .ok (.aload_n 0, 1) := dk_42 (dk_at dksX9_newRound_1 9 rfl rfl)
theorem dX9_newRound_32 : decode cX9_newRound 32 = .ok (.getfield 62, 3) := dk_180 0 62 (dk_at dksX9_newRound_1 10 rfl rfl)
theorem dX9_newRound_35 : decode cX9_newRound 35 = .ok (.bipush 6, 2) := dk_16 6 (dk_at dksX9_newRound_1 13 rfl rfl)
theorem dX9_newRound_37 : decode cX9_newRound 37 = .ok (.if_icmp .ge 9, 3) := dk_162 0 9 (dk_at dksX9_newRound_1 15 rfl rfl)
theorem dX9_newRound_40 : decode cX9_newRound 40 = .ok (.aload_n 0, 1) := dk_42 (dk_at dksX9_newRound_1 18 rfl rfl)
theorem dX9_newRound_41 : decode cX9_newRound 41 = .ok (.iconst 3, 1) := dk_6 (dk_at dksX9_newRound_1 19 rfl rfl)
theorem dX9_newRound_42 : decode cX9_newRound 42 = .ok (.invokevirtual 103, 3) := dk_182 0 103 (dk_at dksX9_newRound_1 20 rfl rfl)
theorem dX9_newRound_45 : decode cX9_newRound 45 = .ok (.athrow, 1) := dk_191 (dk_at dksX9_newRound_1 23 rfl rfl)
theorem dX9_newRound_46 : decode cX9_newRound 46 = .ok (.aload_n 0, 1) := dk_42 (dk_at dksX9_newRound_2 0 rfl rfl)
theorem dX9_newRound_47 : decode cX9_newRound 47 = .ok (.invokevirtual 133, 3) := dk_182 0 133 (dk_at dksX9_newRound_2 1 rfl rfl)
theorem dX9_newRound_50 : decode cX9_newRound 50 = .ok (.istore_n 3, 1) := dk_62 (dk_at dksX9_newRound_2 4 rfl rfl)
theorem dX9_newRound_51 : decode cX9_newRound 51 = .ok (.aload_n 0, 1) := dk_42 (dk_at dksX9_newRound_2 5 rfl rfl)
theorem dX9_newRound_52 : decode cX9_newRound 52 = .ok (.getfield 25, 3) := dk_180 0 25 (dk_at dksX9_newRound_2 6 rfl rfl)
theorem dX9_newRound_55 : decode cX9_newRound 55 = .ok (.getfield 136, 3) := dk_180 0 136 (dk_at dksX9_newRound_2 9 rfl rfl)
theorem dX9_newRound_58 : decode cX9_newRound 58 = .ok (.bipush 12, 2) := dk_16 12 (dk_at dksX9_newRound_2 12 rfl rfl)
theorem dX9_newRound_60 : decode cX9_newRound 60 = .ok (.iload_n 1, 1) := dk_27 (dk_at dksX9_newRound_2 14 rfl rfl)
theorem dX9_newRound_61 : decode cX9_newRound 61 = .ok (.imul, 1) := dk_104 (dk_at dksX9_newRound_2 15 rfl rfl)
theorem dX9_newRound_62 : decode cX9_newRound 62 = .ok (.iload_n 2, 1) := dk_28 (dk_at dksX9_newRound_2 16 rfl rfl)
theorem dX9_newRound_63 : decode cX9_newRound 63 = .ok (.iadd, 1) := dk_96 (dk_at dksX9_newRound_2 17 rfl rfl)
theorem dX9_newRound_64 : decode cX9_newRound 64 = .ok (.iload_n 3, 1) := dk_29 (dk_at dksX9_newRound_2 18 rfl rfl)
theorem dX9_newRound_65 : decode cX9_newRound 65 = .ok (.iastore, 1) := dk_79 (dk_at dksX9_newRound_2 19 rfl rfl)
theorem dX9_newRound_66 : decode cX9_newRound 66 = .ok (.iinc 2 1, 3) := dk_132 2 1 (dk_at dksX9_newRound_2 20 rfl rfl)
theorem dX9_newRound_69 : decode cX9_newRound 69 = .ok (.aload_n 0, 1) := dk_42 (dk_at dksX9_newRound_2 23 rfl rfl)
theorem dX9_newRound_70 : decode cX9_newRound 70 = .ok (.ldc 140, 2) := dk_18 140 (dk_at dksX9_newRound_3 0 rfl rfl)
theorem dX9_newRound_72 : decode cX9_newRound 72 = .ok (.invokevirtual 96, 3) := dk_182 0 96 (dk_at dksX9_newRound_3 2 rfl rfl)
theorem dX9_newRound_75 : decode cX9_newRound 75 = .ok (.ifCond .eq (-60), 3) := dk_153 255 196 (dk_at dksX9_newRound_3 5 rfl rfl)
theorem dX9_newRound_78 : decode cX9_newRound 78 = .ok (.aload_n 0, 1) := dk_42 (dk_at dksX9_newRound_3 8 rfl rfl)
theorem dX9_newRound_79 : decode cX9_newRound 79 = .ok (.getfield 25, 3) := dk_180 0 25 (dk_at dksX9_newRound_3 9 rfl rfl)
theorem dX9_newRound_82 : decode cX9_newRound 82 = .ok (.getfield 142, 3) := dk_180 0 142 (dk_at dksX9_newRound_3 12 rfl rfl)
theorem dX9_newRound_85 : decode cX9_newRound 85 = .ok (.iload_n 1, 1) := dk_27 (dk_at dksX9_newRound_3 15 rfl rfl)
theorem dX9_newRound_86 : decode cX9_newRound 86 = .ok (.iload_n 2, 1) := dk_28 (dk_at dksX9_newRound_3 16 rfl rfl)
theorem dX9_newRound_87 : decode cX9_newRound 87 = .ok (.iastore, 1) := dk_79 (dk_at dksX9_newRound_3 17 rfl rfl)
theorem dX9_newRound_88 : decode cX9_newRound 88 = .ok (.aload_n 0, 1) := dk_42 (dk_at dksX9_newRound_3 18 rfl rfl)
theorem dX9_newRound_89 : decode cX9_newRound 89 = .ok (.getfield 25, 3) := dk_180 0 25 (dk_at dksX9_newRound_3 19 rfl rfl)
theorem dX9_newRound_92 : decode cX9_newRound 92 = .ok (.getfield 144, 3) := dk_180 0 144 (dk_at dksX9_newRound_4 0 rfl rfl)
theorem dX9_newRound_95 : decode cX9_newRound 95 = .ok (.iload_n 1, 1) := dk_27 (dk_at dksX9_newRound_4 3 rfl rfl)
theorem dX9_newRound_96 : decode cX9_newRound 96 = .ok (.aload_n 0, 1) := dk_42 (dk_at dksX9_newRound_4 4 rfl rfl)
theorem dX9_newRound_97 : decode cX9_newRound 97 = .ok (.ldc 140, 2) := dk_18 140 (dk_at dksX9_newRound_4 5 rfl rfl)
theorem dX9_newRound_99 : decode cX9_newRound 99 = .ok (.iconst 0, 1) := dk_3 (dk_at dksX9_newRound_4 7 rfl rfl)
theorem dX9_newRound_100 : decode cX9_newRound 100 = .ok (.iload_n 2, 1) := dk_28 (dk_at dksX9_newRound_4 8 rfl rfl)
theorem dX9_newRound_101 : decode cX9_newRound 101 = .ok (.iconst 1, 1) := dk_4 (dk_at dksX9_newRound_4 9 rfl rfl)
theorem dX9_newRound_102 : decode cX9_newRound 102 = .ok (.isub, 1) := dk_100 (dk_at dksX9_newRound_4 10 rfl rfl)
theorem dX9_newRound_103 : decode cX9_newRound 103 = .ok (.invokevirtual 117, 3) := dk_182 0 117 (dk_at dksX9_newRound_4 11 rfl rfl)
theorem dX9_newRound_106 : decode cX9_newRound 106 = .ok (.iastore, 1) := dk_79 (dk_at dksX9_newRound_4 14 rfl rfl)
theorem dX9_newRound_107 : decode cX9_newRound 107 = .ok (.return_, 1) := dk_177 (dk_at dksX9_newRound_4 15 rfl rfl)
abbrev cX9_step : ByteArray := prog_6_method_10_code
def yX9_step : MethodName := ⟨RX9, "step", "()I"⟩
def dkwX9_step_0 : List UInt8 := [42, 3, 8, 182, 0, 111, 172]
abbrev dktX9_step_0 : List UInt8 := dkwX9_step_0 ++ []
theorem dksX9_step_0 : cX9_step.data.toList.drop 0 = dktX9_step_0 := by decide +kernel
theorem dX9_step_0 : decode cX9_step 0 = .ok (.aload_n 0, 1) := dk_42 (dk_at dksX9_step_0 0 rfl rfl)
theorem dX9_step_1 : decode cX9_step 1 = .ok (.iconst 0, 1) := dk_3 (dk_at dksX9_step_0 1 rfl rfl)
theorem dX9_step_2 : decode cX9_step 2 = .ok (.iconst 5, 1) := dk_8 (dk_at dksX9_step_0 2 rfl rfl)
theorem dX9_step_3 : decode cX9_step 3 = .ok (.invokevirtual 111, 3) := dk_182 0 111 (dk_at dksX9_step_0 3 rfl rfl)
theorem dX9_step_6 : decode cX9_step 6 = .ok (.ireturn, 1) := dk_172 (dk_at dksX9_step_0 6 rfl rfl)
abbrev cX9_newAnswers : ByteArray := prog_6_method_13_code
def yX9_newAnswers : MethodName := ⟨RX9, "newAnswers", "()V"⟩
def dkwX9_newAnswers_1 : List UInt8 := [128, 61, 167, 255, 237, 42, 180, 0, 25, 180, 0, 146, 27, 28, 79, 177]
abbrev dktX9_newAnswers_1 : List UInt8 := dkwX9_newAnswers_1 ++ []
def dkwX9_newAnswers_0 : List UInt8 := [42, 182, 0, 133, 60, 3, 61, 42, 180, 0, 35, 178, 0, 75, 165, 0, 15, 28, 4, 42, 182, 0, 133, 120]
abbrev dktX9_newAnswers_0 : List UInt8 := dkwX9_newAnswers_0 ++ dktX9_newAnswers_1
theorem dksX9_newAnswers_0 : cX9_newAnswers.data.toList.drop 0 = dktX9_newAnswers_0 := by decide +kernel
theorem dksX9_newAnswers_1 : cX9_newAnswers.data.toList.drop 24 = dktX9_newAnswers_1 := dk_seg dksX9_newAnswers_0 24 rfl rfl
theorem dX9_newAnswers_0 : decode cX9_newAnswers 0 = .ok (.aload_n 0, 1) := dk_42 (dk_at dksX9_newAnswers_0 0 rfl rfl)
theorem dX9_newAnswers_1 : decode cX9_newAnswers 1 = .ok (.invokevirtual 133, 3) := dk_182 0 133 (dk_at dksX9_newAnswers_0 1 rfl rfl)
theorem dX9_newAnswers_4 : decode cX9_newAnswers 4 = .ok (.istore_n 1, 1) := dk_60 (dk_at dksX9_newAnswers_0 4 rfl rfl)
theorem dX9_newAnswers_5 : decode cX9_newAnswers 5 = .ok (.iconst 0, 1) := dk_3 (dk_at dksX9_newAnswers_0 5 rfl rfl)
theorem dX9_newAnswers_6 : decode cX9_newAnswers 6 = .ok (.istore_n 2, 1) := dk_61 (dk_at dksX9_newAnswers_0 6 rfl rfl)
theorem dX9_newAnswers_7 : decode cX9_newAnswers 7 = .ok (.aload_n 0, 1) := dk_42 (dk_at dksX9_newAnswers_0 7 rfl rfl)
theorem dX9_newAnswers_8 : decode cX9_newAnswers 8 = .ok (.getfield 35, 3) := dk_180 0 35 (dk_at dksX9_newAnswers_0 8 rfl rfl)
theorem dX9_newAnswers_11 : decode cX9_newAnswers 11 = .ok (.getstatic 75, 3) := dk_178 0 75 (dk_at dksX9_newAnswers_0 11 rfl rfl)
theorem dX9_newAnswers_14 : decode cX9_newAnswers 14 = .ok (.if_acmp .eq 15, 3) := dk_165 0 15 (dk_at dksX9_newAnswers_0 14 rfl rfl)
theorem dX9_newAnswers_17 : decode cX9_newAnswers 17 = .ok (.iload_n 2, 1) := dk_28 (dk_at dksX9_newAnswers_0 17 rfl rfl)
theorem dX9_newAnswers_18 : decode cX9_newAnswers 18 = .ok (.iconst 1, 1) := dk_4 (dk_at dksX9_newAnswers_0 18 rfl rfl)
theorem dX9_newAnswers_19 : decode cX9_newAnswers 19 = .ok (.aload_n 0, 1) := dk_42 (dk_at dksX9_newAnswers_0 19 rfl rfl)
theorem dX9_newAnswers_20 : decode cX9_newAnswers 20 = .ok (.invokevirtual 133, 3) := dk_182 0 133 (dk_at dksX9_newAnswers_0 20 rfl rfl)
theorem dX9_newAnswers_23 : decode cX9_newAnswers 23 = .ok (.ishl, 1) := dk_120 (dk_at dksX9_newAnswers_0 23 rfl rfl)
theorem dX9_newAnswers_24 : decode cX9_newAnswers 24 = .ok (.ior, 1) := dk_128 (dk_at dksX9_newAnswers_1 0 rfl rfl)
theorem dX9_newAnswers_25 : decode cX9_newAnswers 25 = .ok (.istore_n 2, 1) := dk_61 (dk_at dksX9_newAnswers_1 1 rfl rfl)
theorem dX9_newAnswers_26 : decode cX9_newAnswers 26 = .ok (.goto (-19), 3) := dk_167 255 237 (dk_at dksX9_newAnswers_1 2 rfl rfl)
theorem dX9_newAnswers_29 : decode cX9_newAnswers 29 = .ok (.aload_n 0, 1) := dk_42 (dk_at dksX9_newAnswers_1 5 rfl rfl)
theorem dX9_newAnswers_30 : decode cX9_newAnswers 30 = .ok (.getfield 25, 3) := dk_180 0 25 (dk_at dksX9_newAnswers_1 6 rfl rfl)
theorem dX9_newAnswers_33 : decode cX9_newAnswers 33 = .ok (.getfield 146, 3) := dk_180 0 146 (dk_at dksX9_newAnswers_1 9 rfl rfl)
theorem dX9_newAnswers_36 : decode cX9_newAnswers 36 = .ok (.iload_n 1, 1) := dk_27 (dk_at dksX9_newAnswers_1 12 rfl rfl)
theorem dX9_newAnswers_37 : decode cX9_newAnswers 37 = .ok (.iload_n 2, 1) := dk_28 (dk_at dksX9_newAnswers_1 13 rfl rfl)
theorem dX9_newAnswers_38 : decode cX9_newAnswers 38 = .ok (.iastore, 1) := dk_79 (dk_at dksX9_newAnswers_1 14 rfl rfl)
theorem dX9_newAnswers_39 : decode cX9_newAnswers 39 = .ok (.return_, 1) := dk_177 (dk_at dksX9_newAnswers_1 15 rfl rfl)
abbrev cX9_takes_2 : ByteArray := prog_6_method_18_code
def yX9_takes_2 : MethodName := ⟨RX9, "takes", "(Ljava/lang/String;Z)Z"⟩
def dkwX9_takes_2_0 : List UInt8 := [42, 43, 182, 0, 96, 153, 0, 13, 28, 153, 0, 9, 42, 6, 182, 0, 103, 191, 42, 43, 182, 0, 100, 172]
abbrev dktX9_takes_2_0 : List UInt8 := dkwX9_takes_2_0 ++ []
theorem dksX9_takes_2_0 : cX9_takes_2.data.toList.drop 0 = dktX9_takes_2_0 := by decide +kernel
theorem dX9_takes_2_0 : decode cX9_takes_2 0 = .ok (.aload_n 0, 1) := dk_42 (dk_at dksX9_takes_2_0 0 rfl rfl)
theorem dX9_takes_2_1 : decode cX9_takes_2 1 = .ok (.aload_n 1, 1) := dk_43 (dk_at dksX9_takes_2_0 1 rfl rfl)
theorem dX9_takes_2_2 : decode cX9_takes_2 2 = .ok (.invokevirtual 96, 3) := dk_182 0 96 (dk_at dksX9_takes_2_0 2 rfl rfl)
theorem dX9_takes_2_5 : decode cX9_takes_2 5 = .ok (.ifCond .eq 13, 3) := dk_153 0 13 (dk_at dksX9_takes_2_0 5 rfl rfl)
theorem dX9_takes_2_8 : decode cX9_takes_2 8 = .ok (.iload_n 2, 1) := dk_28 (dk_at dksX9_takes_2_0 8 rfl rfl)
theorem dX9_takes_2_9 : decode cX9_takes_2 9 = .ok (.ifCond .eq 9, 3) := dk_153 0 9 (dk_at dksX9_takes_2_0 9 rfl rfl)
theorem dX9_takes_2_12 : decode cX9_takes_2 12 = .ok (.aload_n 0, 1) := dk_42 (dk_at dksX9_takes_2_0 12 rfl rfl)
theorem dX9_takes_2_13 : decode cX9_takes_2 13 = .ok (.iconst 3, 1) := dk_6 (dk_at dksX9_takes_2_0 13 rfl rfl)
theorem dX9_takes_2_14 : decode cX9_takes_2 14 = .ok (.invokevirtual 103, 3) := dk_182 0 103 (dk_at dksX9_takes_2_0 14 rfl rfl)
theorem dX9_takes_2_17 : decode cX9_takes_2 17 = .ok (.athrow, 1) := dk_191 (dk_at dksX9_takes_2_0 17 rfl rfl)
theorem dX9_takes_2_18 : decode cX9_takes_2 18 = .ok (.aload_n 0, 1) := dk_42 (dk_at dksX9_takes_2_0 18 rfl rfl)
theorem dX9_takes_2_19 : decode cX9_takes_2 19 = .ok (.aload_n 1, 1) := dk_43 (dk_at dksX9_takes_2_0 19 rfl rfl)
theorem dX9_takes_2_20 : decode cX9_takes_2 20 = .ok (.invokevirtual 100, 3) := dk_182 0 100 (dk_at dksX9_takes_2_0 20 rfl rfl)
theorem dX9_takes_2_23 : decode cX9_takes_2 23 = .ok (.ireturn, 1) := dk_172 (dk_at dksX9_takes_2_0 23 rfl rfl)
abbrev cX9_newStumble : ByteArray := prog_6_method_14_code
def yX9_newStumble : MethodName := ⟨RX9, "newStumble", "()V"⟩
def dkwX9_newStumble_5 : List UInt8 := [182, 0, 117, 79, 42, 180, 0, 25, 89, 180, 0, 149, 4, 96, 181, 0, 149, 177]
abbrev dktX9_newStumble_5 : List UInt8 := dkwX9_newStumble_5 ++ []
def dkwX9_newStumble_4 : List UInt8 := [42, 18, 165, 3, 8, 182, 0, 117, 79, 42, 180, 0, 25, 180, 0, 166, 27, 42, 18, 169, 3, 16, 9]
abbrev dktX9_newStumble_4 : List UInt8 := dkwX9_newStumble_4 ++ dktX9_newStumble_5
def dkwX9_newStumble_3 : List UInt8 := [180, 0, 25, 180, 0, 159, 27, 42, 3, 17, 0, 199, 182, 0, 111, 79, 42, 180, 0, 25, 180, 0, 162, 27]
abbrev dktX9_newStumble_3 : List UInt8 := dkwX9_newStumble_3 ++ dktX9_newStumble_4
def dkwX9_newStumble_2 : List UInt8 := [180, 0, 152, 27, 46, 42, 180, 0, 62, 182, 0, 156, 2, 159, 0, 9, 42, 5, 182, 0, 103, 191, 42]
abbrev dktX9_newStumble_2 : List UInt8 := dkwX9_newStumble_2 ++ dktX9_newStumble_3
def dkwX9_newStumble_1 : List UInt8 := [18, 155, 182, 0, 107, 42, 180, 0, 35, 178, 0, 72, 166, 0, 33, 42, 180, 0, 25, 42, 180, 0, 25]
abbrev dktX9_newStumble_1 : List UInt8 := dkwX9_newStumble_1 ++ dktX9_newStumble_2
def dkwX9_newStumble_0 : List UInt8 := [42, 180, 0, 25, 180, 0, 149, 60, 42, 180, 0, 25, 180, 0, 152, 27, 42, 3, 4, 182, 0, 111, 79, 42]
abbrev dktX9_newStumble_0 : List UInt8 := dkwX9_newStumble_0 ++ dktX9_newStumble_1
theorem dksX9_newStumble_0 : cX9_newStumble.data.toList.drop 0 = dktX9_newStumble_0 := by decide +kernel
theorem dksX9_newStumble_1 : cX9_newStumble.data.toList.drop 24 = dktX9_newStumble_1 := dk_seg dksX9_newStumble_0 24 rfl rfl
theorem dksX9_newStumble_2 : cX9_newStumble.data.toList.drop 47 = dktX9_newStumble_2 := dk_seg dksX9_newStumble_1 23 rfl rfl
theorem dksX9_newStumble_3 : cX9_newStumble.data.toList.drop 70 = dktX9_newStumble_3 := dk_seg dksX9_newStumble_2 23 rfl rfl
theorem dksX9_newStumble_4 : cX9_newStumble.data.toList.drop 94 = dktX9_newStumble_4 := dk_seg dksX9_newStumble_3 24 rfl rfl
theorem dksX9_newStumble_5 : cX9_newStumble.data.toList.drop 117 = dktX9_newStumble_5 := dk_seg dksX9_newStumble_4 23 rfl rfl
theorem dX9_newStumble_0 : decode cX9_newStumble 0 = .ok (.aload_n 0, 1) := dk_42 (dk_at dksX9_newStumble_0 0 rfl rfl)
theorem dX9_newStumble_1 : decode cX9_newStumble 1 = .ok (.getfield 25, 3) := dk_180 0 25 (dk_at dksX9_newStumble_0 1 rfl rfl)
theorem dX9_newStumble_4 : decode cX9_newStumble 4 = .ok (.getfield 149, 3) := dk_180 0 149 (dk_at dksX9_newStumble_0 4 rfl rfl)
theorem dX9_newStumble_7 : decode cX9_newStumble 7 = .ok (.istore_n 1, 1) := dk_60 (dk_at dksX9_newStumble_0 7 rfl rfl)
theorem dX9_newStumble_8 : decode cX9_newStumble 8 = .ok (.aload_n 0, 1) := dk_42 (dk_at dksX9_newStumble_0 8 rfl rfl)
theorem dX9_newStumble_9 : decode cX9_newStumble 9 = .ok (.getfield 25, 3) := dk_180 0 25 (dk_at dksX9_newStumble_0 9 rfl rfl)
theorem dX9_newStumble_12 : decode cX9_newStumble 12 = .ok (.getfield 152, 3) := dk_180 0 152 (dk_at dksX9_newStumble_0 12 rfl rfl)
theorem dX9_newStumble_15 : decode cX9_newStumble 15 = .ok (.iload_n 1, 1) := dk_27 (dk_at dksX9_newStumble_0 15 rfl rfl)
theorem dX9_newStumble_16 : decode cX9_newStumble 16 = .ok (.aload_n 0, 1) := dk_42 (dk_at dksX9_newStumble_0 16 rfl rfl)
theorem dX9_newStumble_17 : decode cX9_newStumble 17 = .ok (.iconst 0, 1) := dk_3 (dk_at dksX9_newStumble_0 17 rfl rfl)
theorem dX9_newStumble_18 : decode cX9_newStumble 18 = .ok (.iconst 1, 1) := dk_4 (dk_at dksX9_newStumble_0 18 rfl rfl)
theorem dX9_newStumble_19 : decode cX9_newStumble 19 = .ok (.invokevirtual 111, 3) := dk_182 0 111 (dk_at dksX9_newStumble_0 19 rfl rfl)
theorem dX9_newStumble_22 : decode cX9_newStumble 22 = .ok (.iastore, 1) := dk_79 (dk_at dksX9_newStumble_0 22 rfl rfl)
theorem dX9_newStumble_23 : decode cX9_newStumble 23 = .ok (.aload_n 0, 1) := dk_42 (dk_at dksX9_newStumble_0 23 rfl rfl)
theorem dX9_newStumble_24 : decode cX9_newStumble 24 = .ok (.ldc 155, 2) := dk_18 155 (dk_at dksX9_newStumble_1 0 rfl rfl)
theorem dX9_newStumble_26 : decode cX9_newStumble 26 = .ok (.invokevirtual 107, 3) := dk_182 0 107 (dk_at dksX9_newStumble_1 2 rfl rfl)
theorem dX9_newStumble_29 : decode cX9_newStumble 29 = .ok (.aload_n 0, 1) := dk_42 (dk_at dksX9_newStumble_1 5 rfl rfl)
theorem dX9_newStumble_30 : decode cX9_newStumble 30 = .ok (.getfield 35, 3) := dk_180 0 35 (dk_at dksX9_newStumble_1 6 rfl rfl)
theorem dX9_newStumble_33 : decode cX9_newStumble 33 = .ok (.getstatic 72, 3) := dk_178 0 72 (dk_at dksX9_newStumble_1 9 rfl rfl)
theorem dX9_newStumble_36 : decode cX9_newStumble 36 = .ok (.if_acmp .ne 33, 3) := dk_166 0 33 (dk_at dksX9_newStumble_1 12 rfl rfl)
theorem dX9_newStumble_39 : decode cX9_newStumble 39 = .ok (.aload_n 0, 1) := dk_42 (dk_at dksX9_newStumble_1 15 rfl rfl)
theorem dX9_newStumble_40 : decode cX9_newStumble 40 = .ok (.getfield 25, 3) := dk_180 0 25 (dk_at dksX9_newStumble_1 16 rfl rfl)
theorem dX9_newStumble_43 : decode cX9_newStumble 43 = .ok (.aload_n 0, 1) := dk_42 (dk_at dksX9_newStumble_1 19 rfl rfl)
theorem dX9_newStumble_44 : decode cX9_newStumble 44 = .ok (.getfield 25, 3) := dk_180 0 25 (dk_at dksX9_newStumble_1 20 rfl rfl)
theorem dX9_newStumble_47 : decode cX9_newStumble 47 = .ok (.getfield 152, 3) := dk_180 0 152 (dk_at dksX9_newStumble_2 0 rfl rfl)
theorem dX9_newStumble_50 : decode cX9_newStumble 50 = .ok (.iload_n 1, 1) := dk_27 (dk_at dksX9_newStumble_2 3 rfl rfl)
theorem dX9_newStumble_51 : decode cX9_newStumble 51 = .ok (.iaload, 1) := dk_46 (dk_at dksX9_newStumble_2 4 rfl rfl)
theorem dX9_newStumble_52 : decode cX9_newStumble 52 = .ok (.aload_n 0, 1) := dk_42 (dk_at dksX9_newStumble_2 5 rfl rfl)
theorem dX9_newStumble_53 : decode cX9_newStumble 53 = .ok (.getfield 62, 3) := dk_180 0 62 (dk_at dksX9_newStumble_2 6 rfl rfl)
theorem dX9_newStumble_56 : decode cX9_newStumble 56 = .ok (.invokevirtual 156, 3) := dk_182 0 156 (dk_at dksX9_newStumble_2 9 rfl rfl)
theorem dX9_newStumble_59 : decode cX9_newStumble 59 = .ok (.iconst (-1), 1) := dk_2 (dk_at dksX9_newStumble_2 12 rfl rfl)
theorem dX9_newStumble_60 : decode cX9_newStumble 60 = .ok (.if_icmp .eq 9, 3) := dk_159 0 9 (dk_at dksX9_newStumble_2 13 rfl rfl)
theorem dX9_newStumble_63 : decode cX9_newStumble 63 = .ok (.aload_n 0, 1) := dk_42 (dk_at dksX9_newStumble_2 16 rfl rfl)
theorem dX9_newStumble_64 : decode cX9_newStumble 64 = .ok (.iconst 2, 1) := dk_5 (dk_at dksX9_newStumble_2 17 rfl rfl)
theorem dX9_newStumble_65 : decode cX9_newStumble 65 = .ok (.invokevirtual 103, 3) := dk_182 0 103 (dk_at dksX9_newStumble_2 18 rfl rfl)
theorem dX9_newStumble_68 : decode cX9_newStumble 68 = .ok (.athrow, 1) := dk_191 (dk_at dksX9_newStumble_2 21 rfl rfl)
theorem dX9_newStumble_69 : decode cX9_newStumble 69 = .ok (.aload_n 0, 1) := dk_42 (dk_at dksX9_newStumble_2 22 rfl rfl)
theorem dX9_newStumble_70 : decode cX9_newStumble 70 = .ok (.getfield 25, 3) := dk_180 0 25 (dk_at dksX9_newStumble_3 0 rfl rfl)
theorem dX9_newStumble_73 : decode cX9_newStumble 73 = .ok (.getfield 159, 3) := dk_180 0 159 (dk_at dksX9_newStumble_3 3 rfl rfl)
theorem dX9_newStumble_76 : decode cX9_newStumble 76 = .ok (.iload_n 1, 1) := dk_27 (dk_at dksX9_newStumble_3 6 rfl rfl)
theorem dX9_newStumble_77 : decode cX9_newStumble 77 = .ok (.aload_n 0, 1) := dk_42 (dk_at dksX9_newStumble_3 7 rfl rfl)
theorem dX9_newStumble_78 : decode cX9_newStumble 78 = .ok (.iconst 0, 1) := dk_3 (dk_at dksX9_newStumble_3 8 rfl rfl)
theorem dX9_newStumble_79 : decode cX9_newStumble 79 = .ok (.sipush 199, 3) := dk_17 0 199 (dk_at dksX9_newStumble_3 9 rfl rfl)
theorem dX9_newStumble_82 : decode cX9_newStumble 82 = .ok (.invokevirtual 111, 3) := dk_182 0 111 (dk_at dksX9_newStumble_3 12 rfl rfl)
theorem dX9_newStumble_85 : decode cX9_newStumble 85 = .ok (.iastore, 1) := dk_79 (dk_at dksX9_newStumble_3 15 rfl rfl)
theorem dX9_newStumble_86 : decode cX9_newStumble 86 = .ok (.aload_n 0, 1) := dk_42 (dk_at dksX9_newStumble_3 16 rfl rfl)
theorem dX9_newStumble_87 : decode cX9_newStumble 87 = .ok (.getfield 25, 3) := dk_180 0 25 (dk_at dksX9_newStumble_3 17 rfl rfl)
theorem dX9_newStumble_90 : decode cX9_newStumble 90 = .ok (.getfield 162, 3) := dk_180 0 162 (dk_at dksX9_newStumble_3 20 rfl rfl)
theorem dX9_newStumble_93 : decode cX9_newStumble 93 = .ok (.iload_n 1, 1) := dk_27 (dk_at dksX9_newStumble_3 23 rfl rfl)
theorem dX9_newStumble_94 : decode cX9_newStumble 94 = .ok (.aload_n 0, 1) := dk_42 (dk_at dksX9_newStumble_4 0 rfl rfl)
theorem dX9_newStumble_95 : decode cX9_newStumble 95 = .ok (.ldc 165, 2) := dk_18 165 (dk_at dksX9_newStumble_4 1 rfl rfl)
theorem dX9_newStumble_97 : decode cX9_newStumble 97 = .ok (.iconst 0, 1) := dk_3 (dk_at dksX9_newStumble_4 3 rfl rfl)
theorem dX9_newStumble_98 : decode cX9_newStumble 98 = .ok (.iconst 5, 1) := dk_8 (dk_at dksX9_newStumble_4 4 rfl rfl)
theorem dX9_newStumble_99 : decode cX9_newStumble 99 = .ok (.invokevirtual 117, 3) := dk_182 0 117 (dk_at dksX9_newStumble_4 5 rfl rfl)
theorem dX9_newStumble_102 : decode cX9_newStumble 102 = .ok (.iastore, 1) := dk_79 (dk_at dksX9_newStumble_4 8 rfl rfl)
theorem dX9_newStumble_103 : decode cX9_newStumble 103 = .ok (.aload_n 0, 1) := dk_42 (dk_at dksX9_newStumble_4 9 rfl rfl)
theorem dX9_newStumble_104 : decode cX9_newStumble 104 = .ok (.getfield 25, 3) := dk_180 0 25 (dk_at dksX9_newStumble_4 10 rfl rfl)
theorem dX9_newStumble_107 : decode cX9_newStumble 107 = .ok (.getfield 166, 3) := dk_180 0 166 (dk_at dksX9_newStumble_4 13 rfl rfl)
theorem dX9_newStumble_110 : decode cX9_newStumble 110 = .ok (.iload_n 1, 1) := dk_27 (dk_at dksX9_newStumble_4 16 rfl rfl)
theorem dX9_newStumble_111 : decode cX9_newStumble 111 = .ok (.aload_n 0, 1) := dk_42 (dk_at dksX9_newStumble_4 17 rfl rfl)
theorem dX9_newStumble_112 : decode cX9_newStumble 112 = .ok (.ldc 169, 2) := dk_18 169 (dk_at dksX9_newStumble_4 18 rfl rfl)
theorem dX9_newStumble_114 : decode cX9_newStumble 114 = .ok (.iconst 0, 1) := dk_3 (dk_at dksX9_newStumble_4 20 rfl rfl)
theorem dX9_newStumble_115 : decode cX9_newStumble 115 = .ok (.bipush 9, 2) := dk_16 9 (dk_at dksX9_newStumble_4 21 rfl rfl)
theorem dX9_newStumble_117 : decode cX9_newStumble 117 = .ok (.invokevirtual 117, 3) := dk_182 0 117 (dk_at dksX9_newStumble_5 0 rfl rfl)
theorem dX9_newStumble_120 : decode cX9_newStumble 120 = .ok (.iastore, 1) := dk_79 (dk_at dksX9_newStumble_5 3 rfl rfl)
theorem dX9_newStumble_121 : decode cX9_newStumble 121 = .ok (.aload_n 0, 1) := dk_42 (dk_at dksX9_newStumble_5 4 rfl rfl)
theorem dX9_newStumble_122 : decode cX9_newStumble 122 = .ok (.getfield 25, 3) := dk_180 0 25 (dk_at dksX9_newStumble_5 5 rfl rfl)
theorem dX9_newStumble_125 : decode cX9_newStumble 125 = .ok (.dup, 1) := dk_89 (dk_at dksX9_newStumble_5 8 rfl rfl)
theorem dX9_newStumble_126 : decode cX9_newStumble 126 = .ok (.getfield 149, 3) := dk_180 0 149 (dk_at dksX9_newStumble_5 9 rfl rfl)
theorem dX9_newStumble_129 : decode cX9_newStumble 129 = .ok (.iconst 1, 1) := dk_4 (dk_at dksX9_newStumble_5 12 rfl rfl)
theorem dX9_newStumble_130 : decode cX9_newStumble 130 = .ok (.iadd, 1) := dk_96 (dk_at dksX9_newStumble_5 13 rfl rfl)
theorem dX9_newStumble_131 : decode cX9_newStumble 131 = .ok (.putfield 149, 3) := dk_181 0 149 (dk_at dksX9_newStumble_5 14 rfl rfl)
theorem dX9_newStumble_134 : decode cX9_newStumble 134 = .ok (.return_, 1) := dk_177 (dk_at dksX9_newStumble_5 17 rfl rfl)
abbrev cX9_newMud : ByteArray := prog_6_method_15_code
def yX9_newMud : MethodName := ⟨RX9, "newMud", "()V"⟩
def dkwX9_newMud_2 : List UInt8 := [42, 3, 17, 0, 199, 182, 0, 111, 4, 84, 177]
abbrev dktX9_newMud_2 : List UInt8 := dkwX9_newMud_2 ++ []
def dkwX9_newMud_1 : List UInt8 := [180, 0, 170, 42, 180, 0, 62, 51, 153, 0, 9, 42, 5, 182, 0, 103, 191, 42, 180, 0, 25, 180, 0, 170]
abbrev dktX9_newMud_1 : List UInt8 := dkwX9_newMud_1 ++ dktX9_newMud_2
def dkwX9_newMud_0 : List UInt8 := [42, 180, 0, 35, 178, 0, 72, 166, 0, 34, 42, 180, 0, 62, 17, 0, 200, 162, 0, 24, 42, 180, 0, 25]
abbrev dktX9_newMud_0 : List UInt8 := dkwX9_newMud_0 ++ dktX9_newMud_1
theorem dksX9_newMud_0 : cX9_newMud.data.toList.drop 0 = dktX9_newMud_0 := by decide +kernel
theorem dksX9_newMud_1 : cX9_newMud.data.toList.drop 24 = dktX9_newMud_1 := dk_seg dksX9_newMud_0 24 rfl rfl
theorem dksX9_newMud_2 : cX9_newMud.data.toList.drop 48 = dktX9_newMud_2 := dk_seg dksX9_newMud_1 24 rfl rfl
theorem dX9_newMud_0 : decode cX9_newMud 0 = .ok (.aload_n 0, 1) := dk_42 (dk_at dksX9_newMud_0 0 rfl rfl)
theorem dX9_newMud_1 : decode cX9_newMud 1 = .ok (.getfield 35, 3) := dk_180 0 35 (dk_at dksX9_newMud_0 1 rfl rfl)
theorem dX9_newMud_4 : decode cX9_newMud 4 = .ok (.getstatic 72, 3) := dk_178 0 72 (dk_at dksX9_newMud_0 4 rfl rfl)
theorem dX9_newMud_7 : decode cX9_newMud 7 = .ok (.if_acmp .ne 34, 3) := dk_166 0 34 (dk_at dksX9_newMud_0 7 rfl rfl)
theorem dX9_newMud_10 : decode cX9_newMud 10 = .ok (.aload_n 0, 1) := dk_42 (dk_at dksX9_newMud_0 10 rfl rfl)
theorem dX9_newMud_11 : decode cX9_newMud 11 = .ok (.getfield 62, 3) := dk_180 0 62 (dk_at dksX9_newMud_0 11 rfl rfl)
theorem dX9_newMud_14 : decode cX9_newMud 14 = .ok (.sipush 200, 3) := dk_17 0 200 (dk_at dksX9_newMud_0 14 rfl rfl)
theorem dX9_newMud_17 : decode cX9_newMud 17 = .ok (.if_icmp .ge 24, 3) := dk_162 0 24 (dk_at dksX9_newMud_0 17 rfl rfl)
theorem dX9_newMud_20 : decode cX9_newMud 20 = .ok (.aload_n 0, 1) := dk_42 (dk_at dksX9_newMud_0 20 rfl rfl)
theorem dX9_newMud_21 : decode cX9_newMud 21 = .ok (.getfield 25, 3) := dk_180 0 25 (dk_at dksX9_newMud_0 21 rfl rfl)
theorem dX9_newMud_24 : decode cX9_newMud 24 = .ok (.getfield 170, 3) := dk_180 0 170 (dk_at dksX9_newMud_1 0 rfl rfl)
theorem dX9_newMud_27 : decode cX9_newMud 27 = .ok (.aload_n 0, 1) := dk_42 (dk_at dksX9_newMud_1 3 rfl rfl)
theorem dX9_newMud_28 : decode cX9_newMud 28 = .ok (.getfield 62, 3) := dk_180 0 62 (dk_at dksX9_newMud_1 4 rfl rfl)
theorem dX9_newMud_31 : decode cX9_newMud 31 = .ok (.baload, 1) := dk_51 (dk_at dksX9_newMud_1 7 rfl rfl)
theorem dX9_newMud_32 : decode cX9_newMud 32 = .ok (.ifCond .eq 9, 3) := dk_153 0 9 (dk_at dksX9_newMud_1 8 rfl rfl)
theorem dX9_newMud_35 : decode cX9_newMud 35 = .ok (.aload_n 0, 1) := dk_42 (dk_at dksX9_newMud_1 11 rfl rfl)
theorem dX9_newMud_36 : decode cX9_newMud 36 = .ok (.iconst 2, 1) := dk_5 (dk_at dksX9_newMud_1 12 rfl rfl)
theorem dX9_newMud_37 : decode cX9_newMud 37 = .ok (.invokevirtual 103, 3) := dk_182 0 103 (dk_at dksX9_newMud_1 13 rfl rfl)
theorem dX9_newMud_40 : decode cX9_newMud 40 = .ok (.athrow, 1) := dk_191 (dk_at dksX9_newMud_1 16 rfl rfl)
theorem dX9_newMud_41 : decode cX9_newMud 41 = .ok (.aload_n 0, 1) := dk_42 (dk_at dksX9_newMud_1 17 rfl rfl)
theorem dX9_newMud_42 : decode cX9_newMud 42 = .ok (.getfield 25, 3) := dk_180 0 25 (dk_at dksX9_newMud_1 18 rfl rfl)
theorem dX9_newMud_45 : decode cX9_newMud 45 = .ok (.getfield 170, 3) := dk_180 0 170 (dk_at dksX9_newMud_1 21 rfl rfl)
theorem dX9_newMud_48 : decode cX9_newMud 48 = .ok (.aload_n 0, 1) := dk_42 (dk_at dksX9_newMud_2 0 rfl rfl)
theorem dX9_newMud_49 : decode cX9_newMud 49 = .ok (.iconst 0, 1) := dk_3 (dk_at dksX9_newMud_2 1 rfl rfl)
theorem dX9_newMud_50 : decode cX9_newMud 50 = .ok (.sipush 199, 3) := dk_17 0 199 (dk_at dksX9_newMud_2 2 rfl rfl)
theorem dX9_newMud_53 : decode cX9_newMud 53 = .ok (.invokevirtual 111, 3) := dk_182 0 111 (dk_at dksX9_newMud_2 5 rfl rfl)
theorem dX9_newMud_56 : decode cX9_newMud 56 = .ok (.iconst 1, 1) := dk_4 (dk_at dksX9_newMud_2 8 rfl rfl)
theorem dX9_newMud_57 : decode cX9_newMud 57 = .ok (.bastore, 1) := dk_84 (dk_at dksX9_newMud_2 9 rfl rfl)
theorem dX9_newMud_58 : decode cX9_newMud 58 = .ok (.return_, 1) := dk_177 (dk_at dksX9_newMud_2 10 rfl rfl)
abbrev cX9_newCell : ByteArray := prog_6_method_16_code
def yX9_newCell : MethodName := ⟨RX9, "newCell", "()V"⟩
def dkwX9_newCell_2 : List UInt8 := [46, 4, 100, 182, 0, 117, 79, 42, 180, 0, 25, 89, 180, 0, 174, 4, 96, 181, 0, 174, 177]
abbrev dktX9_newCell_2 : List UInt8 := dkwX9_newCell_2 ++ []
def dkwX9_newCell_1 : List UInt8 := [182, 0, 117, 79, 42, 180, 0, 25, 180, 0, 181, 27, 42, 18, 155, 3, 42, 180, 0, 25, 180, 0, 177, 27]
abbrev dktX9_newCell_1 : List UInt8 := dkwX9_newCell_1 ++ dktX9_newCell_2
def dkwX9_newCell_0 : List UInt8 := [42, 180, 0, 25, 180, 0, 174, 60, 42, 180, 0, 25, 180, 0, 177, 27, 42, 18, 180, 4, 16, 9]
abbrev dktX9_newCell_0 : List UInt8 := dkwX9_newCell_0 ++ dktX9_newCell_1
theorem dksX9_newCell_0 : cX9_newCell.data.toList.drop 0 = dktX9_newCell_0 := by decide +kernel
theorem dksX9_newCell_1 : cX9_newCell.data.toList.drop 22 = dktX9_newCell_1 := dk_seg dksX9_newCell_0 22 rfl rfl
theorem dksX9_newCell_2 : cX9_newCell.data.toList.drop 46 = dktX9_newCell_2 := dk_seg dksX9_newCell_1 24 rfl rfl
theorem dX9_newCell_0 : decode cX9_newCell 0 = .ok (.aload_n 0, 1) := dk_42 (dk_at dksX9_newCell_0 0 rfl rfl)
theorem dX9_newCell_1 : decode cX9_newCell 1 = .ok (.getfield 25, 3) := dk_180 0 25 (dk_at dksX9_newCell_0 1 rfl rfl)
theorem dX9_newCell_4 : decode cX9_newCell 4 = .ok (.getfield 174, 3) := dk_180 0 174 (dk_at dksX9_newCell_0 4 rfl rfl)
theorem dX9_newCell_7 : decode cX9_newCell 7 = .ok (.istore_n 1, 1) := dk_60 (dk_at dksX9_newCell_0 7 rfl rfl)
theorem dX9_newCell_8 : decode cX9_newCell 8 = .ok (.aload_n 0, 1) := dk_42 (dk_at dksX9_newCell_0 8 rfl rfl)
theorem dX9_newCell_9 : decode cX9_newCell 9 = .ok (.getfield 25, 3) := dk_180 0 25 (dk_at dksX9_newCell_0 9 rfl rfl)
theorem dX9_newCell_12 : decode cX9_newCell 12 = .ok (.getfield 177, 3) := dk_180 0 177 (dk_at dksX9_newCell_0 12 rfl rfl)
theorem dX9_newCell_15 : decode cX9_newCell 15 = .ok (.iload_n 1, 1) := dk_27 (dk_at dksX9_newCell_0 15 rfl rfl)
theorem dX9_newCell_16 : decode cX9_newCell 16 = .ok (.aload_n 0, 1) := dk_42 (dk_at dksX9_newCell_0 16 rfl rfl)
theorem dX9_newCell_17 : decode cX9_newCell 17 = .ok (.ldc 180, 2) := dk_18 180 (dk_at dksX9_newCell_0 17 rfl rfl)
theorem dX9_newCell_19 : decode cX9_newCell 19 = .ok (.iconst 1, 1) := dk_4 (dk_at dksX9_newCell_0 19 rfl rfl)
theorem dX9_newCell_20 : decode cX9_newCell 20 = .ok (.bipush 9, 2) := dk_16 9 (dk_at dksX9_newCell_0 20 rfl rfl)
theorem dX9_newCell_22 : decode cX9_newCell 22 = .ok (.invokevirtual 117, 3) := dk_182 0 117 (dk_at dksX9_newCell_1 0 rfl rfl)
theorem dX9_newCell_25 : decode cX9_newCell 25 = .ok (.iastore, 1) := dk_79 (dk_at dksX9_newCell_1 3 rfl rfl)
theorem dX9_newCell_26 : decode cX9_newCell 26 = .ok (.aload_n 0, 1) := dk_42 (dk_at dksX9_newCell_1 4 rfl rfl)
theorem dX9_newCell_27 : decode cX9_newCell 27 = .ok (.getfield 25, 3) := dk_180 0 25 (dk_at dksX9_newCell_1 5 rfl rfl)
theorem dX9_newCell_30 : decode cX9_newCell 30 = .ok (.getfield 181, 3) := dk_180 0 181 (dk_at dksX9_newCell_1 8 rfl rfl)
theorem dX9_newCell_33 : decode cX9_newCell 33 = .ok (.iload_n 1, 1) := dk_27 (dk_at dksX9_newCell_1 11 rfl rfl)
theorem dX9_newCell_34 : decode cX9_newCell 34 = .ok (.aload_n 0, 1) := dk_42 (dk_at dksX9_newCell_1 12 rfl rfl)
theorem dX9_newCell_35 : decode cX9_newCell 35 = .ok (.ldc 155, 2) := dk_18 155 (dk_at dksX9_newCell_1 13 rfl rfl)
theorem dX9_newCell_37 : decode cX9_newCell 37 = .ok (.iconst 0, 1) := dk_3 (dk_at dksX9_newCell_1 15 rfl rfl)
theorem dX9_newCell_38 : decode cX9_newCell 38 = .ok (.aload_n 0, 1) := dk_42 (dk_at dksX9_newCell_1 16 rfl rfl)
theorem dX9_newCell_39 : decode cX9_newCell 39 = .ok (.getfield 25, 3) := dk_180 0 25 (dk_at dksX9_newCell_1 17 rfl rfl)
theorem dX9_newCell_42 : decode cX9_newCell 42 = .ok (.getfield 177, 3) := dk_180 0 177 (dk_at dksX9_newCell_1 20 rfl rfl)
theorem dX9_newCell_45 : decode cX9_newCell 45 = .ok (.iload_n 1, 1) := dk_27 (dk_at dksX9_newCell_1 23 rfl rfl)
theorem dX9_newCell_46 : decode cX9_newCell 46 = .ok (.iaload, 1) := dk_46 (dk_at dksX9_newCell_2 0 rfl rfl)
theorem dX9_newCell_47 : decode cX9_newCell 47 = .ok (.iconst 1, 1) := dk_4 (dk_at dksX9_newCell_2 1 rfl rfl)
theorem dX9_newCell_48 : decode cX9_newCell 48 = .ok (.isub, 1) := dk_100 (dk_at dksX9_newCell_2 2 rfl rfl)
theorem dX9_newCell_49 : decode cX9_newCell 49 = .ok (.invokevirtual 117, 3) := dk_182 0 117 (dk_at dksX9_newCell_2 3 rfl rfl)
theorem dX9_newCell_52 : decode cX9_newCell 52 = .ok (.iastore, 1) := dk_79 (dk_at dksX9_newCell_2 6 rfl rfl)
theorem dX9_newCell_53 : decode cX9_newCell 53 = .ok (.aload_n 0, 1) := dk_42 (dk_at dksX9_newCell_2 7 rfl rfl)
theorem dX9_newCell_54 : decode cX9_newCell 54 = .ok (.getfield 25, 3) := dk_180 0 25 (dk_at dksX9_newCell_2 8 rfl rfl)
theorem dX9_newCell_57 : decode cX9_newCell 57 = .ok (.dup, 1) := dk_89 (dk_at dksX9_newCell_2 11 rfl rfl)
theorem dX9_newCell_58 : decode cX9_newCell 58 = .ok (.getfield 174, 3) := dk_180 0 174 (dk_at dksX9_newCell_2 12 rfl rfl)
theorem dX9_newCell_61 : decode cX9_newCell 61 = .ok (.iconst 1, 1) := dk_4 (dk_at dksX9_newCell_2 15 rfl rfl)
theorem dX9_newCell_62 : decode cX9_newCell 62 = .ok (.iadd, 1) := dk_96 (dk_at dksX9_newCell_2 16 rfl rfl)
theorem dX9_newCell_63 : decode cX9_newCell 63 = .ok (.putfield 174, 3) := dk_181 0 174 (dk_at dksX9_newCell_2 17 rfl rfl)
theorem dX9_newCell_66 : decode cX9_newCell 66 = .ok (.return_, 1) := dk_177 (dk_at dksX9_newCell_2 20 rfl rfl)
abbrev cX9_newTune : ByteArray := prog_6_method_17_code
def yX9_newTune : MethodName := ⟨RX9, "newTune", "()V"⟩
def dkwX9_newTune_2 : List UInt8 := [182, 0, 117, 79, 42, 180, 0, 25, 89, 180, 0, 183, 4, 96, 181, 0, 183, 177]
abbrev dktX9_newTune_2 : List UInt8 := dkwX9_newTune_2 ++ []
def dkwX9_newTune_1 : List UInt8 := [42, 180, 0, 25, 180, 0, 189, 27, 42, 18, 155, 3, 42, 180, 0, 25, 180, 0, 186, 27, 46, 4, 100]
abbrev dktX9_newTune_1 : List UInt8 := dkwX9_newTune_1 ++ dktX9_newTune_2
def dkwX9_newTune_0 : List UInt8 := [42, 180, 0, 25, 180, 0, 183, 60, 42, 180, 0, 25, 180, 0, 186, 27, 42, 4, 16, 30, 182, 0, 111, 79]
abbrev dktX9_newTune_0 : List UInt8 := dkwX9_newTune_0 ++ dktX9_newTune_1
theorem dksX9_newTune_0 : cX9_newTune.data.toList.drop 0 = dktX9_newTune_0 := by decide +kernel
theorem dksX9_newTune_1 : cX9_newTune.data.toList.drop 24 = dktX9_newTune_1 := dk_seg dksX9_newTune_0 24 rfl rfl
theorem dksX9_newTune_2 : cX9_newTune.data.toList.drop 47 = dktX9_newTune_2 := dk_seg dksX9_newTune_1 23 rfl rfl
theorem dX9_newTune_0 : decode cX9_newTune 0 = .ok (.aload_n 0, 1) := dk_42 (dk_at dksX9_newTune_0 0 rfl rfl)
theorem dX9_newTune_1 : decode cX9_newTune 1 = .ok (.getfield 25, 3) := dk_180 0 25 (dk_at dksX9_newTune_0 1 rfl rfl)
theorem dX9_newTune_4 : decode cX9_newTune 4 = .ok (.getfield 183, 3) := dk_180 0 183 (dk_at dksX9_newTune_0 4 rfl rfl)
theorem dX9_newTune_7 : decode cX9_newTune 7 = .ok (.istore_n 1, 1) := dk_60 (dk_at dksX9_newTune_0 7 rfl rfl)
theorem dX9_newTune_8 : decode cX9_newTune 8 = .ok (.aload_n 0, 1) := dk_42 (dk_at dksX9_newTune_0 8 rfl rfl)
theorem dX9_newTune_9 : decode cX9_newTune 9 = .ok (.getfield 25, 3) := dk_180 0 25 (dk_at dksX9_newTune_0 9 rfl rfl)
theorem dX9_newTune_12 : decode cX9_newTune 12 = .ok (.getfield 186, 3) := dk_180 0 186 (dk_at dksX9_newTune_0 12 rfl rfl)
theorem dX9_newTune_15 : decode cX9_newTune 15 = .ok (.iload_n 1, 1) := dk_27 (dk_at dksX9_newTune_0 15 rfl rfl)
theorem dX9_newTune_16 : decode cX9_newTune 16 = .ok (.aload_n 0, 1) := dk_42 (dk_at dksX9_newTune_0 16 rfl rfl)
theorem dX9_newTune_17 : decode cX9_newTune 17 = .ok (.iconst 1, 1) := dk_4 (dk_at dksX9_newTune_0 17 rfl rfl)
theorem dX9_newTune_18 : decode cX9_newTune 18 = .ok (.bipush 30, 2) := dk_16 30 (dk_at dksX9_newTune_0 18 rfl rfl)
theorem dX9_newTune_20 : decode cX9_newTune 20 = .ok (.invokevirtual 111, 3) := dk_182 0 111 (dk_at dksX9_newTune_0 20 rfl rfl)
theorem dX9_newTune_23 : decode cX9_newTune 23 = .ok (.iastore, 1) := dk_79 (dk_at dksX9_newTune_0 23 rfl rfl)
theorem dX9_newTune_24 : decode cX9_newTune 24 = .ok (.aload_n 0, 1) := dk_42 (dk_at dksX9_newTune_1 0 rfl rfl)
theorem dX9_newTune_25 : decode cX9_newTune 25 = .ok (.getfield 25, 3) := dk_180 0 25 (dk_at dksX9_newTune_1 1 rfl rfl)
theorem dX9_newTune_28 : decode cX9_newTune 28 = .ok (.getfield 189, 3) := dk_180 0 189 (dk_at dksX9_newTune_1 4 rfl rfl)
theorem dX9_newTune_31 : decode cX9_newTune 31 = .ok (.iload_n 1, 1) := dk_27 (dk_at dksX9_newTune_1 7 rfl rfl)
theorem dX9_newTune_32 : decode cX9_newTune 32 = .ok (.aload_n 0, 1) := dk_42 (dk_at dksX9_newTune_1 8 rfl rfl)
theorem dX9_newTune_33 : decode cX9_newTune 33 = .ok (.ldc 155, 2) := dk_18 155 (dk_at dksX9_newTune_1 9 rfl rfl)
theorem dX9_newTune_35 : decode cX9_newTune 35 = .ok (.iconst 0, 1) := dk_3 (dk_at dksX9_newTune_1 11 rfl rfl)
theorem dX9_newTune_36 : decode cX9_newTune 36 = .ok (.aload_n 0, 1) := dk_42 (dk_at dksX9_newTune_1 12 rfl rfl)
theorem dX9_newTune_37 : decode cX9_newTune 37 = .ok (.getfield 25, 3) := dk_180 0 25 (dk_at dksX9_newTune_1 13 rfl rfl)
theorem dX9_newTune_40 : decode cX9_newTune 40 = .ok (.getfield 186, 3) := dk_180 0 186 (dk_at dksX9_newTune_1 16 rfl rfl)
theorem dX9_newTune_43 : decode cX9_newTune 43 = .ok (.iload_n 1, 1) := dk_27 (dk_at dksX9_newTune_1 19 rfl rfl)
theorem dX9_newTune_44 : decode cX9_newTune 44 = .ok (.iaload, 1) := dk_46 (dk_at dksX9_newTune_1 20 rfl rfl)
theorem dX9_newTune_45 : decode cX9_newTune 45 = .ok (.iconst 1, 1) := dk_4 (dk_at dksX9_newTune_1 21 rfl rfl)
theorem dX9_newTune_46 : decode cX9_newTune 46 = .ok (.isub, 1) := dk_100 (dk_at dksX9_newTune_1 22 rfl rfl)
theorem dX9_newTune_47 : decode cX9_newTune 47 = .ok (.invokevirtual 117, 3) := dk_182 0 117 (dk_at dksX9_newTune_2 0 rfl rfl)
theorem dX9_newTune_50 : decode cX9_newTune 50 = .ok (.iastore, 1) := dk_79 (dk_at dksX9_newTune_2 3 rfl rfl)
theorem dX9_newTune_51 : decode cX9_newTune 51 = .ok (.aload_n 0, 1) := dk_42 (dk_at dksX9_newTune_2 4 rfl rfl)
theorem dX9_newTune_52 : decode cX9_newTune 52 = .ok (.getfield 25, 3) := dk_180 0 25 (dk_at dksX9_newTune_2 5 rfl rfl)
theorem dX9_newTune_55 : decode cX9_newTune 55 = .ok (.dup, 1) := dk_89 (dk_at dksX9_newTune_2 8 rfl rfl)
theorem dX9_newTune_56 : decode cX9_newTune 56 = .ok (.getfield 183, 3) := dk_180 0 183 (dk_at dksX9_newTune_2 9 rfl rfl)
theorem dX9_newTune_59 : decode cX9_newTune 59 = .ok (.iconst 1, 1) := dk_4 (dk_at dksX9_newTune_2 12 rfl rfl)
theorem dX9_newTune_60 : decode cX9_newTune 60 = .ok (.iadd, 1) := dk_96 (dk_at dksX9_newTune_2 13 rfl rfl)
theorem dX9_newTune_61 : decode cX9_newTune 61 = .ok (.putfield 183, 3) := dk_181 0 183 (dk_at dksX9_newTune_2 14 rfl rfl)
theorem dX9_newTune_64 : decode cX9_newTune 64 = .ok (.return_, 1) := dk_177 (dk_at dksX9_newTune_2 17 rfl rfl)
theorem q151 : (Jvm.Cond.initialized "OverHill$Reader") ∈ lw_all := lw_g (lw_at lw_m1 13 rfl) rfl
theorem q188 : (Jvm.Cond.fieldLinkNest "OverHill$Reader" (121 : Nat) "OverHill$Dance" "gap" "I" "OverHill") ∈ lw_tbl := lw_at lw_m1 50 rfl
theorem q191 : (Jvm.Cond.fieldLinkNest "OverHill$Reader" (125 : Nat) "OverHill$Dance" "odds" "I" "OverHill") ∈ lw_tbl := lw_at lw_m1 53 rfl
theorem q194 : (Jvm.Cond.fieldLinkNest "OverHill$Reader" (129 : Nat) "OverHill$Dance" "rain" "I" "OverHill") ∈ lw_tbl := lw_at lw_m1 56 rfl
theorem q198 : (Jvm.Cond.fieldLinkNest "OverHill$Reader" (221 : Nat) "OverHill$Dance" "lines" "I" "OverHill") ∈ lw_tbl := lw_at lw_m1 60 rfl
theorem q200 : (Jvm.Cond.fieldLinkNest "OverHill$Reader" (149 : Nat) "OverHill$Dance" "stumbles" "I" "OverHill") ∈ lw_tbl := lw_at lw_m1 62 rfl
theorem q203 : (Jvm.Cond.fieldLinkNest "OverHill$Reader" (174 : Nat) "OverHill$Dance" "cells" "I" "OverHill") ∈ lw_tbl := lw_at lw_m1 65 rfl
theorem q206 : (Jvm.Cond.fieldLinkNest "OverHill$Reader" (183 : Nat) "OverHill$Dance" "tunes" "I" "OverHill") ∈ lw_tbl := lw_at lw_m1 68 rfl
theorem q212 : (Jvm.Cond.fieldLinkNest "OverHill$Reader" (142 : Nat) "OverHill$Dance" "length" "[I" "OverHill") ∈ lw_tbl := lw_at lw_m1 74 rfl
theorem q216 : (Jvm.Cond.fieldLinkNest "OverHill$Reader" (144 : Nat) "OverHill$Dance" "begins" "[I" "OverHill") ∈ lw_tbl := lw_at lw_m1 78 rfl
theorem q219 : (Jvm.Cond.fieldLinkNest "OverHill$Reader" (136 : Nat) "OverHill$Dance" "round" "[I" "OverHill") ∈ lw_tbl := lw_at lw_m1 81 rfl
theorem q222 : (Jvm.Cond.fieldLinkNest "OverHill$Reader" (146 : Nat) "OverHill$Dance" "answers" "[I" "OverHill") ∈ lw_tbl := lw_at lw_m1 84 rfl
theorem q225 : (Jvm.Cond.fieldLinkNest "OverHill$Reader" (152 : Nat) "OverHill$Dance" "side" "[I" "OverHill") ∈ lw_tbl := lw_at lw_m1 87 rfl
theorem q228 : (Jvm.Cond.fieldLinkNest "OverHill$Reader" (159 : Nat) "OverHill$Dance" "beat" "[I" "OverHill") ∈ lw_tbl := lw_at lw_m1 90 rfl
theorem q232 : (Jvm.Cond.fieldLinkNest "OverHill$Reader" (162 : Nat) "OverHill$Dance" "does" "[I" "OverHill") ∈ lw_tbl := lw_at lw_m1 94 rfl
theorem q236 : (Jvm.Cond.fieldLinkNest "OverHill$Reader" (166 : Nat) "OverHill$Dance" "lag" "[I" "OverHill") ∈ lw_tbl := lw_at lw_m1 98 rfl
theorem q239 : (Jvm.Cond.fieldLinkNest "OverHill$Reader" (177 : Nat) "OverHill$Dance" "every" "[I" "OverHill") ∈ lw_tbl := lw_at lw_m1 101 rfl
theorem q242 : (Jvm.Cond.fieldLinkNest "OverHill$Reader" (181 : Nat) "OverHill$Dance" "at" "[I" "OverHill") ∈ lw_tbl := lw_at lw_m1 104 rfl
theorem q245 : (Jvm.Cond.fieldLinkNest "OverHill$Reader" (186 : Nat) "OverHill$Dance" "tune" "[I" "OverHill") ∈ lw_tbl := lw_at lw_m1 107 rfl
theorem q248 : (Jvm.Cond.fieldLinkNest "OverHill$Reader" (189 : Nat) "OverHill$Dance" "tuneAt" "[I" "OverHill") ∈ lw_tbl := lw_at lw_m1 110 rfl
theorem q254 : (Jvm.Cond.fieldLinkNest "OverHill$Reader" (170 : Nat) "OverHill$Dance" "mud" "[Z" "OverHill") ∈ lw_tbl := lw_at lw_m1 116 rfl
theorem q406 : (Jvm.Cond.fieldLinkNest "OverHill$Reader" (44 : Nat) "OverHill" "tape" "[B" "OverHill") ∈ lw_tbl := lw_at lw_m2 28 rfl
theorem q408 : (Jvm.Cond.fieldLinkNest "OverHill$Reader" (15 : Nat) "OverHill" "taped" "I" "OverHill") ∈ lw_tbl := lw_at lw_m2 30 rfl
theorem q533 : (Jvm.Cond.instantiable "OverHill$Reader" (7 : Nat)) ∈ lw_all := lw_g (lw_at lw_m2 155 rfl) rfl
theorem q535 : (Jvm.Cond.instanceMethod ({ cls := "OverHill$Reader", name := "<init>", desc := "(LOverHill;)V" } : Jvm.MethodName)) ∈ lw_all := lw_g (lw_at lw_m2 157 rfl) rfl
theorem q536 : (Jvm.Cond.code ({ cls := "OverHill$Reader", name := "<init>", desc := "(LOverHill;)V" } : Jvm.MethodName) prog_6_method_1_code (2 : Nat) (Option.none : Option Jvm.ClassFile.FieldType)) ∈ lw_all := lw_g (lw_at lw_m2 158 rfl) rfl
theorem q537 : (Jvm.Cond.methodLink "OverHill$Reader" (9 : Nat) ({ cls := "java/lang/Object", name := "<init>", desc := "()V" } : Jvm.MethodName)) ∈ lw_all := lw_g (lw_at lw_m2 159 rfl) rfl
theorem q538 : (Jvm.Cond.classLink "OverHill$Reader" (22 : Nat) "OverHill$Dance") ∈ lw_all := lw_g (lw_at lw_m2 160 rfl) rfl
theorem q539 : (Jvm.Cond.methodLinkNest "OverHill$Reader" (24 : Nat) ({ cls := "OverHill$Dance", name := "<init>", desc := "()V" } : Jvm.MethodName) "OverHill") ∈ lw_tbl := lw_at lw_m2 161 rfl
theorem q540 : (Jvm.Cond.fieldLink "OverHill$Reader" (29 : Nat) "OverHill$Token" "END" "LOverHill$Token;") ∈ lw_all := lw_g (lw_at lw_m2 162 rfl) rfl
theorem q542 : (Jvm.Cond.methodLink "OverHill$Reader" (38 : Nat) ({ cls := "OverHill$Reader", name := "next", desc := "()V" } : Jvm.MethodName)) ∈ lw_all := lw_g (lw_at lw_m2 164 rfl) rfl
theorem q543 : (Jvm.Cond.privateMethod ({ cls := "OverHill$Reader", name := "next", desc := "()V" } : Jvm.MethodName)) ∈ lw_tbl := lw_at lw_m2 165 rfl
theorem q544 : (Jvm.Cond.instanceMethod ({ cls := "OverHill$Reader", name := "next", desc := "()V" } : Jvm.MethodName)) ∈ lw_all := lw_g (lw_at lw_m2 166 rfl) rfl
theorem q545 : (Jvm.Cond.code ({ cls := "OverHill$Reader", name := "next", desc := "()V" } : Jvm.MethodName) prog_6_method_3_code (1 : Nat) (Option.none : Option Jvm.ClassFile.FieldType)) ∈ lw_all := lw_g (lw_at lw_m2 167 rfl) rfl
theorem q546 : (Jvm.Cond.methodLink "OverHill$Reader" (55 : Nat) ({ cls := "OverHill$Reader", name := "isNext", desc := "(II)Z" } : Jvm.MethodName)) ∈ lw_all := lw_g (lw_at lw_m2 168 rfl) rfl
theorem q547 : (Jvm.Cond.privateMethod ({ cls := "OverHill$Reader", name := "isNext", desc := "(II)Z" } : Jvm.MethodName)) ∈ lw_tbl := lw_at lw_m2 169 rfl
theorem q548 : (Jvm.Cond.instanceMethod ({ cls := "OverHill$Reader", name := "isNext", desc := "(II)Z" } : Jvm.MethodName)) ∈ lw_all := lw_g (lw_at lw_m2 170 rfl) rfl
theorem q549 : (Jvm.Cond.code ({ cls := "OverHill$Reader", name := "isNext", desc := "(II)Z" } : Jvm.MethodName) prog_6_method_2_code (3 : Nat) (Option.some Jvm.ClassFile.FieldType.boolean)) ∈ lw_all := lw_g (lw_at lw_m2 171 rfl) rfl
theorem q550 : (Jvm.Cond.methodLinkNest "OverHill$Reader" (48 : Nat) ({ cls := "OverHill", name := "isIn", desc := "(JJJ)Z" } : Jvm.MethodName) "OverHill") ∈ lw_tbl := lw_at lw_m2 172 rfl
theorem q551 : (Jvm.Cond.fieldLink "OverHill$Reader" (59 : Nat) "OverHill$Token" "WORD" "LOverHill$Token;") ∈ lw_all := lw_g (lw_at lw_m2 173 rfl) rfl
theorem q553 : (Jvm.Cond.constant "OverHill$Reader" (65 : Nat) (99999 : Int32)) ∈ lw_all := lw_g (lw_at lw_m2 175 rfl) rfl
theorem q554 : (Jvm.Cond.methodLink "OverHill$Reader" (66 : Nat) ({ cls := "java/lang/Math", name := "min", desc := "(II)I" } : Jvm.MethodName)) ∈ lw_all := lw_g (lw_at lw_m2 176 rfl) rfl
theorem q557 : (Jvm.Cond.fieldLink "OverHill$Reader" (72 : Nat) "OverHill$Token" "NUMBER" "LOverHill$Token;") ∈ lw_all := lw_g (lw_at lw_m2 179 rfl) rfl
theorem q559 : (Jvm.Cond.fieldLink "OverHill$Reader" (75 : Nat) "OverHill$Token" "STOP" "LOverHill$Token;") ∈ lw_all := lw_g (lw_at lw_m2 181 rfl) rfl
theorem q561 : (Jvm.Cond.fieldLink "OverHill$Reader" (78 : Nat) "OverHill$Token" "NONE" "LOverHill$Token;") ∈ lw_all := lw_g (lw_at lw_m2 183 rfl) rfl
theorem q563 : (Jvm.Cond.fieldLink "OverHill$Reader" (19 : Nat) "OverHill$Reader" "size" "I") ∈ lw_all := lw_g (lw_at lw_m2 185 rfl) rfl
theorem q564 : (Jvm.Cond.fieldLink "OverHill$Reader" (25 : Nat) "OverHill$Reader" "dance" "LOverHill$Dance;") ∈ lw_all := lw_g (lw_at lw_m2 186 rfl) rfl
theorem q565 : (Jvm.Cond.fieldLink "OverHill$Reader" (41 : Nat) "OverHill$Reader" "at" "I") ∈ lw_all := lw_g (lw_at lw_m2 187 rfl) rfl
theorem q566 : (Jvm.Cond.fieldLink "OverHill$Reader" (52 : Nat) "OverHill$Reader" "from" "I") ∈ lw_all := lw_g (lw_at lw_m2 188 rfl) rfl
theorem q567 : (Jvm.Cond.fieldLink "OverHill$Reader" (62 : Nat) "OverHill$Reader" "value" "I") ∈ lw_all := lw_g (lw_at lw_m2 189 rfl) rfl
theorem q568 : (Jvm.Cond.fieldLink "OverHill$Reader" (35 : Nat) "OverHill$Reader" "token" "LOverHill$Token;") ∈ lw_all := lw_g (lw_at lw_m2 190 rfl) rfl
theorem q569 : (Jvm.Cond.fieldLink "OverHill$Reader" (3 : Nat) "OverHill$Reader" "this$0" "LOverHill;") ∈ lw_all := lw_g (lw_at lw_m2 191 rfl) rfl
theorem q570 : (Jvm.Cond.laysFinal "OverHill$Reader" "OverHill$Reader" "size" "I") ∈ lw_all := lw_g (lw_at lw_m2 192 rfl) rfl
theorem q571 : (Jvm.Cond.soleField "OverHill$Reader" "size") ∈ lw_all := lw_g (lw_at lw_m2 193 rfl) rfl
theorem q572 : (Jvm.Cond.laysFinal "OverHill$Reader" "OverHill$Reader" "dance" "LOverHill$Dance;") ∈ lw_all := lw_g (lw_at lw_m2 194 rfl) rfl
theorem q573 : (Jvm.Cond.soleField "OverHill$Reader" "dance") ∈ lw_all := lw_g (lw_at lw_m2 195 rfl) rfl
theorem q574 : (Jvm.Cond.lays "OverHill$Reader" "OverHill$Reader" "at" "I") ∈ lw_all := lw_g (lw_at lw_m2 196 rfl) rfl
theorem q575 : (Jvm.Cond.soleField "OverHill$Reader" "at") ∈ lw_all := lw_g (lw_at lw_m2 197 rfl) rfl
theorem q576 : (Jvm.Cond.lays "OverHill$Reader" "OverHill$Reader" "from" "I") ∈ lw_all := lw_g (lw_at lw_m2 198 rfl) rfl
theorem q577 : (Jvm.Cond.soleField "OverHill$Reader" "from") ∈ lw_all := lw_g (lw_at lw_m2 199 rfl) rfl
theorem q578 : (Jvm.Cond.lays "OverHill$Reader" "OverHill$Reader" "value" "I") ∈ lw_all := lw_g (lw_at lw_m2 200 rfl) rfl
theorem q579 : (Jvm.Cond.soleField "OverHill$Reader" "value") ∈ lw_all := lw_g (lw_at lw_m2 201 rfl) rfl
theorem q580 : (Jvm.Cond.lays "OverHill$Reader" "OverHill$Reader" "token" "LOverHill$Token;") ∈ lw_all := lw_g (lw_at lw_m2 202 rfl) rfl
theorem q581 : (Jvm.Cond.soleField "OverHill$Reader" "token") ∈ lw_all := lw_g (lw_at lw_m2 203 rfl) rfl
theorem q582 : (Jvm.Cond.laysFinal "OverHill$Reader" "OverHill$Reader" "this$0" "LOverHill;") ∈ lw_all := lw_g (lw_at lw_m2 204 rfl) rfl
theorem q583 : (Jvm.Cond.soleField "OverHill$Reader" "this$0") ∈ lw_all := lw_g (lw_at lw_m2 205 rfl) rfl
theorem q584 : (Jvm.Cond.superclass "OverHill$Reader" "java/lang/Object") ∈ lw_all := lw_g (lw_at lw_m2 206 rfl) rfl
theorem q586 : (Jvm.Cond.instanceMethod ({ cls := "OverHill$Reader", name := "read", desc := "()LOverHill$Dance;" } : Jvm.MethodName)) ∈ lw_all := lw_g (lw_at lw_m2 208 rfl) rfl
theorem q587 : (Jvm.Cond.selects "OverHill$Reader" ({ cls := "OverHill$Reader", name := "read", desc := "()LOverHill$Dance;" } : Jvm.MethodName) ({ cls := "OverHill$Reader", name := "read", desc := "()LOverHill$Dance;" } : Jvm.MethodName)) ∈ lw_all := lw_g (lw_at lw_m2 209 rfl) rfl
theorem q588 : (Jvm.Cond.code ({ cls := "OverHill$Reader", name := "read", desc := "()LOverHill$Dance;" } : Jvm.MethodName) prog_6_method_20_code (1 : Nat) (Option.some (Jvm.ClassFile.FieldType.object "OverHill$Dance"))) ∈ lw_all := lw_g (lw_at lw_m2 210 rfl) rfl
theorem q589 : (Jvm.Cond.methodLink "OverHill$Reader" (224 : Nat) ({ cls := "OverHill$Reader", name := "first", desc := "()V" } : Jvm.MethodName)) ∈ lw_all := lw_g (lw_at lw_m2 211 rfl) rfl
theorem q590 : (Jvm.Cond.privateMethod ({ cls := "OverHill$Reader", name := "first", desc := "()V" } : Jvm.MethodName)) ∈ lw_tbl := lw_at lw_m2 212 rfl
theorem q591 : (Jvm.Cond.instanceMethod ({ cls := "OverHill$Reader", name := "first", desc := "()V" } : Jvm.MethodName)) ∈ lw_all := lw_g (lw_at lw_m2 213 rfl) rfl
theorem q592 : (Jvm.Cond.code ({ cls := "OverHill$Reader", name := "first", desc := "()V" } : Jvm.MethodName) prog_6_method_11_code (1 : Nat) (Option.none : Option Jvm.ClassFile.FieldType)) ∈ lw_all := lw_g (lw_at lw_m2 214 rfl) rfl
theorem q593 : (Jvm.Cond.stringRef "OverHill$Reader" (114 : Nat) "dance") ∈ lw_tbl := lw_at lw_m2 215 rfl
theorem q594 : (Jvm.Cond.methodLink "OverHill$Reader" (107 : Nat) ({ cls := "OverHill$Reader", name := "needs", desc := "(Ljava/lang/String;)V" } : Jvm.MethodName)) ∈ lw_all := lw_g (lw_at lw_m2 216 rfl) rfl
theorem q595 : (Jvm.Cond.privateMethod ({ cls := "OverHill$Reader", name := "needs", desc := "(Ljava/lang/String;)V" } : Jvm.MethodName)) ∈ lw_tbl := lw_at lw_m2 217 rfl
theorem q596 : (Jvm.Cond.instanceMethod ({ cls := "OverHill$Reader", name := "needs", desc := "(Ljava/lang/String;)V" } : Jvm.MethodName)) ∈ lw_all := lw_g (lw_at lw_m2 218 rfl) rfl
theorem q597 : (Jvm.Cond.code ({ cls := "OverHill$Reader", name := "needs", desc := "(Ljava/lang/String;)V" } : Jvm.MethodName) prog_6_method_7_code (2 : Nat) (Option.none : Option Jvm.ClassFile.FieldType)) ∈ lw_all := lw_g (lw_at lw_m2 219 rfl) rfl
theorem q598 : (Jvm.Cond.methodLink "OverHill$Reader" (100 : Nat) ({ cls := "OverHill$Reader", name := "takes", desc := "(Ljava/lang/String;)Z" } : Jvm.MethodName)) ∈ lw_all := lw_g (lw_at lw_m2 220 rfl) rfl
theorem q599 : (Jvm.Cond.privateMethod ({ cls := "OverHill$Reader", name := "takes", desc := "(Ljava/lang/String;)Z" } : Jvm.MethodName)) ∈ lw_tbl := lw_at lw_m2 221 rfl
theorem q600 : (Jvm.Cond.instanceMethod ({ cls := "OverHill$Reader", name := "takes", desc := "(Ljava/lang/String;)Z" } : Jvm.MethodName)) ∈ lw_all := lw_g (lw_at lw_m2 222 rfl) rfl
theorem q601 : (Jvm.Cond.code ({ cls := "OverHill$Reader", name := "takes", desc := "(Ljava/lang/String;)Z" } : Jvm.MethodName) prog_6_method_6_code (3 : Nat) (Option.some Jvm.ClassFile.FieldType.boolean)) ∈ lw_all := lw_g (lw_at lw_m2 223 rfl) rfl
theorem q602 : (Jvm.Cond.methodLink "OverHill$Reader" (96 : Nat) ({ cls := "OverHill$Reader", name := "is", desc := "(Ljava/lang/String;)Z" } : Jvm.MethodName)) ∈ lw_all := lw_g (lw_at lw_m2 224 rfl) rfl
theorem q603 : (Jvm.Cond.privateMethod ({ cls := "OverHill$Reader", name := "is", desc := "(Ljava/lang/String;)Z" } : Jvm.MethodName)) ∈ lw_tbl := lw_at lw_m2 225 rfl
theorem q604 : (Jvm.Cond.instanceMethod ({ cls := "OverHill$Reader", name := "is", desc := "(Ljava/lang/String;)Z" } : Jvm.MethodName)) ∈ lw_all := lw_g (lw_at lw_m2 226 rfl) rfl
theorem q605 : (Jvm.Cond.code ({ cls := "OverHill$Reader", name := "is", desc := "(Ljava/lang/String;)Z" } : Jvm.MethodName) prog_6_method_5_code (3 : Nat) (Option.some Jvm.ClassFile.FieldType.boolean)) ∈ lw_all := lw_g (lw_at lw_m2 227 rfl) rfl
theorem q606 : (Jvm.Cond.methodLink "OverHill$Reader" (86 : Nat) ({ cls := "java/lang/String", name := "length", desc := "()I" } : Jvm.MethodName)) ∈ lw_all := lw_g (lw_at lw_m2 228 rfl) rfl
theorem q616 : (Jvm.Cond.methodLink "OverHill$Reader" (92 : Nat) ({ cls := "java/lang/String", name := "charAt", desc := "(I)C" } : Jvm.MethodName)) ∈ lw_all := lw_g (lw_at lw_m2 238 rfl) rfl
theorem q654 : (Jvm.Cond.methodLink "OverHill$Reader" (103 : Nat) ({ cls := "OverHill$Reader", name := "wrong", desc := "(I)LOverHill$Fault;" } : Jvm.MethodName)) ∈ lw_all := lw_g (lw_at lw_m3 36 rfl) rfl
theorem q655 : (Jvm.Cond.privateMethod ({ cls := "OverHill$Reader", name := "wrong", desc := "(I)LOverHill$Fault;" } : Jvm.MethodName)) ∈ lw_tbl := lw_at lw_m3 37 rfl
theorem q656 : (Jvm.Cond.instanceMethod ({ cls := "OverHill$Reader", name := "wrong", desc := "(I)LOverHill$Fault;" } : Jvm.MethodName)) ∈ lw_all := lw_g (lw_at lw_m3 38 rfl) rfl
theorem q657 : (Jvm.Cond.code ({ cls := "OverHill$Reader", name := "wrong", desc := "(I)LOverHill$Fault;" } : Jvm.MethodName) prog_6_method_4_code (2 : Nat) (Option.some (Jvm.ClassFile.FieldType.object "OverHill$Fault"))) ∈ lw_all := lw_g (lw_at lw_m3 39 rfl) rfl
theorem q658 : (Jvm.Cond.classLink "OverHill$Reader" (81 : Nat) "OverHill$Fault") ∈ lw_all := lw_g (lw_at lw_m3 40 rfl) rfl
theorem q712 : (Jvm.Cond.methodLink "OverHill$Reader" (83 : Nat) ({ cls := "OverHill$Fault", name := "<init>", desc := "(II)V" } : Jvm.MethodName)) ∈ lw_all := lw_g (lw_at lw_m3 94 rfl) rfl
theorem q742 : (Jvm.Cond.stringRef "OverHill$Reader" (115 : Nat) "gap") ∈ lw_tbl := lw_at lw_m3 124 rfl
theorem q743 : (Jvm.Cond.methodLink "OverHill$Reader" (117 : Nat) ({ cls := "OverHill$Reader", name := "told", desc := "(Ljava/lang/String;II)I" } : Jvm.MethodName)) ∈ lw_all := lw_g (lw_at lw_m3 125 rfl) rfl
theorem q744 : (Jvm.Cond.privateMethod ({ cls := "OverHill$Reader", name := "told", desc := "(Ljava/lang/String;II)I" } : Jvm.MethodName)) ∈ lw_tbl := lw_at lw_m3 126 rfl
theorem q745 : (Jvm.Cond.instanceMethod ({ cls := "OverHill$Reader", name := "told", desc := "(Ljava/lang/String;II)I" } : Jvm.MethodName)) ∈ lw_all := lw_g (lw_at lw_m3 127 rfl) rfl
theorem q746 : (Jvm.Cond.code ({ cls := "OverHill$Reader", name := "told", desc := "(Ljava/lang/String;II)I" } : Jvm.MethodName) prog_6_method_9_code (4 : Nat) (Option.some Jvm.ClassFile.FieldType.int)) ∈ lw_all := lw_g (lw_at lw_m3 128 rfl) rfl
theorem q747 : (Jvm.Cond.methodLink "OverHill$Reader" (111 : Nat) ({ cls := "OverHill$Reader", name := "number", desc := "(II)I" } : Jvm.MethodName)) ∈ lw_all := lw_g (lw_at lw_m3 129 rfl) rfl
theorem q748 : (Jvm.Cond.privateMethod ({ cls := "OverHill$Reader", name := "number", desc := "(II)I" } : Jvm.MethodName)) ∈ lw_tbl := lw_at lw_m3 130 rfl
theorem q749 : (Jvm.Cond.instanceMethod ({ cls := "OverHill$Reader", name := "number", desc := "(II)I" } : Jvm.MethodName)) ∈ lw_all := lw_g (lw_at lw_m3 131 rfl) rfl
theorem q750 : (Jvm.Cond.code ({ cls := "OverHill$Reader", name := "number", desc := "(II)I" } : Jvm.MethodName) prog_6_method_8_code (4 : Nat) (Option.some Jvm.ClassFile.FieldType.int)) ∈ lw_all := lw_g (lw_at lw_m3 132 rfl) rfl
theorem q751 : (Jvm.Cond.stringRef "OverHill$Reader" (123 : Nat) "odds") ∈ lw_tbl := lw_at lw_m3 133 rfl
theorem q752 : (Jvm.Cond.stringRef "OverHill$Reader" (127 : Nat) "rain") ∈ lw_tbl := lw_at lw_m3 134 rfl
theorem q753 : (Jvm.Cond.methodLink "OverHill$Reader" (227 : Nat) ({ cls := "OverHill$Reader", name := "line", desc := "()V" } : Jvm.MethodName)) ∈ lw_all := lw_g (lw_at lw_m3 135 rfl) rfl
theorem q754 : (Jvm.Cond.privateMethod ({ cls := "OverHill$Reader", name := "line", desc := "()V" } : Jvm.MethodName)) ∈ lw_tbl := lw_at lw_m3 136 rfl
theorem q755 : (Jvm.Cond.instanceMethod ({ cls := "OverHill$Reader", name := "line", desc := "()V" } : Jvm.MethodName)) ∈ lw_all := lw_g (lw_at lw_m3 137 rfl) rfl
theorem q756 : (Jvm.Cond.code ({ cls := "OverHill$Reader", name := "line", desc := "()V" } : Jvm.MethodName) prog_6_method_19_code (1 : Nat) (Option.none : Option Jvm.ClassFile.FieldType)) ∈ lw_all := lw_g (lw_at lw_m3 138 rfl) rfl
theorem q757 : (Jvm.Cond.stringRef "OverHill$Reader" (192 : Nat) "round") ∈ lw_tbl := lw_at lw_m3 139 rfl
theorem q758 : (Jvm.Cond.methodLink "OverHill$Reader" (193 : Nat) ({ cls := "OverHill$Reader", name := "newRound", desc := "()V" } : Jvm.MethodName)) ∈ lw_all := lw_g (lw_at lw_m3 140 rfl) rfl
theorem q759 : (Jvm.Cond.privateMethod ({ cls := "OverHill$Reader", name := "newRound", desc := "()V" } : Jvm.MethodName)) ∈ lw_tbl := lw_at lw_m3 141 rfl
theorem q760 : (Jvm.Cond.instanceMethod ({ cls := "OverHill$Reader", name := "newRound", desc := "()V" } : Jvm.MethodName)) ∈ lw_all := lw_g (lw_at lw_m3 142 rfl) rfl
theorem q761 : (Jvm.Cond.code ({ cls := "OverHill$Reader", name := "newRound", desc := "()V" } : Jvm.MethodName) prog_6_method_12_code (4 : Nat) (Option.none : Option Jvm.ClassFile.FieldType)) ∈ lw_all := lw_g (lw_at lw_m3 143 rfl) rfl
theorem q762 : (Jvm.Cond.stringRef "OverHill$Reader" (131 : Nat) "of") ∈ lw_tbl := lw_at lw_m3 144 rfl
theorem q763 : (Jvm.Cond.methodLink "OverHill$Reader" (133 : Nat) ({ cls := "OverHill$Reader", name := "step", desc := "()I" } : Jvm.MethodName)) ∈ lw_all := lw_g (lw_at lw_m3 145 rfl) rfl
theorem q764 : (Jvm.Cond.privateMethod ({ cls := "OverHill$Reader", name := "step", desc := "()I" } : Jvm.MethodName)) ∈ lw_tbl := lw_at lw_m3 146 rfl
theorem q765 : (Jvm.Cond.instanceMethod ({ cls := "OverHill$Reader", name := "step", desc := "()I" } : Jvm.MethodName)) ∈ lw_all := lw_g (lw_at lw_m3 147 rfl) rfl
theorem q766 : (Jvm.Cond.code ({ cls := "OverHill$Reader", name := "step", desc := "()I" } : Jvm.MethodName) prog_6_method_10_code (1 : Nat) (Option.some Jvm.ClassFile.FieldType.int)) ∈ lw_all := lw_g (lw_at lw_m3 148 rfl) rfl
theorem q767 : (Jvm.Cond.stringRef "OverHill$Reader" (140 : Nat) "begins") ∈ lw_tbl := lw_at lw_m3 149 rfl
theorem q768 : (Jvm.Cond.stringRef "OverHill$Reader" (196 : Nat) "answers") ∈ lw_tbl := lw_at lw_m3 150 rfl
theorem q769 : (Jvm.Cond.methodLink "OverHill$Reader" (197 : Nat) ({ cls := "OverHill$Reader", name := "newAnswers", desc := "()V" } : Jvm.MethodName)) ∈ lw_all := lw_g (lw_at lw_m3 151 rfl) rfl
theorem q770 : (Jvm.Cond.privateMethod ({ cls := "OverHill$Reader", name := "newAnswers", desc := "()V" } : Jvm.MethodName)) ∈ lw_tbl := lw_at lw_m3 152 rfl
theorem q771 : (Jvm.Cond.instanceMethod ({ cls := "OverHill$Reader", name := "newAnswers", desc := "()V" } : Jvm.MethodName)) ∈ lw_all := lw_g (lw_at lw_m3 153 rfl) rfl
theorem q772 : (Jvm.Cond.code ({ cls := "OverHill$Reader", name := "newAnswers", desc := "()V" } : Jvm.MethodName) prog_6_method_13_code (3 : Nat) (Option.none : Option Jvm.ClassFile.FieldType)) ∈ lw_all := lw_g (lw_at lw_m3 154 rfl) rfl
theorem q773 : (Jvm.Cond.stringRef "OverHill$Reader" (200 : Nat) "stumble") ∈ lw_tbl := lw_at lw_m3 155 rfl
theorem q774 : (Jvm.Cond.methodLink "OverHill$Reader" (202 : Nat) ({ cls := "OverHill$Reader", name := "takes", desc := "(Ljava/lang/String;Z)Z" } : Jvm.MethodName)) ∈ lw_all := lw_g (lw_at lw_m3 156 rfl) rfl
theorem q775 : (Jvm.Cond.privateMethod ({ cls := "OverHill$Reader", name := "takes", desc := "(Ljava/lang/String;Z)Z" } : Jvm.MethodName)) ∈ lw_tbl := lw_at lw_m3 157 rfl
theorem q776 : (Jvm.Cond.instanceMethod ({ cls := "OverHill$Reader", name := "takes", desc := "(Ljava/lang/String;Z)Z" } : Jvm.MethodName)) ∈ lw_all := lw_g (lw_at lw_m3 158 rfl) rfl
theorem q777 : (Jvm.Cond.code ({ cls := "OverHill$Reader", name := "takes", desc := "(Ljava/lang/String;Z)Z" } : Jvm.MethodName) prog_6_method_18_code (3 : Nat) (Option.some Jvm.ClassFile.FieldType.boolean)) ∈ lw_all := lw_g (lw_at lw_m3 159 rfl) rfl
theorem q778 : (Jvm.Cond.methodLink "OverHill$Reader" (205 : Nat) ({ cls := "OverHill$Reader", name := "newStumble", desc := "()V" } : Jvm.MethodName)) ∈ lw_all := lw_g (lw_at lw_m3 160 rfl) rfl
theorem q779 : (Jvm.Cond.privateMethod ({ cls := "OverHill$Reader", name := "newStumble", desc := "()V" } : Jvm.MethodName)) ∈ lw_tbl := lw_at lw_m3 161 rfl
theorem q780 : (Jvm.Cond.instanceMethod ({ cls := "OverHill$Reader", name := "newStumble", desc := "()V" } : Jvm.MethodName)) ∈ lw_all := lw_g (lw_at lw_m3 162 rfl) rfl
theorem q781 : (Jvm.Cond.code ({ cls := "OverHill$Reader", name := "newStumble", desc := "()V" } : Jvm.MethodName) prog_6_method_14_code (2 : Nat) (Option.none : Option Jvm.ClassFile.FieldType)) ∈ lw_all := lw_g (lw_at lw_m3 163 rfl) rfl
theorem q782 : (Jvm.Cond.stringRef "OverHill$Reader" (155 : Nat) "at") ∈ lw_tbl := lw_at lw_m3 164 rfl
theorem q783 : (Jvm.Cond.methodLink "OverHill$Reader" (156 : Nat) ({ cls := "OverHill$Dance", name := "stumbleAt", desc := "(II)I" } : Jvm.MethodName)) ∈ lw_all := lw_g (lw_at lw_m3 165 rfl) rfl
theorem q787 : (Jvm.Cond.stringRef "OverHill$Reader" (165 : Nat) "does") ∈ lw_tbl := lw_at lw_m3 169 rfl
theorem q788 : (Jvm.Cond.stringRef "OverHill$Reader" (169 : Nat) "lag") ∈ lw_tbl := lw_at lw_m3 170 rfl
theorem q789 : (Jvm.Cond.stringRef "OverHill$Reader" (208 : Nat) "mud") ∈ lw_tbl := lw_at lw_m3 171 rfl
theorem q790 : (Jvm.Cond.methodLink "OverHill$Reader" (209 : Nat) ({ cls := "OverHill$Reader", name := "newMud", desc := "()V" } : Jvm.MethodName)) ∈ lw_all := lw_g (lw_at lw_m3 172 rfl) rfl
theorem q791 : (Jvm.Cond.privateMethod ({ cls := "OverHill$Reader", name := "newMud", desc := "()V" } : Jvm.MethodName)) ∈ lw_tbl := lw_at lw_m3 173 rfl
theorem q792 : (Jvm.Cond.instanceMethod ({ cls := "OverHill$Reader", name := "newMud", desc := "()V" } : Jvm.MethodName)) ∈ lw_all := lw_g (lw_at lw_m3 174 rfl) rfl
theorem q793 : (Jvm.Cond.code ({ cls := "OverHill$Reader", name := "newMud", desc := "()V" } : Jvm.MethodName) prog_6_method_15_code (1 : Nat) (Option.none : Option Jvm.ClassFile.FieldType)) ∈ lw_all := lw_g (lw_at lw_m3 175 rfl) rfl
theorem q794 : (Jvm.Cond.stringRef "OverHill$Reader" (212 : Nat) "wood") ∈ lw_tbl := lw_at lw_m3 176 rfl
theorem q795 : (Jvm.Cond.methodLink "OverHill$Reader" (214 : Nat) ({ cls := "OverHill$Reader", name := "newCell", desc := "()V" } : Jvm.MethodName)) ∈ lw_all := lw_g (lw_at lw_m3 177 rfl) rfl
theorem q796 : (Jvm.Cond.privateMethod ({ cls := "OverHill$Reader", name := "newCell", desc := "()V" } : Jvm.MethodName)) ∈ lw_tbl := lw_at lw_m3 178 rfl
theorem q797 : (Jvm.Cond.instanceMethod ({ cls := "OverHill$Reader", name := "newCell", desc := "()V" } : Jvm.MethodName)) ∈ lw_all := lw_g (lw_at lw_m3 179 rfl) rfl
theorem q798 : (Jvm.Cond.code ({ cls := "OverHill$Reader", name := "newCell", desc := "()V" } : Jvm.MethodName) prog_6_method_16_code (2 : Nat) (Option.none : Option Jvm.ClassFile.FieldType)) ∈ lw_all := lw_g (lw_at lw_m3 180 rfl) rfl
theorem q799 : (Jvm.Cond.stringRef "OverHill$Reader" (180 : Nat) "every") ∈ lw_tbl := lw_at lw_m3 181 rfl
theorem q800 : (Jvm.Cond.stringRef "OverHill$Reader" (217 : Nat) "tune") ∈ lw_tbl := lw_at lw_m3 182 rfl
theorem q801 : (Jvm.Cond.methodLink "OverHill$Reader" (218 : Nat) ({ cls := "OverHill$Reader", name := "newTune", desc := "()V" } : Jvm.MethodName)) ∈ lw_all := lw_g (lw_at lw_m3 183 rfl) rfl
theorem q802 : (Jvm.Cond.privateMethod ({ cls := "OverHill$Reader", name := "newTune", desc := "()V" } : Jvm.MethodName)) ∈ lw_tbl := lw_at lw_m3 184 rfl
theorem q803 : (Jvm.Cond.instanceMethod ({ cls := "OverHill$Reader", name := "newTune", desc := "()V" } : Jvm.MethodName)) ∈ lw_all := lw_g (lw_at lw_m3 185 rfl) rfl
theorem q804 : (Jvm.Cond.code ({ cls := "OverHill$Reader", name := "newTune", desc := "()V" } : Jvm.MethodName) prog_6_method_17_code (2 : Nat) (Option.none : Option Jvm.ClassFile.FieldType)) ∈ lw_all := lw_g (lw_at lw_m3 186 rfl) rfl
theorem q1423 : (Jvm.Cond.selects "OverHill$Reader" ({ cls := "java/lang/Object", name := "getClass", desc := "()Ljava/lang/Class;" } : Jvm.MethodName) ({ cls := "java/lang/Object", name := "getClass", desc := "()Ljava/lang/Class;" } : Jvm.MethodName)) ∈ lw_all := lw_g (lw_at lw_m6 85 rfl) rfl
theorem q2305 : (Jvm.Cond.castable "OverHill$Reader" "java/lang/Object") ∈ lw_tbl := lw_at lw_m10 7 rfl
theorem in_X9 : ∀ w ∈ wsX90, w ∈ lw_all := lw_in wsX90 [570, 572, 574, 576, 578, 580, 582] (by decide +kernel) (by decide +kernel)

/-! OverHill$Fault -/
set_option maxRecDepth 100000
def RX10 : String := "OverHill$Fault"
def TX10 : u_T := fun k => match k with
  | 0 => ("java/lang/Throwable", "cause", "Ljava/lang/Throwable;", false)
  | 1 => ("java/lang/Throwable", "stackTrace", "[Ljava/lang/StackTraceElement;", false)
  | 2 => ("java/lang/Throwable", "suppressedExceptions", "Ljava/util/List;", false)
  | 3 => ("java/lang/Throwable", "detailMessage", "Ljava/lang/String;", false)
  | 4 => ("java/lang/Throwable", "backtrace", "Ljava/lang/Object;", false)
  | 5 => ("java/lang/Throwable", "depth", "I", false)
  | 6 => ("OverHill$Fault", "kind", "I", true)
  | _ => ("OverHill$Fault", "place", "I", true)
def tyX10 : Nat → FieldType := fun k => match k with
  | 0 => .object "java/lang/Throwable"
  | 1 => .array (.object "java/lang/StackTraceElement")
  | 2 => .object "java/util/List"
  | 3 => .object "java/lang/String"
  | 4 => .object "java/lang/Object"
  | 5 => .int
  | 6 => .int
  | _ => .int
abbrev wsX100 : List Cond := u_ws RX10 TX10 8
theorem nmX10 : ∀ a, a < 8 → ∀ b, b < 8 → a ≠ b → (TX10 a).2.1 ≠ (TX10 b).2.1 := by decide +kernel
theorem tyX10_ok : ∀ k, k < 8 → parseFieldDescriptor (TX10 k).2.2.1 = some (tyX10 k) := by decide +kernel
abbrev cX10_init : ByteArray := prog_3_method_1_code
def yX10_init : MethodName := ⟨RX10, "<init>", "(II)V"⟩
def dkwX10_init_0 : List UInt8 := [42, 1, 1, 3, 3, 183, 0, 1, 42, 27, 181, 0, 7, 42, 28, 181, 0, 13, 177]
abbrev dktX10_init_0 : List UInt8 := dkwX10_init_0 ++ []
theorem dksX10_init_0 : cX10_init.data.toList.drop 0 = dktX10_init_0 := by decide +kernel
theorem dX10_init_0 : decode cX10_init 0 = .ok (.aload_n 0, 1) := dk_42 (dk_at dksX10_init_0 0 rfl rfl)
theorem dX10_init_1 : decode cX10_init 1 = .ok (.aconst_null, 1) := dk_1 (dk_at dksX10_init_0 1 rfl rfl)
theorem dX10_init_2 : decode cX10_init 2 = .ok (.aconst_null, 1) := dk_1 (dk_at dksX10_init_0 2 rfl rfl)
theorem dX10_init_3 : decode cX10_init 3 = .ok (.iconst 0, 1) := dk_3 (dk_at dksX10_init_0 3 rfl rfl)
theorem dX10_init_4 : decode cX10_init 4 = .ok (.iconst 0, 1) := dk_3 (dk_at dksX10_init_0 4 rfl rfl)
theorem dX10_init_5 : decode cX10_init 5 = .ok (.invokespecial 1, 3) := dk_183 0 1 (dk_at dksX10_init_0 5 rfl rfl)
theorem dX10_init_8 : decode cX10_init 8 = .ok (.aload_n 0, 1) := dk_42 (dk_at dksX10_init_0 8 rfl rfl)
theorem dX10_init_9 : decode cX10_init 9 = .ok (.iload_n 1, 1) := dk_27 (dk_at dksX10_init_0 9 rfl rfl)
theorem dX10_init_10 : decode cX10_init 10 = .ok (.putfield 7, 3) := dk_181 0 7 (dk_at dksX10_init_0 10 rfl rfl)
theorem dX10_init_13 : decode cX10_init 13 = .ok (.aload_n 0, 1) := dk_42 (dk_at dksX10_init_0 13 rfl rfl)
theorem dX10_init_14 : decode cX10_init 14 = .ok (.iload_n 2, 1) := dk_28 (dk_at dksX10_init_0 14 rfl rfl)
theorem dX10_init_15 : decode cX10_init 15 = .ok (.putfield 13, 3) := dk_181 0 13 (dk_at dksX10_init_0 15 rfl rfl)
theorem dX10_init_18 : decode cX10_init 18 = .ok (.return_, 1) := dk_177 (dk_at dksX10_init_0 18 rfl rfl)
theorem q161 : (Jvm.Cond.initialized "OverHill$Fault") ∈ lw_all := lw_g (lw_at lw_m1 23 rfl) rfl
theorem q659 : (Jvm.Cond.instantiable "OverHill$Fault" (8 : Nat)) ∈ lw_all := lw_g (lw_at lw_m3 41 rfl) rfl
theorem q660 : (Jvm.Cond.castable "OverHill$Fault" "OverHill$Fault") ∈ lw_tbl := lw_at lw_m3 42 rfl
theorem q665 : (Jvm.Cond.selects "OverHill$Fault" ({ cls := "java/lang/Throwable", name := "fillInStackTrace", desc := "(I)Ljava/lang/Throwable;" } : Jvm.MethodName) ({ cls := "java/lang/Throwable", name := "fillInStackTrace", desc := "(I)Ljava/lang/Throwable;" } : Jvm.MethodName)) ∈ lw_all := lw_g (lw_at lw_m3 47 rfl) rfl
theorem q666 : (Jvm.Cond.selects "OverHill$Fault" ({ cls := "java/lang/Throwable", name := "fillInStackTrace", desc := "()Ljava/lang/Throwable;" } : Jvm.MethodName) ({ cls := "java/lang/Throwable", name := "fillInStackTrace", desc := "()Ljava/lang/Throwable;" } : Jvm.MethodName)) ∈ lw_all := lw_g (lw_at lw_m3 48 rfl) rfl
theorem q667 : (Jvm.Cond.lays "OverHill$Fault" "java/lang/Throwable" "cause" "Ljava/lang/Throwable;") ∈ lw_all := lw_g (lw_at lw_m3 49 rfl) rfl
theorem q669 : (Jvm.Cond.lays "OverHill$Fault" "java/lang/Throwable" "stackTrace" "[Ljava/lang/StackTraceElement;") ∈ lw_all := lw_g (lw_at lw_m3 51 rfl) rfl
theorem q671 : (Jvm.Cond.lays "OverHill$Fault" "java/lang/Throwable" "suppressedExceptions" "Ljava/util/List;") ∈ lw_all := lw_g (lw_at lw_m3 53 rfl) rfl
theorem q673 : (Jvm.Cond.lays "OverHill$Fault" "java/lang/Throwable" "detailMessage" "Ljava/lang/String;") ∈ lw_all := lw_g (lw_at lw_m3 55 rfl) rfl
theorem q675 : (Jvm.Cond.lays "OverHill$Fault" "java/lang/Throwable" "backtrace" "Ljava/lang/Object;") ∈ lw_all := lw_g (lw_at lw_m3 57 rfl) rfl
theorem q713 : (Jvm.Cond.instanceMethod ({ cls := "OverHill$Fault", name := "<init>", desc := "(II)V" } : Jvm.MethodName)) ∈ lw_all := lw_g (lw_at lw_m3 95 rfl) rfl
theorem q714 : (Jvm.Cond.code ({ cls := "OverHill$Fault", name := "<init>", desc := "(II)V" } : Jvm.MethodName) prog_3_method_1_code (3 : Nat) (Option.none : Option Jvm.ClassFile.FieldType)) ∈ lw_all := lw_g (lw_at lw_m3 96 rfl) rfl
theorem q715 : (Jvm.Cond.methodLink "OverHill$Fault" (1 : Nat) ({ cls := "java/lang/Exception", name := "<init>", desc := "(Ljava/lang/String;Ljava/lang/Throwable;ZZ)V" } : Jvm.MethodName)) ∈ lw_all := lw_g (lw_at lw_m3 97 rfl) rfl
theorem q721 : (Jvm.Cond.fieldLink "OverHill$Fault" (7 : Nat) "OverHill$Fault" "kind" "I") ∈ lw_all := lw_g (lw_at lw_m3 103 rfl) rfl
theorem q723 : (Jvm.Cond.fieldLink "OverHill$Fault" (13 : Nat) "OverHill$Fault" "place" "I") ∈ lw_all := lw_g (lw_at lw_m3 105 rfl) rfl
theorem q730 : (Jvm.Cond.laysFinal "OverHill$Fault" "OverHill$Fault" "kind" "I") ∈ lw_all := lw_g (lw_at lw_m3 112 rfl) rfl
theorem q731 : (Jvm.Cond.soleField "OverHill$Fault" "kind") ∈ lw_all := lw_g (lw_at lw_m3 113 rfl) rfl
theorem q732 : (Jvm.Cond.laysFinal "OverHill$Fault" "OverHill$Fault" "place" "I") ∈ lw_all := lw_g (lw_at lw_m3 114 rfl) rfl
theorem q733 : (Jvm.Cond.soleField "OverHill$Fault" "place") ∈ lw_all := lw_g (lw_at lw_m3 115 rfl) rfl
theorem q738 : (Jvm.Cond.lays "OverHill$Fault" "java/lang/Throwable" "depth" "I") ∈ lw_all := lw_g (lw_at lw_m3 120 rfl) rfl
theorem q741 : (Jvm.Cond.superclass "OverHill$Fault" "java/lang/Exception") ∈ lw_all := lw_g (lw_at lw_m3 123 rfl) rfl
theorem q1421 : (Jvm.Cond.selects "OverHill$Fault" ({ cls := "java/lang/Object", name := "getClass", desc := "()Ljava/lang/Class;" } : Jvm.MethodName) ({ cls := "java/lang/Object", name := "getClass", desc := "()Ljava/lang/Class;" } : Jvm.MethodName)) ∈ lw_all := lw_g (lw_at lw_m6 83 rfl) rfl
theorem q2307 : (Jvm.Cond.castable "OverHill$Fault" "java/lang/Object") ∈ lw_tbl := lw_at lw_m10 9 rfl
theorem in_X10 : ∀ w ∈ wsX100, w ∈ lw_all := lw_in wsX100 [667, 669, 671, 673, 675, 738, 730, 732] (by decide +kernel) (by decide +kernel)

/-! java/util/AbstractCollection -/
set_option maxRecDepth 100000
def RJ0 : String := "java/util/AbstractCollection"
abbrev cJ0_init : ByteArray := prog_36_method_1_code
def yJ0_init : MethodName := ⟨RJ0, "<init>", "()V"⟩
theorem dJ0_init_0 : decode cJ0_init 0 = .ok (.aload_n 0, 1) := by decide +kernel
theorem dJ0_init_1 : decode cJ0_init 1 = .ok (.invokespecial 1, 3) := by decide +kernel
theorem dJ0_init_4 : decode cJ0_init 4 = .ok (.return_, 1) := by decide +kernel
theorem q147 : (Jvm.Cond.initialized "java/util/AbstractCollection") ∈ lw_all := lw_g (lw_at lw_m1 9 rfl) rfl
theorem q385 : (Jvm.Cond.instanceMethod ({ cls := "java/util/AbstractCollection", name := "<init>", desc := "()V" } : Jvm.MethodName)) ∈ lw_all := lw_g (lw_at lw_m2 7 rfl) rfl
theorem q386 : (Jvm.Cond.code ({ cls := "java/util/AbstractCollection", name := "<init>", desc := "()V" } : Jvm.MethodName) prog_36_method_1_code (1 : Nat) (Option.none : Option Jvm.ClassFile.FieldType)) ∈ lw_all := lw_g (lw_at lw_m2 8 rfl) rfl
theorem q387 : (Jvm.Cond.methodLink "java/util/AbstractCollection" (1 : Nat) ({ cls := "java/lang/Object", name := "<init>", desc := "()V" } : Jvm.MethodName)) ∈ lw_all := lw_g (lw_at lw_m2 9 rfl) rfl

/-! java/util/AbstractList -/
set_option maxRecDepth 100000
def RJ1 : String := "java/util/AbstractList"
abbrev cJ1_init : ByteArray := prog_37_method_1_code
def yJ1_init : MethodName := ⟨RJ1, "<init>", "()V"⟩
def dkwJ1_init_0 : List UInt8 := [42, 183, 0, 1, 42, 3, 181, 0, 7, 177]
abbrev dktJ1_init_0 : List UInt8 := dkwJ1_init_0 ++ []
theorem dksJ1_init_0 : cJ1_init.data.toList.drop 0 = dktJ1_init_0 := by decide +kernel
theorem dJ1_init_0 : decode cJ1_init 0 = .ok (.aload_n 0, 1) := dk_42 (dk_at dksJ1_init_0 0 rfl rfl)
theorem dJ1_init_1 : decode cJ1_init 1 = .ok (.invokespecial 1, 3) := dk_183 0 1 (dk_at dksJ1_init_0 1 rfl rfl)
theorem dJ1_init_4 : decode cJ1_init 4 = .ok (.aload_n 0, 1) := dk_42 (dk_at dksJ1_init_0 4 rfl rfl)
theorem dJ1_init_5 : decode cJ1_init 5 = .ok (.iconst 0, 1) := dk_3 (dk_at dksJ1_init_0 5 rfl rfl)
theorem dJ1_init_6 : decode cJ1_init 6 = .ok (.putfield 7, 3) := dk_181 0 7 (dk_at dksJ1_init_0 6 rfl rfl)
theorem dJ1_init_9 : decode cJ1_init 9 = .ok (.return_, 1) := dk_177 (dk_at dksJ1_init_0 9 rfl rfl)
theorem q148 : (Jvm.Cond.initialized "java/util/AbstractList") ∈ lw_all := lw_g (lw_at lw_m1 10 rfl) rfl
theorem q382 : (Jvm.Cond.instanceMethod ({ cls := "java/util/AbstractList", name := "<init>", desc := "()V" } : Jvm.MethodName)) ∈ lw_all := lw_g (lw_at lw_m2 4 rfl) rfl
theorem q383 : (Jvm.Cond.code ({ cls := "java/util/AbstractList", name := "<init>", desc := "()V" } : Jvm.MethodName) prog_37_method_1_code (1 : Nat) (Option.none : Option Jvm.ClassFile.FieldType)) ∈ lw_all := lw_g (lw_at lw_m2 5 rfl) rfl
theorem q384 : (Jvm.Cond.methodLink "java/util/AbstractList" (1 : Nat) ({ cls := "java/util/AbstractCollection", name := "<init>", desc := "()V" } : Jvm.MethodName)) ∈ lw_all := lw_g (lw_at lw_m2 6 rfl) rfl
theorem q392 : (Jvm.Cond.fieldLink "java/util/AbstractList" (7 : Nat) "java/util/AbstractList" "modCount" "I") ∈ lw_all := lw_g (lw_at lw_m2 14 rfl) rfl
theorem q400 : (Jvm.Cond.soleField "java/util/AbstractList" "modCount") ∈ lw_all := lw_g (lw_at lw_m2 22 rfl) rfl

/-! java/util/ArrayList -/
set_option maxRecDepth 100000
def RJ2 : String := "java/util/ArrayList"
def TJ2 : u_T := fun k => match k with
  | 0 => ("java/util/AbstractList", "modCount", "I", false)
  | 1 => ("java/util/ArrayList", "elementData", "[Ljava/lang/Object;", false)
  | _ => ("java/util/ArrayList", "size", "I", false)
def tyJ2 : Nat → FieldType := fun k => match k with
  | 0 => .int
  | 1 => .array (.object "java/lang/Object")
  | _ => .int
abbrev wsJ20 : List Cond := u_ws RJ2 TJ2 3
theorem nmJ2 : ∀ a, a < 3 → ∀ b, b < 3 → a ≠ b → (TJ2 a).2.1 ≠ (TJ2 b).2.1 := by decide +kernel
theorem tyJ2_ok : ∀ k, k < 3 → parseFieldDescriptor (TJ2 k).2.2.1 = some (tyJ2 k) := by decide +kernel
abbrev cJ2_init : ByteArray := prog_38_method_2_code
def yJ2_init : MethodName := ⟨RJ2, "<init>", "()V"⟩
def dkwJ2_init_0 : List UInt8 := [42, 183, 0, 1, 42, 178, 0, 39, 181, 0, 9, 177]
abbrev dktJ2_init_0 : List UInt8 := dkwJ2_init_0 ++ []
theorem dksJ2_init_0 : cJ2_init.data.toList.drop 0 = dktJ2_init_0 := by decide +kernel
theorem dJ2_init_0 : decode cJ2_init 0 = .ok (.aload_n 0, 1) := dk_42 (dk_at dksJ2_init_0 0 rfl rfl)
theorem dJ2_init_1 : decode cJ2_init 1 = .ok (.invokespecial 1, 3) := dk_183 0 1 (dk_at dksJ2_init_0 1 rfl rfl)
theorem dJ2_init_4 : decode cJ2_init 4 = .ok (.aload_n 0, 1) := dk_42 (dk_at dksJ2_init_0 4 rfl rfl)
theorem dJ2_init_5 : decode cJ2_init 5 = .ok (.getstatic 39, 3) := dk_178 0 39 (dk_at dksJ2_init_0 5 rfl rfl)
theorem dJ2_init_8 : decode cJ2_init 8 = .ok (.putfield 9, 3) := dk_181 0 9 (dk_at dksJ2_init_0 8 rfl rfl)
theorem dJ2_init_11 : decode cJ2_init 11 = .ok (.return_, 1) := dk_177 (dk_at dksJ2_init_0 11 rfl rfl)
abbrev cJ2_size : ByteArray := prog_38_method_8_code
def yJ2_size : MethodName := ⟨RJ2, "size", "()I"⟩
theorem dJ2_size_0 : decode cJ2_size 0 = .ok (.aload_n 0, 1) := by decide +kernel
theorem dJ2_size_1 : decode cJ2_size 1 = .ok (.getfield 48, 3) := by decide +kernel
theorem dJ2_size_4 : decode cJ2_size 4 = .ok (.ireturn, 1) := by decide +kernel
abbrev cJ2_add : ByteArray := prog_38_method_25_code
def yJ2_add : MethodName := ⟨RJ2, "add", "(Ljava/lang/Object;)Z"⟩
def dkwJ2_add_1 : List UInt8 := [172]
abbrev dktJ2_add_1 : List UInt8 := dkwJ2_add_1 ++ []
def dkwJ2_add_0 : List UInt8 := [42, 89, 180, 0, 63, 4, 96, 181, 0, 63, 42, 43, 42, 180, 0, 9, 42, 180, 0, 48, 182, 0, 131, 4]
abbrev dktJ2_add_0 : List UInt8 := dkwJ2_add_0 ++ dktJ2_add_1
theorem dksJ2_add_0 : cJ2_add.data.toList.drop 0 = dktJ2_add_0 := by decide +kernel
theorem dksJ2_add_1 : cJ2_add.data.toList.drop 24 = dktJ2_add_1 := dk_seg dksJ2_add_0 24 rfl rfl
theorem dJ2_add_0 : decode cJ2_add 0 = .ok (.aload_n 0, 1) := dk_42 (dk_at dksJ2_add_0 0 rfl rfl)
theorem dJ2_add_1 : decode cJ2_add 1 = .ok (.dup, 1) := dk_89 (dk_at dksJ2_add_0 1 rfl rfl)
theorem dJ2_add_2 : decode cJ2_add 2 = .ok (.getfield 63, 3) := dk_180 0 63 (dk_at dksJ2_add_0 2 rfl rfl)
theorem dJ2_add_5 : decode cJ2_add 5 = .ok (.iconst 1, 1) := dk_4 (dk_at dksJ2_add_0 5 rfl rfl)
theorem dJ2_add_6 : decode cJ2_add 6 = .ok (.iadd, 1) := dk_96 (dk_at dksJ2_add_0 6 rfl rfl)
theorem dJ2_add_7 : decode cJ2_add 7 = .ok (.putfield 63, 3) := dk_181 0 63 (dk_at dksJ2_add_0 7 rfl rfl)
theorem dJ2_add_10 : decode cJ2_add 10 = .ok (.aload_n 0, 1) := dk_42 (dk_at dksJ2_add_0 10 rfl rfl)
theorem dJ2_add_11 : decode cJ2_add 11 = .ok (.aload_n 1, 1) := dk_43 (dk_at dksJ2_add_0 11 rfl rfl)
theorem dJ2_add_12 : decode cJ2_add 12 = .ok (.aload_n 0, 1) := dk_42 (dk_at dksJ2_add_0 12 rfl rfl)
theorem dJ2_add_13 : decode cJ2_add 13 = .ok (.getfield 9, 3) := dk_180 0 9 (dk_at dksJ2_add_0 13 rfl rfl)
theorem dJ2_add_16 : decode cJ2_add 16 = .ok (.aload_n 0, 1) := dk_42 (dk_at dksJ2_add_0 16 rfl rfl)
theorem dJ2_add_17 : decode cJ2_add 17 = .ok (.getfield 48, 3) := dk_180 0 48 (dk_at dksJ2_add_0 17 rfl rfl)
theorem dJ2_add_20 : decode cJ2_add 20 = .ok (.invokevirtual 131, 3) := dk_182 0 131 (dk_at dksJ2_add_0 20 rfl rfl)
theorem dJ2_add_23 : decode cJ2_add 23 = .ok (.iconst 1, 1) := dk_4 (dk_at dksJ2_add_0 23 rfl rfl)
theorem dJ2_add_24 : decode cJ2_add 24 = .ok (.ireturn, 1) := dk_172 (dk_at dksJ2_add_1 0 rfl rfl)
abbrev cJ2_add_2 : ByteArray := prog_38_method_24_code
def yJ2_add_2 : MethodName := ⟨RJ2, "add", "(Ljava/lang/Object;[Ljava/lang/Object;I)V"⟩
def dkwJ2_add_2_0 : List UInt8 := [29, 44, 190, 160, 0, 8, 42, 182, 0, 129, 77, 44, 29, 43, 83, 42, 29, 4, 96, 181, 0, 48, 177]
abbrev dktJ2_add_2_0 : List UInt8 := dkwJ2_add_2_0 ++ []
theorem dksJ2_add_2_0 : cJ2_add_2.data.toList.drop 0 = dktJ2_add_2_0 := by decide +kernel
theorem dJ2_add_2_0 : decode cJ2_add_2 0 = .ok (.iload_n 3, 1) := dk_29 (dk_at dksJ2_add_2_0 0 rfl rfl)
theorem dJ2_add_2_1 : decode cJ2_add_2 1 = .ok (.aload_n 2, 1) := dk_44 (dk_at dksJ2_add_2_0 1 rfl rfl)
theorem dJ2_add_2_2 : decode cJ2_add_2 2 = .ok (.arraylength, 1) := dk_190 (dk_at dksJ2_add_2_0 2 rfl rfl)
theorem dJ2_add_2_3 : decode cJ2_add_2 3 = .ok (.if_icmp .ne 8, 3) := dk_160 0 8 (dk_at dksJ2_add_2_0 3 rfl rfl)
theorem dJ2_add_2_6 : decode cJ2_add_2 6 = .ok (.aload_n 0, 1) := dk_42 (dk_at dksJ2_add_2_0 6 rfl rfl)
theorem dJ2_add_2_7 : decode cJ2_add_2 7 = .ok (.invokevirtual 129, 3) := dk_182 0 129 (dk_at dksJ2_add_2_0 7 rfl rfl)
theorem dJ2_add_2_10 : decode cJ2_add_2 10 = .ok (.astore_n 2, 1) := dk_77 (dk_at dksJ2_add_2_0 10 rfl rfl)
theorem dJ2_add_2_11 : decode cJ2_add_2 11 = .ok (.aload_n 2, 1) := dk_44 (dk_at dksJ2_add_2_0 11 rfl rfl)
theorem dJ2_add_2_12 : decode cJ2_add_2 12 = .ok (.iload_n 3, 1) := dk_29 (dk_at dksJ2_add_2_0 12 rfl rfl)
theorem dJ2_add_2_13 : decode cJ2_add_2 13 = .ok (.aload_n 1, 1) := dk_43 (dk_at dksJ2_add_2_0 13 rfl rfl)
theorem dJ2_add_2_14 : decode cJ2_add_2 14 = .ok (.aastore, 1) := dk_83 (dk_at dksJ2_add_2_0 14 rfl rfl)
theorem dJ2_add_2_15 : decode cJ2_add_2 15 = .ok (.aload_n 0, 1) := dk_42 (dk_at dksJ2_add_2_0 15 rfl rfl)
theorem dJ2_add_2_16 : decode cJ2_add_2 16 = .ok (.iload_n 3, 1) := dk_29 (dk_at dksJ2_add_2_0 16 rfl rfl)
theorem dJ2_add_2_17 : decode cJ2_add_2 17 = .ok (.iconst 1, 1) := dk_4 (dk_at dksJ2_add_2_0 17 rfl rfl)
theorem dJ2_add_2_18 : decode cJ2_add_2 18 = .ok (.iadd, 1) := dk_96 (dk_at dksJ2_add_2_0 18 rfl rfl)
theorem dJ2_add_2_19 : decode cJ2_add_2 19 = .ok (.putfield 48, 3) := dk_181 0 48 (dk_at dksJ2_add_2_0 19 rfl rfl)
theorem dJ2_add_2_22 : decode cJ2_add_2 22 = .ok (.return_, 1) := dk_177 (dk_at dksJ2_add_2_0 22 rfl rfl)
abbrev cJ2_grow : ByteArray := prog_38_method_7_code
def yJ2_grow : MethodName := ⟨RJ2, "grow", "()[Ljava/lang/Object;"⟩
def dkwJ2_grow_0 : List UInt8 := [42, 42, 180, 0, 48, 4, 96, 182, 0, 69, 176]
abbrev dktJ2_grow_0 : List UInt8 := dkwJ2_grow_0 ++ []
theorem dksJ2_grow_0 : cJ2_grow.data.toList.drop 0 = dktJ2_grow_0 := by decide +kernel
theorem dJ2_grow_0 : decode cJ2_grow 0 = .ok (.aload_n 0, 1) := dk_42 (dk_at dksJ2_grow_0 0 rfl rfl)
theorem dJ2_grow_1 : decode cJ2_grow 1 = .ok (.aload_n 0, 1) := dk_42 (dk_at dksJ2_grow_0 1 rfl rfl)
theorem dJ2_grow_2 : decode cJ2_grow 2 = .ok (.getfield 48, 3) := dk_180 0 48 (dk_at dksJ2_grow_0 2 rfl rfl)
theorem dJ2_grow_5 : decode cJ2_grow 5 = .ok (.iconst 1, 1) := dk_4 (dk_at dksJ2_grow_0 5 rfl rfl)
theorem dJ2_grow_6 : decode cJ2_grow 6 = .ok (.iadd, 1) := dk_96 (dk_at dksJ2_grow_0 6 rfl rfl)
theorem dJ2_grow_7 : decode cJ2_grow 7 = .ok (.invokevirtual 69, 3) := dk_182 0 69 (dk_at dksJ2_grow_0 7 rfl rfl)
theorem dJ2_grow_10 : decode cJ2_grow 10 = .ok (.areturn, 1) := dk_176 (dk_at dksJ2_grow_0 10 rfl rfl)
abbrev cJ2_grow_2 : ByteArray := prog_38_method_6_code
def yJ2_grow_2 : MethodName := ⟨RJ2, "grow", "(I)[Ljava/lang/Object;"⟩
def dkwJ2_grow_2_2 : List UInt8 := [27, 184, 0, 79, 189, 0, 7, 90, 181, 0, 9, 176]
abbrev dktJ2_grow_2_2 : List UInt8 := dkwJ2_grow_2_2 ++ []
def dkwJ2_grow_2_1 : List UInt8 := [28, 4, 122, 184, 0, 73, 62, 42, 42, 180, 0, 9, 29, 184, 0, 66, 90, 181, 0, 9, 176, 42, 16, 10]
abbrev dktJ2_grow_2_1 : List UInt8 := dkwJ2_grow_2_1 ++ dktJ2_grow_2_2
def dkwJ2_grow_2_0 : List UInt8 := [42, 180, 0, 9, 190, 61, 28, 157, 0, 13, 42, 180, 0, 9, 178, 0, 39, 165, 0, 28, 28, 27, 28, 100]
abbrev dktJ2_grow_2_0 : List UInt8 := dkwJ2_grow_2_0 ++ dktJ2_grow_2_1
theorem dksJ2_grow_2_0 : cJ2_grow_2.data.toList.drop 0 = dktJ2_grow_2_0 := by decide +kernel
theorem dksJ2_grow_2_1 : cJ2_grow_2.data.toList.drop 24 = dktJ2_grow_2_1 := dk_seg dksJ2_grow_2_0 24 rfl rfl
theorem dksJ2_grow_2_2 : cJ2_grow_2.data.toList.drop 48 = dktJ2_grow_2_2 := dk_seg dksJ2_grow_2_1 24 rfl rfl
theorem dJ2_grow_2_0 : decode cJ2_grow_2 0 = .ok (.aload_n 0, 1) := dk_42 (dk_at dksJ2_grow_2_0 0 rfl rfl)
theorem dJ2_grow_2_1 : decode cJ2_grow_2 1 = .ok (.getfield 9, 3) := dk_180 0 9 (dk_at dksJ2_grow_2_0 1 rfl rfl)
theorem dJ2_grow_2_4 : decode cJ2_grow_2 4 = .ok (.arraylength, 1) := dk_190 (dk_at dksJ2_grow_2_0 4 rfl rfl)
theorem dJ2_grow_2_5 : decode cJ2_grow_2 5 = .ok (.istore_n 2, 1) := dk_61 (dk_at dksJ2_grow_2_0 5 rfl rfl)
theorem dJ2_grow_2_6 : decode cJ2_grow_2 6 = .ok (.iload_n 2, 1) := dk_28 (dk_at dksJ2_grow_2_0 6 rfl rfl)
theorem dJ2_grow_2_7 : decode cJ2_grow_2 7 = .ok (.ifCond .gt 13, 3) := dk_157 0 13 (dk_at dksJ2_grow_2_0 7 rfl rfl)
theorem dJ2_grow_2_10 : decode cJ2_grow_2 10 = .ok (.aload_n 0, 1) := dk_42 (dk_at dksJ2_grow_2_0 10 rfl rfl)
theorem dJ2_grow_2_11 : decode cJ2_grow_2 11 = .ok (.getfield 9, 3) := dk_180 0 9 (dk_at dksJ2_grow_2_0 11 rfl rfl)
theorem dJ2_grow_2_14 : decode cJ2_grow_2 14 = .ok (.getstatic 39, 3) := dk_178 0 39 (dk_at dksJ2_grow_2_0 14 rfl rfl)
theorem dJ2_grow_2_17 : decode cJ2_grow_2 17 = .ok (.if_acmp .eq 28, 3) := dk_165 0 28 (dk_at dksJ2_grow_2_0 17 rfl rfl)
theorem dJ2_grow_2_20 : decode cJ2_grow_2 20 = .ok (.iload_n 2, 1) := dk_28 (dk_at dksJ2_grow_2_0 20 rfl rfl)
theorem dJ2_grow_2_21 : decode cJ2_grow_2 21 = .ok (.iload_n 1, 1) := dk_27 (dk_at dksJ2_grow_2_0 21 rfl rfl)
theorem dJ2_grow_2_22 : decode cJ2_grow_2 22 = .ok (.iload_n 2, 1) := dk_28 (dk_at dksJ2_grow_2_0 22 rfl rfl)
theorem dJ2_grow_2_23 : decode cJ2_grow_2 23 = .ok (.isub, 1) := dk_100 (dk_at dksJ2_grow_2_0 23 rfl rfl)
theorem dJ2_grow_2_24 : decode cJ2_grow_2 24 = .ok (.iload_n 2, 1) := dk_28 (dk_at dksJ2_grow_2_1 0 rfl rfl)
theorem dJ2_grow_2_25 : decode cJ2_grow_2 25 = .ok (.iconst 1, 1) := dk_4 (dk_at dksJ2_grow_2_1 1 rfl rfl)
theorem dJ2_grow_2_26 : decode cJ2_grow_2 26 = .ok (.ishr, 1) := dk_122 (dk_at dksJ2_grow_2_1 2 rfl rfl)
theorem dJ2_grow_2_27 : decode cJ2_grow_2 27 = .ok (.invokestatic 73, 3) := dk_184 0 73 (dk_at dksJ2_grow_2_1 3 rfl rfl)
theorem dJ2_grow_2_30 : decode cJ2_grow_2 30 = .ok (.istore_n 3, 1) := dk_62 (dk_at dksJ2_grow_2_1 6 rfl rfl)
theorem dJ2_grow_2_31 : decode cJ2_grow_2 31 = .ok (.aload_n 0, 1) := dk_42 (dk_at dksJ2_grow_2_1 7 rfl rfl)
theorem dJ2_grow_2_32 : decode cJ2_grow_2 32 = .ok (.aload_n 0, 1) := dk_42 (dk_at dksJ2_grow_2_1 8 rfl rfl)
theorem dJ2_grow_2_33 : decode cJ2_grow_2 33 = .ok (.getfield 9, 3) := dk_180 0 9 (dk_at dksJ2_grow_2_1 9 rfl rfl)
theorem dJ2_grow_2_36 : decode cJ2_grow_2 36 = .ok (.iload_n 3, 1) := dk_29 (dk_at dksJ2_grow_2_1 12 rfl rfl)
theorem dJ2_grow_2_37 : decode cJ2_grow_2 37 = .ok (.invokestatic 66, 3) := dk_184 0 66 (dk_at dksJ2_grow_2_1 13 rfl rfl)
theorem dJ2_grow_2_40 : decode cJ2_grow_2 40 = .ok (.dup_x1, 1) := dk_90 (dk_at dksJ2_grow_2_1 16 rfl rfl)
theorem dJ2_grow_2_41 : decode cJ2_grow_2 41 = .ok (.putfield 9, 3) := dk_181 0 9 (dk_at dksJ2_grow_2_1 17 rfl rfl)
theorem dJ2_grow_2_44 : decode cJ2_grow_2 44 = .ok (.areturn, 1) := dk_176 (dk_at dksJ2_grow_2_1 20 rfl rfl)
theorem dJ2_grow_2_45 : decode cJ2_grow_2 45 = .ok (.aload_n 0, 1) := dk_42 (dk_at dksJ2_grow_2_1 21 rfl rfl)
theorem dJ2_grow_2_46 : decode cJ2_grow_2 46 = .ok (.bipush 10, 2) := dk_16 10 (dk_at dksJ2_grow_2_1 22 rfl rfl)
theorem dJ2_grow_2_48 : decode cJ2_grow_2 48 = .ok (.iload_n 1, 1) := dk_27 (dk_at dksJ2_grow_2_2 0 rfl rfl)
theorem dJ2_grow_2_49 : decode cJ2_grow_2 49 = .ok (.invokestatic 79, 3) := dk_184 0 79 (dk_at dksJ2_grow_2_2 1 rfl rfl)
theorem dJ2_grow_2_52 : decode cJ2_grow_2 52 = .ok (.anewarray 7, 3) := dk_189 0 7 (dk_at dksJ2_grow_2_2 4 rfl rfl)
theorem dJ2_grow_2_55 : decode cJ2_grow_2 55 = .ok (.dup_x1, 1) := dk_90 (dk_at dksJ2_grow_2_2 7 rfl rfl)
theorem dJ2_grow_2_56 : decode cJ2_grow_2 56 = .ok (.putfield 9, 3) := dk_181 0 9 (dk_at dksJ2_grow_2_2 8 rfl rfl)
theorem dJ2_grow_2_59 : decode cJ2_grow_2 59 = .ok (.areturn, 1) := dk_176 (dk_at dksJ2_grow_2_2 11 rfl rfl)
abbrev cJ2_set : ByteArray := prog_38_method_23_code
def yJ2_set : MethodName := ⟨RJ2, "set", "(ILjava/lang/Object;)Ljava/lang/Object;"⟩
def dkwJ2_set_0 : List UInt8 := [27, 42, 180, 0, 48, 184, 0, 118, 87, 42, 27, 182, 0, 123, 78, 42, 180, 0, 9, 27, 44, 83, 45, 176]
abbrev dktJ2_set_0 : List UInt8 := dkwJ2_set_0 ++ []
theorem dksJ2_set_0 : cJ2_set.data.toList.drop 0 = dktJ2_set_0 := by decide +kernel
theorem dJ2_set_0 : decode cJ2_set 0 = .ok (.iload_n 1, 1) := dk_27 (dk_at dksJ2_set_0 0 rfl rfl)
theorem dJ2_set_1 : decode cJ2_set 1 = .ok (.aload_n 0, 1) := dk_42 (dk_at dksJ2_set_0 1 rfl rfl)
theorem dJ2_set_2 : decode cJ2_set 2 = .ok (.getfield 48, 3) := dk_180 0 48 (dk_at dksJ2_set_0 2 rfl rfl)
theorem dJ2_set_5 : decode cJ2_set 5 = .ok (.invokestatic 118, 3) := dk_184 0 118 (dk_at dksJ2_set_0 5 rfl rfl)
theorem dJ2_set_8 : decode cJ2_set 8 = .ok (.pop, 1) := dk_87 (dk_at dksJ2_set_0 8 rfl rfl)
theorem dJ2_set_9 : decode cJ2_set 9 = .ok (.aload_n 0, 1) := dk_42 (dk_at dksJ2_set_0 9 rfl rfl)
theorem dJ2_set_10 : decode cJ2_set 10 = .ok (.iload_n 1, 1) := dk_27 (dk_at dksJ2_set_0 10 rfl rfl)
theorem dJ2_set_11 : decode cJ2_set 11 = .ok (.invokevirtual 123, 3) := dk_182 0 123 (dk_at dksJ2_set_0 11 rfl rfl)
theorem dJ2_set_14 : decode cJ2_set 14 = .ok (.astore_n 3, 1) := dk_78 (dk_at dksJ2_set_0 14 rfl rfl)
theorem dJ2_set_15 : decode cJ2_set 15 = .ok (.aload_n 0, 1) := dk_42 (dk_at dksJ2_set_0 15 rfl rfl)
theorem dJ2_set_16 : decode cJ2_set 16 = .ok (.getfield 9, 3) := dk_180 0 9 (dk_at dksJ2_set_0 16 rfl rfl)
theorem dJ2_set_19 : decode cJ2_set 19 = .ok (.iload_n 1, 1) := dk_27 (dk_at dksJ2_set_0 19 rfl rfl)
theorem dJ2_set_20 : decode cJ2_set 20 = .ok (.aload_n 2, 1) := dk_44 (dk_at dksJ2_set_0 20 rfl rfl)
theorem dJ2_set_21 : decode cJ2_set 21 = .ok (.aastore, 1) := dk_83 (dk_at dksJ2_set_0 21 rfl rfl)
theorem dJ2_set_22 : decode cJ2_set 22 = .ok (.aload_n 3, 1) := dk_45 (dk_at dksJ2_set_0 22 rfl rfl)
theorem dJ2_set_23 : decode cJ2_set 23 = .ok (.areturn, 1) := dk_176 (dk_at dksJ2_set_0 23 rfl rfl)
abbrev cJ2_elementData : ByteArray := prog_38_method_18_code
def yJ2_elementData : MethodName := ⟨RJ2, "elementData", "(I)Ljava/lang/Object;"⟩
def dkwJ2_elementData_0 : List UInt8 := [42, 180, 0, 9, 27, 50, 176]
abbrev dktJ2_elementData_0 : List UInt8 := dkwJ2_elementData_0 ++ []
theorem dksJ2_elementData_0 : cJ2_elementData.data.toList.drop 0 = dktJ2_elementData_0 := by decide +kernel
theorem dJ2_elementData_0 : decode cJ2_elementData 0 = .ok (.aload_n 0, 1) := dk_42 (dk_at dksJ2_elementData_0 0 rfl rfl)
theorem dJ2_elementData_1 : decode cJ2_elementData 1 = .ok (.getfield 9, 3) := dk_180 0 9 (dk_at dksJ2_elementData_0 1 rfl rfl)
theorem dJ2_elementData_4 : decode cJ2_elementData 4 = .ok (.iload_n 1, 1) := dk_27 (dk_at dksJ2_elementData_0 4 rfl rfl)
theorem dJ2_elementData_5 : decode cJ2_elementData 5 = .ok (.aaload, 1) := dk_50 (dk_at dksJ2_elementData_0 5 rfl rfl)
theorem dJ2_elementData_6 : decode cJ2_elementData 6 = .ok (.areturn, 1) := dk_176 (dk_at dksJ2_elementData_0 6 rfl rfl)
abbrev cJ2_isEmpty : ByteArray := prog_38_method_9_code
def yJ2_isEmpty : MethodName := ⟨RJ2, "isEmpty", "()Z"⟩
def dkwJ2_isEmpty_0 : List UInt8 := [42, 180, 0, 48, 154, 0, 7, 4, 167, 0, 4, 3, 172]
abbrev dktJ2_isEmpty_0 : List UInt8 := dkwJ2_isEmpty_0 ++ []
theorem dksJ2_isEmpty_0 : cJ2_isEmpty.data.toList.drop 0 = dktJ2_isEmpty_0 := by decide +kernel
theorem dJ2_isEmpty_0 : decode cJ2_isEmpty 0 = .ok (.aload_n 0, 1) := dk_42 (dk_at dksJ2_isEmpty_0 0 rfl rfl)
theorem dJ2_isEmpty_1 : decode cJ2_isEmpty 1 = .ok (.getfield 48, 3) := dk_180 0 48 (dk_at dksJ2_isEmpty_0 1 rfl rfl)
theorem dJ2_isEmpty_4 : decode cJ2_isEmpty 4 = .ok (.ifCond .ne 7, 3) := dk_154 0 7 (dk_at dksJ2_isEmpty_0 4 rfl rfl)
theorem dJ2_isEmpty_7 : decode cJ2_isEmpty 7 = .ok (.iconst 1, 1) := dk_4 (dk_at dksJ2_isEmpty_0 7 rfl rfl)
theorem dJ2_isEmpty_8 : decode cJ2_isEmpty 8 = .ok (.goto 4, 3) := dk_167 0 4 (dk_at dksJ2_isEmpty_0 8 rfl rfl)
theorem dJ2_isEmpty_11 : decode cJ2_isEmpty 11 = .ok (.iconst 0, 1) := dk_3 (dk_at dksJ2_isEmpty_0 11 rfl rfl)
theorem dJ2_isEmpty_12 : decode cJ2_isEmpty 12 = .ok (.ireturn, 1) := dk_172 (dk_at dksJ2_isEmpty_0 12 rfl rfl)
abbrev cJ2_get : ByteArray := prog_38_method_20_code
def yJ2_get : MethodName := ⟨RJ2, "get", "(I)Ljava/lang/Object;"⟩
def dkwJ2_get_0 : List UInt8 := [27, 42, 180, 0, 48, 184, 0, 118, 87, 42, 27, 182, 0, 123, 176]
abbrev dktJ2_get_0 : List UInt8 := dkwJ2_get_0 ++ []
theorem dksJ2_get_0 : cJ2_get.data.toList.drop 0 = dktJ2_get_0 := by decide +kernel
theorem dJ2_get_0 : decode cJ2_get 0 = .ok (.iload_n 1, 1) := dk_27 (dk_at dksJ2_get_0 0 rfl rfl)
theorem dJ2_get_1 : decode cJ2_get 1 = .ok (.aload_n 0, 1) := dk_42 (dk_at dksJ2_get_0 1 rfl rfl)
theorem dJ2_get_2 : decode cJ2_get 2 = .ok (.getfield 48, 3) := dk_180 0 48 (dk_at dksJ2_get_0 2 rfl rfl)
theorem dJ2_get_5 : decode cJ2_get 5 = .ok (.invokestatic 118, 3) := dk_184 0 118 (dk_at dksJ2_get_0 5 rfl rfl)
theorem dJ2_get_8 : decode cJ2_get 8 = .ok (.pop, 1) := dk_87 (dk_at dksJ2_get_0 8 rfl rfl)
theorem dJ2_get_9 : decode cJ2_get 9 = .ok (.aload_n 0, 1) := dk_42 (dk_at dksJ2_get_0 9 rfl rfl)
theorem dJ2_get_10 : decode cJ2_get 10 = .ok (.iload_n 1, 1) := dk_27 (dk_at dksJ2_get_0 10 rfl rfl)
theorem dJ2_get_11 : decode cJ2_get 11 = .ok (.invokevirtual 123, 3) := dk_182 0 123 (dk_at dksJ2_get_0 11 rfl rfl)
theorem dJ2_get_14 : decode cJ2_get 14 = .ok (.areturn, 1) := dk_176 (dk_at dksJ2_get_0 14 rfl rfl)
theorem q149 : (Jvm.Cond.initialized "java/util/ArrayList") ∈ lw_all := lw_g (lw_at lw_m1 11 rfl) rfl
theorem q377 : (Jvm.Cond.instantiable "java/util/ArrayList" (3 : Nat)) ∈ lw_all := lw_g (lw_at lw_m1 239 rfl) rfl
theorem q379 : (Jvm.Cond.instanceMethod ({ cls := "java/util/ArrayList", name := "<init>", desc := "()V" } : Jvm.MethodName)) ∈ lw_all := lw_g (lw_at lw_m2 1 rfl) rfl
theorem q380 : (Jvm.Cond.code ({ cls := "java/util/ArrayList", name := "<init>", desc := "()V" } : Jvm.MethodName) prog_38_method_2_code (1 : Nat) (Option.none : Option Jvm.ClassFile.FieldType)) ∈ lw_all := lw_g (lw_at lw_m2 2 rfl) rfl
theorem q381 : (Jvm.Cond.methodLink "java/util/ArrayList" (1 : Nat) ({ cls := "java/util/AbstractList", name := "<init>", desc := "()V" } : Jvm.MethodName)) ∈ lw_all := lw_g (lw_at lw_m2 3 rfl) rfl
theorem q388 : (Jvm.Cond.fieldLink "java/util/ArrayList" (39 : Nat) "java/util/ArrayList" "DEFAULTCAPACITY_EMPTY_ELEMENTDATA" "[Ljava/lang/Object;") ∈ lw_all := lw_g (lw_at lw_m2 10 rfl) rfl
theorem q389 : (Jvm.Cond.laysStatic "java/util/ArrayList" "DEFAULTCAPACITY_EMPTY_ELEMENTDATA" "[Ljava/lang/Object;") ∈ lw_tbl := lw_at lw_m2 11 rfl
theorem q390 : (Jvm.Cond.fieldLink "java/util/ArrayList" (9 : Nat) "java/util/ArrayList" "elementData" "[Ljava/lang/Object;") ∈ lw_all := lw_g (lw_at lw_m2 12 rfl) rfl
theorem q391 : (Jvm.Cond.fieldLink "java/util/ArrayList" (48 : Nat) "java/util/ArrayList" "size" "I") ∈ lw_all := lw_g (lw_at lw_m2 13 rfl) rfl
theorem q393 : (Jvm.Cond.fieldLink "java/util/ArrayList" (63 : Nat) "java/util/ArrayList" "modCount" "I") ∈ lw_all := lw_g (lw_at lw_m2 15 rfl) rfl
theorem q394 : (Jvm.Cond.sameField "java/util/ArrayList" "java/util/AbstractList" "modCount" "I") ∈ lw_all := lw_g (lw_at lw_m2 16 rfl) rfl
theorem q395 : (Jvm.Cond.lays "java/util/ArrayList" "java/util/ArrayList" "elementData" "[Ljava/lang/Object;") ∈ lw_all := lw_g (lw_at lw_m2 17 rfl) rfl
theorem q396 : (Jvm.Cond.soleField "java/util/ArrayList" "elementData") ∈ lw_all := lw_g (lw_at lw_m2 18 rfl) rfl
theorem q397 : (Jvm.Cond.lays "java/util/ArrayList" "java/util/ArrayList" "size" "I") ∈ lw_all := lw_g (lw_at lw_m2 19 rfl) rfl
theorem q398 : (Jvm.Cond.soleField "java/util/ArrayList" "size") ∈ lw_all := lw_g (lw_at lw_m2 20 rfl) rfl
theorem q399 : (Jvm.Cond.lays "java/util/ArrayList" "java/util/AbstractList" "modCount" "I") ∈ lw_all := lw_g (lw_at lw_m2 21 rfl) rfl
theorem q401 : (Jvm.Cond.superclass "java/util/ArrayList" "java/util/AbstractList") ∈ lw_all := lw_g (lw_at lw_m2 23 rfl) rfl
theorem q1386 : (Jvm.Cond.instanceMethod ({ cls := "java/util/ArrayList", name := "size", desc := "()I" } : Jvm.MethodName)) ∈ lw_all := lw_g (lw_at lw_m6 48 rfl) rfl
theorem q1387 : (Jvm.Cond.selects "java/util/ArrayList" ({ cls := "java/util/ArrayList", name := "size", desc := "()I" } : Jvm.MethodName) ({ cls := "java/util/ArrayList", name := "size", desc := "()I" } : Jvm.MethodName)) ∈ lw_all := lw_g (lw_at lw_m6 49 rfl) rfl
theorem q1388 : (Jvm.Cond.code ({ cls := "java/util/ArrayList", name := "size", desc := "()I" } : Jvm.MethodName) prog_38_method_8_code (1 : Nat) (Option.some Jvm.ClassFile.FieldType.int)) ∈ lw_all := lw_g (lw_at lw_m6 50 rfl) rfl
theorem q1390 : (Jvm.Cond.instanceMethod ({ cls := "java/util/ArrayList", name := "add", desc := "(Ljava/lang/Object;)Z" } : Jvm.MethodName)) ∈ lw_all := lw_g (lw_at lw_m6 52 rfl) rfl
theorem q1391 : (Jvm.Cond.selects "java/util/ArrayList" ({ cls := "java/util/ArrayList", name := "add", desc := "(Ljava/lang/Object;)Z" } : Jvm.MethodName) ({ cls := "java/util/ArrayList", name := "add", desc := "(Ljava/lang/Object;)Z" } : Jvm.MethodName)) ∈ lw_all := lw_g (lw_at lw_m6 53 rfl) rfl
theorem q1392 : (Jvm.Cond.code ({ cls := "java/util/ArrayList", name := "add", desc := "(Ljava/lang/Object;)Z" } : Jvm.MethodName) prog_38_method_25_code (2 : Nat) (Option.some Jvm.ClassFile.FieldType.boolean)) ∈ lw_all := lw_g (lw_at lw_m6 54 rfl) rfl
theorem q1393 : (Jvm.Cond.methodLink "java/util/ArrayList" (131 : Nat) ({ cls := "java/util/ArrayList", name := "add", desc := "(Ljava/lang/Object;[Ljava/lang/Object;I)V" } : Jvm.MethodName)) ∈ lw_all := lw_g (lw_at lw_m6 55 rfl) rfl
theorem q1394 : (Jvm.Cond.privateMethod ({ cls := "java/util/ArrayList", name := "add", desc := "(Ljava/lang/Object;[Ljava/lang/Object;I)V" } : Jvm.MethodName)) ∈ lw_tbl := lw_at lw_m6 56 rfl
theorem q1395 : (Jvm.Cond.instanceMethod ({ cls := "java/util/ArrayList", name := "add", desc := "(Ljava/lang/Object;[Ljava/lang/Object;I)V" } : Jvm.MethodName)) ∈ lw_all := lw_g (lw_at lw_m6 57 rfl) rfl
theorem q1396 : (Jvm.Cond.code ({ cls := "java/util/ArrayList", name := "add", desc := "(Ljava/lang/Object;[Ljava/lang/Object;I)V" } : Jvm.MethodName) prog_38_method_24_code (4 : Nat) (Option.none : Option Jvm.ClassFile.FieldType)) ∈ lw_all := lw_g (lw_at lw_m6 58 rfl) rfl
theorem q1397 : (Jvm.Cond.methodLink "java/util/ArrayList" (129 : Nat) ({ cls := "java/util/ArrayList", name := "grow", desc := "()[Ljava/lang/Object;" } : Jvm.MethodName)) ∈ lw_all := lw_g (lw_at lw_m6 59 rfl) rfl
theorem q1398 : (Jvm.Cond.privateMethod ({ cls := "java/util/ArrayList", name := "grow", desc := "()[Ljava/lang/Object;" } : Jvm.MethodName)) ∈ lw_tbl := lw_at lw_m6 60 rfl
theorem q1399 : (Jvm.Cond.instanceMethod ({ cls := "java/util/ArrayList", name := "grow", desc := "()[Ljava/lang/Object;" } : Jvm.MethodName)) ∈ lw_all := lw_g (lw_at lw_m6 61 rfl) rfl
theorem q1400 : (Jvm.Cond.code ({ cls := "java/util/ArrayList", name := "grow", desc := "()[Ljava/lang/Object;" } : Jvm.MethodName) prog_38_method_7_code (1 : Nat) (Option.some (Jvm.ClassFile.FieldType.array (Jvm.ClassFile.FieldType.object "java/lang/Object")))) ∈ lw_all := lw_g (lw_at lw_m6 62 rfl) rfl
theorem q1401 : (Jvm.Cond.methodLink "java/util/ArrayList" (69 : Nat) ({ cls := "java/util/ArrayList", name := "grow", desc := "(I)[Ljava/lang/Object;" } : Jvm.MethodName)) ∈ lw_all := lw_g (lw_at lw_m6 63 rfl) rfl
theorem q1402 : (Jvm.Cond.privateMethod ({ cls := "java/util/ArrayList", name := "grow", desc := "(I)[Ljava/lang/Object;" } : Jvm.MethodName)) ∈ lw_tbl := lw_at lw_m6 64 rfl
theorem q1403 : (Jvm.Cond.instanceMethod ({ cls := "java/util/ArrayList", name := "grow", desc := "(I)[Ljava/lang/Object;" } : Jvm.MethodName)) ∈ lw_all := lw_g (lw_at lw_m6 65 rfl) rfl
theorem q1404 : (Jvm.Cond.code ({ cls := "java/util/ArrayList", name := "grow", desc := "(I)[Ljava/lang/Object;" } : Jvm.MethodName) prog_38_method_6_code (4 : Nat) (Option.some (Jvm.ClassFile.FieldType.array (Jvm.ClassFile.FieldType.object "java/lang/Object")))) ∈ lw_all := lw_g (lw_at lw_m6 66 rfl) rfl
theorem q1405 : (Jvm.Cond.methodLink "java/util/ArrayList" (73 : Nat) ({ cls := "jdk/internal/util/ArraysSupport", name := "newLength", desc := "(III)I" } : Jvm.MethodName)) ∈ lw_all := lw_g (lw_at lw_m6 67 rfl) rfl
theorem q1413 : (Jvm.Cond.methodLink "java/util/ArrayList" (66 : Nat) ({ cls := "java/util/Arrays", name := "copyOf", desc := "([Ljava/lang/Object;I)[Ljava/lang/Object;" } : Jvm.MethodName)) ∈ lw_all := lw_g (lw_at lw_m6 75 rfl) rfl
theorem q1434 : (Jvm.Cond.selects "java/util/ArrayList" ({ cls := "java/lang/Object", name := "getClass", desc := "()Ljava/lang/Class;" } : Jvm.MethodName) ({ cls := "java/lang/Object", name := "getClass", desc := "()Ljava/lang/Class;" } : Jvm.MethodName)) ∈ lw_all := lw_g (lw_at lw_m6 96 rfl) rfl
theorem q1444 : (Jvm.Cond.methodLink "java/util/ArrayList" (79 : Nat) ({ cls := "java/lang/Math", name := "max", desc := "(II)I" } : Jvm.MethodName)) ∈ lw_all := lw_g (lw_at lw_m6 106 rfl) rfl
theorem q1445 : (Jvm.Cond.classLink "java/util/ArrayList" (7 : Nat) "java/lang/Object") ∈ lw_all := lw_g (lw_at lw_m6 107 rfl) rfl
theorem q1454 : (Jvm.Cond.instanceMethod ({ cls := "java/util/ArrayList", name := "set", desc := "(ILjava/lang/Object;)Ljava/lang/Object;" } : Jvm.MethodName)) ∈ lw_all := lw_g (lw_at lw_m6 116 rfl) rfl
theorem q1455 : (Jvm.Cond.selects "java/util/ArrayList" ({ cls := "java/util/ArrayList", name := "set", desc := "(ILjava/lang/Object;)Ljava/lang/Object;" } : Jvm.MethodName) ({ cls := "java/util/ArrayList", name := "set", desc := "(ILjava/lang/Object;)Ljava/lang/Object;" } : Jvm.MethodName)) ∈ lw_all := lw_g (lw_at lw_m6 117 rfl) rfl
theorem q1456 : (Jvm.Cond.code ({ cls := "java/util/ArrayList", name := "set", desc := "(ILjava/lang/Object;)Ljava/lang/Object;" } : Jvm.MethodName) prog_38_method_23_code (4 : Nat) (Option.some (Jvm.ClassFile.FieldType.object "java/lang/Object"))) ∈ lw_all := lw_g (lw_at lw_m6 118 rfl) rfl
theorem q1457 : (Jvm.Cond.methodLink "java/util/ArrayList" (118 : Nat) ({ cls := "java/util/Objects", name := "checkIndex", desc := "(II)I" } : Jvm.MethodName)) ∈ lw_all := lw_g (lw_at lw_m6 119 rfl) rfl
theorem q1461 : (Jvm.Cond.methodLink "java/util/ArrayList" (123 : Nat) ({ cls := "java/util/ArrayList", name := "elementData", desc := "(I)Ljava/lang/Object;" } : Jvm.MethodName)) ∈ lw_all := lw_g (lw_at lw_m6 123 rfl) rfl
theorem q1462 : (Jvm.Cond.instanceMethod ({ cls := "java/util/ArrayList", name := "elementData", desc := "(I)Ljava/lang/Object;" } : Jvm.MethodName)) ∈ lw_all := lw_g (lw_at lw_m6 124 rfl) rfl
theorem q1463 : (Jvm.Cond.selects "java/util/ArrayList" ({ cls := "java/util/ArrayList", name := "elementData", desc := "(I)Ljava/lang/Object;" } : Jvm.MethodName) ({ cls := "java/util/ArrayList", name := "elementData", desc := "(I)Ljava/lang/Object;" } : Jvm.MethodName)) ∈ lw_all := lw_g (lw_at lw_m6 125 rfl) rfl
theorem q1464 : (Jvm.Cond.code ({ cls := "java/util/ArrayList", name := "elementData", desc := "(I)Ljava/lang/Object;" } : Jvm.MethodName) prog_38_method_18_code (2 : Nat) (Option.some (Jvm.ClassFile.FieldType.object "java/lang/Object"))) ∈ lw_all := lw_g (lw_at lw_m6 126 rfl) rfl
theorem q1470 : (Jvm.Cond.instanceMethod ({ cls := "java/util/ArrayList", name := "isEmpty", desc := "()Z" } : Jvm.MethodName)) ∈ lw_all := lw_g (lw_at lw_m6 132 rfl) rfl
theorem q1471 : (Jvm.Cond.selects "java/util/ArrayList" ({ cls := "java/util/ArrayList", name := "isEmpty", desc := "()Z" } : Jvm.MethodName) ({ cls := "java/util/ArrayList", name := "isEmpty", desc := "()Z" } : Jvm.MethodName)) ∈ lw_all := lw_g (lw_at lw_m6 133 rfl) rfl
theorem q1472 : (Jvm.Cond.code ({ cls := "java/util/ArrayList", name := "isEmpty", desc := "()Z" } : Jvm.MethodName) prog_38_method_9_code (1 : Nat) (Option.some Jvm.ClassFile.FieldType.boolean)) ∈ lw_all := lw_g (lw_at lw_m6 134 rfl) rfl
theorem q1474 : (Jvm.Cond.instanceMethod ({ cls := "java/util/ArrayList", name := "get", desc := "(I)Ljava/lang/Object;" } : Jvm.MethodName)) ∈ lw_all := lw_g (lw_at lw_m6 136 rfl) rfl
theorem q1475 : (Jvm.Cond.selects "java/util/ArrayList" ({ cls := "java/util/ArrayList", name := "get", desc := "(I)Ljava/lang/Object;" } : Jvm.MethodName) ({ cls := "java/util/ArrayList", name := "get", desc := "(I)Ljava/lang/Object;" } : Jvm.MethodName)) ∈ lw_all := lw_g (lw_at lw_m6 137 rfl) rfl
theorem q1476 : (Jvm.Cond.code ({ cls := "java/util/ArrayList", name := "get", desc := "(I)Ljava/lang/Object;" } : Jvm.MethodName) prog_38_method_20_code (2 : Nat) (Option.some (Jvm.ClassFile.FieldType.object "java/lang/Object"))) ∈ lw_all := lw_g (lw_at lw_m6 138 rfl) rfl
theorem q2303 : (Jvm.Cond.castable "java/util/ArrayList" "java/lang/Object") ∈ lw_tbl := lw_at lw_m10 5 rfl
theorem in_J2 : ∀ w ∈ wsJ20, w ∈ lw_all := lw_in wsJ20 [399, 395, 397] (by decide +kernel) (by decide +kernel)

/-! java/lang/Math -/
set_option maxRecDepth 100000
def RJ3 : String := "java/lang/Math"
abbrev cJ3_min : ByteArray := prog_25_method_69_code
def yJ3_min : MethodName := ⟨RJ3, "min", "(II)I"⟩
def dkwJ3_min_0 : List UInt8 := [26, 27, 163, 0, 7, 26, 167, 0, 4, 27, 172]
abbrev dktJ3_min_0 : List UInt8 := dkwJ3_min_0 ++ []
theorem dksJ3_min_0 : cJ3_min.data.toList.drop 0 = dktJ3_min_0 := by decide +kernel
theorem dJ3_min_0 : decode cJ3_min 0 = .ok (.iload_n 0, 1) := dk_26 (dk_at dksJ3_min_0 0 rfl rfl)
theorem dJ3_min_1 : decode cJ3_min 1 = .ok (.iload_n 1, 1) := dk_27 (dk_at dksJ3_min_0 1 rfl rfl)
theorem dJ3_min_2 : decode cJ3_min 2 = .ok (.if_icmp .gt 7, 3) := dk_163 0 7 (dk_at dksJ3_min_0 2 rfl rfl)
theorem dJ3_min_5 : decode cJ3_min 5 = .ok (.iload_n 0, 1) := dk_26 (dk_at dksJ3_min_0 5 rfl rfl)
theorem dJ3_min_6 : decode cJ3_min 6 = .ok (.goto 4, 3) := dk_167 0 4 (dk_at dksJ3_min_0 6 rfl rfl)
theorem dJ3_min_9 : decode cJ3_min 9 = .ok (.iload_n 1, 1) := dk_27 (dk_at dksJ3_min_0 9 rfl rfl)
theorem dJ3_min_10 : decode cJ3_min 10 = .ok (.ireturn, 1) := dk_172 (dk_at dksJ3_min_0 10 rfl rfl)
abbrev cJ3_floorMod : ByteArray := prog_25_method_50_code
def yJ3_floorMod : MethodName := ⟨RJ3, "floorMod", "(II)I"⟩
def dkwJ3_floorMod_0 : List UInt8 := [26, 27, 112, 61, 26, 27, 130, 156, 0, 11, 28, 153, 0, 7, 28, 27, 96, 172, 28, 172]
abbrev dktJ3_floorMod_0 : List UInt8 := dkwJ3_floorMod_0 ++ []
theorem dksJ3_floorMod_0 : cJ3_floorMod.data.toList.drop 0 = dktJ3_floorMod_0 := by decide +kernel
theorem dJ3_floorMod_0 : decode cJ3_floorMod 0 = .ok (.iload_n 0, 1) := dk_26 (dk_at dksJ3_floorMod_0 0 rfl rfl)
theorem dJ3_floorMod_1 : decode cJ3_floorMod 1 = .ok (.iload_n 1, 1) := dk_27 (dk_at dksJ3_floorMod_0 1 rfl rfl)
theorem dJ3_floorMod_2 : decode cJ3_floorMod 2 = .ok (.irem, 1) := dk_112 (dk_at dksJ3_floorMod_0 2 rfl rfl)
theorem dJ3_floorMod_3 : decode cJ3_floorMod 3 = .ok (.istore_n 2, 1) := dk_61 (dk_at dksJ3_floorMod_0 3 rfl rfl)
theorem dJ3_floorMod_4 : decode cJ3_floorMod 4 = .ok (.iload_n 0, 1) := dk_26 (dk_at dksJ3_floorMod_0 4 rfl rfl)
theorem dJ3_floorMod_5 : decode cJ3_floorMod 5 = .ok (.iload_n 1, 1) := dk_27 (dk_at dksJ3_floorMod_0 5 rfl rfl)
theorem dJ3_floorMod_6 : decode cJ3_floorMod 6 = .ok (.ixor, 1) := dk_130 (dk_at dksJ3_floorMod_0 6 rfl rfl)
theorem dJ3_floorMod_7 : decode cJ3_floorMod 7 = .ok (.ifCond .ge 11, 3) := dk_156 0 11 (dk_at dksJ3_floorMod_0 7 rfl rfl)
theorem dJ3_floorMod_10 : decode cJ3_floorMod 10 = .ok (.iload_n 2, 1) := dk_28 (dk_at dksJ3_floorMod_0 10 rfl rfl)
theorem dJ3_floorMod_11 : decode cJ3_floorMod 11 = .ok (.ifCond .eq 7, 3) := dk_153 0 7 (dk_at dksJ3_floorMod_0 11 rfl rfl)
theorem dJ3_floorMod_14 : decode cJ3_floorMod 14 = .ok (.iload_n 2, 1) := dk_28 (dk_at dksJ3_floorMod_0 14 rfl rfl)
theorem dJ3_floorMod_15 : decode cJ3_floorMod 15 = .ok (.iload_n 1, 1) := dk_27 (dk_at dksJ3_floorMod_0 15 rfl rfl)
theorem dJ3_floorMod_16 : decode cJ3_floorMod 16 = .ok (.iadd, 1) := dk_96 (dk_at dksJ3_floorMod_0 16 rfl rfl)
theorem dJ3_floorMod_17 : decode cJ3_floorMod 17 = .ok (.ireturn, 1) := dk_172 (dk_at dksJ3_floorMod_0 17 rfl rfl)
theorem dJ3_floorMod_18 : decode cJ3_floorMod 18 = .ok (.iload_n 2, 1) := dk_28 (dk_at dksJ3_floorMod_0 18 rfl rfl)
theorem dJ3_floorMod_19 : decode cJ3_floorMod 19 = .ok (.ireturn, 1) := dk_172 (dk_at dksJ3_floorMod_0 19 rfl rfl)
abbrev cJ3_max : ByteArray := prog_25_method_65_code
def yJ3_max : MethodName := ⟨RJ3, "max", "(II)I"⟩
def dkwJ3_max_0 : List UInt8 := [26, 27, 161, 0, 7, 26, 167, 0, 4, 27, 172]
abbrev dktJ3_max_0 : List UInt8 := dkwJ3_max_0 ++ []
theorem dksJ3_max_0 : cJ3_max.data.toList.drop 0 = dktJ3_max_0 := by decide +kernel
theorem dJ3_max_0 : decode cJ3_max 0 = .ok (.iload_n 0, 1) := dk_26 (dk_at dksJ3_max_0 0 rfl rfl)
theorem dJ3_max_1 : decode cJ3_max 1 = .ok (.iload_n 1, 1) := dk_27 (dk_at dksJ3_max_0 1 rfl rfl)
theorem dJ3_max_2 : decode cJ3_max 2 = .ok (.if_icmp .lt 7, 3) := dk_161 0 7 (dk_at dksJ3_max_0 2 rfl rfl)
theorem dJ3_max_5 : decode cJ3_max 5 = .ok (.iload_n 0, 1) := dk_26 (dk_at dksJ3_max_0 5 rfl rfl)
theorem dJ3_max_6 : decode cJ3_max 6 = .ok (.goto 4, 3) := dk_167 0 4 (dk_at dksJ3_max_0 6 rfl rfl)
theorem dJ3_max_9 : decode cJ3_max 9 = .ok (.iload_n 1, 1) := dk_27 (dk_at dksJ3_max_0 9 rfl rfl)
theorem dJ3_max_10 : decode cJ3_max 10 = .ok (.ireturn, 1) := dk_172 (dk_at dksJ3_max_0 10 rfl rfl)
theorem q154 : (Jvm.Cond.initialized "java/lang/Math") ∈ lw_all := lw_g (lw_at lw_m1 16 rfl) rfl
theorem q555 : (Jvm.Cond.static ({ cls := "java/lang/Math", name := "min", desc := "(II)I" } : Jvm.MethodName)) ∈ lw_all := lw_g (lw_at lw_m2 177 rfl) rfl
theorem q556 : (Jvm.Cond.code ({ cls := "java/lang/Math", name := "min", desc := "(II)I" } : Jvm.MethodName) prog_25_method_69_code (2 : Nat) (Option.some Jvm.ClassFile.FieldType.int)) ∈ lw_all := lw_g (lw_at lw_m2 178 rfl) rfl
theorem q933 : (Jvm.Cond.static ({ cls := "java/lang/Math", name := "floorMod", desc := "(II)I" } : Jvm.MethodName)) ∈ lw_all := lw_g (lw_at lw_m4 75 rfl) rfl
theorem q934 : (Jvm.Cond.code ({ cls := "java/lang/Math", name := "floorMod", desc := "(II)I" } : Jvm.MethodName) prog_25_method_50_code (3 : Nat) (Option.some Jvm.ClassFile.FieldType.int)) ∈ lw_all := lw_g (lw_at lw_m4 76 rfl) rfl
theorem q1166 : (Jvm.Cond.static ({ cls := "java/lang/Math", name := "max", desc := "(II)I" } : Jvm.MethodName)) ∈ lw_all := lw_g (lw_at lw_m5 68 rfl) rfl
theorem q1167 : (Jvm.Cond.code ({ cls := "java/lang/Math", name := "max", desc := "(II)I" } : Jvm.MethodName) prog_25_method_65_code (2 : Nat) (Option.some Jvm.ClassFile.FieldType.int)) ∈ lw_all := lw_g (lw_at lw_m5 69 rfl) rfl

/-! java/lang/String -/
set_option maxRecDepth 100000
def RJ4 : String := "java/lang/String"
def TJ4 : u_T := fun k => match k with
  | 0 => ("java/lang/String", "value", "[B", true)
  | _ => ("java/lang/String", "coder", "B", true)
def tyJ4 : Nat → FieldType := fun k => match k with
  | 0 => .array .byte
  | _ => .byte
abbrev wsJ40 : List Cond := u_ws RJ4 TJ4 2
theorem nmJ4 : ∀ a, a < 2 → ∀ b, b < 2 → a ≠ b → (TJ4 a).2.1 ≠ (TJ4 b).2.1 := by decide +kernel
theorem tyJ4_ok : ∀ k, k < 2 → parseFieldDescriptor (TJ4 k).2.2.1 = some (tyJ4 k) := by decide +kernel
abbrev cJ4_length : ByteArray := prog_29_method_54_code
def yJ4_length : MethodName := ⟨RJ4, "length", "()I"⟩
def dkwJ4_length_0 : List UInt8 := [42, 180, 0, 9, 190, 42, 182, 1, 79, 122, 172]
abbrev dktJ4_length_0 : List UInt8 := dkwJ4_length_0 ++ []
theorem dksJ4_length_0 : cJ4_length.data.toList.drop 0 = dktJ4_length_0 := by decide +kernel
theorem dJ4_length_0 : decode cJ4_length 0 = .ok (.aload_n 0, 1) := dk_42 (dk_at dksJ4_length_0 0 rfl rfl)
theorem dJ4_length_1 : decode cJ4_length 1 = .ok (.getfield 9, 3) := dk_180 0 9 (dk_at dksJ4_length_0 1 rfl rfl)
theorem dJ4_length_4 : decode cJ4_length 4 = .ok (.arraylength, 1) := dk_190 (dk_at dksJ4_length_0 4 rfl rfl)
theorem dJ4_length_5 : decode cJ4_length 5 = .ok (.aload_n 0, 1) := dk_42 (dk_at dksJ4_length_0 5 rfl rfl)
theorem dJ4_length_6 : decode cJ4_length 6 = .ok (.invokevirtual 335, 3) := dk_182 1 79 (dk_at dksJ4_length_0 6 rfl rfl)
theorem dJ4_length_9 : decode cJ4_length 9 = .ok (.ishr, 1) := dk_122 (dk_at dksJ4_length_0 9 rfl rfl)
theorem dJ4_length_10 : decode cJ4_length 10 = .ok (.ireturn, 1) := dk_172 (dk_at dksJ4_length_0 10 rfl rfl)
abbrev cJ4_coder : ByteArray := prog_29_method_152_code
def yJ4_coder : MethodName := ⟨RJ4, "coder", "()B"⟩
def dkwJ4_coder_0 : List UInt8 := [178, 0, 38, 153, 0, 10, 42, 180, 0, 15, 167, 0, 4, 4, 172]
abbrev dktJ4_coder_0 : List UInt8 := dkwJ4_coder_0 ++ []
theorem dksJ4_coder_0 : cJ4_coder.data.toList.drop 0 = dktJ4_coder_0 := by decide +kernel
theorem dJ4_coder_0 : decode cJ4_coder 0 = .ok (.getstatic 38, 3) := dk_178 0 38 (dk_at dksJ4_coder_0 0 rfl rfl)
theorem dJ4_coder_3 : decode cJ4_coder 3 = .ok (.ifCond .eq 10, 3) := dk_153 0 10 (dk_at dksJ4_coder_0 3 rfl rfl)
theorem dJ4_coder_6 : decode cJ4_coder 6 = .ok (.aload_n 0, 1) := dk_42 (dk_at dksJ4_coder_0 6 rfl rfl)
theorem dJ4_coder_7 : decode cJ4_coder 7 = .ok (.getfield 15, 3) := dk_180 0 15 (dk_at dksJ4_coder_0 7 rfl rfl)
theorem dJ4_coder_10 : decode cJ4_coder 10 = .ok (.goto 4, 3) := dk_167 0 4 (dk_at dksJ4_coder_0 10 rfl rfl)
theorem dJ4_coder_13 : decode cJ4_coder 13 = .ok (.iconst 1, 1) := dk_4 (dk_at dksJ4_coder_0 13 rfl rfl)
theorem dJ4_coder_14 : decode cJ4_coder 14 = .ok (.ireturn, 1) := dk_172 (dk_at dksJ4_coder_0 14 rfl rfl)
abbrev cJ4_charAt : ByteArray := prog_29_method_56_code
def yJ4_charAt : MethodName := ⟨RJ4, "charAt", "(I)C"⟩
def dkwJ4_charAt_1 : List UInt8 := [172]
abbrev dktJ4_charAt_1 : List UInt8 := dkwJ4_charAt_1 ++ []
def dkwJ4_charAt_0 : List UInt8 := [42, 182, 1, 236, 153, 0, 12, 42, 180, 0, 9, 27, 184, 1, 239, 172, 42, 180, 0, 9, 27, 184, 1, 242]
abbrev dktJ4_charAt_0 : List UInt8 := dkwJ4_charAt_0 ++ dktJ4_charAt_1
theorem dksJ4_charAt_0 : cJ4_charAt.data.toList.drop 0 = dktJ4_charAt_0 := by decide +kernel
theorem dksJ4_charAt_1 : cJ4_charAt.data.toList.drop 24 = dktJ4_charAt_1 := dk_seg dksJ4_charAt_0 24 rfl rfl
theorem dJ4_charAt_0 : decode cJ4_charAt 0 = .ok (.aload_n 0, 1) := dk_42 (dk_at dksJ4_charAt_0 0 rfl rfl)
theorem dJ4_charAt_1 : decode cJ4_charAt 1 = .ok (.invokevirtual 492, 3) := dk_182 1 236 (dk_at dksJ4_charAt_0 1 rfl rfl)
theorem dJ4_charAt_4 : decode cJ4_charAt 4 = .ok (.ifCond .eq 12, 3) := dk_153 0 12 (dk_at dksJ4_charAt_0 4 rfl rfl)
theorem dJ4_charAt_7 : decode cJ4_charAt 7 = .ok (.aload_n 0, 1) := dk_42 (dk_at dksJ4_charAt_0 7 rfl rfl)
theorem dJ4_charAt_8 : decode cJ4_charAt 8 = .ok (.getfield 9, 3) := dk_180 0 9 (dk_at dksJ4_charAt_0 8 rfl rfl)
theorem dJ4_charAt_11 : decode cJ4_charAt 11 = .ok (.iload_n 1, 1) := dk_27 (dk_at dksJ4_charAt_0 11 rfl rfl)
theorem dJ4_charAt_12 : decode cJ4_charAt 12 = .ok (.invokestatic 495, 3) := dk_184 1 239 (dk_at dksJ4_charAt_0 12 rfl rfl)
theorem dJ4_charAt_15 : decode cJ4_charAt 15 = .ok (.ireturn, 1) := dk_172 (dk_at dksJ4_charAt_0 15 rfl rfl)
theorem dJ4_charAt_16 : decode cJ4_charAt 16 = .ok (.aload_n 0, 1) := dk_42 (dk_at dksJ4_charAt_0 16 rfl rfl)
theorem dJ4_charAt_17 : decode cJ4_charAt 17 = .ok (.getfield 9, 3) := dk_180 0 9 (dk_at dksJ4_charAt_0 17 rfl rfl)
theorem dJ4_charAt_20 : decode cJ4_charAt 20 = .ok (.iload_n 1, 1) := dk_27 (dk_at dksJ4_charAt_0 20 rfl rfl)
theorem dJ4_charAt_21 : decode cJ4_charAt 21 = .ok (.invokestatic 498, 3) := dk_184 1 242 (dk_at dksJ4_charAt_0 21 rfl rfl)
theorem dJ4_charAt_24 : decode cJ4_charAt 24 = .ok (.ireturn, 1) := dk_172 (dk_at dksJ4_charAt_1 0 rfl rfl)
abbrev cJ4_isLatin1 : ByteArray := prog_29_method_154_code
def yJ4_isLatin1 : MethodName := ⟨RJ4, "isLatin1", "()Z"⟩
def dkwJ4_isLatin1_0 : List UInt8 := [178, 0, 38, 153, 0, 14, 42, 180, 0, 15, 154, 0, 7, 4, 167, 0, 4, 3, 172]
abbrev dktJ4_isLatin1_0 : List UInt8 := dkwJ4_isLatin1_0 ++ []
theorem dksJ4_isLatin1_0 : cJ4_isLatin1.data.toList.drop 0 = dktJ4_isLatin1_0 := by decide +kernel
theorem dJ4_isLatin1_0 : decode cJ4_isLatin1 0 = .ok (.getstatic 38, 3) := dk_178 0 38 (dk_at dksJ4_isLatin1_0 0 rfl rfl)
theorem dJ4_isLatin1_3 : decode cJ4_isLatin1 3 = .ok (.ifCond .eq 14, 3) := dk_153 0 14 (dk_at dksJ4_isLatin1_0 3 rfl rfl)
theorem dJ4_isLatin1_6 : decode cJ4_isLatin1 6 = .ok (.aload_n 0, 1) := dk_42 (dk_at dksJ4_isLatin1_0 6 rfl rfl)
theorem dJ4_isLatin1_7 : decode cJ4_isLatin1 7 = .ok (.getfield 15, 3) := dk_180 0 15 (dk_at dksJ4_isLatin1_0 7 rfl rfl)
theorem dJ4_isLatin1_10 : decode cJ4_isLatin1 10 = .ok (.ifCond .ne 7, 3) := dk_154 0 7 (dk_at dksJ4_isLatin1_0 10 rfl rfl)
theorem dJ4_isLatin1_13 : decode cJ4_isLatin1 13 = .ok (.iconst 1, 1) := dk_4 (dk_at dksJ4_isLatin1_0 13 rfl rfl)
theorem dJ4_isLatin1_14 : decode cJ4_isLatin1 14 = .ok (.goto 4, 3) := dk_167 0 4 (dk_at dksJ4_isLatin1_0 14 rfl rfl)
theorem dJ4_isLatin1_17 : decode cJ4_isLatin1 17 = .ok (.iconst 0, 1) := dk_3 (dk_at dksJ4_isLatin1_0 17 rfl rfl)
theorem dJ4_isLatin1_18 : decode cJ4_isLatin1 18 = .ok (.ireturn, 1) := dk_172 (dk_at dksJ4_isLatin1_0 18 rfl rfl)
abbrev cJ4_checkIndex : ByteArray := prog_29_method_155_code
def yJ4_checkIndex : MethodName := ⟨RJ4, "checkIndex", "(II)V"⟩
def dkwJ4_checkIndex_0 : List UInt8 := [26, 27, 178, 4, 29, 184, 4, 35, 87, 177]
abbrev dktJ4_checkIndex_0 : List UInt8 := dkwJ4_checkIndex_0 ++ []
theorem dksJ4_checkIndex_0 : cJ4_checkIndex.data.toList.drop 0 = dktJ4_checkIndex_0 := by decide +kernel
theorem dJ4_checkIndex_0 : decode cJ4_checkIndex 0 = .ok (.iload_n 0, 1) := dk_26 (dk_at dksJ4_checkIndex_0 0 rfl rfl)
theorem dJ4_checkIndex_1 : decode cJ4_checkIndex 1 = .ok (.iload_n 1, 1) := dk_27 (dk_at dksJ4_checkIndex_0 1 rfl rfl)
theorem dJ4_checkIndex_2 : decode cJ4_checkIndex 2 = .ok (.getstatic 1053, 3) := dk_178 4 29 (dk_at dksJ4_checkIndex_0 2 rfl rfl)
theorem dJ4_checkIndex_5 : decode cJ4_checkIndex 5 = .ok (.invokestatic 1059, 3) := dk_184 4 35 (dk_at dksJ4_checkIndex_0 5 rfl rfl)
theorem dJ4_checkIndex_8 : decode cJ4_checkIndex 8 = .ok (.pop, 1) := dk_87 (dk_at dksJ4_checkIndex_0 8 rfl rfl)
theorem dJ4_checkIndex_9 : decode cJ4_checkIndex 9 = .ok (.return_, 1) := dk_177 (dk_at dksJ4_checkIndex_0 9 rfl rfl)
theorem q155 : (Jvm.Cond.initialized "java/lang/String") ∈ lw_all := lw_g (lw_at lw_m1 17 rfl) rfl
theorem q607 : (Jvm.Cond.instanceMethod ({ cls := "java/lang/String", name := "length", desc := "()I" } : Jvm.MethodName)) ∈ lw_all := lw_g (lw_at lw_m2 229 rfl) rfl
theorem q608 : (Jvm.Cond.selects "java/lang/String" ({ cls := "java/lang/String", name := "length", desc := "()I" } : Jvm.MethodName) ({ cls := "java/lang/String", name := "length", desc := "()I" } : Jvm.MethodName)) ∈ lw_all := lw_g (lw_at lw_m2 230 rfl) rfl
theorem q609 : (Jvm.Cond.code ({ cls := "java/lang/String", name := "length", desc := "()I" } : Jvm.MethodName) prog_29_method_54_code (1 : Nat) (Option.some Jvm.ClassFile.FieldType.int)) ∈ lw_all := lw_g (lw_at lw_m2 231 rfl) rfl
theorem q610 : (Jvm.Cond.methodLink "java/lang/String" (335 : Nat) ({ cls := "java/lang/String", name := "coder", desc := "()B" } : Jvm.MethodName)) ∈ lw_all := lw_g (lw_at lw_m2 232 rfl) rfl
theorem q611 : (Jvm.Cond.instanceMethod ({ cls := "java/lang/String", name := "coder", desc := "()B" } : Jvm.MethodName)) ∈ lw_all := lw_g (lw_at lw_m2 233 rfl) rfl
theorem q612 : (Jvm.Cond.selects "java/lang/String" ({ cls := "java/lang/String", name := "coder", desc := "()B" } : Jvm.MethodName) ({ cls := "java/lang/String", name := "coder", desc := "()B" } : Jvm.MethodName)) ∈ lw_all := lw_g (lw_at lw_m2 234 rfl) rfl
theorem q613 : (Jvm.Cond.code ({ cls := "java/lang/String", name := "coder", desc := "()B" } : Jvm.MethodName) prog_29_method_152_code (1 : Nat) (Option.some Jvm.ClassFile.FieldType.byte)) ∈ lw_all := lw_g (lw_at lw_m2 235 rfl) rfl
theorem q614 : (Jvm.Cond.fieldLink "java/lang/String" (38 : Nat) "java/lang/String" "COMPACT_STRINGS" "Z") ∈ lw_all := lw_g (lw_at lw_m2 236 rfl) rfl
theorem q615 : (Jvm.Cond.laysStatic "java/lang/String" "COMPACT_STRINGS" "Z") ∈ lw_tbl := lw_at lw_m2 237 rfl
theorem q617 : (Jvm.Cond.instanceMethod ({ cls := "java/lang/String", name := "charAt", desc := "(I)C" } : Jvm.MethodName)) ∈ lw_all := lw_g (lw_at lw_m2 239 rfl) rfl
theorem q618 : (Jvm.Cond.selects "java/lang/String" ({ cls := "java/lang/String", name := "charAt", desc := "(I)C" } : Jvm.MethodName) ({ cls := "java/lang/String", name := "charAt", desc := "(I)C" } : Jvm.MethodName)) ∈ lw_all := lw_g (lw_at lw_m3 0 rfl) rfl
theorem q619 : (Jvm.Cond.code ({ cls := "java/lang/String", name := "charAt", desc := "(I)C" } : Jvm.MethodName) prog_29_method_56_code (2 : Nat) (Option.some Jvm.ClassFile.FieldType.char)) ∈ lw_all := lw_g (lw_at lw_m3 1 rfl) rfl
theorem q620 : (Jvm.Cond.methodLink "java/lang/String" (492 : Nat) ({ cls := "java/lang/String", name := "isLatin1", desc := "()Z" } : Jvm.MethodName)) ∈ lw_all := lw_g (lw_at lw_m3 2 rfl) rfl
theorem q621 : (Jvm.Cond.instanceMethod ({ cls := "java/lang/String", name := "isLatin1", desc := "()Z" } : Jvm.MethodName)) ∈ lw_all := lw_g (lw_at lw_m3 3 rfl) rfl
theorem q622 : (Jvm.Cond.selects "java/lang/String" ({ cls := "java/lang/String", name := "isLatin1", desc := "()Z" } : Jvm.MethodName) ({ cls := "java/lang/String", name := "isLatin1", desc := "()Z" } : Jvm.MethodName)) ∈ lw_all := lw_g (lw_at lw_m3 4 rfl) rfl
theorem q623 : (Jvm.Cond.code ({ cls := "java/lang/String", name := "isLatin1", desc := "()Z" } : Jvm.MethodName) prog_29_method_154_code (1 : Nat) (Option.some Jvm.ClassFile.FieldType.boolean)) ∈ lw_all := lw_g (lw_at lw_m3 5 rfl) rfl
theorem q624 : (Jvm.Cond.methodLink "java/lang/String" (495 : Nat) ({ cls := "java/lang/StringLatin1", name := "charAt", desc := "([BI)C" } : Jvm.MethodName)) ∈ lw_all := lw_g (lw_at lw_m3 6 rfl) rfl
theorem q628 : (Jvm.Cond.static ({ cls := "java/lang/String", name := "checkIndex", desc := "(II)V" } : Jvm.MethodName)) ∈ lw_all := lw_g (lw_at lw_m3 10 rfl) rfl
theorem q629 : (Jvm.Cond.code ({ cls := "java/lang/String", name := "checkIndex", desc := "(II)V" } : Jvm.MethodName) prog_29_method_155_code (2 : Nat) (Option.none : Option Jvm.ClassFile.FieldType)) ∈ lw_all := lw_g (lw_at lw_m3 11 rfl) rfl
theorem q630 : (Jvm.Cond.fieldLink "java/lang/String" (1053 : Nat) "jdk/internal/util/Preconditions" "SIOOBE_FORMATTER" "Ljava/util/function/BiFunction;") ∈ lw_all := lw_g (lw_at lw_m3 12 rfl) rfl
theorem q632 : (Jvm.Cond.methodLink "java/lang/String" (1059 : Nat) ({ cls := "jdk/internal/util/Preconditions", name := "checkIndex", desc := "(IILjava/util/function/BiFunction;)I" } : Jvm.MethodName)) ∈ lw_all := lw_g (lw_at lw_m3 14 rfl) rfl
theorem q635 : (Jvm.Cond.methodLink "java/lang/String" (498 : Nat) ({ cls := "java/lang/StringUTF16", name := "charAt", desc := "([BI)C" } : Jvm.MethodName)) ∈ lw_all := lw_g (lw_at lw_m3 17 rfl) rfl
theorem q1503 : (Jvm.Cond.instantiable "java/lang/String" (4 : Nat)) ∈ lw_all := lw_g (lw_at lw_m6 165 rfl) rfl
theorem q1504 : (Jvm.Cond.laysFinal "java/lang/String" "java/lang/String" "value" "[B") ∈ lw_all := lw_g (lw_at lw_m6 166 rfl) rfl
theorem q1505 : (Jvm.Cond.soleField "java/lang/String" "value") ∈ lw_all := lw_g (lw_at lw_m6 167 rfl) rfl
theorem q1506 : (Jvm.Cond.laysFinal "java/lang/String" "java/lang/String" "coder" "B") ∈ lw_all := lw_g (lw_at lw_m6 168 rfl) rfl
theorem q1507 : (Jvm.Cond.soleField "java/lang/String" "coder") ∈ lw_all := lw_g (lw_at lw_m6 169 rfl) rfl
theorem q2313 : (Jvm.Cond.castable "java/lang/String" "java/lang/Object") ∈ lw_tbl := lw_at lw_m10 15 rfl
theorem q2324 : (Jvm.Cond.fieldLink "java/lang/String" (9 : Nat) "java/lang/String" "value" "[B") ∈ lw_all := lw_g (lw_at lw_m10 26 rfl) rfl
theorem q2325 : (Jvm.Cond.fieldLink "java/lang/String" (15 : Nat) "java/lang/String" "coder" "B") ∈ lw_all := lw_g (lw_at lw_m10 27 rfl) rfl
theorem in_J4 : ∀ w ∈ wsJ40, w ∈ lw_all := lw_in wsJ40 [1504, 1506] (by decide +kernel) (by decide +kernel)

/-! java/lang/StringLatin1 -/
set_option maxRecDepth 100000
def RJ5 : String := "java/lang/StringLatin1"
abbrev cJ5_charAt : ByteArray := prog_30_method_2_code
def yJ5_charAt : MethodName := ⟨RJ5, "charAt", "([BI)C"⟩
def dkwJ5_charAt_0 : List UInt8 := [27, 42, 190, 184, 0, 9, 42, 27, 51, 17, 0, 255, 126, 146, 172]
abbrev dktJ5_charAt_0 : List UInt8 := dkwJ5_charAt_0 ++ []
theorem dksJ5_charAt_0 : cJ5_charAt.data.toList.drop 0 = dktJ5_charAt_0 := by decide +kernel
theorem dJ5_charAt_0 : decode cJ5_charAt 0 = .ok (.iload_n 1, 1) := dk_27 (dk_at dksJ5_charAt_0 0 rfl rfl)
theorem dJ5_charAt_1 : decode cJ5_charAt 1 = .ok (.aload_n 0, 1) := dk_42 (dk_at dksJ5_charAt_0 1 rfl rfl)
theorem dJ5_charAt_2 : decode cJ5_charAt 2 = .ok (.arraylength, 1) := dk_190 (dk_at dksJ5_charAt_0 2 rfl rfl)
theorem dJ5_charAt_3 : decode cJ5_charAt 3 = .ok (.invokestatic 9, 3) := dk_184 0 9 (dk_at dksJ5_charAt_0 3 rfl rfl)
theorem dJ5_charAt_6 : decode cJ5_charAt 6 = .ok (.aload_n 0, 1) := dk_42 (dk_at dksJ5_charAt_0 6 rfl rfl)
theorem dJ5_charAt_7 : decode cJ5_charAt 7 = .ok (.iload_n 1, 1) := dk_27 (dk_at dksJ5_charAt_0 7 rfl rfl)
theorem dJ5_charAt_8 : decode cJ5_charAt 8 = .ok (.baload, 1) := dk_51 (dk_at dksJ5_charAt_0 8 rfl rfl)
theorem dJ5_charAt_9 : decode cJ5_charAt 9 = .ok (.sipush 255, 3) := dk_17 0 255 (dk_at dksJ5_charAt_0 9 rfl rfl)
theorem dJ5_charAt_12 : decode cJ5_charAt 12 = .ok (.iand, 1) := dk_126 (dk_at dksJ5_charAt_0 12 rfl rfl)
theorem dJ5_charAt_13 : decode cJ5_charAt 13 = .ok (.i2c, 1) := dk_146 (dk_at dksJ5_charAt_0 13 rfl rfl)
theorem dJ5_charAt_14 : decode cJ5_charAt 14 = .ok (.ireturn, 1) := dk_172 (dk_at dksJ5_charAt_0 14 rfl rfl)
theorem q156 : (Jvm.Cond.initialized "java/lang/StringLatin1") ∈ lw_all := lw_g (lw_at lw_m1 18 rfl) rfl
theorem q625 : (Jvm.Cond.static ({ cls := "java/lang/StringLatin1", name := "charAt", desc := "([BI)C" } : Jvm.MethodName)) ∈ lw_all := lw_g (lw_at lw_m3 7 rfl) rfl
theorem q626 : (Jvm.Cond.code ({ cls := "java/lang/StringLatin1", name := "charAt", desc := "([BI)C" } : Jvm.MethodName) prog_30_method_2_code (2 : Nat) (Option.some Jvm.ClassFile.FieldType.char)) ∈ lw_all := lw_g (lw_at lw_m3 8 rfl) rfl
theorem q627 : (Jvm.Cond.methodLink "java/lang/StringLatin1" (9 : Nat) ({ cls := "java/lang/String", name := "checkIndex", desc := "(II)V" } : Jvm.MethodName)) ∈ lw_all := lw_g (lw_at lw_m3 9 rfl) rfl

/-! jdk/internal/util/Preconditions -/
set_option maxRecDepth 100000
def RJ6 : String := "jdk/internal/util/Preconditions"
abbrev cJ6_checkIndex : ByteArray := prog_46_method_11_code
def yJ6_checkIndex : MethodName := ⟨RJ6, "checkIndex", "(IILjava/util/function/BiFunction;)I"⟩
def dkwJ6_checkIndex_0 : List UInt8 := [26, 155, 0, 8, 26, 27, 161, 0, 10, 44, 26, 27, 184, 0, 95, 191, 26, 172]
abbrev dktJ6_checkIndex_0 : List UInt8 := dkwJ6_checkIndex_0 ++ []
theorem dksJ6_checkIndex_0 : cJ6_checkIndex.data.toList.drop 0 = dktJ6_checkIndex_0 := by decide +kernel
theorem dJ6_checkIndex_0 : decode cJ6_checkIndex 0 = .ok (.iload_n 0, 1) := dk_26 (dk_at dksJ6_checkIndex_0 0 rfl rfl)
theorem dJ6_checkIndex_1 : decode cJ6_checkIndex 1 = .ok (.ifCond .lt 8, 3) := dk_155 0 8 (dk_at dksJ6_checkIndex_0 1 rfl rfl)
theorem dJ6_checkIndex_4 : decode cJ6_checkIndex 4 = .ok (.iload_n 0, 1) := dk_26 (dk_at dksJ6_checkIndex_0 4 rfl rfl)
theorem dJ6_checkIndex_5 : decode cJ6_checkIndex 5 = .ok (.iload_n 1, 1) := dk_27 (dk_at dksJ6_checkIndex_0 5 rfl rfl)
theorem dJ6_checkIndex_6 : decode cJ6_checkIndex 6 = .ok (.if_icmp .lt 10, 3) := dk_161 0 10 (dk_at dksJ6_checkIndex_0 6 rfl rfl)
theorem dJ6_checkIndex_9 : decode cJ6_checkIndex 9 = .ok (.aload_n 2, 1) := dk_44 (dk_at dksJ6_checkIndex_0 9 rfl rfl)
theorem dJ6_checkIndex_10 : decode cJ6_checkIndex 10 = .ok (.iload_n 0, 1) := dk_26 (dk_at dksJ6_checkIndex_0 10 rfl rfl)
theorem dJ6_checkIndex_11 : decode cJ6_checkIndex 11 = .ok (.iload_n 1, 1) := dk_27 (dk_at dksJ6_checkIndex_0 11 rfl rfl)
theorem dJ6_checkIndex_12 : decode cJ6_checkIndex 12 = .ok (.invokestatic 95, 3) := dk_184 0 95 (dk_at dksJ6_checkIndex_0 12 rfl rfl)
theorem dJ6_checkIndex_15 : decode cJ6_checkIndex 15 = .ok (.athrow, 1) := dk_191 (dk_at dksJ6_checkIndex_0 15 rfl rfl)
theorem dJ6_checkIndex_16 : decode cJ6_checkIndex 16 = .ok (.iload_n 0, 1) := dk_26 (dk_at dksJ6_checkIndex_0 16 rfl rfl)
theorem dJ6_checkIndex_17 : decode cJ6_checkIndex 17 = .ok (.ireturn, 1) := dk_172 (dk_at dksJ6_checkIndex_0 17 rfl rfl)
theorem q157 : (Jvm.Cond.initialized "jdk/internal/util/Preconditions") ∈ lw_all := lw_g (lw_at lw_m1 19 rfl) rfl
theorem q631 : (Jvm.Cond.laysStatic "jdk/internal/util/Preconditions" "SIOOBE_FORMATTER" "Ljava/util/function/BiFunction;") ∈ lw_tbl := lw_at lw_m3 13 rfl
theorem q633 : (Jvm.Cond.static ({ cls := "jdk/internal/util/Preconditions", name := "checkIndex", desc := "(IILjava/util/function/BiFunction;)I" } : Jvm.MethodName)) ∈ lw_all := lw_g (lw_at lw_m3 15 rfl) rfl
theorem q634 : (Jvm.Cond.code ({ cls := "jdk/internal/util/Preconditions", name := "checkIndex", desc := "(IILjava/util/function/BiFunction;)I" } : Jvm.MethodName) prog_46_method_11_code (3 : Nat) (Option.some Jvm.ClassFile.FieldType.int)) ∈ lw_all := lw_g (lw_at lw_m3 16 rfl) rfl

/-! java/lang/StringUTF16 -/
set_option maxRecDepth 100000
def RJ7 : String := "java/lang/StringUTF16"
abbrev cJ7_charAt : ByteArray := prog_31_method_83_code
def yJ7_charAt : MethodName := ⟨RJ7, "charAt", "([BI)C"⟩
def dkwJ7_charAt_0 : List UInt8 := [27, 42, 184, 0, 67, 42, 27, 184, 0, 71, 172]
abbrev dktJ7_charAt_0 : List UInt8 := dkwJ7_charAt_0 ++ []
theorem dksJ7_charAt_0 : cJ7_charAt.data.toList.drop 0 = dktJ7_charAt_0 := by decide +kernel
theorem dJ7_charAt_0 : decode cJ7_charAt 0 = .ok (.iload_n 1, 1) := dk_27 (dk_at dksJ7_charAt_0 0 rfl rfl)
theorem dJ7_charAt_1 : decode cJ7_charAt 1 = .ok (.aload_n 0, 1) := dk_42 (dk_at dksJ7_charAt_0 1 rfl rfl)
theorem dJ7_charAt_2 : decode cJ7_charAt 2 = .ok (.invokestatic 67, 3) := dk_184 0 67 (dk_at dksJ7_charAt_0 2 rfl rfl)
theorem dJ7_charAt_5 : decode cJ7_charAt 5 = .ok (.aload_n 0, 1) := dk_42 (dk_at dksJ7_charAt_0 5 rfl rfl)
theorem dJ7_charAt_6 : decode cJ7_charAt 6 = .ok (.iload_n 1, 1) := dk_27 (dk_at dksJ7_charAt_0 6 rfl rfl)
theorem dJ7_charAt_7 : decode cJ7_charAt 7 = .ok (.invokestatic 71, 3) := dk_184 0 71 (dk_at dksJ7_charAt_0 7 rfl rfl)
theorem dJ7_charAt_10 : decode cJ7_charAt 10 = .ok (.ireturn, 1) := dk_172 (dk_at dksJ7_charAt_0 10 rfl rfl)
abbrev cJ7_checkIndex : ByteArray := prog_31_method_91_code
def yJ7_checkIndex : MethodName := ⟨RJ7, "checkIndex", "(I[B)V"⟩
def dkwJ7_checkIndex_0 : List UInt8 := [26, 43, 184, 0, 48, 184, 1, 158, 177]
abbrev dktJ7_checkIndex_0 : List UInt8 := dkwJ7_checkIndex_0 ++ []
theorem dksJ7_checkIndex_0 : cJ7_checkIndex.data.toList.drop 0 = dktJ7_checkIndex_0 := by decide +kernel
theorem dJ7_checkIndex_0 : decode cJ7_checkIndex 0 = .ok (.iload_n 0, 1) := dk_26 (dk_at dksJ7_checkIndex_0 0 rfl rfl)
theorem dJ7_checkIndex_1 : decode cJ7_checkIndex 1 = .ok (.aload_n 1, 1) := dk_43 (dk_at dksJ7_checkIndex_0 1 rfl rfl)
theorem dJ7_checkIndex_2 : decode cJ7_checkIndex 2 = .ok (.invokestatic 48, 3) := dk_184 0 48 (dk_at dksJ7_checkIndex_0 2 rfl rfl)
theorem dJ7_checkIndex_5 : decode cJ7_checkIndex 5 = .ok (.invokestatic 414, 3) := dk_184 1 158 (dk_at dksJ7_checkIndex_0 5 rfl rfl)
theorem dJ7_checkIndex_8 : decode cJ7_checkIndex 8 = .ok (.return_, 1) := dk_177 (dk_at dksJ7_checkIndex_0 8 rfl rfl)
abbrev cJ7_length : ByteArray := prog_31_method_6_code
def yJ7_length : MethodName := ⟨RJ7, "length", "([B)I"⟩
def dkwJ7_length_0 : List UInt8 := [42, 190, 4, 122, 172]
abbrev dktJ7_length_0 : List UInt8 := dkwJ7_length_0 ++ []
theorem dksJ7_length_0 : cJ7_length.data.toList.drop 0 = dktJ7_length_0 := by decide +kernel
theorem dJ7_length_0 : decode cJ7_length 0 = .ok (.aload_n 0, 1) := dk_42 (dk_at dksJ7_length_0 0 rfl rfl)
theorem dJ7_length_1 : decode cJ7_length 1 = .ok (.arraylength, 1) := dk_190 (dk_at dksJ7_length_0 1 rfl rfl)
theorem dJ7_length_2 : decode cJ7_length 2 = .ok (.iconst 1, 1) := dk_4 (dk_at dksJ7_length_0 2 rfl rfl)
theorem dJ7_length_3 : decode cJ7_length 3 = .ok (.ishr, 1) := dk_122 (dk_at dksJ7_length_0 3 rfl rfl)
theorem dJ7_length_4 : decode cJ7_length 4 = .ok (.ireturn, 1) := dk_172 (dk_at dksJ7_length_0 4 rfl rfl)
abbrev cJ7_getChar : ByteArray := prog_31_method_5_code
def yJ7_getChar : MethodName := ⟨RJ7, "getChar", "([BI)C"⟩
def dkwJ7_getChar_2 : List UInt8 := [51, 17, 0, 255, 126, 178, 0, 63, 120, 128, 146, 172]
abbrev dktJ7_getChar_2 : List UInt8 := dkwJ7_getChar_2 ++ []
def dkwJ7_getChar_1 : List UInt8 := [183, 0, 56, 191, 27, 4, 120, 60, 42, 27, 132, 1, 1, 51, 17, 0, 255, 126, 178, 0, 59, 120, 42, 27]
abbrev dktJ7_getChar_1 : List UInt8 := dkwJ7_getChar_1 ++ dktJ7_getChar_2
def dkwJ7_getChar_0 : List UInt8 := [178, 0, 44, 154, 0, 25, 27, 155, 0, 11, 27, 42, 184, 0, 48, 161, 0, 13, 187, 0, 52, 89, 18, 54]
abbrev dktJ7_getChar_0 : List UInt8 := dkwJ7_getChar_0 ++ dktJ7_getChar_1
theorem dksJ7_getChar_0 : cJ7_getChar.data.toList.drop 0 = dktJ7_getChar_0 := by decide +kernel
theorem dksJ7_getChar_1 : cJ7_getChar.data.toList.drop 24 = dktJ7_getChar_1 := dk_seg dksJ7_getChar_0 24 rfl rfl
theorem dksJ7_getChar_2 : cJ7_getChar.data.toList.drop 48 = dktJ7_getChar_2 := dk_seg dksJ7_getChar_1 24 rfl rfl
theorem dJ7_getChar_0 : decode cJ7_getChar 0 = .ok (.getstatic 44, 3) := dk_178 0 44 (dk_at dksJ7_getChar_0 0 rfl rfl)
theorem dJ7_getChar_3 : decode cJ7_getChar 3 = .ok (.ifCond .ne 25, 3) := dk_154 0 25 (dk_at dksJ7_getChar_0 3 rfl rfl)
theorem dJ7_getChar_6 : decode cJ7_getChar 6 = .ok (.iload_n 1, 1) := dk_27 (dk_at dksJ7_getChar_0 6 rfl rfl)
theorem dJ7_getChar_7 : decode cJ7_getChar 7 = .ok (.ifCond .lt 11, 3) := dk_155 0 11 (dk_at dksJ7_getChar_0 7 rfl rfl)
theorem dJ7_getChar_10 : decode cJ7_getChar 10 = .ok (.iload_n 1, 1) := dk_27 (dk_at dksJ7_getChar_0 10 rfl rfl)
theorem dJ7_getChar_11 : decode cJ7_getChar 11 = .ok (.aload_n 0, 1) := dk_42 (dk_at dksJ7_getChar_0 11 rfl rfl)
theorem dJ7_getChar_12 : decode cJ7_getChar 12 = .ok (.invokestatic 48, 3) := dk_184 0 48 (dk_at dksJ7_getChar_0 12 rfl rfl)
theorem dJ7_getChar_15 : decode cJ7_getChar 15 = .ok (.if_icmp .lt 13, 3) := dk_161 0 13 (dk_at dksJ7_getChar_0 15 rfl rfl)
theorem dJ7_getChar_18 : decode cJ7_getChar 18 = .ok (.new 52, 3) := dk_187 0 52 (dk_at dksJ7_getChar_0 18 rfl rfl)
theorem dJ7_getChar_21 : decode cJ7_getChar 21 = .ok (.dup, 1) := dk_89 (dk_at dksJ7_getChar_0 21 rfl rfl)
theorem dJ7_getChar_22 : decode cJ7_getChar 22 = .ok (.ldc 54, 2) := dk_18 54 (dk_at dksJ7_getChar_0 22 rfl rfl)
theorem dJ7_getChar_24 : decode cJ7_getChar 24 = .ok (.invokespecial 56, 3) := dk_183 0 56 (dk_at dksJ7_getChar_1 0 rfl rfl)
theorem dJ7_getChar_27 : decode cJ7_getChar 27 = .ok (.athrow, 1) := dk_191 (dk_at dksJ7_getChar_1 3 rfl rfl)
theorem dJ7_getChar_28 : decode cJ7_getChar 28 = .ok (.iload_n 1, 1) := dk_27 (dk_at dksJ7_getChar_1 4 rfl rfl)
theorem dJ7_getChar_29 : decode cJ7_getChar 29 = .ok (.iconst 1, 1) := dk_4 (dk_at dksJ7_getChar_1 5 rfl rfl)
theorem dJ7_getChar_30 : decode cJ7_getChar 30 = .ok (.ishl, 1) := dk_120 (dk_at dksJ7_getChar_1 6 rfl rfl)
theorem dJ7_getChar_31 : decode cJ7_getChar 31 = .ok (.istore_n 1, 1) := dk_60 (dk_at dksJ7_getChar_1 7 rfl rfl)
theorem dJ7_getChar_32 : decode cJ7_getChar 32 = .ok (.aload_n 0, 1) := dk_42 (dk_at dksJ7_getChar_1 8 rfl rfl)
theorem dJ7_getChar_33 : decode cJ7_getChar 33 = .ok (.iload_n 1, 1) := dk_27 (dk_at dksJ7_getChar_1 9 rfl rfl)
theorem dJ7_getChar_34 : decode cJ7_getChar 34 = .ok (.iinc 1 1, 3) := dk_132 1 1 (dk_at dksJ7_getChar_1 10 rfl rfl)
theorem dJ7_getChar_37 : decode cJ7_getChar 37 = .ok (.baload, 1) := dk_51 (dk_at dksJ7_getChar_1 13 rfl rfl)
theorem dJ7_getChar_38 : decode cJ7_getChar 38 = .ok (.sipush 255, 3) := dk_17 0 255 (dk_at dksJ7_getChar_1 14 rfl rfl)
theorem dJ7_getChar_41 : decode cJ7_getChar 41 = .ok (.iand, 1) := dk_126 (dk_at dksJ7_getChar_1 17 rfl rfl)
theorem dJ7_getChar_42 : decode cJ7_getChar 42 = .ok (.getstatic 59, 3) := dk_178 0 59 (dk_at dksJ7_getChar_1 18 rfl rfl)
theorem dJ7_getChar_45 : decode cJ7_getChar 45 = .ok (.ishl, 1) := dk_120 (dk_at dksJ7_getChar_1 21 rfl rfl)
theorem dJ7_getChar_46 : decode cJ7_getChar 46 = .ok (.aload_n 0, 1) := dk_42 (dk_at dksJ7_getChar_1 22 rfl rfl)
theorem dJ7_getChar_47 : decode cJ7_getChar 47 = .ok (.iload_n 1, 1) := dk_27 (dk_at dksJ7_getChar_1 23 rfl rfl)
theorem dJ7_getChar_48 : decode cJ7_getChar 48 = .ok (.baload, 1) := dk_51 (dk_at dksJ7_getChar_2 0 rfl rfl)
theorem dJ7_getChar_49 : decode cJ7_getChar 49 = .ok (.sipush 255, 3) := dk_17 0 255 (dk_at dksJ7_getChar_2 1 rfl rfl)
theorem dJ7_getChar_52 : decode cJ7_getChar 52 = .ok (.iand, 1) := dk_126 (dk_at dksJ7_getChar_2 4 rfl rfl)
theorem dJ7_getChar_53 : decode cJ7_getChar 53 = .ok (.getstatic 63, 3) := dk_178 0 63 (dk_at dksJ7_getChar_2 5 rfl rfl)
theorem dJ7_getChar_56 : decode cJ7_getChar 56 = .ok (.ishl, 1) := dk_120 (dk_at dksJ7_getChar_2 8 rfl rfl)
theorem dJ7_getChar_57 : decode cJ7_getChar 57 = .ok (.ior, 1) := dk_128 (dk_at dksJ7_getChar_2 9 rfl rfl)
theorem dJ7_getChar_58 : decode cJ7_getChar 58 = .ok (.i2c, 1) := dk_146 (dk_at dksJ7_getChar_2 10 rfl rfl)
theorem dJ7_getChar_59 : decode cJ7_getChar 59 = .ok (.ireturn, 1) := dk_172 (dk_at dksJ7_getChar_2 11 rfl rfl)
theorem q158 : (Jvm.Cond.initialized "java/lang/StringUTF16") ∈ lw_all := lw_g (lw_at lw_m1 20 rfl) rfl
theorem q636 : (Jvm.Cond.static ({ cls := "java/lang/StringUTF16", name := "charAt", desc := "([BI)C" } : Jvm.MethodName)) ∈ lw_all := lw_g (lw_at lw_m3 18 rfl) rfl
theorem q637 : (Jvm.Cond.code ({ cls := "java/lang/StringUTF16", name := "charAt", desc := "([BI)C" } : Jvm.MethodName) prog_31_method_83_code (2 : Nat) (Option.some Jvm.ClassFile.FieldType.char)) ∈ lw_all := lw_g (lw_at lw_m3 19 rfl) rfl
theorem q638 : (Jvm.Cond.methodLink "java/lang/StringUTF16" (67 : Nat) ({ cls := "java/lang/StringUTF16", name := "checkIndex", desc := "(I[B)V" } : Jvm.MethodName)) ∈ lw_all := lw_g (lw_at lw_m3 20 rfl) rfl
theorem q639 : (Jvm.Cond.static ({ cls := "java/lang/StringUTF16", name := "checkIndex", desc := "(I[B)V" } : Jvm.MethodName)) ∈ lw_all := lw_g (lw_at lw_m3 21 rfl) rfl
theorem q640 : (Jvm.Cond.code ({ cls := "java/lang/StringUTF16", name := "checkIndex", desc := "(I[B)V" } : Jvm.MethodName) prog_31_method_91_code (2 : Nat) (Option.none : Option Jvm.ClassFile.FieldType)) ∈ lw_all := lw_g (lw_at lw_m3 22 rfl) rfl
theorem q641 : (Jvm.Cond.methodLink "java/lang/StringUTF16" (48 : Nat) ({ cls := "java/lang/StringUTF16", name := "length", desc := "([B)I" } : Jvm.MethodName)) ∈ lw_all := lw_g (lw_at lw_m3 23 rfl) rfl
theorem q642 : (Jvm.Cond.static ({ cls := "java/lang/StringUTF16", name := "length", desc := "([B)I" } : Jvm.MethodName)) ∈ lw_all := lw_g (lw_at lw_m3 24 rfl) rfl
theorem q643 : (Jvm.Cond.code ({ cls := "java/lang/StringUTF16", name := "length", desc := "([B)I" } : Jvm.MethodName) prog_31_method_6_code (1 : Nat) (Option.some Jvm.ClassFile.FieldType.int)) ∈ lw_all := lw_g (lw_at lw_m3 25 rfl) rfl
theorem q644 : (Jvm.Cond.methodLink "java/lang/StringUTF16" (414 : Nat) ({ cls := "java/lang/String", name := "checkIndex", desc := "(II)V" } : Jvm.MethodName)) ∈ lw_all := lw_g (lw_at lw_m3 26 rfl) rfl
theorem q645 : (Jvm.Cond.methodLink "java/lang/StringUTF16" (71 : Nat) ({ cls := "java/lang/StringUTF16", name := "getChar", desc := "([BI)C" } : Jvm.MethodName)) ∈ lw_all := lw_g (lw_at lw_m3 27 rfl) rfl
theorem q646 : (Jvm.Cond.static ({ cls := "java/lang/StringUTF16", name := "getChar", desc := "([BI)C" } : Jvm.MethodName)) ∈ lw_all := lw_g (lw_at lw_m3 28 rfl) rfl
theorem q647 : (Jvm.Cond.code ({ cls := "java/lang/StringUTF16", name := "getChar", desc := "([BI)C" } : Jvm.MethodName) prog_31_method_5_code (2 : Nat) (Option.some Jvm.ClassFile.FieldType.char)) ∈ lw_all := lw_g (lw_at lw_m3 29 rfl) rfl
theorem q648 : (Jvm.Cond.fieldLink "java/lang/StringUTF16" (44 : Nat) "java/lang/StringUTF16" "$assertionsDisabled" "Z") ∈ lw_all := lw_g (lw_at lw_m3 30 rfl) rfl
theorem q649 : (Jvm.Cond.laysStatic "java/lang/StringUTF16" "$assertionsDisabled" "Z") ∈ lw_tbl := lw_at lw_m3 31 rfl
theorem q650 : (Jvm.Cond.fieldLink "java/lang/StringUTF16" (59 : Nat) "java/lang/StringUTF16" "HI_BYTE_SHIFT" "I") ∈ lw_all := lw_g (lw_at lw_m3 32 rfl) rfl
theorem q651 : (Jvm.Cond.laysStatic "java/lang/StringUTF16" "HI_BYTE_SHIFT" "I") ∈ lw_tbl := lw_at lw_m3 33 rfl
theorem q652 : (Jvm.Cond.fieldLink "java/lang/StringUTF16" (63 : Nat) "java/lang/StringUTF16" "LO_BYTE_SHIFT" "I") ∈ lw_all := lw_g (lw_at lw_m3 34 rfl) rfl
theorem q653 : (Jvm.Cond.laysStatic "java/lang/StringUTF16" "LO_BYTE_SHIFT" "I") ∈ lw_tbl := lw_at lw_m3 35 rfl

/-! java/lang/Throwable -/
set_option maxRecDepth 100000
def RJ8 : String := "java/lang/Throwable"
def TJ8 : u_T := fun k => match k with
  | 0 => ("java/lang/Throwable", "cause", "Ljava/lang/Throwable;", false)
  | 1 => ("java/lang/Throwable", "stackTrace", "[Ljava/lang/StackTraceElement;", false)
  | 2 => ("java/lang/Throwable", "suppressedExceptions", "Ljava/util/List;", false)
  | 3 => ("java/lang/Throwable", "detailMessage", "Ljava/lang/String;", false)
  | _ => ("java/lang/Throwable", "backtrace", "Ljava/lang/Object;", false)
def tyJ8 : Nat → FieldType := fun k => match k with
  | 0 => .object "java/lang/Throwable"
  | 1 => .array (.object "java/lang/StackTraceElement")
  | 2 => .object "java/util/List"
  | 3 => .object "java/lang/String"
  | _ => .object "java/lang/Object"
abbrev wsJ80 : List Cond := u_ws RJ8 TJ8 5
theorem nmJ8 : ∀ a, a < 5 → ∀ b, b < 5 → a ≠ b → (TJ8 a).2.1 ≠ (TJ8 b).2.1 := by decide +kernel
theorem tyJ8_ok : ∀ k, k < 5 → parseFieldDescriptor (TJ8 k).2.2.1 = some (tyJ8 k) := by decide +kernel
abbrev cJ8_init : ByteArray := prog_33_method_1_code
def yJ8_init : MethodName := ⟨RJ8, "<init>", "()V"⟩
def dkwJ8_init_1 : List UInt8 := [182, 0, 27, 87, 177]
abbrev dktJ8_init_1 : List UInt8 := dkwJ8_init_1 ++ []
def dkwJ8_init_0 : List UInt8 := [42, 183, 0, 1, 42, 42, 181, 0, 7, 42, 178, 0, 13, 181, 0, 17, 42, 178, 0, 20, 181, 0, 24, 42]
abbrev dktJ8_init_0 : List UInt8 := dkwJ8_init_0 ++ dktJ8_init_1
theorem dksJ8_init_0 : cJ8_init.data.toList.drop 0 = dktJ8_init_0 := by decide +kernel
theorem dksJ8_init_1 : cJ8_init.data.toList.drop 24 = dktJ8_init_1 := dk_seg dksJ8_init_0 24 rfl rfl
theorem dJ8_init_0 : decode cJ8_init 0 = .ok (.aload_n 0, 1) := dk_42 (dk_at dksJ8_init_0 0 rfl rfl)
theorem dJ8_init_1 : decode cJ8_init 1 = .ok (.invokespecial 1, 3) := dk_183 0 1 (dk_at dksJ8_init_0 1 rfl rfl)
theorem dJ8_init_4 : decode cJ8_init 4 = .ok (.aload_n 0, 1) := dk_42 (dk_at dksJ8_init_0 4 rfl rfl)
theorem dJ8_init_5 : decode cJ8_init 5 = .ok (.aload_n 0, 1) := dk_42 (dk_at dksJ8_init_0 5 rfl rfl)
theorem dJ8_init_6 : decode cJ8_init 6 = .ok (.putfield 7, 3) := dk_181 0 7 (dk_at dksJ8_init_0 6 rfl rfl)
theorem dJ8_init_9 : decode cJ8_init 9 = .ok (.aload_n 0, 1) := dk_42 (dk_at dksJ8_init_0 9 rfl rfl)
theorem dJ8_init_10 : decode cJ8_init 10 = .ok (.getstatic 13, 3) := dk_178 0 13 (dk_at dksJ8_init_0 10 rfl rfl)
theorem dJ8_init_13 : decode cJ8_init 13 = .ok (.putfield 17, 3) := dk_181 0 17 (dk_at dksJ8_init_0 13 rfl rfl)
theorem dJ8_init_16 : decode cJ8_init 16 = .ok (.aload_n 0, 1) := dk_42 (dk_at dksJ8_init_0 16 rfl rfl)
theorem dJ8_init_17 : decode cJ8_init 17 = .ok (.getstatic 20, 3) := dk_178 0 20 (dk_at dksJ8_init_0 17 rfl rfl)
theorem dJ8_init_20 : decode cJ8_init 20 = .ok (.putfield 24, 3) := dk_181 0 24 (dk_at dksJ8_init_0 20 rfl rfl)
theorem dJ8_init_23 : decode cJ8_init 23 = .ok (.aload_n 0, 1) := dk_42 (dk_at dksJ8_init_0 23 rfl rfl)
theorem dJ8_init_24 : decode cJ8_init 24 = .ok (.invokevirtual 27, 3) := dk_182 0 27 (dk_at dksJ8_init_1 0 rfl rfl)
theorem dJ8_init_27 : decode cJ8_init 27 = .ok (.pop, 1) := dk_87 (dk_at dksJ8_init_1 3 rfl rfl)
theorem dJ8_init_28 : decode cJ8_init 28 = .ok (.return_, 1) := dk_177 (dk_at dksJ8_init_1 4 rfl rfl)
abbrev cJ8_init_2 : ByteArray := prog_33_method_5_code
def yJ8_init_2 : MethodName := ⟨RJ8, "<init>", "(Ljava/lang/String;Ljava/lang/Throwable;ZZ)V"⟩
def dkwJ8_init_2_2 : List UInt8 := [44, 181, 0, 7, 29, 154, 0, 8, 42, 1, 181, 0, 24, 177]
abbrev dktJ8_init_2_2 : List UInt8 := dkwJ8_init_2_2 ++ []
def dkwJ8_init_2_1 : List UInt8 := [21, 4, 153, 0, 11, 42, 182, 0, 27, 87, 167, 0, 8, 42, 1, 181, 0, 17, 42, 43, 181, 0, 31, 42]
abbrev dktJ8_init_2_1 : List UInt8 := dkwJ8_init_2_1 ++ dktJ8_init_2_2
def dkwJ8_init_2_0 : List UInt8 := [42, 183, 0, 1, 42, 42, 181, 0, 7, 42, 178, 0, 13, 181, 0, 17, 42, 178, 0, 20, 181, 0, 24]
abbrev dktJ8_init_2_0 : List UInt8 := dkwJ8_init_2_0 ++ dktJ8_init_2_1
theorem dksJ8_init_2_0 : cJ8_init_2.data.toList.drop 0 = dktJ8_init_2_0 := by decide +kernel
theorem dksJ8_init_2_1 : cJ8_init_2.data.toList.drop 23 = dktJ8_init_2_1 := dk_seg dksJ8_init_2_0 23 rfl rfl
theorem dksJ8_init_2_2 : cJ8_init_2.data.toList.drop 47 = dktJ8_init_2_2 := dk_seg dksJ8_init_2_1 24 rfl rfl
theorem dJ8_init_2_0 : decode cJ8_init_2 0 = .ok (.aload_n 0, 1) := dk_42 (dk_at dksJ8_init_2_0 0 rfl rfl)
theorem dJ8_init_2_1 : decode cJ8_init_2 1 = .ok (.invokespecial 1, 3) := dk_183 0 1 (dk_at dksJ8_init_2_0 1 rfl rfl)
theorem dJ8_init_2_4 : decode cJ8_init_2 4 = .ok (.aload_n 0, 1) := dk_42 (dk_at dksJ8_init_2_0 4 rfl rfl)
theorem dJ8_init_2_5 : decode cJ8_init_2 5 = .ok (.aload_n 0, 1) := dk_42 (dk_at dksJ8_init_2_0 5 rfl rfl)
theorem dJ8_init_2_6 : decode cJ8_init_2 6 = .ok (.putfield 7, 3) := dk_181 0 7 (dk_at dksJ8_init_2_0 6 rfl rfl)
theorem dJ8_init_2_9 : decode cJ8_init_2 9 = .ok (.aload_n 0, 1) := dk_42 (dk_at dksJ8_init_2_0 9 rfl rfl)
theorem dJ8_init_2_10 : decode cJ8_init_2 10 = .ok (.getstatic 13, 3) := dk_178 0 13 (dk_at dksJ8_init_2_0 10 rfl rfl)
theorem dJ8_init_2_13 : decode cJ8_init_2 13 = .ok (.putfield 17, 3) := dk_181 0 17 (dk_at dksJ8_init_2_0 13 rfl rfl)
theorem dJ8_init_2_16 : decode cJ8_init_2 16 = .ok (.aload_n 0, 1) := dk_42 (dk_at dksJ8_init_2_0 16 rfl rfl)
theorem dJ8_init_2_17 : decode cJ8_init_2 17 = .ok (.getstatic 20, 3) := dk_178 0 20 (dk_at dksJ8_init_2_0 17 rfl rfl)
theorem dJ8_init_2_20 : decode cJ8_init_2 20 = .ok (.putfield 24, 3) := dk_181 0 24 (dk_at dksJ8_init_2_0 20 rfl rfl)
theorem dJ8_init_2_23 : decode cJ8_init_2 23 = .ok (.iload 4, 2) := dk_21 4 (dk_at dksJ8_init_2_1 0 rfl rfl)
theorem dJ8_init_2_25 : decode cJ8_init_2 25 = .ok (.ifCond .eq 11, 3) := dk_153 0 11 (dk_at dksJ8_init_2_1 2 rfl rfl)
theorem dJ8_init_2_28 : decode cJ8_init_2 28 = .ok (.aload_n 0, 1) := dk_42 (dk_at dksJ8_init_2_1 5 rfl rfl)
theorem dJ8_init_2_29 : decode cJ8_init_2 29 = .ok (.invokevirtual 27, 3) := dk_182 0 27 (dk_at dksJ8_init_2_1 6 rfl rfl)
theorem dJ8_init_2_32 : decode cJ8_init_2 32 = .ok (.pop, 1) := dk_87 (dk_at dksJ8_init_2_1 9 rfl rfl)
theorem dJ8_init_2_33 : decode cJ8_init_2 33 = .ok (.goto 8, 3) := dk_167 0 8 (dk_at dksJ8_init_2_1 10 rfl rfl)
theorem dJ8_init_2_36 : decode cJ8_init_2 36 = .ok (.aload_n 0, 1) := dk_42 (dk_at dksJ8_init_2_1 13 rfl rfl)
theorem dJ8_init_2_37 : decode cJ8_init_2 37 = .ok (.aconst_null, 1) := dk_1 (dk_at dksJ8_init_2_1 14 rfl rfl)
theorem dJ8_init_2_38 : decode cJ8_init_2 38 = .ok (.putfield 17, 3) := dk_181 0 17 (dk_at dksJ8_init_2_1 15 rfl rfl)
theorem dJ8_init_2_41 : decode cJ8_init_2 41 = .ok (.aload_n 0, 1) := dk_42 (dk_at dksJ8_init_2_1 18 rfl rfl)
theorem dJ8_init_2_42 : decode cJ8_init_2 42 = .ok (.aload_n 1, 1) := dk_43 (dk_at dksJ8_init_2_1 19 rfl rfl)
theorem dJ8_init_2_43 : decode cJ8_init_2 43 = .ok (.putfield 31, 3) := dk_181 0 31 (dk_at dksJ8_init_2_1 20 rfl rfl)
theorem dJ8_init_2_46 : decode cJ8_init_2 46 = .ok (.aload_n 0, 1) := dk_42 (dk_at dksJ8_init_2_1 23 rfl rfl)
theorem dJ8_init_2_47 : decode cJ8_init_2 47 = .ok (.aload_n 2, 1) := dk_44 (dk_at dksJ8_init_2_2 0 rfl rfl)
theorem dJ8_init_2_48 : decode cJ8_init_2 48 = .ok (.putfield 7, 3) := dk_181 0 7 (dk_at dksJ8_init_2_2 1 rfl rfl)
theorem dJ8_init_2_51 : decode cJ8_init_2 51 = .ok (.iload_n 3, 1) := dk_29 (dk_at dksJ8_init_2_2 4 rfl rfl)
theorem dJ8_init_2_52 : decode cJ8_init_2 52 = .ok (.ifCond .ne 8, 3) := dk_154 0 8 (dk_at dksJ8_init_2_2 5 rfl rfl)
theorem dJ8_init_2_55 : decode cJ8_init_2 55 = .ok (.aload_n 0, 1) := dk_42 (dk_at dksJ8_init_2_2 8 rfl rfl)
theorem dJ8_init_2_56 : decode cJ8_init_2 56 = .ok (.aconst_null, 1) := dk_1 (dk_at dksJ8_init_2_2 9 rfl rfl)
theorem dJ8_init_2_57 : decode cJ8_init_2 57 = .ok (.putfield 24, 3) := dk_181 0 24 (dk_at dksJ8_init_2_2 10 rfl rfl)
theorem dJ8_init_2_60 : decode cJ8_init_2 60 = .ok (.return_, 1) := dk_177 (dk_at dksJ8_init_2_2 13 rfl rfl)
abbrev cJ8_init_3 : ByteArray := prog_33_method_2_code
def yJ8_init_3 : MethodName := ⟨RJ8, "<init>", "(Ljava/lang/String;)V"⟩
def dkwJ8_init_3_1 : List UInt8 := [182, 0, 27, 87, 42, 43, 181, 0, 31, 177]
abbrev dktJ8_init_3_1 : List UInt8 := dkwJ8_init_3_1 ++ []
def dkwJ8_init_3_0 : List UInt8 := [42, 183, 0, 1, 42, 42, 181, 0, 7, 42, 178, 0, 13, 181, 0, 17, 42, 178, 0, 20, 181, 0, 24, 42]
abbrev dktJ8_init_3_0 : List UInt8 := dkwJ8_init_3_0 ++ dktJ8_init_3_1
theorem dksJ8_init_3_0 : cJ8_init_3.data.toList.drop 0 = dktJ8_init_3_0 := by decide +kernel
theorem dksJ8_init_3_1 : cJ8_init_3.data.toList.drop 24 = dktJ8_init_3_1 := dk_seg dksJ8_init_3_0 24 rfl rfl
theorem dJ8_init_3_0 : decode cJ8_init_3 0 = .ok (.aload_n 0, 1) := dk_42 (dk_at dksJ8_init_3_0 0 rfl rfl)
theorem dJ8_init_3_1 : decode cJ8_init_3 1 = .ok (.invokespecial 1, 3) := dk_183 0 1 (dk_at dksJ8_init_3_0 1 rfl rfl)
theorem dJ8_init_3_4 : decode cJ8_init_3 4 = .ok (.aload_n 0, 1) := dk_42 (dk_at dksJ8_init_3_0 4 rfl rfl)
theorem dJ8_init_3_5 : decode cJ8_init_3 5 = .ok (.aload_n 0, 1) := dk_42 (dk_at dksJ8_init_3_0 5 rfl rfl)
theorem dJ8_init_3_6 : decode cJ8_init_3 6 = .ok (.putfield 7, 3) := dk_181 0 7 (dk_at dksJ8_init_3_0 6 rfl rfl)
theorem dJ8_init_3_9 : decode cJ8_init_3 9 = .ok (.aload_n 0, 1) := dk_42 (dk_at dksJ8_init_3_0 9 rfl rfl)
theorem dJ8_init_3_10 : decode cJ8_init_3 10 = .ok (.getstatic 13, 3) := dk_178 0 13 (dk_at dksJ8_init_3_0 10 rfl rfl)
theorem dJ8_init_3_13 : decode cJ8_init_3 13 = .ok (.putfield 17, 3) := dk_181 0 17 (dk_at dksJ8_init_3_0 13 rfl rfl)
theorem dJ8_init_3_16 : decode cJ8_init_3 16 = .ok (.aload_n 0, 1) := dk_42 (dk_at dksJ8_init_3_0 16 rfl rfl)
theorem dJ8_init_3_17 : decode cJ8_init_3 17 = .ok (.getstatic 20, 3) := dk_178 0 20 (dk_at dksJ8_init_3_0 17 rfl rfl)
theorem dJ8_init_3_20 : decode cJ8_init_3 20 = .ok (.putfield 24, 3) := dk_181 0 24 (dk_at dksJ8_init_3_0 20 rfl rfl)
theorem dJ8_init_3_23 : decode cJ8_init_3 23 = .ok (.aload_n 0, 1) := dk_42 (dk_at dksJ8_init_3_0 23 rfl rfl)
theorem dJ8_init_3_24 : decode cJ8_init_3 24 = .ok (.invokevirtual 27, 3) := dk_182 0 27 (dk_at dksJ8_init_3_1 0 rfl rfl)
theorem dJ8_init_3_27 : decode cJ8_init_3 27 = .ok (.pop, 1) := dk_87 (dk_at dksJ8_init_3_1 3 rfl rfl)
theorem dJ8_init_3_28 : decode cJ8_init_3 28 = .ok (.aload_n 0, 1) := dk_42 (dk_at dksJ8_init_3_1 4 rfl rfl)
theorem dJ8_init_3_29 : decode cJ8_init_3 29 = .ok (.aload_n 1, 1) := dk_43 (dk_at dksJ8_init_3_1 5 rfl rfl)
theorem dJ8_init_3_30 : decode cJ8_init_3 30 = .ok (.putfield 31, 3) := dk_181 0 31 (dk_at dksJ8_init_3_1 6 rfl rfl)
theorem dJ8_init_3_33 : decode cJ8_init_3 33 = .ok (.return_, 1) := dk_177 (dk_at dksJ8_init_3_1 9 rfl rfl)
theorem q159 : (Jvm.Cond.initialized "java/lang/Throwable") ∈ lw_all := lw_g (lw_at lw_m1 21 rfl) rfl
theorem q663 : (Jvm.Cond.declares ({ cls := "java/lang/Throwable", name := "<init>", desc := "()V" } : Jvm.MethodName)) ∈ lw_tbl := lw_at lw_m3 45 rfl
theorem q664 : (Jvm.Cond.declares ({ cls := "java/lang/Throwable", name := "<init>", desc := "(Ljava/lang/String;)V" } : Jvm.MethodName)) ∈ lw_tbl := lw_at lw_m3 46 rfl
theorem q668 : (Jvm.Cond.lays "java/lang/Throwable" "java/lang/Throwable" "cause" "Ljava/lang/Throwable;") ∈ lw_all := lw_g (lw_at lw_m3 50 rfl) rfl
theorem q670 : (Jvm.Cond.lays "java/lang/Throwable" "java/lang/Throwable" "stackTrace" "[Ljava/lang/StackTraceElement;") ∈ lw_all := lw_g (lw_at lw_m3 52 rfl) rfl
theorem q672 : (Jvm.Cond.lays "java/lang/Throwable" "java/lang/Throwable" "suppressedExceptions" "Ljava/util/List;") ∈ lw_all := lw_g (lw_at lw_m3 54 rfl) rfl
theorem q674 : (Jvm.Cond.lays "java/lang/Throwable" "java/lang/Throwable" "detailMessage" "Ljava/lang/String;") ∈ lw_all := lw_g (lw_at lw_m3 56 rfl) rfl
theorem q676 : (Jvm.Cond.lays "java/lang/Throwable" "java/lang/Throwable" "backtrace" "Ljava/lang/Object;") ∈ lw_all := lw_g (lw_at lw_m3 58 rfl) rfl
theorem q677 : (Jvm.Cond.fieldLink "java/lang/Throwable" (198 : Nat) "java/lang/Throwable" "backtrace" "Ljava/lang/Object;") ∈ lw_all := lw_g (lw_at lw_m3 59 rfl) rfl
theorem q678 : (Jvm.Cond.superclass "java/lang/Throwable" "java/lang/Object") ∈ lw_all := lw_g (lw_at lw_m3 60 rfl) rfl
theorem q679 : (Jvm.Cond.instanceMethod ({ cls := "java/lang/Throwable", name := "<init>", desc := "()V" } : Jvm.MethodName)) ∈ lw_all := lw_g (lw_at lw_m3 61 rfl) rfl
theorem q680 : (Jvm.Cond.code ({ cls := "java/lang/Throwable", name := "<init>", desc := "()V" } : Jvm.MethodName) prog_33_method_1_code (1 : Nat) (Option.none : Option Jvm.ClassFile.FieldType)) ∈ lw_all := lw_g (lw_at lw_m3 62 rfl) rfl
theorem q681 : (Jvm.Cond.methodLink "java/lang/Throwable" (1 : Nat) ({ cls := "java/lang/Object", name := "<init>", desc := "()V" } : Jvm.MethodName)) ∈ lw_all := lw_g (lw_at lw_m3 63 rfl) rfl
theorem q682 : (Jvm.Cond.fieldLink "java/lang/Throwable" (13 : Nat) "java/lang/Throwable" "UNASSIGNED_STACK" "[Ljava/lang/StackTraceElement;") ∈ lw_all := lw_g (lw_at lw_m3 64 rfl) rfl
theorem q683 : (Jvm.Cond.laysStatic "java/lang/Throwable" "UNASSIGNED_STACK" "[Ljava/lang/StackTraceElement;") ∈ lw_tbl := lw_at lw_m3 65 rfl
theorem q684 : (Jvm.Cond.fieldLink "java/lang/Throwable" (20 : Nat) "java/lang/Throwable" "SUPPRESSED_SENTINEL" "Ljava/util/List;") ∈ lw_all := lw_g (lw_at lw_m3 66 rfl) rfl
theorem q685 : (Jvm.Cond.laysStatic "java/lang/Throwable" "SUPPRESSED_SENTINEL" "Ljava/util/List;") ∈ lw_tbl := lw_at lw_m3 67 rfl
theorem q686 : (Jvm.Cond.methodLink "java/lang/Throwable" (27 : Nat) ({ cls := "java/lang/Throwable", name := "fillInStackTrace", desc := "()Ljava/lang/Throwable;" } : Jvm.MethodName)) ∈ lw_all := lw_g (lw_at lw_m3 68 rfl) rfl
theorem q687 : (Jvm.Cond.instanceMethod ({ cls := "java/lang/Throwable", name := "fillInStackTrace", desc := "()Ljava/lang/Throwable;" } : Jvm.MethodName)) ∈ lw_all := lw_g (lw_at lw_m3 69 rfl) rfl
theorem q688 : (Jvm.Cond.sameMethod "java/lang/Throwable" "java/lang/Throwable" "fillInStackTrace" "()Ljava/lang/Throwable;") ∈ lw_all := lw_g (lw_at lw_m3 70 rfl) rfl
theorem q702 : (Jvm.Cond.declares ({ cls := "java/lang/Throwable", name := "fillInStackTrace", desc := "()Ljava/lang/Throwable;" } : Jvm.MethodName)) ∈ lw_tbl := lw_at lw_m3 84 rfl
theorem q706 : (Jvm.Cond.codeSync ({ cls := "java/lang/Throwable", name := "fillInStackTrace", desc := "()Ljava/lang/Throwable;" } : Jvm.MethodName) prog_33_method_18_code (1 : Nat) (Option.some (Jvm.ClassFile.FieldType.object "java/lang/Throwable"))) ∈ lw_all := lw_g (lw_at lw_m3 88 rfl) rfl
theorem q707 : (Jvm.Cond.methodLink "java/lang/Throwable" (202 : Nat) ({ cls := "java/lang/Throwable", name := "fillInStackTrace", desc := "(I)Ljava/lang/Throwable;" } : Jvm.MethodName)) ∈ lw_all := lw_g (lw_at lw_m3 89 rfl) rfl
theorem q708 : (Jvm.Cond.privateMethod ({ cls := "java/lang/Throwable", name := "fillInStackTrace", desc := "(I)Ljava/lang/Throwable;" } : Jvm.MethodName)) ∈ lw_tbl := lw_at lw_m3 90 rfl
theorem q709 : (Jvm.Cond.instanceMethod ({ cls := "java/lang/Throwable", name := "fillInStackTrace", desc := "(I)Ljava/lang/Throwable;" } : Jvm.MethodName)) ∈ lw_all := lw_g (lw_at lw_m3 91 rfl) rfl
theorem q710 : (Jvm.Cond.instantiable "java/lang/Throwable" (6 : Nat)) ∈ lw_all := lw_g (lw_at lw_m3 92 rfl) rfl
theorem q711 : (Jvm.Cond.native ({ cls := "java/lang/Throwable", name := "fillInStackTrace", desc := "(I)Ljava/lang/Throwable;" } : Jvm.MethodName)) ∈ lw_all := lw_g (lw_at lw_m3 93 rfl) rfl
theorem q719 : (Jvm.Cond.instanceMethod ({ cls := "java/lang/Throwable", name := "<init>", desc := "(Ljava/lang/String;Ljava/lang/Throwable;ZZ)V" } : Jvm.MethodName)) ∈ lw_all := lw_g (lw_at lw_m3 101 rfl) rfl
theorem q720 : (Jvm.Cond.code ({ cls := "java/lang/Throwable", name := "<init>", desc := "(Ljava/lang/String;Ljava/lang/Throwable;ZZ)V" } : Jvm.MethodName) prog_33_method_5_code (5 : Nat) (Option.none : Option Jvm.ClassFile.FieldType)) ∈ lw_all := lw_g (lw_at lw_m3 102 rfl) rfl
theorem q725 : (Jvm.Cond.fieldLink "java/lang/Throwable" (198 : Nat) "java/lang/Throwable" "backtrace" "Ljava/lang/Object;") ∈ lw_all := lw_g (lw_at lw_m3 107 rfl) rfl
theorem q726 : (Jvm.Cond.fieldLink "java/lang/Throwable" (31 : Nat) "java/lang/Throwable" "detailMessage" "Ljava/lang/String;") ∈ lw_all := lw_g (lw_at lw_m3 108 rfl) rfl
theorem q727 : (Jvm.Cond.fieldLink "java/lang/Throwable" (7 : Nat) "java/lang/Throwable" "cause" "Ljava/lang/Throwable;") ∈ lw_all := lw_g (lw_at lw_m3 109 rfl) rfl
theorem q728 : (Jvm.Cond.fieldLink "java/lang/Throwable" (17 : Nat) "java/lang/Throwable" "stackTrace" "[Ljava/lang/StackTraceElement;") ∈ lw_all := lw_g (lw_at lw_m3 110 rfl) rfl
theorem q729 : (Jvm.Cond.fieldLink "java/lang/Throwable" (24 : Nat) "java/lang/Throwable" "suppressedExceptions" "Ljava/util/List;") ∈ lw_all := lw_g (lw_at lw_m3 111 rfl) rfl
theorem q734 : (Jvm.Cond.soleField "java/lang/Throwable" "backtrace") ∈ lw_all := lw_g (lw_at lw_m3 116 rfl) rfl
theorem q735 : (Jvm.Cond.soleField "java/lang/Throwable" "detailMessage") ∈ lw_all := lw_g (lw_at lw_m3 117 rfl) rfl
theorem q736 : (Jvm.Cond.soleField "java/lang/Throwable" "cause") ∈ lw_all := lw_g (lw_at lw_m3 118 rfl) rfl
theorem q737 : (Jvm.Cond.soleField "java/lang/Throwable" "stackTrace") ∈ lw_all := lw_g (lw_at lw_m3 119 rfl) rfl
theorem q739 : (Jvm.Cond.soleField "java/lang/Throwable" "depth") ∈ lw_all := lw_g (lw_at lw_m3 121 rfl) rfl
theorem q740 : (Jvm.Cond.soleField "java/lang/Throwable" "suppressedExceptions") ∈ lw_all := lw_g (lw_at lw_m3 122 rfl) rfl
theorem q1492 : (Jvm.Cond.instanceMethod ({ cls := "java/lang/Throwable", name := "<init>", desc := "(Ljava/lang/String;)V" } : Jvm.MethodName)) ∈ lw_all := lw_g (lw_at lw_m6 154 rfl) rfl
theorem q1493 : (Jvm.Cond.code ({ cls := "java/lang/Throwable", name := "<init>", desc := "(Ljava/lang/String;)V" } : Jvm.MethodName) prog_33_method_2_code (2 : Nat) (Option.none : Option Jvm.ClassFile.FieldType)) ∈ lw_all := lw_g (lw_at lw_m6 155 rfl) rfl
theorem q2292 : (Jvm.Cond.sameMethod "java/lang/Throwable" "java/lang/Throwable" "fillInStackTrace" "(I)Ljava/lang/Throwable;") ∈ lw_all := lw_g (lw_at lw_m9 234 rfl) rfl
theorem q2312 : (Jvm.Cond.castable "java/lang/Throwable" "java/lang/Object") ∈ lw_tbl := lw_at lw_m10 14 rfl
theorem in_J8 : ∀ w ∈ wsJ80, w ∈ lw_all := lw_in wsJ80 [668, 670, 672, 674, 676] (by decide +kernel) (by decide +kernel)

/-! java/lang/Exception -/
set_option maxRecDepth 100000
def RJ9 : String := "java/lang/Exception"
abbrev cJ9_init : ByteArray := prog_21_method_5_code
def yJ9_init : MethodName := ⟨RJ9, "<init>", "(Ljava/lang/String;Ljava/lang/Throwable;ZZ)V"⟩
def dkwJ9_init_0 : List UInt8 := [42, 43, 44, 29, 21, 4, 183, 0, 16, 177]
abbrev dktJ9_init_0 : List UInt8 := dkwJ9_init_0 ++ []
theorem dksJ9_init_0 : cJ9_init.data.toList.drop 0 = dktJ9_init_0 := by decide +kernel
theorem dJ9_init_0 : decode cJ9_init 0 = .ok (.aload_n 0, 1) := dk_42 (dk_at dksJ9_init_0 0 rfl rfl)
theorem dJ9_init_1 : decode cJ9_init 1 = .ok (.aload_n 1, 1) := dk_43 (dk_at dksJ9_init_0 1 rfl rfl)
theorem dJ9_init_2 : decode cJ9_init 2 = .ok (.aload_n 2, 1) := dk_44 (dk_at dksJ9_init_0 2 rfl rfl)
theorem dJ9_init_3 : decode cJ9_init 3 = .ok (.iload_n 3, 1) := dk_29 (dk_at dksJ9_init_0 3 rfl rfl)
theorem dJ9_init_4 : decode cJ9_init 4 = .ok (.iload 4, 2) := dk_21 4 (dk_at dksJ9_init_0 4 rfl rfl)
theorem dJ9_init_6 : decode cJ9_init 6 = .ok (.invokespecial 16, 3) := dk_183 0 16 (dk_at dksJ9_init_0 6 rfl rfl)
theorem dJ9_init_9 : decode cJ9_init 9 = .ok (.return_, 1) := dk_177 (dk_at dksJ9_init_0 9 rfl rfl)
abbrev cJ9_init_2 : ByteArray := prog_21_method_1_code
def yJ9_init_2 : MethodName := ⟨RJ9, "<init>", "()V"⟩
theorem dJ9_init_2_0 : decode cJ9_init_2 0 = .ok (.aload_n 0, 1) := by decide +kernel
theorem dJ9_init_2_1 : decode cJ9_init_2 1 = .ok (.invokespecial 1, 3) := by decide +kernel
theorem dJ9_init_2_4 : decode cJ9_init_2 4 = .ok (.return_, 1) := by decide +kernel
abbrev cJ9_init_3 : ByteArray := prog_21_method_2_code
def yJ9_init_3 : MethodName := ⟨RJ9, "<init>", "(Ljava/lang/String;)V"⟩
def dkwJ9_init_3_0 : List UInt8 := [42, 43, 183, 0, 7, 177]
abbrev dktJ9_init_3_0 : List UInt8 := dkwJ9_init_3_0 ++ []
theorem dksJ9_init_3_0 : cJ9_init_3.data.toList.drop 0 = dktJ9_init_3_0 := by decide +kernel
theorem dJ9_init_3_0 : decode cJ9_init_3 0 = .ok (.aload_n 0, 1) := dk_42 (dk_at dksJ9_init_3_0 0 rfl rfl)
theorem dJ9_init_3_1 : decode cJ9_init_3 1 = .ok (.aload_n 1, 1) := dk_43 (dk_at dksJ9_init_3_0 1 rfl rfl)
theorem dJ9_init_3_2 : decode cJ9_init_3 2 = .ok (.invokespecial 7, 3) := dk_183 0 7 (dk_at dksJ9_init_3_0 2 rfl rfl)
theorem dJ9_init_3_5 : decode cJ9_init_3 5 = .ok (.return_, 1) := dk_177 (dk_at dksJ9_init_3_0 5 rfl rfl)
theorem q160 : (Jvm.Cond.initialized "java/lang/Exception") ∈ lw_all := lw_g (lw_at lw_m1 22 rfl) rfl
theorem q661 : (Jvm.Cond.declares ({ cls := "java/lang/Exception", name := "<init>", desc := "()V" } : Jvm.MethodName)) ∈ lw_tbl := lw_at lw_m3 43 rfl
theorem q662 : (Jvm.Cond.declares ({ cls := "java/lang/Exception", name := "<init>", desc := "(Ljava/lang/String;)V" } : Jvm.MethodName)) ∈ lw_tbl := lw_at lw_m3 44 rfl
theorem q705 : (Jvm.Cond.superclass "java/lang/Exception" "java/lang/Throwable") ∈ lw_all := lw_g (lw_at lw_m3 87 rfl) rfl
theorem q716 : (Jvm.Cond.instanceMethod ({ cls := "java/lang/Exception", name := "<init>", desc := "(Ljava/lang/String;Ljava/lang/Throwable;ZZ)V" } : Jvm.MethodName)) ∈ lw_all := lw_g (lw_at lw_m3 98 rfl) rfl
theorem q717 : (Jvm.Cond.code ({ cls := "java/lang/Exception", name := "<init>", desc := "(Ljava/lang/String;Ljava/lang/Throwable;ZZ)V" } : Jvm.MethodName) prog_21_method_5_code (5 : Nat) (Option.none : Option Jvm.ClassFile.FieldType)) ∈ lw_all := lw_g (lw_at lw_m3 99 rfl) rfl
theorem q718 : (Jvm.Cond.methodLink "java/lang/Exception" (16 : Nat) ({ cls := "java/lang/Throwable", name := "<init>", desc := "(Ljava/lang/String;Ljava/lang/Throwable;ZZ)V" } : Jvm.MethodName)) ∈ lw_all := lw_g (lw_at lw_m3 100 rfl) rfl
theorem q1092 : (Jvm.Cond.instanceMethod ({ cls := "java/lang/Exception", name := "<init>", desc := "()V" } : Jvm.MethodName)) ∈ lw_all := lw_g (lw_at lw_m4 234 rfl) rfl
theorem q1093 : (Jvm.Cond.code ({ cls := "java/lang/Exception", name := "<init>", desc := "()V" } : Jvm.MethodName) prog_21_method_1_code (1 : Nat) (Option.none : Option Jvm.ClassFile.FieldType)) ∈ lw_all := lw_g (lw_at lw_m4 235 rfl) rfl
theorem q1094 : (Jvm.Cond.methodLink "java/lang/Exception" (1 : Nat) ({ cls := "java/lang/Throwable", name := "<init>", desc := "()V" } : Jvm.MethodName)) ∈ lw_all := lw_g (lw_at lw_m4 236 rfl) rfl
theorem q1489 : (Jvm.Cond.instanceMethod ({ cls := "java/lang/Exception", name := "<init>", desc := "(Ljava/lang/String;)V" } : Jvm.MethodName)) ∈ lw_all := lw_g (lw_at lw_m6 151 rfl) rfl
theorem q1490 : (Jvm.Cond.code ({ cls := "java/lang/Exception", name := "<init>", desc := "(Ljava/lang/String;)V" } : Jvm.MethodName) prog_21_method_2_code (2 : Nat) (Option.none : Option Jvm.ClassFile.FieldType)) ∈ lw_all := lw_g (lw_at lw_m6 152 rfl) rfl
theorem q1491 : (Jvm.Cond.methodLink "java/lang/Exception" (7 : Nat) ({ cls := "java/lang/Throwable", name := "<init>", desc := "(Ljava/lang/String;)V" } : Jvm.MethodName)) ∈ lw_all := lw_g (lw_at lw_m6 153 rfl) rfl

/-! java/lang/RuntimeException -/
set_option maxRecDepth 100000
def RJ10 : String := "java/lang/RuntimeException"
abbrev cJ10_init : ByteArray := prog_28_method_1_code
def yJ10_init : MethodName := ⟨RJ10, "<init>", "()V"⟩
theorem dJ10_init_0 : decode cJ10_init 0 = .ok (.aload_n 0, 1) := by decide +kernel
theorem dJ10_init_1 : decode cJ10_init 1 = .ok (.invokespecial 1, 3) := by decide +kernel
theorem dJ10_init_4 : decode cJ10_init 4 = .ok (.return_, 1) := by decide +kernel
abbrev cJ10_init_2 : ByteArray := prog_28_method_2_code
def yJ10_init_2 : MethodName := ⟨RJ10, "<init>", "(Ljava/lang/String;)V"⟩
def dkwJ10_init_2_0 : List UInt8 := [42, 43, 183, 0, 7, 177]
abbrev dktJ10_init_2_0 : List UInt8 := dkwJ10_init_2_0 ++ []
theorem dksJ10_init_2_0 : cJ10_init_2.data.toList.drop 0 = dktJ10_init_2_0 := by decide +kernel
theorem dJ10_init_2_0 : decode cJ10_init_2 0 = .ok (.aload_n 0, 1) := dk_42 (dk_at dksJ10_init_2_0 0 rfl rfl)
theorem dJ10_init_2_1 : decode cJ10_init_2 1 = .ok (.aload_n 1, 1) := dk_43 (dk_at dksJ10_init_2_0 1 rfl rfl)
theorem dJ10_init_2_2 : decode cJ10_init_2 2 = .ok (.invokespecial 7, 3) := dk_183 0 7 (dk_at dksJ10_init_2_0 2 rfl rfl)
theorem dJ10_init_2_5 : decode cJ10_init_2 5 = .ok (.return_, 1) := dk_177 (dk_at dksJ10_init_2_0 5 rfl rfl)
theorem q162 : (Jvm.Cond.initialized "java/lang/RuntimeException") ∈ lw_all := lw_g (lw_at lw_m1 24 rfl) rfl
theorem q701 : (Jvm.Cond.sameMethod "java/lang/RuntimeException" "java/lang/Throwable" "fillInStackTrace" "()Ljava/lang/Throwable;") ∈ lw_all := lw_g (lw_at lw_m3 83 rfl) rfl
theorem q704 : (Jvm.Cond.superclass "java/lang/RuntimeException" "java/lang/Exception") ∈ lw_all := lw_g (lw_at lw_m3 86 rfl) rfl
theorem q1089 : (Jvm.Cond.instanceMethod ({ cls := "java/lang/RuntimeException", name := "<init>", desc := "()V" } : Jvm.MethodName)) ∈ lw_all := lw_g (lw_at lw_m4 231 rfl) rfl
theorem q1090 : (Jvm.Cond.code ({ cls := "java/lang/RuntimeException", name := "<init>", desc := "()V" } : Jvm.MethodName) prog_28_method_1_code (1 : Nat) (Option.none : Option Jvm.ClassFile.FieldType)) ∈ lw_all := lw_g (lw_at lw_m4 232 rfl) rfl
theorem q1091 : (Jvm.Cond.methodLink "java/lang/RuntimeException" (1 : Nat) ({ cls := "java/lang/Exception", name := "<init>", desc := "()V" } : Jvm.MethodName)) ∈ lw_all := lw_g (lw_at lw_m4 233 rfl) rfl
theorem q1108 : (Jvm.Cond.declares ({ cls := "java/lang/RuntimeException", name := "<init>", desc := "()V" } : Jvm.MethodName)) ∈ lw_tbl := lw_at lw_m5 10 rfl
theorem q1109 : (Jvm.Cond.declares ({ cls := "java/lang/RuntimeException", name := "<init>", desc := "(Ljava/lang/String;)V" } : Jvm.MethodName)) ∈ lw_tbl := lw_at lw_m5 11 rfl
theorem q1111 : (Jvm.Cond.castable "java/lang/RuntimeException" "java/lang/Throwable") ∈ lw_tbl := lw_at lw_m5 13 rfl
theorem q1486 : (Jvm.Cond.instanceMethod ({ cls := "java/lang/RuntimeException", name := "<init>", desc := "(Ljava/lang/String;)V" } : Jvm.MethodName)) ∈ lw_all := lw_g (lw_at lw_m6 148 rfl) rfl
theorem q1487 : (Jvm.Cond.code ({ cls := "java/lang/RuntimeException", name := "<init>", desc := "(Ljava/lang/String;)V" } : Jvm.MethodName) prog_28_method_2_code (2 : Nat) (Option.none : Option Jvm.ClassFile.FieldType)) ∈ lw_all := lw_g (lw_at lw_m6 149 rfl) rfl
theorem q1488 : (Jvm.Cond.methodLink "java/lang/RuntimeException" (7 : Nat) ({ cls := "java/lang/Exception", name := "<init>", desc := "(Ljava/lang/String;)V" } : Jvm.MethodName)) ∈ lw_all := lw_g (lw_at lw_m6 150 rfl) rfl

/-! java/lang/NullPointerException -/
set_option maxRecDepth 100000
def RJ11 : String := "java/lang/NullPointerException"
def TJ11 : u_T := fun k => match k with
  | 0 => ("java/lang/Throwable", "backtrace", "Ljava/lang/Object;", false)
  | 1 => ("java/lang/Throwable", "detailMessage", "Ljava/lang/String;", false)
  | 2 => ("java/lang/Throwable", "cause", "Ljava/lang/Throwable;", false)
  | 3 => ("java/lang/Throwable", "stackTrace", "[Ljava/lang/StackTraceElement;", false)
  | 4 => ("java/lang/Throwable", "depth", "I", false)
  | 5 => ("java/lang/Throwable", "suppressedExceptions", "Ljava/util/List;", false)
  | 6 => ("java/lang/NullPointerException", "extendedMessageState", "I", false)
  | _ => ("java/lang/NullPointerException", "extendedMessage", "Ljava/lang/String;", false)
def tyJ11 : Nat → FieldType := fun k => match k with
  | 0 => .object "java/lang/Object"
  | 1 => .object "java/lang/String"
  | 2 => .object "java/lang/Throwable"
  | 3 => .array (.object "java/lang/StackTraceElement")
  | 4 => .int
  | 5 => .object "java/util/List"
  | 6 => .int
  | _ => .object "java/lang/String"
abbrev wsJ110 : List Cond := u_ws RJ11 TJ11 8
theorem nmJ11 : ∀ a, a < 8 → ∀ b, b < 8 → a ≠ b → (TJ11 a).2.1 ≠ (TJ11 b).2.1 := by decide +kernel
theorem tyJ11_ok : ∀ k, k < 8 → parseFieldDescriptor (TJ11 k).2.2.1 = some (tyJ11 k) := by decide +kernel
abbrev cJ11_init : ByteArray := prog_27_method_1_code
def yJ11_init : MethodName := ⟨RJ11, "<init>", "()V"⟩
theorem dJ11_init_0 : decode cJ11_init 0 = .ok (.aload_n 0, 1) := by decide +kernel
theorem dJ11_init_1 : decode cJ11_init 1 = .ok (.invokespecial 1, 3) := by decide +kernel
theorem dJ11_init_4 : decode cJ11_init 4 = .ok (.return_, 1) := by decide +kernel
theorem q163 : (Jvm.Cond.initialized "java/lang/NullPointerException") ∈ lw_all := lw_g (lw_at lw_m1 25 rfl) rfl
theorem q692 : (Jvm.Cond.selects "java/lang/NullPointerException" ({ cls := "java/lang/Throwable", name := "fillInStackTrace", desc := "()Ljava/lang/Throwable;" } : Jvm.MethodName) ({ cls := "java/lang/NullPointerException", name := "fillInStackTrace", desc := "()Ljava/lang/Throwable;" } : Jvm.MethodName)) ∈ lw_all := lw_g (lw_at lw_m3 74 rfl) rfl
theorem q693 : (Jvm.Cond.instanceMethod ({ cls := "java/lang/NullPointerException", name := "fillInStackTrace", desc := "()Ljava/lang/Throwable;" } : Jvm.MethodName)) ∈ lw_all := lw_g (lw_at lw_m3 75 rfl) rfl
theorem q694 : (Jvm.Cond.codeSync ({ cls := "java/lang/NullPointerException", name := "fillInStackTrace", desc := "()Ljava/lang/Throwable;" } : Jvm.MethodName) prog_27_method_3_code (1 : Nat) (Option.some (Jvm.ClassFile.FieldType.object "java/lang/Throwable"))) ∈ lw_all := lw_g (lw_at lw_m3 76 rfl) rfl
theorem q695 : (Jvm.Cond.methodLink "java/lang/NullPointerException" (16 : Nat) ({ cls := "java/lang/NullPointerException", name := "getExtendedNPEMessage", desc := "()Ljava/lang/String;" } : Jvm.MethodName)) ∈ lw_all := lw_g (lw_at lw_m3 77 rfl) rfl
theorem q696 : (Jvm.Cond.privateMethod ({ cls := "java/lang/NullPointerException", name := "getExtendedNPEMessage", desc := "()Ljava/lang/String;" } : Jvm.MethodName)) ∈ lw_tbl := lw_at lw_m3 78 rfl
theorem q697 : (Jvm.Cond.instanceMethod ({ cls := "java/lang/NullPointerException", name := "getExtendedNPEMessage", desc := "()Ljava/lang/String;" } : Jvm.MethodName)) ∈ lw_all := lw_g (lw_at lw_m3 79 rfl) rfl
theorem q698 : (Jvm.Cond.instantiable "java/lang/NullPointerException" (8 : Nat)) ∈ lw_all := lw_g (lw_at lw_m3 80 rfl) rfl
theorem q699 : (Jvm.Cond.native ({ cls := "java/lang/NullPointerException", name := "getExtendedNPEMessage", desc := "()Ljava/lang/String;" } : Jvm.MethodName)) ∈ lw_all := lw_g (lw_at lw_m3 81 rfl) rfl
theorem q700 : (Jvm.Cond.methodLink "java/lang/NullPointerException" (24 : Nat) ({ cls := "java/lang/RuntimeException", name := "fillInStackTrace", desc := "()Ljava/lang/Throwable;" } : Jvm.MethodName)) ∈ lw_all := lw_g (lw_at lw_m3 82 rfl) rfl
theorem q703 : (Jvm.Cond.superclass "java/lang/NullPointerException" "java/lang/RuntimeException") ∈ lw_all := lw_g (lw_at lw_m3 85 rfl) rfl
theorem q1086 : (Jvm.Cond.instanceMethod ({ cls := "java/lang/NullPointerException", name := "<init>", desc := "()V" } : Jvm.MethodName)) ∈ lw_all := lw_g (lw_at lw_m4 228 rfl) rfl
theorem q1087 : (Jvm.Cond.code ({ cls := "java/lang/NullPointerException", name := "<init>", desc := "()V" } : Jvm.MethodName) prog_27_method_1_code (1 : Nat) (Option.none : Option Jvm.ClassFile.FieldType)) ∈ lw_all := lw_g (lw_at lw_m4 229 rfl) rfl
theorem q1088 : (Jvm.Cond.methodLink "java/lang/NullPointerException" (1 : Nat) ({ cls := "java/lang/RuntimeException", name := "<init>", desc := "()V" } : Jvm.MethodName)) ∈ lw_all := lw_g (lw_at lw_m4 230 rfl) rfl
theorem q1095 : (Jvm.Cond.fieldLink "java/lang/NullPointerException" (10 : Nat) "java/lang/NullPointerException" "extendedMessageState" "I") ∈ lw_all := lw_g (lw_at lw_m4 237 rfl) rfl
theorem q1096 : (Jvm.Cond.fieldLink "java/lang/NullPointerException" (20 : Nat) "java/lang/NullPointerException" "extendedMessage" "Ljava/lang/String;") ∈ lw_all := lw_g (lw_at lw_m4 238 rfl) rfl
theorem q1097 : (Jvm.Cond.lays "java/lang/NullPointerException" "java/lang/NullPointerException" "extendedMessageState" "I") ∈ lw_all := lw_g (lw_at lw_m4 239 rfl) rfl
theorem q1098 : (Jvm.Cond.soleField "java/lang/NullPointerException" "extendedMessageState") ∈ lw_all := lw_g (lw_at lw_m5 0 rfl) rfl
theorem q1099 : (Jvm.Cond.lays "java/lang/NullPointerException" "java/lang/NullPointerException" "extendedMessage" "Ljava/lang/String;") ∈ lw_all := lw_g (lw_at lw_m5 1 rfl) rfl
theorem q1100 : (Jvm.Cond.soleField "java/lang/NullPointerException" "extendedMessage") ∈ lw_all := lw_g (lw_at lw_m5 2 rfl) rfl
theorem q1101 : (Jvm.Cond.lays "java/lang/NullPointerException" "java/lang/Throwable" "backtrace" "Ljava/lang/Object;") ∈ lw_all := lw_g (lw_at lw_m5 3 rfl) rfl
theorem q1102 : (Jvm.Cond.lays "java/lang/NullPointerException" "java/lang/Throwable" "detailMessage" "Ljava/lang/String;") ∈ lw_all := lw_g (lw_at lw_m5 4 rfl) rfl
theorem q1103 : (Jvm.Cond.lays "java/lang/NullPointerException" "java/lang/Throwable" "cause" "Ljava/lang/Throwable;") ∈ lw_all := lw_g (lw_at lw_m5 5 rfl) rfl
theorem q1104 : (Jvm.Cond.lays "java/lang/NullPointerException" "java/lang/Throwable" "stackTrace" "[Ljava/lang/StackTraceElement;") ∈ lw_all := lw_g (lw_at lw_m5 6 rfl) rfl
theorem q1105 : (Jvm.Cond.lays "java/lang/NullPointerException" "java/lang/Throwable" "depth" "I") ∈ lw_all := lw_g (lw_at lw_m5 7 rfl) rfl
theorem q1106 : (Jvm.Cond.lays "java/lang/NullPointerException" "java/lang/Throwable" "suppressedExceptions" "Ljava/util/List;") ∈ lw_all := lw_g (lw_at lw_m5 8 rfl) rfl
theorem q1107 : (Jvm.Cond.castable "java/lang/NullPointerException" "java/lang/NullPointerException") ∈ lw_tbl := lw_at lw_m5 9 rfl
theorem q1110 : (Jvm.Cond.selects "java/lang/NullPointerException" ({ cls := "java/lang/Throwable", name := "fillInStackTrace", desc := "(I)Ljava/lang/Throwable;" } : Jvm.MethodName) ({ cls := "java/lang/Throwable", name := "fillInStackTrace", desc := "(I)Ljava/lang/Throwable;" } : Jvm.MethodName)) ∈ lw_all := lw_g (lw_at lw_m5 12 rfl) rfl
theorem q1433 : (Jvm.Cond.selects "java/lang/NullPointerException" ({ cls := "java/lang/Object", name := "getClass", desc := "()Ljava/lang/Class;" } : Jvm.MethodName) ({ cls := "java/lang/Object", name := "getClass", desc := "()Ljava/lang/Class;" } : Jvm.MethodName)) ∈ lw_all := lw_g (lw_at lw_m6 95 rfl) rfl
theorem q2308 : (Jvm.Cond.castable "java/lang/NullPointerException" "java/lang/Object") ∈ lw_tbl := lw_at lw_m10 10 rfl
theorem in_J11 : ∀ w ∈ wsJ110, w ∈ lw_all := lw_in wsJ110 [1101, 1102, 1103, 1104, 1105, 1106, 1097, 1099] (by decide +kernel) (by decide +kernel)

/-! java/lang/Integer -/
set_option maxRecDepth 100000
def RJ12 : String := "java/lang/Integer"
abbrev cJ12_bitCount : ByteArray := prog_23_method_49_code
def yJ12_bitCount : MethodName := ⟨RJ12, "bitCount", "(I)I"⟩
def dkwJ12_bitCount_2 : List UInt8 := [26, 16, 63, 126, 172]
abbrev dktJ12_bitCount_2 : List UInt8 := dkwJ12_bitCount_2 ++ []
def dkwJ12_bitCount_1 : List UInt8 := [26, 26, 7, 124, 96, 19, 1, 11, 126, 59, 26, 26, 16, 8, 124, 96, 59, 26, 26, 16, 16, 124, 96, 59]
abbrev dktJ12_bitCount_1 : List UInt8 := dkwJ12_bitCount_1 ++ dktJ12_bitCount_2
def dkwJ12_bitCount_0 : List UInt8 := [26, 26, 4, 124, 19, 1, 9, 126, 100, 59, 26, 19, 1, 10, 126, 26, 5, 124, 19, 1, 10, 126, 96, 59]
abbrev dktJ12_bitCount_0 : List UInt8 := dkwJ12_bitCount_0 ++ dktJ12_bitCount_1
theorem dksJ12_bitCount_0 : cJ12_bitCount.data.toList.drop 0 = dktJ12_bitCount_0 := by decide +kernel
theorem dksJ12_bitCount_1 : cJ12_bitCount.data.toList.drop 24 = dktJ12_bitCount_1 := dk_seg dksJ12_bitCount_0 24 rfl rfl
theorem dksJ12_bitCount_2 : cJ12_bitCount.data.toList.drop 48 = dktJ12_bitCount_2 := dk_seg dksJ12_bitCount_1 24 rfl rfl
theorem dJ12_bitCount_0 : decode cJ12_bitCount 0 = .ok (.iload_n 0, 1) := dk_26 (dk_at dksJ12_bitCount_0 0 rfl rfl)
theorem dJ12_bitCount_1 : decode cJ12_bitCount 1 = .ok (.iload_n 0, 1) := dk_26 (dk_at dksJ12_bitCount_0 1 rfl rfl)
theorem dJ12_bitCount_2 : decode cJ12_bitCount 2 = .ok (.iconst 1, 1) := dk_4 (dk_at dksJ12_bitCount_0 2 rfl rfl)
theorem dJ12_bitCount_3 : decode cJ12_bitCount 3 = .ok (.iushr, 1) := dk_124 (dk_at dksJ12_bitCount_0 3 rfl rfl)
theorem dJ12_bitCount_4 : decode cJ12_bitCount 4 = .ok (.ldc_w 265, 3) := dk_19 1 9 (dk_at dksJ12_bitCount_0 4 rfl rfl)
theorem dJ12_bitCount_7 : decode cJ12_bitCount 7 = .ok (.iand, 1) := dk_126 (dk_at dksJ12_bitCount_0 7 rfl rfl)
theorem dJ12_bitCount_8 : decode cJ12_bitCount 8 = .ok (.isub, 1) := dk_100 (dk_at dksJ12_bitCount_0 8 rfl rfl)
theorem dJ12_bitCount_9 : decode cJ12_bitCount 9 = .ok (.istore_n 0, 1) := dk_59 (dk_at dksJ12_bitCount_0 9 rfl rfl)
theorem dJ12_bitCount_10 : decode cJ12_bitCount 10 = .ok (.iload_n 0, 1) := dk_26 (dk_at dksJ12_bitCount_0 10 rfl rfl)
theorem dJ12_bitCount_11 : decode cJ12_bitCount 11 = .ok (.ldc_w 266, 3) := dk_19 1 10 (dk_at dksJ12_bitCount_0 11 rfl rfl)
theorem dJ12_bitCount_14 : decode cJ12_bitCount 14 = .ok (.iand, 1) := dk_126 (dk_at dksJ12_bitCount_0 14 rfl rfl)
theorem dJ12_bitCount_15 : decode cJ12_bitCount 15 = .ok (.iload_n 0, 1) := dk_26 (dk_at dksJ12_bitCount_0 15 rfl rfl)
theorem dJ12_bitCount_16 : decode cJ12_bitCount 16 = .ok (.iconst 2, 1) := dk_5 (dk_at dksJ12_bitCount_0 16 rfl rfl)
theorem dJ12_bitCount_17 : decode cJ12_bitCount 17 = .ok (.iushr, 1) := dk_124 (dk_at dksJ12_bitCount_0 17 rfl rfl)
theorem dJ12_bitCount_18 : decode cJ12_bitCount 18 = .ok (.ldc_w 266, 3) := dk_19 1 10 (dk_at dksJ12_bitCount_0 18 rfl rfl)
theorem dJ12_bitCount_21 : decode cJ12_bitCount 21 = .ok (.iand, 1) := dk_126 (dk_at dksJ12_bitCount_0 21 rfl rfl)
theorem dJ12_bitCount_22 : decode cJ12_bitCount 22 = .ok (.iadd, 1) := dk_96 (dk_at dksJ12_bitCount_0 22 rfl rfl)
theorem dJ12_bitCount_23 : decode cJ12_bitCount 23 = .ok (.istore_n 0, 1) := dk_59 (dk_at dksJ12_bitCount_0 23 rfl rfl)
theorem dJ12_bitCount_24 : decode cJ12_bitCount 24 = .ok (.iload_n 0, 1) := dk_26 (dk_at dksJ12_bitCount_1 0 rfl rfl)
theorem dJ12_bitCount_25 : decode cJ12_bitCount 25 = .ok (.iload_n 0, 1) := dk_26 (dk_at dksJ12_bitCount_1 1 rfl rfl)
theorem dJ12_bitCount_26 : decode cJ12_bitCount 26 = .ok (.iconst 4, 1) := dk_7 (dk_at dksJ12_bitCount_1 2 rfl rfl)
theorem dJ12_bitCount_27 : decode cJ12_bitCount 27 = .ok (.iushr, 1) := dk_124 (dk_at dksJ12_bitCount_1 3 rfl rfl)
theorem dJ12_bitCount_28 : decode cJ12_bitCount 28 = .ok (.iadd, 1) := dk_96 (dk_at dksJ12_bitCount_1 4 rfl rfl)
theorem dJ12_bitCount_29 : decode cJ12_bitCount 29 = .ok (.ldc_w 267, 3) := dk_19 1 11 (dk_at dksJ12_bitCount_1 5 rfl rfl)
theorem dJ12_bitCount_32 : decode cJ12_bitCount 32 = .ok (.iand, 1) := dk_126 (dk_at dksJ12_bitCount_1 8 rfl rfl)
theorem dJ12_bitCount_33 : decode cJ12_bitCount 33 = .ok (.istore_n 0, 1) := dk_59 (dk_at dksJ12_bitCount_1 9 rfl rfl)
theorem dJ12_bitCount_34 : decode cJ12_bitCount 34 = .ok (.iload_n 0, 1) := dk_26 (dk_at dksJ12_bitCount_1 10 rfl rfl)
theorem dJ12_bitCount_35 : decode cJ12_bitCount 35 = .ok (.iload_n 0, 1) := dk_26 (dk_at dksJ12_bitCount_1 11 rfl rfl)
theorem dJ12_bitCount_36 : decode cJ12_bitCount 36 = .ok (.bipush 8, 2) := dk_16 8 (dk_at dksJ12_bitCount_1 12 rfl rfl)
theorem dJ12_bitCount_38 : decode cJ12_bitCount 38 = .ok (.iushr, 1) := dk_124 (dk_at dksJ12_bitCount_1 14 rfl rfl)
theorem dJ12_bitCount_39 : decode cJ12_bitCount 39 = .ok (.iadd, 1) := dk_96 (dk_at dksJ12_bitCount_1 15 rfl rfl)
theorem dJ12_bitCount_40 : decode cJ12_bitCount 40 = .ok (.istore_n 0, 1) := dk_59 (dk_at dksJ12_bitCount_1 16 rfl rfl)
theorem dJ12_bitCount_41 : decode cJ12_bitCount 41 = .ok (.iload_n 0, 1) := dk_26 (dk_at dksJ12_bitCount_1 17 rfl rfl)
theorem dJ12_bitCount_42 : decode cJ12_bitCount 42 = .ok (.iload_n 0, 1) := dk_26 (dk_at dksJ12_bitCount_1 18 rfl rfl)
theorem dJ12_bitCount_43 : decode cJ12_bitCount 43 = .ok (.bipush 16, 2) := dk_16 16 (dk_at dksJ12_bitCount_1 19 rfl rfl)
theorem dJ12_bitCount_45 : decode cJ12_bitCount 45 = .ok (.iushr, 1) := dk_124 (dk_at dksJ12_bitCount_1 21 rfl rfl)
theorem dJ12_bitCount_46 : decode cJ12_bitCount 46 = .ok (.iadd, 1) := dk_96 (dk_at dksJ12_bitCount_1 22 rfl rfl)
theorem dJ12_bitCount_47 : decode cJ12_bitCount 47 = .ok (.istore_n 0, 1) := dk_59 (dk_at dksJ12_bitCount_1 23 rfl rfl)
theorem dJ12_bitCount_48 : decode cJ12_bitCount 48 = .ok (.iload_n 0, 1) := dk_26 (dk_at dksJ12_bitCount_2 0 rfl rfl)
theorem dJ12_bitCount_49 : decode cJ12_bitCount 49 = .ok (.bipush 63, 2) := dk_16 63 (dk_at dksJ12_bitCount_2 1 rfl rfl)
theorem dJ12_bitCount_51 : decode cJ12_bitCount 51 = .ok (.iand, 1) := dk_126 (dk_at dksJ12_bitCount_2 3 rfl rfl)
theorem dJ12_bitCount_52 : decode cJ12_bitCount 52 = .ok (.ireturn, 1) := dk_172 (dk_at dksJ12_bitCount_2 4 rfl rfl)
theorem q164 : (Jvm.Cond.initialized "java/lang/Integer") ∈ lw_all := lw_g (lw_at lw_m1 26 rfl) rfl
theorem q1258 : (Jvm.Cond.static ({ cls := "java/lang/Integer", name := "bitCount", desc := "(I)I" } : Jvm.MethodName)) ∈ lw_all := lw_g (lw_at lw_m5 160 rfl) rfl
theorem q1259 : (Jvm.Cond.code ({ cls := "java/lang/Integer", name := "bitCount", desc := "(I)I" } : Jvm.MethodName) prog_23_method_49_code (1 : Nat) (Option.some Jvm.ClassFile.FieldType.int)) ∈ lw_all := lw_g (lw_at lw_m5 161 rfl) rfl
theorem q1260 : (Jvm.Cond.constant "java/lang/Integer" (265 : Nat) (1431655765 : Int32)) ∈ lw_all := lw_g (lw_at lw_m5 162 rfl) rfl
theorem q1261 : (Jvm.Cond.constant "java/lang/Integer" (266 : Nat) (858993459 : Int32)) ∈ lw_all := lw_g (lw_at lw_m5 163 rfl) rfl
theorem q1262 : (Jvm.Cond.constant "java/lang/Integer" (267 : Nat) (252645135 : Int32)) ∈ lw_all := lw_g (lw_at lw_m5 164 rfl) rfl

/-! jdk/internal/util/ArraysSupport -/
set_option maxRecDepth 100000
def RJ13 : String := "jdk/internal/util/ArraysSupport"
abbrev cJ13_newLength : ByteArray := prog_45_method_27_code
def yJ13_newLength : MethodName := ⟨RJ13, "newLength", "(III)I"⟩
def dkwJ13_newLength_1 : List UInt8 := [184, 0, 201, 172]
abbrev dktJ13_newLength_1 : List UInt8 := dkwJ13_newLength_1 ++ []
def dkwJ13_newLength_0 : List UInt8 := [26, 27, 28, 184, 0, 194, 96, 62, 3, 29, 162, 0, 11, 29, 18, 200, 163, 0, 5, 29, 172, 26, 27]
abbrev dktJ13_newLength_0 : List UInt8 := dkwJ13_newLength_0 ++ dktJ13_newLength_1
theorem dksJ13_newLength_0 : cJ13_newLength.data.toList.drop 0 = dktJ13_newLength_0 := by decide +kernel
theorem dksJ13_newLength_1 : cJ13_newLength.data.toList.drop 23 = dktJ13_newLength_1 := dk_seg dksJ13_newLength_0 23 rfl rfl
theorem dJ13_newLength_0 : decode cJ13_newLength 0 = .ok (.iload_n 0, 1) := dk_26 (dk_at dksJ13_newLength_0 0 rfl rfl)
theorem dJ13_newLength_1 : decode cJ13_newLength 1 = .ok (.iload_n 1, 1) := dk_27 (dk_at dksJ13_newLength_0 1 rfl rfl)
theorem dJ13_newLength_2 : decode cJ13_newLength 2 = .ok (.iload_n 2, 1) := dk_28 (dk_at dksJ13_newLength_0 2 rfl rfl)
theorem dJ13_newLength_3 : decode cJ13_newLength 3 = .ok (.invokestatic 194, 3) := dk_184 0 194 (dk_at dksJ13_newLength_0 3 rfl rfl)
theorem dJ13_newLength_6 : decode cJ13_newLength 6 = .ok (.iadd, 1) := dk_96 (dk_at dksJ13_newLength_0 6 rfl rfl)
theorem dJ13_newLength_7 : decode cJ13_newLength 7 = .ok (.istore_n 3, 1) := dk_62 (dk_at dksJ13_newLength_0 7 rfl rfl)
theorem dJ13_newLength_8 : decode cJ13_newLength 8 = .ok (.iconst 0, 1) := dk_3 (dk_at dksJ13_newLength_0 8 rfl rfl)
theorem dJ13_newLength_9 : decode cJ13_newLength 9 = .ok (.iload_n 3, 1) := dk_29 (dk_at dksJ13_newLength_0 9 rfl rfl)
theorem dJ13_newLength_10 : decode cJ13_newLength 10 = .ok (.if_icmp .ge 11, 3) := dk_162 0 11 (dk_at dksJ13_newLength_0 10 rfl rfl)
theorem dJ13_newLength_13 : decode cJ13_newLength 13 = .ok (.iload_n 3, 1) := dk_29 (dk_at dksJ13_newLength_0 13 rfl rfl)
theorem dJ13_newLength_14 : decode cJ13_newLength 14 = .ok (.ldc 200, 2) := dk_18 200 (dk_at dksJ13_newLength_0 14 rfl rfl)
theorem dJ13_newLength_16 : decode cJ13_newLength 16 = .ok (.if_icmp .gt 5, 3) := dk_163 0 5 (dk_at dksJ13_newLength_0 16 rfl rfl)
theorem dJ13_newLength_19 : decode cJ13_newLength 19 = .ok (.iload_n 3, 1) := dk_29 (dk_at dksJ13_newLength_0 19 rfl rfl)
theorem dJ13_newLength_20 : decode cJ13_newLength 20 = .ok (.ireturn, 1) := dk_172 (dk_at dksJ13_newLength_0 20 rfl rfl)
theorem dJ13_newLength_21 : decode cJ13_newLength 21 = .ok (.iload_n 0, 1) := dk_26 (dk_at dksJ13_newLength_0 21 rfl rfl)
theorem dJ13_newLength_22 : decode cJ13_newLength 22 = .ok (.iload_n 1, 1) := dk_27 (dk_at dksJ13_newLength_0 22 rfl rfl)
theorem dJ13_newLength_23 : decode cJ13_newLength 23 = .ok (.invokestatic 201, 3) := dk_184 0 201 (dk_at dksJ13_newLength_1 0 rfl rfl)
theorem dJ13_newLength_26 : decode cJ13_newLength 26 = .ok (.ireturn, 1) := dk_172 (dk_at dksJ13_newLength_1 3 rfl rfl)
abbrev cJ13_hugeLength : ByteArray := prog_45_method_28_code
def yJ13_hugeLength : MethodName := ⟨RJ13, "hugeLength", "(II)I"⟩
def dkwJ13_hugeLength_2 : List UInt8 := [191, 28, 18, 200, 163, 0, 6, 18, 200, 172, 28, 172]
abbrev dktJ13_hugeLength_2 : List UInt8 := dkwJ13_hugeLength_2 ++ []
def dkwJ13_hugeLength_1 : List UInt8 := [26, 182, 0, 98, 18, 208, 182, 0, 94, 27, 182, 0, 98, 18, 210, 182, 0, 94, 182, 0, 101, 183, 0, 212]
abbrev dktJ13_hugeLength_1 : List UInt8 := dkwJ13_hugeLength_1 ++ dktJ13_hugeLength_2
def dkwJ13_hugeLength_0 : List UInt8 := [26, 27, 96, 61, 28, 156, 0, 44, 187, 0, 204, 89, 187, 0, 89, 89, 183, 0, 91, 18, 206, 182, 0, 94]
abbrev dktJ13_hugeLength_0 : List UInt8 := dkwJ13_hugeLength_0 ++ dktJ13_hugeLength_1
theorem dksJ13_hugeLength_0 : cJ13_hugeLength.data.toList.drop 0 = dktJ13_hugeLength_0 := by decide +kernel
theorem dksJ13_hugeLength_1 : cJ13_hugeLength.data.toList.drop 24 = dktJ13_hugeLength_1 := dk_seg dksJ13_hugeLength_0 24 rfl rfl
theorem dksJ13_hugeLength_2 : cJ13_hugeLength.data.toList.drop 48 = dktJ13_hugeLength_2 := dk_seg dksJ13_hugeLength_1 24 rfl rfl
theorem dJ13_hugeLength_0 : decode cJ13_hugeLength 0 = .ok (.iload_n 0, 1) := dk_26 (dk_at dksJ13_hugeLength_0 0 rfl rfl)
theorem dJ13_hugeLength_1 : decode cJ13_hugeLength 1 = .ok (.iload_n 1, 1) := dk_27 (dk_at dksJ13_hugeLength_0 1 rfl rfl)
theorem dJ13_hugeLength_2 : decode cJ13_hugeLength 2 = .ok (.iadd, 1) := dk_96 (dk_at dksJ13_hugeLength_0 2 rfl rfl)
theorem dJ13_hugeLength_3 : decode cJ13_hugeLength 3 = .ok (.istore_n 2, 1) := dk_61 (dk_at dksJ13_hugeLength_0 3 rfl rfl)
theorem dJ13_hugeLength_4 : decode cJ13_hugeLength 4 = .ok (.iload_n 2, 1) := dk_28 (dk_at dksJ13_hugeLength_0 4 rfl rfl)
theorem dJ13_hugeLength_5 : decode cJ13_hugeLength 5 = .ok (.ifCond .ge 44, 3) := dk_156 0 44 (dk_at dksJ13_hugeLength_0 5 rfl rfl)
theorem dJ13_hugeLength_8 : decode cJ13_hugeLength 8 = .ok (.new 204, 3) := dk_187 0 204 (dk_at dksJ13_hugeLength_0 8 rfl rfl)
theorem dJ13_hugeLength_11 : decode cJ13_hugeLength 11 = .ok (.dup, 1) := dk_89 (dk_at dksJ13_hugeLength_0 11 rfl rfl)
theorem dJ13_hugeLength_12 : decode cJ13_hugeLength 12 = .ok (.new 89, 3) := dk_187 0 89 (dk_at dksJ13_hugeLength_0 12 rfl rfl)
theorem dJ13_hugeLength_15 : decode cJ13_hugeLength 15 = .ok (.dup, 1) := dk_89 (dk_at dksJ13_hugeLength_0 15 rfl rfl)
theorem dJ13_hugeLength_16 : decode cJ13_hugeLength 16 = .ok (.invokespecial 91, 3) := dk_183 0 91 (dk_at dksJ13_hugeLength_0 16 rfl rfl)
theorem dJ13_hugeLength_19 : decode cJ13_hugeLength 19 = .ok (.ldc 206, 2) := dk_18 206 (dk_at dksJ13_hugeLength_0 19 rfl rfl)
theorem dJ13_hugeLength_21 : decode cJ13_hugeLength 21 = .ok (.invokevirtual 94, 3) := dk_182 0 94 (dk_at dksJ13_hugeLength_0 21 rfl rfl)
theorem dJ13_hugeLength_24 : decode cJ13_hugeLength 24 = .ok (.iload_n 0, 1) := dk_26 (dk_at dksJ13_hugeLength_1 0 rfl rfl)
theorem dJ13_hugeLength_25 : decode cJ13_hugeLength 25 = .ok (.invokevirtual 98, 3) := dk_182 0 98 (dk_at dksJ13_hugeLength_1 1 rfl rfl)
theorem dJ13_hugeLength_28 : decode cJ13_hugeLength 28 = .ok (.ldc 208, 2) := dk_18 208 (dk_at dksJ13_hugeLength_1 4 rfl rfl)
theorem dJ13_hugeLength_30 : decode cJ13_hugeLength 30 = .ok (.invokevirtual 94, 3) := dk_182 0 94 (dk_at dksJ13_hugeLength_1 6 rfl rfl)
theorem dJ13_hugeLength_33 : decode cJ13_hugeLength 33 = .ok (.iload_n 1, 1) := dk_27 (dk_at dksJ13_hugeLength_1 9 rfl rfl)
theorem dJ13_hugeLength_34 : decode cJ13_hugeLength 34 = .ok (.invokevirtual 98, 3) := dk_182 0 98 (dk_at dksJ13_hugeLength_1 10 rfl rfl)
theorem dJ13_hugeLength_37 : decode cJ13_hugeLength 37 = .ok (.ldc 210, 2) := dk_18 210 (dk_at dksJ13_hugeLength_1 13 rfl rfl)
theorem dJ13_hugeLength_39 : decode cJ13_hugeLength 39 = .ok (.invokevirtual 94, 3) := dk_182 0 94 (dk_at dksJ13_hugeLength_1 15 rfl rfl)
theorem dJ13_hugeLength_42 : decode cJ13_hugeLength 42 = .ok (.invokevirtual 101, 3) := dk_182 0 101 (dk_at dksJ13_hugeLength_1 18 rfl rfl)
theorem dJ13_hugeLength_45 : decode cJ13_hugeLength 45 = .ok (.invokespecial 212, 3) := dk_183 0 212 (dk_at dksJ13_hugeLength_1 21 rfl rfl)
theorem dJ13_hugeLength_48 : decode cJ13_hugeLength 48 = .ok (.athrow, 1) := dk_191 (dk_at dksJ13_hugeLength_2 0 rfl rfl)
theorem dJ13_hugeLength_49 : decode cJ13_hugeLength 49 = .ok (.iload_n 2, 1) := dk_28 (dk_at dksJ13_hugeLength_2 1 rfl rfl)
theorem dJ13_hugeLength_50 : decode cJ13_hugeLength 50 = .ok (.ldc 200, 2) := dk_18 200 (dk_at dksJ13_hugeLength_2 2 rfl rfl)
theorem dJ13_hugeLength_52 : decode cJ13_hugeLength 52 = .ok (.if_icmp .gt 6, 3) := dk_163 0 6 (dk_at dksJ13_hugeLength_2 4 rfl rfl)
theorem dJ13_hugeLength_55 : decode cJ13_hugeLength 55 = .ok (.ldc 200, 2) := dk_18 200 (dk_at dksJ13_hugeLength_2 7 rfl rfl)
theorem dJ13_hugeLength_57 : decode cJ13_hugeLength 57 = .ok (.ireturn, 1) := dk_172 (dk_at dksJ13_hugeLength_2 9 rfl rfl)
theorem dJ13_hugeLength_58 : decode cJ13_hugeLength 58 = .ok (.iload_n 2, 1) := dk_28 (dk_at dksJ13_hugeLength_2 10 rfl rfl)
theorem dJ13_hugeLength_59 : decode cJ13_hugeLength 59 = .ok (.ireturn, 1) := dk_172 (dk_at dksJ13_hugeLength_2 11 rfl rfl)
theorem q166 : (Jvm.Cond.initialized "jdk/internal/util/ArraysSupport") ∈ lw_all := lw_g (lw_at lw_m1 28 rfl) rfl
theorem q1406 : (Jvm.Cond.static ({ cls := "jdk/internal/util/ArraysSupport", name := "newLength", desc := "(III)I" } : Jvm.MethodName)) ∈ lw_all := lw_g (lw_at lw_m6 68 rfl) rfl
theorem q1407 : (Jvm.Cond.code ({ cls := "jdk/internal/util/ArraysSupport", name := "newLength", desc := "(III)I" } : Jvm.MethodName) prog_45_method_27_code (4 : Nat) (Option.some Jvm.ClassFile.FieldType.int)) ∈ lw_all := lw_g (lw_at lw_m6 69 rfl) rfl
theorem q1408 : (Jvm.Cond.methodLink "jdk/internal/util/ArraysSupport" (194 : Nat) ({ cls := "java/lang/Math", name := "max", desc := "(II)I" } : Jvm.MethodName)) ∈ lw_all := lw_g (lw_at lw_m6 70 rfl) rfl
theorem q1409 : (Jvm.Cond.constant "jdk/internal/util/ArraysSupport" (200 : Nat) (2147483639 : Int32)) ∈ lw_all := lw_g (lw_at lw_m6 71 rfl) rfl
theorem q1410 : (Jvm.Cond.methodLink "jdk/internal/util/ArraysSupport" (201 : Nat) ({ cls := "jdk/internal/util/ArraysSupport", name := "hugeLength", desc := "(II)I" } : Jvm.MethodName)) ∈ lw_all := lw_g (lw_at lw_m6 72 rfl) rfl
theorem q1411 : (Jvm.Cond.static ({ cls := "jdk/internal/util/ArraysSupport", name := "hugeLength", desc := "(II)I" } : Jvm.MethodName)) ∈ lw_all := lw_g (lw_at lw_m6 73 rfl) rfl
theorem q1412 : (Jvm.Cond.code ({ cls := "jdk/internal/util/ArraysSupport", name := "hugeLength", desc := "(II)I" } : Jvm.MethodName) prog_45_method_28_code (3 : Nat) (Option.some Jvm.ClassFile.FieldType.int)) ∈ lw_all := lw_g (lw_at lw_m6 74 rfl) rfl

/-! java/util/Arrays -/
set_option maxRecDepth 100000
def RJ14 : String := "java/util/Arrays"
abbrev cJ14_copyOf : ByteArray := prog_39_method_119_code
def yJ14_copyOf : MethodName := ⟨RJ14, "copyOf", "([Ljava/lang/Object;I)[Ljava/lang/Object;"⟩
def dkwJ14_copyOf_0 : List UInt8 := [42, 27, 42, 182, 0, 86, 184, 1, 44, 176]
abbrev dktJ14_copyOf_0 : List UInt8 := dkwJ14_copyOf_0 ++ []
theorem dksJ14_copyOf_0 : cJ14_copyOf.data.toList.drop 0 = dktJ14_copyOf_0 := by decide +kernel
theorem dJ14_copyOf_0 : decode cJ14_copyOf 0 = .ok (.aload_n 0, 1) := dk_42 (dk_at dksJ14_copyOf_0 0 rfl rfl)
theorem dJ14_copyOf_1 : decode cJ14_copyOf 1 = .ok (.iload_n 1, 1) := dk_27 (dk_at dksJ14_copyOf_0 1 rfl rfl)
theorem dJ14_copyOf_2 : decode cJ14_copyOf 2 = .ok (.aload_n 0, 1) := dk_42 (dk_at dksJ14_copyOf_0 2 rfl rfl)
theorem dJ14_copyOf_3 : decode cJ14_copyOf 3 = .ok (.invokevirtual 86, 3) := dk_182 0 86 (dk_at dksJ14_copyOf_0 3 rfl rfl)
theorem dJ14_copyOf_6 : decode cJ14_copyOf 6 = .ok (.invokestatic 300, 3) := dk_184 1 44 (dk_at dksJ14_copyOf_0 6 rfl rfl)
theorem dJ14_copyOf_9 : decode cJ14_copyOf 9 = .ok (.areturn, 1) := dk_176 (dk_at dksJ14_copyOf_0 9 rfl rfl)
abbrev cJ14_copyOf_2 : ByteArray := prog_39_method_120_code
def yJ14_copyOf_2 : MethodName := ⟨RJ14, "copyOf", "([Ljava/lang/Object;ILjava/lang/Class;)[Ljava/lang/Object;"⟩
def dkwJ14_copyOf_2_1 : List UInt8 := [78, 42, 3, 45, 3, 42, 190, 27, 184, 1, 48, 184, 0, 150, 45, 176]
abbrev dktJ14_copyOf_2_1 : List UInt8 := dkwJ14_copyOf_2_1 ++ []
def dkwJ14_copyOf_2_0 : List UInt8 := [44, 18, 110, 166, 0, 10, 27, 189, 0, 2, 167, 0, 14, 44, 182, 0, 90, 27, 184, 0, 95, 192, 0, 110]
abbrev dktJ14_copyOf_2_0 : List UInt8 := dkwJ14_copyOf_2_0 ++ dktJ14_copyOf_2_1
theorem dksJ14_copyOf_2_0 : cJ14_copyOf_2.data.toList.drop 0 = dktJ14_copyOf_2_0 := by decide +kernel
theorem dksJ14_copyOf_2_1 : cJ14_copyOf_2.data.toList.drop 24 = dktJ14_copyOf_2_1 := dk_seg dksJ14_copyOf_2_0 24 rfl rfl
theorem dJ14_copyOf_2_0 : decode cJ14_copyOf_2 0 = .ok (.aload_n 2, 1) := dk_44 (dk_at dksJ14_copyOf_2_0 0 rfl rfl)
theorem dJ14_copyOf_2_1 : decode cJ14_copyOf_2 1 = .ok (.ldc 110, 2) := dk_18 110 (dk_at dksJ14_copyOf_2_0 1 rfl rfl)
theorem dJ14_copyOf_2_3 : decode cJ14_copyOf_2 3 = .ok (.if_acmp .ne 10, 3) := dk_166 0 10 (dk_at dksJ14_copyOf_2_0 3 rfl rfl)
theorem dJ14_copyOf_2_6 : decode cJ14_copyOf_2 6 = .ok (.iload_n 1, 1) := dk_27 (dk_at dksJ14_copyOf_2_0 6 rfl rfl)
theorem dJ14_copyOf_2_7 : decode cJ14_copyOf_2 7 = .ok (.anewarray 2, 3) := dk_189 0 2 (dk_at dksJ14_copyOf_2_0 7 rfl rfl)
theorem dJ14_copyOf_2_10 : decode cJ14_copyOf_2 10 = .ok (.goto 14, 3) := dk_167 0 14 (dk_at dksJ14_copyOf_2_0 10 rfl rfl)
theorem dJ14_copyOf_2_13 : decode cJ14_copyOf_2 13 = .ok (.aload_n 2, 1) := dk_44 (dk_at dksJ14_copyOf_2_0 13 rfl rfl)
theorem dJ14_copyOf_2_14 : decode cJ14_copyOf_2 14 = .ok (.invokevirtual 90, 3) := dk_182 0 90 (dk_at dksJ14_copyOf_2_0 14 rfl rfl)
theorem dJ14_copyOf_2_17 : decode cJ14_copyOf_2 17 = .ok (.iload_n 1, 1) := dk_27 (dk_at dksJ14_copyOf_2_0 17 rfl rfl)
theorem dJ14_copyOf_2_18 : decode cJ14_copyOf_2 18 = .ok (.invokestatic 95, 3) := dk_184 0 95 (dk_at dksJ14_copyOf_2_0 18 rfl rfl)
theorem dJ14_copyOf_2_21 : decode cJ14_copyOf_2 21 = .ok (.checkcast 110, 3) := dk_192 0 110 (dk_at dksJ14_copyOf_2_0 21 rfl rfl)
theorem dJ14_copyOf_2_24 : decode cJ14_copyOf_2 24 = .ok (.astore_n 3, 1) := dk_78 (dk_at dksJ14_copyOf_2_1 0 rfl rfl)
theorem dJ14_copyOf_2_25 : decode cJ14_copyOf_2 25 = .ok (.aload_n 0, 1) := dk_42 (dk_at dksJ14_copyOf_2_1 1 rfl rfl)
theorem dJ14_copyOf_2_26 : decode cJ14_copyOf_2 26 = .ok (.iconst 0, 1) := dk_3 (dk_at dksJ14_copyOf_2_1 2 rfl rfl)
theorem dJ14_copyOf_2_27 : decode cJ14_copyOf_2 27 = .ok (.aload_n 3, 1) := dk_45 (dk_at dksJ14_copyOf_2_1 3 rfl rfl)
theorem dJ14_copyOf_2_28 : decode cJ14_copyOf_2 28 = .ok (.iconst 0, 1) := dk_3 (dk_at dksJ14_copyOf_2_1 4 rfl rfl)
theorem dJ14_copyOf_2_29 : decode cJ14_copyOf_2 29 = .ok (.aload_n 0, 1) := dk_42 (dk_at dksJ14_copyOf_2_1 5 rfl rfl)
theorem dJ14_copyOf_2_30 : decode cJ14_copyOf_2 30 = .ok (.arraylength, 1) := dk_190 (dk_at dksJ14_copyOf_2_1 6 rfl rfl)
theorem dJ14_copyOf_2_31 : decode cJ14_copyOf_2 31 = .ok (.iload_n 1, 1) := dk_27 (dk_at dksJ14_copyOf_2_1 7 rfl rfl)
theorem dJ14_copyOf_2_32 : decode cJ14_copyOf_2 32 = .ok (.invokestatic 304, 3) := dk_184 1 48 (dk_at dksJ14_copyOf_2_1 8 rfl rfl)
theorem dJ14_copyOf_2_35 : decode cJ14_copyOf_2 35 = .ok (.invokestatic 150, 3) := dk_184 0 150 (dk_at dksJ14_copyOf_2_1 11 rfl rfl)
theorem dJ14_copyOf_2_38 : decode cJ14_copyOf_2 38 = .ok (.aload_n 3, 1) := dk_45 (dk_at dksJ14_copyOf_2_1 14 rfl rfl)
theorem dJ14_copyOf_2_39 : decode cJ14_copyOf_2 39 = .ok (.areturn, 1) := dk_176 (dk_at dksJ14_copyOf_2_1 15 rfl rfl)
theorem q167 : (Jvm.Cond.initialized "java/util/Arrays") ∈ lw_all := lw_g (lw_at lw_m1 29 rfl) rfl
theorem q1414 : (Jvm.Cond.static ({ cls := "java/util/Arrays", name := "copyOf", desc := "([Ljava/lang/Object;I)[Ljava/lang/Object;" } : Jvm.MethodName)) ∈ lw_all := lw_g (lw_at lw_m6 76 rfl) rfl
theorem q1415 : (Jvm.Cond.code ({ cls := "java/util/Arrays", name := "copyOf", desc := "([Ljava/lang/Object;I)[Ljava/lang/Object;" } : Jvm.MethodName) prog_39_method_119_code (2 : Nat) (Option.some (Jvm.ClassFile.FieldType.array (Jvm.ClassFile.FieldType.object "java/lang/Object")))) ∈ lw_all := lw_g (lw_at lw_m6 77 rfl) rfl
theorem q1416 : (Jvm.Cond.methodLink "java/util/Arrays" (86 : Nat) ({ cls := "java/lang/Object", name := "getClass", desc := "()Ljava/lang/Class;" } : Jvm.MethodName)) ∈ lw_all := lw_g (lw_at lw_m6 78 rfl) rfl
theorem q1436 : (Jvm.Cond.methodLink "java/util/Arrays" (300 : Nat) ({ cls := "java/util/Arrays", name := "copyOf", desc := "([Ljava/lang/Object;ILjava/lang/Class;)[Ljava/lang/Object;" } : Jvm.MethodName)) ∈ lw_all := lw_g (lw_at lw_m6 98 rfl) rfl
theorem q1437 : (Jvm.Cond.static ({ cls := "java/util/Arrays", name := "copyOf", desc := "([Ljava/lang/Object;ILjava/lang/Class;)[Ljava/lang/Object;" } : Jvm.MethodName)) ∈ lw_all := lw_g (lw_at lw_m6 99 rfl) rfl
theorem q1438 : (Jvm.Cond.code ({ cls := "java/util/Arrays", name := "copyOf", desc := "([Ljava/lang/Object;ILjava/lang/Class;)[Ljava/lang/Object;" } : Jvm.MethodName) prog_39_method_120_code (4 : Nat) (Option.some (Jvm.ClassFile.FieldType.array (Jvm.ClassFile.FieldType.object "java/lang/Object")))) ∈ lw_all := lw_g (lw_at lw_m6 100 rfl) rfl
theorem q1439 : (Jvm.Cond.classLink "java/util/Arrays" (110 : Nat) "[Ljava/lang/Object;") ∈ lw_all := lw_g (lw_at lw_m6 101 rfl) rfl
theorem q1441 : (Jvm.Cond.classLink "java/util/Arrays" (2 : Nat) "java/lang/Object") ∈ lw_all := lw_g (lw_at lw_m6 103 rfl) rfl
theorem q1442 : (Jvm.Cond.methodLink "java/util/Arrays" (304 : Nat) ({ cls := "java/lang/Math", name := "min", desc := "(II)I" } : Jvm.MethodName)) ∈ lw_all := lw_g (lw_at lw_m6 104 rfl) rfl
theorem q1443 : (Jvm.Cond.methodLink "java/util/Arrays" (150 : Nat) ({ cls := "java/lang/System", name := "arraycopy", desc := "(Ljava/lang/Object;ILjava/lang/Object;II)V" } : Jvm.MethodName)) ∈ lw_all := lw_g (lw_at lw_m6 105 rfl) rfl

/-! java/util/Objects -/
set_option maxRecDepth 100000
def RJ15 : String := "java/util/Objects"
abbrev cJ15_checkIndex : ByteArray := prog_42_method_17_code
def yJ15_checkIndex : MethodName := ⟨RJ15, "checkIndex", "(II)I"⟩
def dkwJ15_checkIndex_0 : List UInt8 := [26, 27, 1, 184, 0, 105, 172]
abbrev dktJ15_checkIndex_0 : List UInt8 := dkwJ15_checkIndex_0 ++ []
theorem dksJ15_checkIndex_0 : cJ15_checkIndex.data.toList.drop 0 = dktJ15_checkIndex_0 := by decide +kernel
theorem dJ15_checkIndex_0 : decode cJ15_checkIndex 0 = .ok (.iload_n 0, 1) := dk_26 (dk_at dksJ15_checkIndex_0 0 rfl rfl)
theorem dJ15_checkIndex_1 : decode cJ15_checkIndex 1 = .ok (.iload_n 1, 1) := dk_27 (dk_at dksJ15_checkIndex_0 1 rfl rfl)
theorem dJ15_checkIndex_2 : decode cJ15_checkIndex 2 = .ok (.aconst_null, 1) := dk_1 (dk_at dksJ15_checkIndex_0 2 rfl rfl)
theorem dJ15_checkIndex_3 : decode cJ15_checkIndex 3 = .ok (.invokestatic 105, 3) := dk_184 0 105 (dk_at dksJ15_checkIndex_0 3 rfl rfl)
theorem dJ15_checkIndex_6 : decode cJ15_checkIndex 6 = .ok (.ireturn, 1) := dk_172 (dk_at dksJ15_checkIndex_0 6 rfl rfl)
theorem q168 : (Jvm.Cond.initialized "java/util/Objects") ∈ lw_all := lw_g (lw_at lw_m1 30 rfl) rfl
theorem q1458 : (Jvm.Cond.static ({ cls := "java/util/Objects", name := "checkIndex", desc := "(II)I" } : Jvm.MethodName)) ∈ lw_all := lw_g (lw_at lw_m6 120 rfl) rfl
theorem q1459 : (Jvm.Cond.code ({ cls := "java/util/Objects", name := "checkIndex", desc := "(II)I" } : Jvm.MethodName) prog_42_method_17_code (2 : Nat) (Option.some Jvm.ClassFile.FieldType.int)) ∈ lw_all := lw_g (lw_at lw_m6 121 rfl) rfl
theorem q1460 : (Jvm.Cond.methodLink "java/util/Objects" (105 : Nat) ({ cls := "jdk/internal/util/Preconditions", name := "checkIndex", desc := "(IILjava/util/function/BiFunction;)I" } : Jvm.MethodName)) ∈ lw_all := lw_g (lw_at lw_m6 122 rfl) rfl

/-! java/lang/NegativeArraySizeException -/
set_option maxRecDepth 100000
def RJ16 : String := "java/lang/NegativeArraySizeException"
def TJ16 : u_T := fun k => match k with
  | 0 => ("java/lang/Throwable", "backtrace", "Ljava/lang/Object;", false)
  | 1 => ("java/lang/Throwable", "detailMessage", "Ljava/lang/String;", false)
  | 2 => ("java/lang/Throwable", "cause", "Ljava/lang/Throwable;", false)
  | 3 => ("java/lang/Throwable", "stackTrace", "[Ljava/lang/StackTraceElement;", false)
  | 4 => ("java/lang/Throwable", "depth", "I", false)
  | _ => ("java/lang/Throwable", "suppressedExceptions", "Ljava/util/List;", false)
def tyJ16 : Nat → FieldType := fun k => match k with
  | 0 => .object "java/lang/Object"
  | 1 => .object "java/lang/String"
  | 2 => .object "java/lang/Throwable"
  | 3 => .array (.object "java/lang/StackTraceElement")
  | 4 => .int
  | _ => .object "java/util/List"
abbrev wsJ160 : List Cond := u_ws RJ16 TJ16 6
theorem nmJ16 : ∀ a, a < 6 → ∀ b, b < 6 → a ≠ b → (TJ16 a).2.1 ≠ (TJ16 b).2.1 := by decide +kernel
theorem tyJ16_ok : ∀ k, k < 6 → parseFieldDescriptor (TJ16 k).2.2.1 = some (tyJ16 k) := by decide +kernel
abbrev cJ16_init : ByteArray := prog_26_method_2_code
def yJ16_init : MethodName := ⟨RJ16, "<init>", "(Ljava/lang/String;)V"⟩
def dkwJ16_init_0 : List UInt8 := [42, 43, 183, 0, 7, 177]
abbrev dktJ16_init_0 : List UInt8 := dkwJ16_init_0 ++ []
theorem dksJ16_init_0 : cJ16_init.data.toList.drop 0 = dktJ16_init_0 := by decide +kernel
theorem dJ16_init_0 : decode cJ16_init 0 = .ok (.aload_n 0, 1) := dk_42 (dk_at dksJ16_init_0 0 rfl rfl)
theorem dJ16_init_1 : decode cJ16_init 1 = .ok (.aload_n 1, 1) := dk_43 (dk_at dksJ16_init_0 1 rfl rfl)
theorem dJ16_init_2 : decode cJ16_init 2 = .ok (.invokespecial 7, 3) := dk_183 0 7 (dk_at dksJ16_init_0 2 rfl rfl)
theorem dJ16_init_5 : decode cJ16_init 5 = .ok (.return_, 1) := dk_177 (dk_at dksJ16_init_0 5 rfl rfl)
theorem q169 : (Jvm.Cond.initialized "java/lang/NegativeArraySizeException") ∈ lw_all := lw_g (lw_at lw_m1 31 rfl) rfl
theorem q691 : (Jvm.Cond.selects "java/lang/NegativeArraySizeException" ({ cls := "java/lang/Throwable", name := "fillInStackTrace", desc := "()Ljava/lang/Throwable;" } : Jvm.MethodName) ({ cls := "java/lang/Throwable", name := "fillInStackTrace", desc := "()Ljava/lang/Throwable;" } : Jvm.MethodName)) ∈ lw_all := lw_g (lw_at lw_m3 73 rfl) rfl
theorem q1432 : (Jvm.Cond.selects "java/lang/NegativeArraySizeException" ({ cls := "java/lang/Object", name := "getClass", desc := "()Ljava/lang/Class;" } : Jvm.MethodName) ({ cls := "java/lang/Object", name := "getClass", desc := "()Ljava/lang/Class;" } : Jvm.MethodName)) ∈ lw_all := lw_g (lw_at lw_m6 94 rfl) rfl
theorem q1482 : (Jvm.Cond.instantiable "java/lang/NegativeArraySizeException" (6 : Nat)) ∈ lw_all := lw_g (lw_at lw_m6 144 rfl) rfl
theorem q1483 : (Jvm.Cond.instanceMethod ({ cls := "java/lang/NegativeArraySizeException", name := "<init>", desc := "(Ljava/lang/String;)V" } : Jvm.MethodName)) ∈ lw_all := lw_g (lw_at lw_m6 145 rfl) rfl
theorem q1484 : (Jvm.Cond.code ({ cls := "java/lang/NegativeArraySizeException", name := "<init>", desc := "(Ljava/lang/String;)V" } : Jvm.MethodName) prog_26_method_2_code (2 : Nat) (Option.none : Option Jvm.ClassFile.FieldType)) ∈ lw_all := lw_g (lw_at lw_m6 146 rfl) rfl
theorem q1485 : (Jvm.Cond.methodLink "java/lang/NegativeArraySizeException" (7 : Nat) ({ cls := "java/lang/RuntimeException", name := "<init>", desc := "(Ljava/lang/String;)V" } : Jvm.MethodName)) ∈ lw_all := lw_g (lw_at lw_m6 147 rfl) rfl
theorem q1494 : (Jvm.Cond.lays "java/lang/NegativeArraySizeException" "java/lang/Throwable" "backtrace" "Ljava/lang/Object;") ∈ lw_all := lw_g (lw_at lw_m6 156 rfl) rfl
theorem q1495 : (Jvm.Cond.lays "java/lang/NegativeArraySizeException" "java/lang/Throwable" "detailMessage" "Ljava/lang/String;") ∈ lw_all := lw_g (lw_at lw_m6 157 rfl) rfl
theorem q1496 : (Jvm.Cond.lays "java/lang/NegativeArraySizeException" "java/lang/Throwable" "cause" "Ljava/lang/Throwable;") ∈ lw_all := lw_g (lw_at lw_m6 158 rfl) rfl
theorem q1497 : (Jvm.Cond.lays "java/lang/NegativeArraySizeException" "java/lang/Throwable" "stackTrace" "[Ljava/lang/StackTraceElement;") ∈ lw_all := lw_g (lw_at lw_m6 159 rfl) rfl
theorem q1498 : (Jvm.Cond.lays "java/lang/NegativeArraySizeException" "java/lang/Throwable" "depth" "I") ∈ lw_all := lw_g (lw_at lw_m6 160 rfl) rfl
theorem q1499 : (Jvm.Cond.lays "java/lang/NegativeArraySizeException" "java/lang/Throwable" "suppressedExceptions" "Ljava/util/List;") ∈ lw_all := lw_g (lw_at lw_m6 161 rfl) rfl
theorem q1500 : (Jvm.Cond.superclass "java/lang/NegativeArraySizeException" "java/lang/RuntimeException") ∈ lw_all := lw_g (lw_at lw_m6 162 rfl) rfl
theorem q1501 : (Jvm.Cond.castable "java/lang/NegativeArraySizeException" "java/lang/NegativeArraySizeException") ∈ lw_tbl := lw_at lw_m6 163 rfl
theorem q1502 : (Jvm.Cond.selects "java/lang/NegativeArraySizeException" ({ cls := "java/lang/Throwable", name := "fillInStackTrace", desc := "(I)Ljava/lang/Throwable;" } : Jvm.MethodName) ({ cls := "java/lang/Throwable", name := "fillInStackTrace", desc := "(I)Ljava/lang/Throwable;" } : Jvm.MethodName)) ∈ lw_all := lw_g (lw_at lw_m6 164 rfl) rfl
theorem q2309 : (Jvm.Cond.castable "java/lang/NegativeArraySizeException" "java/lang/Object") ∈ lw_tbl := lw_at lw_m10 11 rfl
theorem in_J16 : ∀ w ∈ wsJ160, w ∈ lw_all := lw_in wsJ160 [1494, 1495, 1496, 1497, 1498, 1499] (by decide +kernel) (by decide +kernel)

/-! java/lang/IndexOutOfBoundsException -/
set_option maxRecDepth 100000
def RJ17 : String := "java/lang/IndexOutOfBoundsException"
abbrev cJ17_init : ByteArray := prog_22_method_2_code
def yJ17_init : MethodName := ⟨RJ17, "<init>", "(Ljava/lang/String;)V"⟩
def dkwJ17_init_0 : List UInt8 := [42, 43, 183, 0, 7, 177]
abbrev dktJ17_init_0 : List UInt8 := dkwJ17_init_0 ++ []
theorem dksJ17_init_0 : cJ17_init.data.toList.drop 0 = dktJ17_init_0 := by decide +kernel
theorem dJ17_init_0 : decode cJ17_init 0 = .ok (.aload_n 0, 1) := dk_42 (dk_at dksJ17_init_0 0 rfl rfl)
theorem dJ17_init_1 : decode cJ17_init 1 = .ok (.aload_n 1, 1) := dk_43 (dk_at dksJ17_init_0 1 rfl rfl)
theorem dJ17_init_2 : decode cJ17_init 2 = .ok (.invokespecial 7, 3) := dk_183 0 7 (dk_at dksJ17_init_0 2 rfl rfl)
theorem dJ17_init_5 : decode cJ17_init 5 = .ok (.return_, 1) := dk_177 (dk_at dksJ17_init_0 5 rfl rfl)
theorem q170 : (Jvm.Cond.initialized "java/lang/IndexOutOfBoundsException") ∈ lw_all := lw_g (lw_at lw_m1 32 rfl) rfl
theorem q1523 : (Jvm.Cond.instanceMethod ({ cls := "java/lang/IndexOutOfBoundsException", name := "<init>", desc := "(Ljava/lang/String;)V" } : Jvm.MethodName)) ∈ lw_all := lw_g (lw_at lw_m6 185 rfl) rfl
theorem q1524 : (Jvm.Cond.code ({ cls := "java/lang/IndexOutOfBoundsException", name := "<init>", desc := "(Ljava/lang/String;)V" } : Jvm.MethodName) prog_22_method_2_code (2 : Nat) (Option.none : Option Jvm.ClassFile.FieldType)) ∈ lw_all := lw_g (lw_at lw_m6 186 rfl) rfl
theorem q1525 : (Jvm.Cond.methodLink "java/lang/IndexOutOfBoundsException" (7 : Nat) ({ cls := "java/lang/RuntimeException", name := "<init>", desc := "(Ljava/lang/String;)V" } : Jvm.MethodName)) ∈ lw_all := lw_g (lw_at lw_m6 187 rfl) rfl
theorem q1534 : (Jvm.Cond.declares ({ cls := "java/lang/IndexOutOfBoundsException", name := "<init>", desc := "()V" } : Jvm.MethodName)) ∈ lw_tbl := lw_at lw_m6 196 rfl
theorem q1535 : (Jvm.Cond.declares ({ cls := "java/lang/IndexOutOfBoundsException", name := "<init>", desc := "(Ljava/lang/String;)V" } : Jvm.MethodName)) ∈ lw_tbl := lw_at lw_m6 197 rfl

/-! java/lang/ArrayIndexOutOfBoundsException -/
set_option maxRecDepth 100000
def RJ18 : String := "java/lang/ArrayIndexOutOfBoundsException"
def TJ18 : u_T := fun k => match k with
  | 0 => ("java/lang/Throwable", "backtrace", "Ljava/lang/Object;", false)
  | 1 => ("java/lang/Throwable", "detailMessage", "Ljava/lang/String;", false)
  | 2 => ("java/lang/Throwable", "cause", "Ljava/lang/Throwable;", false)
  | 3 => ("java/lang/Throwable", "stackTrace", "[Ljava/lang/StackTraceElement;", false)
  | 4 => ("java/lang/Throwable", "depth", "I", false)
  | _ => ("java/lang/Throwable", "suppressedExceptions", "Ljava/util/List;", false)
def tyJ18 : Nat → FieldType := fun k => match k with
  | 0 => .object "java/lang/Object"
  | 1 => .object "java/lang/String"
  | 2 => .object "java/lang/Throwable"
  | 3 => .array (.object "java/lang/StackTraceElement")
  | 4 => .int
  | _ => .object "java/util/List"
abbrev wsJ180 : List Cond := u_ws RJ18 TJ18 6
theorem nmJ18 : ∀ a, a < 6 → ∀ b, b < 6 → a ≠ b → (TJ18 a).2.1 ≠ (TJ18 b).2.1 := by decide +kernel
theorem tyJ18_ok : ∀ k, k < 6 → parseFieldDescriptor (TJ18 k).2.2.1 = some (tyJ18 k) := by decide +kernel
abbrev cJ18_init : ByteArray := prog_15_method_2_code
def yJ18_init : MethodName := ⟨RJ18, "<init>", "(Ljava/lang/String;)V"⟩
def dkwJ18_init_0 : List UInt8 := [42, 43, 183, 0, 7, 177]
abbrev dktJ18_init_0 : List UInt8 := dkwJ18_init_0 ++ []
theorem dksJ18_init_0 : cJ18_init.data.toList.drop 0 = dktJ18_init_0 := by decide +kernel
theorem dJ18_init_0 : decode cJ18_init 0 = .ok (.aload_n 0, 1) := dk_42 (dk_at dksJ18_init_0 0 rfl rfl)
theorem dJ18_init_1 : decode cJ18_init 1 = .ok (.aload_n 1, 1) := dk_43 (dk_at dksJ18_init_0 1 rfl rfl)
theorem dJ18_init_2 : decode cJ18_init 2 = .ok (.invokespecial 7, 3) := dk_183 0 7 (dk_at dksJ18_init_0 2 rfl rfl)
theorem dJ18_init_5 : decode cJ18_init 5 = .ok (.return_, 1) := dk_177 (dk_at dksJ18_init_0 5 rfl rfl)
theorem q171 : (Jvm.Cond.initialized "java/lang/ArrayIndexOutOfBoundsException") ∈ lw_all := lw_g (lw_at lw_m1 33 rfl) rfl
theorem q689 : (Jvm.Cond.selects "java/lang/ArrayIndexOutOfBoundsException" ({ cls := "java/lang/Throwable", name := "fillInStackTrace", desc := "()Ljava/lang/Throwable;" } : Jvm.MethodName) ({ cls := "java/lang/Throwable", name := "fillInStackTrace", desc := "()Ljava/lang/Throwable;" } : Jvm.MethodName)) ∈ lw_all := lw_g (lw_at lw_m3 71 rfl) rfl
theorem q1430 : (Jvm.Cond.selects "java/lang/ArrayIndexOutOfBoundsException" ({ cls := "java/lang/Object", name := "getClass", desc := "()Ljava/lang/Class;" } : Jvm.MethodName) ({ cls := "java/lang/Object", name := "getClass", desc := "()Ljava/lang/Class;" } : Jvm.MethodName)) ∈ lw_all := lw_g (lw_at lw_m6 92 rfl) rfl
theorem q1519 : (Jvm.Cond.instantiable "java/lang/ArrayIndexOutOfBoundsException" (6 : Nat)) ∈ lw_all := lw_g (lw_at lw_m6 181 rfl) rfl
theorem q1520 : (Jvm.Cond.instanceMethod ({ cls := "java/lang/ArrayIndexOutOfBoundsException", name := "<init>", desc := "(Ljava/lang/String;)V" } : Jvm.MethodName)) ∈ lw_all := lw_g (lw_at lw_m6 182 rfl) rfl
theorem q1521 : (Jvm.Cond.code ({ cls := "java/lang/ArrayIndexOutOfBoundsException", name := "<init>", desc := "(Ljava/lang/String;)V" } : Jvm.MethodName) prog_15_method_2_code (2 : Nat) (Option.none : Option Jvm.ClassFile.FieldType)) ∈ lw_all := lw_g (lw_at lw_m6 183 rfl) rfl
theorem q1522 : (Jvm.Cond.methodLink "java/lang/ArrayIndexOutOfBoundsException" (7 : Nat) ({ cls := "java/lang/IndexOutOfBoundsException", name := "<init>", desc := "(Ljava/lang/String;)V" } : Jvm.MethodName)) ∈ lw_all := lw_g (lw_at lw_m6 184 rfl) rfl
theorem q1526 : (Jvm.Cond.lays "java/lang/ArrayIndexOutOfBoundsException" "java/lang/Throwable" "backtrace" "Ljava/lang/Object;") ∈ lw_all := lw_g (lw_at lw_m6 188 rfl) rfl
theorem q1527 : (Jvm.Cond.lays "java/lang/ArrayIndexOutOfBoundsException" "java/lang/Throwable" "detailMessage" "Ljava/lang/String;") ∈ lw_all := lw_g (lw_at lw_m6 189 rfl) rfl
theorem q1528 : (Jvm.Cond.lays "java/lang/ArrayIndexOutOfBoundsException" "java/lang/Throwable" "cause" "Ljava/lang/Throwable;") ∈ lw_all := lw_g (lw_at lw_m6 190 rfl) rfl
theorem q1529 : (Jvm.Cond.lays "java/lang/ArrayIndexOutOfBoundsException" "java/lang/Throwable" "stackTrace" "[Ljava/lang/StackTraceElement;") ∈ lw_all := lw_g (lw_at lw_m6 191 rfl) rfl
theorem q1530 : (Jvm.Cond.lays "java/lang/ArrayIndexOutOfBoundsException" "java/lang/Throwable" "depth" "I") ∈ lw_all := lw_g (lw_at lw_m6 192 rfl) rfl
theorem q1531 : (Jvm.Cond.lays "java/lang/ArrayIndexOutOfBoundsException" "java/lang/Throwable" "suppressedExceptions" "Ljava/util/List;") ∈ lw_all := lw_g (lw_at lw_m6 193 rfl) rfl
theorem q1532 : (Jvm.Cond.superclass "java/lang/ArrayIndexOutOfBoundsException" "java/lang/IndexOutOfBoundsException") ∈ lw_all := lw_g (lw_at lw_m6 194 rfl) rfl
theorem q1533 : (Jvm.Cond.castable "java/lang/ArrayIndexOutOfBoundsException" "java/lang/ArrayIndexOutOfBoundsException") ∈ lw_tbl := lw_at lw_m6 195 rfl
theorem q1536 : (Jvm.Cond.selects "java/lang/ArrayIndexOutOfBoundsException" ({ cls := "java/lang/Throwable", name := "fillInStackTrace", desc := "(I)Ljava/lang/Throwable;" } : Jvm.MethodName) ({ cls := "java/lang/Throwable", name := "fillInStackTrace", desc := "(I)Ljava/lang/Throwable;" } : Jvm.MethodName)) ∈ lw_all := lw_g (lw_at lw_m6 198 rfl) rfl
theorem q2295 : (Jvm.Cond.castable "java/lang/ArrayIndexOutOfBoundsException" "java/lang/IndexOutOfBoundsException") ∈ lw_tbl := lw_at lw_m9 237 rfl
theorem q2310 : (Jvm.Cond.castable "java/lang/ArrayIndexOutOfBoundsException" "java/lang/Object") ∈ lw_tbl := lw_at lw_m10 12 rfl
theorem in_J18 : ∀ w ∈ wsJ180, w ∈ lw_all := lw_in wsJ180 [1526, 1527, 1528, 1529, 1530, 1531] (by decide +kernel) (by decide +kernel)

/-! java/lang/ArrayStoreException -/
set_option maxRecDepth 100000
def RJ19 : String := "java/lang/ArrayStoreException"
def TJ19 : u_T := fun k => match k with
  | 0 => ("java/lang/Throwable", "backtrace", "Ljava/lang/Object;", false)
  | 1 => ("java/lang/Throwable", "detailMessage", "Ljava/lang/String;", false)
  | 2 => ("java/lang/Throwable", "cause", "Ljava/lang/Throwable;", false)
  | 3 => ("java/lang/Throwable", "stackTrace", "[Ljava/lang/StackTraceElement;", false)
  | 4 => ("java/lang/Throwable", "depth", "I", false)
  | _ => ("java/lang/Throwable", "suppressedExceptions", "Ljava/util/List;", false)
def tyJ19 : Nat → FieldType := fun k => match k with
  | 0 => .object "java/lang/Object"
  | 1 => .object "java/lang/String"
  | 2 => .object "java/lang/Throwable"
  | 3 => .array (.object "java/lang/StackTraceElement")
  | 4 => .int
  | _ => .object "java/util/List"
abbrev wsJ190 : List Cond := u_ws RJ19 TJ19 6
theorem nmJ19 : ∀ a, a < 6 → ∀ b, b < 6 → a ≠ b → (TJ19 a).2.1 ≠ (TJ19 b).2.1 := by decide +kernel
theorem tyJ19_ok : ∀ k, k < 6 → parseFieldDescriptor (TJ19 k).2.2.1 = some (tyJ19 k) := by decide +kernel
abbrev cJ19_init : ByteArray := prog_16_method_2_code
def yJ19_init : MethodName := ⟨RJ19, "<init>", "(Ljava/lang/String;)V"⟩
def dkwJ19_init_0 : List UInt8 := [42, 43, 183, 0, 7, 177]
abbrev dktJ19_init_0 : List UInt8 := dkwJ19_init_0 ++ []
theorem dksJ19_init_0 : cJ19_init.data.toList.drop 0 = dktJ19_init_0 := by decide +kernel
theorem dJ19_init_0 : decode cJ19_init 0 = .ok (.aload_n 0, 1) := dk_42 (dk_at dksJ19_init_0 0 rfl rfl)
theorem dJ19_init_1 : decode cJ19_init 1 = .ok (.aload_n 1, 1) := dk_43 (dk_at dksJ19_init_0 1 rfl rfl)
theorem dJ19_init_2 : decode cJ19_init 2 = .ok (.invokespecial 7, 3) := dk_183 0 7 (dk_at dksJ19_init_0 2 rfl rfl)
theorem dJ19_init_5 : decode cJ19_init 5 = .ok (.return_, 1) := dk_177 (dk_at dksJ19_init_0 5 rfl rfl)
theorem q172 : (Jvm.Cond.initialized "java/lang/ArrayStoreException") ∈ lw_all := lw_g (lw_at lw_m1 34 rfl) rfl
theorem q690 : (Jvm.Cond.selects "java/lang/ArrayStoreException" ({ cls := "java/lang/Throwable", name := "fillInStackTrace", desc := "()Ljava/lang/Throwable;" } : Jvm.MethodName) ({ cls := "java/lang/Throwable", name := "fillInStackTrace", desc := "()Ljava/lang/Throwable;" } : Jvm.MethodName)) ∈ lw_all := lw_g (lw_at lw_m3 72 rfl) rfl
theorem q1431 : (Jvm.Cond.selects "java/lang/ArrayStoreException" ({ cls := "java/lang/Object", name := "getClass", desc := "()Ljava/lang/Class;" } : Jvm.MethodName) ({ cls := "java/lang/Object", name := "getClass", desc := "()Ljava/lang/Class;" } : Jvm.MethodName)) ∈ lw_all := lw_g (lw_at lw_m6 93 rfl) rfl
theorem q1546 : (Jvm.Cond.instantiable "java/lang/ArrayStoreException" (6 : Nat)) ∈ lw_all := lw_g (lw_at lw_m6 208 rfl) rfl
theorem q1547 : (Jvm.Cond.instanceMethod ({ cls := "java/lang/ArrayStoreException", name := "<init>", desc := "(Ljava/lang/String;)V" } : Jvm.MethodName)) ∈ lw_all := lw_g (lw_at lw_m6 209 rfl) rfl
theorem q1548 : (Jvm.Cond.code ({ cls := "java/lang/ArrayStoreException", name := "<init>", desc := "(Ljava/lang/String;)V" } : Jvm.MethodName) prog_16_method_2_code (2 : Nat) (Option.none : Option Jvm.ClassFile.FieldType)) ∈ lw_all := lw_g (lw_at lw_m6 210 rfl) rfl
theorem q1549 : (Jvm.Cond.methodLink "java/lang/ArrayStoreException" (7 : Nat) ({ cls := "java/lang/RuntimeException", name := "<init>", desc := "(Ljava/lang/String;)V" } : Jvm.MethodName)) ∈ lw_all := lw_g (lw_at lw_m6 211 rfl) rfl
theorem q1550 : (Jvm.Cond.lays "java/lang/ArrayStoreException" "java/lang/Throwable" "backtrace" "Ljava/lang/Object;") ∈ lw_all := lw_g (lw_at lw_m6 212 rfl) rfl
theorem q1551 : (Jvm.Cond.lays "java/lang/ArrayStoreException" "java/lang/Throwable" "detailMessage" "Ljava/lang/String;") ∈ lw_all := lw_g (lw_at lw_m6 213 rfl) rfl
theorem q1552 : (Jvm.Cond.lays "java/lang/ArrayStoreException" "java/lang/Throwable" "cause" "Ljava/lang/Throwable;") ∈ lw_all := lw_g (lw_at lw_m6 214 rfl) rfl
theorem q1553 : (Jvm.Cond.lays "java/lang/ArrayStoreException" "java/lang/Throwable" "stackTrace" "[Ljava/lang/StackTraceElement;") ∈ lw_all := lw_g (lw_at lw_m6 215 rfl) rfl
theorem q1554 : (Jvm.Cond.lays "java/lang/ArrayStoreException" "java/lang/Throwable" "depth" "I") ∈ lw_all := lw_g (lw_at lw_m6 216 rfl) rfl
theorem q1555 : (Jvm.Cond.lays "java/lang/ArrayStoreException" "java/lang/Throwable" "suppressedExceptions" "Ljava/util/List;") ∈ lw_all := lw_g (lw_at lw_m6 217 rfl) rfl
theorem q1556 : (Jvm.Cond.superclass "java/lang/ArrayStoreException" "java/lang/RuntimeException") ∈ lw_all := lw_g (lw_at lw_m6 218 rfl) rfl
theorem q1557 : (Jvm.Cond.castable "java/lang/ArrayStoreException" "java/lang/ArrayStoreException") ∈ lw_tbl := lw_at lw_m6 219 rfl
theorem q1558 : (Jvm.Cond.selects "java/lang/ArrayStoreException" ({ cls := "java/lang/Throwable", name := "fillInStackTrace", desc := "(I)Ljava/lang/Throwable;" } : Jvm.MethodName) ({ cls := "java/lang/Throwable", name := "fillInStackTrace", desc := "(I)Ljava/lang/Throwable;" } : Jvm.MethodName)) ∈ lw_all := lw_g (lw_at lw_m6 220 rfl) rfl
theorem q2311 : (Jvm.Cond.castable "java/lang/ArrayStoreException" "java/lang/Object") ∈ lw_tbl := lw_at lw_m10 13 rfl
theorem in_J19 : ∀ w ∈ wsJ190, w ∈ lw_all := lw_in wsJ190 [1550, 1551, 1552, 1553, 1554, 1555] (by decide +kernel) (by decide +kernel)

/-! java/lang/Object -/
set_option maxRecDepth 100000
def RJ20 : String := "java/lang/Object"
abbrev cJ20_init : ByteArray := object_method_1_code
def yJ20_init : MethodName := ⟨RJ20, "<init>", "()V"⟩
theorem dJ20_init_0 : decode cJ20_init 0 = .ok (.return_, 1) := by decide +kernel
theorem q179 : (Jvm.Cond.instanceMethod ({ cls := "java/lang/Object", name := "<init>", desc := "()V" } : Jvm.MethodName)) ∈ lw_all := lw_g (lw_at lw_m1 41 rfl) rfl
theorem q180 : (Jvm.Cond.code ({ cls := "java/lang/Object", name := "<init>", desc := "()V" } : Jvm.MethodName) object_method_1_code (1 : Nat) (Option.none : Option Jvm.ClassFile.FieldType)) ∈ lw_all := lw_g (lw_at lw_m1 42 rfl) rfl
theorem q1417 : (Jvm.Cond.instanceMethod ({ cls := "java/lang/Object", name := "getClass", desc := "()Ljava/lang/Class;" } : Jvm.MethodName)) ∈ lw_all := lw_g (lw_at lw_m6 79 rfl) rfl
theorem q1418 : (Jvm.Cond.sameMethod "java/lang/Object" "java/lang/Object" "getClass" "()Ljava/lang/Class;") ∈ lw_all := lw_g (lw_at lw_m6 80 rfl) rfl
theorem q1435 : (Jvm.Cond.native ({ cls := "java/lang/Object", name := "getClass", desc := "()Ljava/lang/Class;" } : Jvm.MethodName)) ∈ lw_all := lw_g (lw_at lw_m6 97 rfl) rfl
theorem q2294 : (Jvm.Cond.initialized "java/lang/Object") ∈ lw_all := lw_g (lw_at lw_m9 236 rfl) rfl
theorem q2316 : (Jvm.Cond.declares ({ cls := "java/lang/Object", name := "getClass", desc := "()Ljava/lang/Class;" } : Jvm.MethodName)) ∈ lw_tbl := lw_at lw_m10 18 rfl

theorem q138 : (Jvm.Cond.initialized "OverHillLaw") ∈ lw_all := lw_g (lw_at lw_m1 0 rfl) rfl
set_option maxRecDepth 100000
theorem q173 : (Jvm.Cond.classLink "OverHillLaw" (7 : Nat) "OverHill") ∈ lw_all := lw_g (lw_at lw_m1 35 rfl) rfl
theorem q175 : (Jvm.Cond.methodLink "OverHillLaw" (9 : Nat) ({ cls := "OverHill", name := "<init>", desc := "()V" } : Jvm.MethodName)) ∈ lw_all := lw_g (lw_at lw_m1 37 rfl) rfl
theorem q512 : (Jvm.Cond.methodLink "OverHillLaw" (13 : Nat) ({ cls := "OverHill", name := "feed", desc := "(IIIII)I" } : Jvm.MethodName)) ∈ lw_all := lw_g (lw_at lw_m2 134 rfl) rfl
theorem q520 : (Jvm.Cond.methodLink "OverHillLaw" (18 : Nat) ({ cls := "OverHill", name := "end", desc := "(I)I" } : Jvm.MethodName)) ∈ lw_all := lw_g (lw_at lw_m2 142 rfl) rfl
theorem q527 : (Jvm.Cond.methodLink "OverHillLaw" (23 : Nat) ({ cls := "OverHill", name := "dance", desc := "()I" } : Jvm.MethodName)) ∈ lw_all := lw_g (lw_at lw_m2 149 rfl) rfl
theorem q805 : (Jvm.Cond.methodLink "OverHillLaw" (28 : Nat) ({ cls := "OverHill", name := "fault", desc := "(I)I" } : Jvm.MethodName)) ∈ lw_all := lw_g (lw_at lw_m3 187 rfl) rfl
theorem q809 : (Jvm.Cond.methodLink "OverHillLaw" (32 : Nat) ({ cls := "OverHill", name := "step", desc := "(II)I" } : Jvm.MethodName)) ∈ lw_all := lw_g (lw_at lw_m3 191 rfl) rfl
theorem q832 : (Jvm.Cond.methodLink "OverHillLaw" (37 : Nat) ({ cls := "OverHill", name := "answers", desc := "(I)I" } : Jvm.MethodName)) ∈ lw_all := lw_g (lw_at lw_m3 214 rfl) rfl
theorem q841 : (Jvm.Cond.methodLink "OverHillLaw" (41 : Nat) ({ cls := "OverHill", name := "stumbled", desc := "(II)I" } : Jvm.MethodName)) ∈ lw_all := lw_g (lw_at lw_m3 223 rfl) rfl
theorem q849 : (Jvm.Cond.methodLink "OverHillLaw" (45 : Nat) ({ cls := "OverHill", name := "muddy", desc := "(I)I" } : Jvm.MethodName)) ∈ lw_all := lw_g (lw_at lw_m3 231 rfl) rfl
theorem q858 : (Jvm.Cond.methodLink "OverHillLaw" (49 : Nat) ({ cls := "OverHill", name := "place", desc := "(II)I" } : Jvm.MethodName)) ∈ lw_all := lw_g (lw_at lw_m4 0 rfl) rfl
theorem q935 : (Jvm.Cond.methodLink "OverHillLaw" (53 : Nat) ({ cls := "OverHill", name := "danced", desc := "(II)I" } : Jvm.MethodName)) ∈ lw_all := lw_g (lw_at lw_m4 77 rfl) rfl
theorem q943 : (Jvm.Cond.methodLink "OverHillLaw" (57 : Nat) ({ cls := "OverHill", name := "hears", desc := "(II)I" } : Jvm.MethodName)) ∈ lw_all := lw_g (lw_at lw_m4 85 rfl) rfl
theorem q951 : (Jvm.Cond.methodLink "OverHillLaw" (61 : Nat) ({ cls := "OverHill", name := "late", desc := "(II)I" } : Jvm.MethodName)) ∈ lw_all := lw_g (lw_at lw_m4 93 rfl) rfl
theorem q956 : (Jvm.Cond.methodLink "OverHillLaw" (65 : Nat) ({ cls := "OverHill", name := "hole", desc := "(II)I" } : Jvm.MethodName)) ∈ lw_all := lw_g (lw_at lw_m4 98 rfl) rfl
theorem q967 : (Jvm.Cond.methodLink "OverHillLaw" (69 : Nat) ({ cls := "OverHill", name := "next", desc := "(II)I" } : Jvm.MethodName)) ∈ lw_all := lw_g (lw_at lw_m4 109 rfl) rfl
theorem q971 : (Jvm.Cond.methodLink "OverHillLaw" (73 : Nat) ({ cls := "OverHill", name := "holes", desc := "(III)I" } : Jvm.MethodName)) ∈ lw_all := lw_g (lw_at lw_m4 113 rfl) rfl
theorem q983 : (Jvm.Cond.methodLink "OverHillLaw" (78 : Nat) ({ cls := "OverHill", name := "run", desc := "(II)I" } : Jvm.MethodName)) ∈ lw_all := lw_g (lw_at lw_m4 125 rfl) rfl
theorem q991 : (Jvm.Cond.methodLink "OverHillLaw" (82 : Nat) ({ cls := "OverHill", name := "begins", desc := "(II)I" } : Jvm.MethodName)) ∈ lw_all := lw_g (lw_at lw_m4 133 rfl) rfl
theorem q995 : (Jvm.Cond.methodLink "OverHillLaw" (86 : Nat) ({ cls := "OverHill", name := "undoes", desc := "(I)I" } : Jvm.MethodName)) ∈ lw_all := lw_g (lw_at lw_m4 137 rfl) rfl
theorem q1006 : (Jvm.Cond.methodLink "OverHillLaw" (90 : Nat) ({ cls := "OverHill", name := "causes", desc := "(II)I" } : Jvm.MethodName)) ∈ lw_all := lw_g (lw_at lw_m4 148 rfl) rfl
theorem q1010 : (Jvm.Cond.methodLink "OverHillLaw" (94 : Nat) ({ cls := "OverHill", name := "period", desc := "()I" } : Jvm.MethodName)) ∈ lw_all := lw_g (lw_at lw_m4 152 rfl) rfl
theorem q1025 : (Jvm.Cond.methodLink "OverHillLaw" (98 : Nat) ({ cls := "OverHill", name := "meets", desc := "(III)I" } : Jvm.MethodName)) ∈ lw_all := lw_g (lw_at lw_m4 167 rfl) rfl
theorem q1033 : (Jvm.Cond.methodLink "OverHillLaw" (102 : Nat) ({ cls := "OverHill", name := "shifted", desc := "(I)I" } : Jvm.MethodName)) ∈ lw_all := lw_g (lw_at lw_m4 175 rfl) rfl
theorem q1045 : (Jvm.Cond.methodLink "OverHillLaw" (106 : Nat) ({ cls := "OverHill", name := "shift", desc := "()I" } : Jvm.MethodName)) ∈ lw_all := lw_g (lw_at lw_m4 187 rfl) rfl
theorem q1049 : (Jvm.Cond.methodLink "OverHillLaw" (110 : Nat) ({ cls := "OverHill", name := "least", desc := "()I" } : Jvm.MethodName)) ∈ lw_all := lw_g (lw_at lw_m4 191 rfl) rfl
theorem q1053 : (Jvm.Cond.methodLink "OverHillLaw" (114 : Nat) ({ cls := "OverHill", name := "mend", desc := "(I)I" } : Jvm.MethodName)) ∈ lw_all := lw_g (lw_at lw_m4 195 rfl) rfl
theorem q1069 : (Jvm.Cond.methodLink "OverHillLaw" (118 : Nat) ({ cls := "OverHill", name := "mended", desc := "(II)I" } : Jvm.MethodName)) ∈ lw_all := lw_g (lw_at lw_m4 211 rfl) rfl
theorem q1073 : (Jvm.Cond.methodLink "OverHillLaw" (122 : Nat) ({ cls := "OverHill", name := "stuck", desc := "(I)I" } : Jvm.MethodName)) ∈ lw_all := lw_g (lw_at lw_m4 215 rfl) rfl
theorem q1077 : (Jvm.Cond.methodLink "OverHillLaw" (126 : Nat) ({ cls := "OverHill", name := "heard", desc := "(II)I" } : Jvm.MethodName)) ∈ lw_all := lw_g (lw_at lw_m4 219 rfl) rfl
theorem q1145 : (Jvm.Cond.methodLink "OverHillLaw" (130 : Nat) ({ cls := "OverHill", name := "first", desc := "(II)I" } : Jvm.MethodName)) ∈ lw_all := lw_g (lw_at lw_m5 47 rfl) rfl
theorem q1149 : (Jvm.Cond.methodLink "OverHillLaw" (134 : Nat) ({ cls := "OverHill", name := "when", desc := "(II)J" } : Jvm.MethodName)) ∈ lw_all := lw_g (lw_at lw_m5 51 rfl) rfl
theorem q1153 : (Jvm.Cond.methodLink "OverHillLaw" (139 : Nat) ({ cls := "OverHill", name := "listen", desc := "(II)I" } : Jvm.MethodName)) ∈ lw_all := lw_g (lw_at lw_m5 55 rfl) rfl
theorem q1168 : (Jvm.Cond.methodLink "OverHillLaw" (143 : Nat) ({ cls := "OverHill", name := "leaves", desc := "(II)I" } : Jvm.MethodName)) ∈ lw_all := lw_g (lw_at lw_m5 70 rfl) rfl
theorem q1172 : (Jvm.Cond.methodLink "OverHillLaw" (147 : Nat) ({ cls := "OverHill", name := "crosses", desc := "(I)I" } : Jvm.MethodName)) ∈ lw_all := lw_g (lw_at lw_m5 74 rfl) rfl
theorem q1184 : (Jvm.Cond.methodLink "OverHillLaw" (151 : Nat) ({ cls := "OverHill", name := "returns", desc := "(I)I" } : Jvm.MethodName)) ∈ lw_all := lw_g (lw_at lw_m5 86 rfl) rfl
theorem q1192 : (Jvm.Cond.methodLink "OverHillLaw" (155 : Nat) ({ cls := "OverHill", name := "meet", desc := "(II)I" } : Jvm.MethodName)) ∈ lw_all := lw_g (lw_at lw_m5 94 rfl) rfl
theorem q1200 : (Jvm.Cond.methodLink "OverHillLaw" (159 : Nat) ({ cls := "OverHill", name := "cell", desc := "(II)I" } : Jvm.MethodName)) ∈ lw_all := lw_g (lw_at lw_m5 102 rfl) rfl
theorem q1204 : (Jvm.Cond.methodLink "OverHillLaw" (163 : Nat) ({ cls := "OverHill", name := "longest", desc := "()I" } : Jvm.MethodName)) ∈ lw_all := lw_g (lw_at lw_m5 106 rfl) rfl
theorem q1208 : (Jvm.Cond.methodLink "OverHillLaw" (167 : Nat) ({ cls := "OverHill", name := "half", desc := "(I)I" } : Jvm.MethodName)) ∈ lw_all := lw_g (lw_at lw_m5 110 rfl) rfl
theorem q1224 : (Jvm.Cond.methodLink "OverHillLaw" (171 : Nat) ({ cls := "OverHill", name := "fills", desc := "(II)I" } : Jvm.MethodName)) ∈ lw_all := lw_g (lw_at lw_m5 126 rfl) rfl
theorem q1228 : (Jvm.Cond.methodLink "OverHillLaw" (175 : Nat) ({ cls := "OverHill", name := "open", desc := "(I)I" } : Jvm.MethodName)) ∈ lw_all := lw_g (lw_at lw_m5 130 rfl) rfl
theorem q1232 : (Jvm.Cond.methodLink "OverHillLaw" (179 : Nat) ({ cls := "OverHill", name := "together", desc := "(II)J" } : Jvm.MethodName)) ∈ lw_all := lw_g (lw_at lw_m5 134 rfl) rfl
theorem q1245 : (Jvm.Cond.methodLink "OverHillLaw" (183 : Nat) ({ cls := "OverHill", name := "again", desc := "(I)J" } : Jvm.MethodName)) ∈ lw_all := lw_g (lw_at lw_m5 147 rfl) rfl
theorem q1249 : (Jvm.Cond.methodLink "OverHillLaw" (188 : Nat) ({ cls := "OverHill", name := "most", desc := "()I" } : Jvm.MethodName)) ∈ lw_all := lw_g (lw_at lw_m5 151 rfl) rfl
theorem q1263 : (Jvm.Cond.methodLink "OverHillLaw" (192 : Nat) ({ cls := "OverHill", name := "chorus", desc := "()I" } : Jvm.MethodName)) ∈ lw_all := lw_g (lw_at lw_m5 165 rfl) rfl
theorem q1267 : (Jvm.Cond.methodLink "OverHillLaw" (196 : Nat) ({ cls := "OverHill", name := "treaties", desc := "()I" } : Jvm.MethodName)) ∈ lw_all := lw_g (lw_at lw_m5 169 rfl) rfl
theorem q1271 : (Jvm.Cond.methodLink "OverHillLaw" (200 : Nat) ({ cls := "OverHill", name := "leads", desc := "(I)I" } : Jvm.MethodName)) ∈ lw_all := lw_g (lw_at lw_m5 173 rfl) rfl
theorem q1275 : (Jvm.Cond.methodLink "OverHillLaw" (204 : Nat) ({ cls := "OverHill", name := "game", desc := "(I)I" } : Jvm.MethodName)) ∈ lw_all := lw_g (lw_at lw_m5 177 rfl) rfl
theorem q1291 : (Jvm.Cond.methodLink "OverHillLaw" (208 : Nat) ({ cls := "OverHill", name := "plays", desc := "(I)I" } : Jvm.MethodName)) ∈ lw_all := lw_g (lw_at lw_m5 193 rfl) rfl
theorem q1295 : (Jvm.Cond.methodLink "OverHillLaw" (212 : Nat) ({ cls := "OverHill", name := "dry", desc := "(II)J" } : Jvm.MethodName)) ∈ lw_all := lw_g (lw_at lw_m5 197 rfl) rfl
theorem q1314 : (Jvm.Cond.methodLink "OverHillLaw" (216 : Nat) ({ cls := "OverHill", name := "wet", desc := "(III)J" } : Jvm.MethodName)) ∈ lw_all := lw_g (lw_at lw_m5 216 rfl) rfl
theorem q1318 : (Jvm.Cond.methodLink "OverHillLaw" (221 : Nat) ({ cls := "OverHill", name := "drawn", desc := "(III)I" } : Jvm.MethodName)) ∈ lw_all := lw_g (lw_at lw_m5 220 rfl) rfl
theorem q1349 : (Jvm.Cond.methodLink "OverHillLaw" (225 : Nat) ({ cls := "OverHill", name := "nights", desc := "(III)I" } : Jvm.MethodName)) ∈ lw_all := lw_g (lw_at lw_m6 11 rfl) rfl
theorem q1354 : (Jvm.Cond.methodLink "OverHillLaw" (229 : Nat) ({ cls := "OverHill", name := "stumble", desc := "(IIII)I" } : Jvm.MethodName)) ∈ lw_all := lw_g (lw_at lw_m6 16 rfl) rfl
theorem q1364 : (Jvm.Cond.methodLink "OverHillLaw" (234 : Nat) ({ cls := "OverHill", name := "mud", desc := "(II)I" } : Jvm.MethodName)) ∈ lw_all := lw_g (lw_at lw_m6 26 rfl) rfl
theorem q1368 : (Jvm.Cond.methodLink "OverHillLaw" (238 : Nat) ({ cls := "OverHill", name := "teach", desc := "(III)I" } : Jvm.MethodName)) ∈ lw_all := lw_g (lw_at lw_m6 30 rfl) rfl
theorem q1372 : (Jvm.Cond.methodLink "OverHillLaw" (242 : Nat) ({ cls := "OverHill", name := "undo", desc := "()I" } : Jvm.MethodName)) ∈ lw_all := lw_g (lw_at lw_m6 34 rfl) rfl
theorem q1376 : (Jvm.Cond.methodLink "OverHillLaw" (246 : Nat) ({ cls := "OverHill", name := "count", desc := "(I)I" } : Jvm.MethodName)) ∈ lw_all := lw_g (lw_at lw_m6 38 rfl) rfl
theorem q1380 : (Jvm.Cond.methodLink "OverHillLaw" (250 : Nat) ({ cls := "OverHill", name := "image", desc := "(I)I" } : Jvm.MethodName)) ∈ lw_all := lw_g (lw_at lw_m6 42 rfl) rfl
theorem q1465 : (Jvm.Cond.methodLink "OverHillLaw" (254 : Nat) ({ cls := "OverHill", name := "back", desc := "(I)I" } : Jvm.MethodName)) ∈ lw_all := lw_g (lw_at lw_m6 127 rfl) rfl
theorem q1477 : (Jvm.Cond.methodLink "OverHillLaw" (258 : Nat) ({ cls := "OverHill", name := "row", desc := "(III)I" } : Jvm.MethodName)) ∈ lw_all := lw_g (lw_at lw_m6 139 rfl) rfl
theorem q1514 : (Jvm.Cond.methodLink "OverHillLaw" (264 : Nat) ({ cls := "OverHill", name := "write", desc := "(IIJ)I" } : Jvm.MethodName)) ∈ lw_all := lw_g (lw_at lw_m6 176 rfl) rfl
theorem q1541 : (Jvm.Cond.methodLink "OverHillLaw" (269 : Nat) ({ cls := "OverHill", name := "paste", desc := "(IIIII)I" } : Jvm.MethodName)) ∈ lw_all := lw_g (lw_at lw_m6 203 rfl) rfl
theorem q1560 : (Jvm.Cond.classLink "OverHillLaw" (10 : Nat) "OverHillModel") ∈ lw_all := lw_g (lw_at lw_m6 222 rfl) rfl
theorem q1562 : (Jvm.Cond.methodLink "OverHillLaw" (12 : Nat) ({ cls := "OverHillModel", name := "<init>", desc := "()V" } : Jvm.MethodName)) ∈ lw_all := lw_g (lw_at lw_m6 224 rfl) rfl
theorem q1702 : (Jvm.Cond.methodLink "OverHillLaw" (261 : Nat) ({ cls := "OverHillModel", name := "row", desc := "(III)I" } : Jvm.MethodName)) ∈ lw_all := lw_g (lw_at lw_m7 124 rfl) rfl
theorem q1713 : (Jvm.Cond.methodLink "OverHillLaw" (268 : Nat) ({ cls := "OverHillModel", name := "write", desc := "(IIJ)I" } : Jvm.MethodName)) ∈ lw_all := lw_g (lw_at lw_m7 135 rfl) rfl
theorem q1720 : (Jvm.Cond.methodLink "OverHillLaw" (272 : Nat) ({ cls := "OverHillModel", name := "paste", desc := "(IIIII)I" } : Jvm.MethodName)) ∈ lw_all := lw_g (lw_at lw_m7 142 rfl) rfl
theorem q1724 : (Jvm.Cond.methodLink "OverHillLaw" (17 : Nat) ({ cls := "OverHillModel", name := "feed", desc := "(IIIII)I" } : Jvm.MethodName)) ∈ lw_all := lw_g (lw_at lw_m7 146 rfl) rfl
theorem q1732 : (Jvm.Cond.methodLink "OverHillLaw" (22 : Nat) ({ cls := "OverHillModel", name := "end", desc := "(I)I" } : Jvm.MethodName)) ∈ lw_all := lw_g (lw_at lw_m7 154 rfl) rfl
theorem q1736 : (Jvm.Cond.methodLink "OverHillLaw" (31 : Nat) ({ cls := "OverHillModel", name := "fault", desc := "(I)I" } : Jvm.MethodName)) ∈ lw_all := lw_g (lw_at lw_m7 158 rfl) rfl
theorem q1740 : (Jvm.Cond.methodLink "OverHillLaw" (27 : Nat) ({ cls := "OverHillModel", name := "dance", desc := "()I" } : Jvm.MethodName)) ∈ lw_all := lw_g (lw_at lw_m7 162 rfl) rfl
theorem q1864 : (Jvm.Cond.methodLink "OverHillLaw" (36 : Nat) ({ cls := "OverHillModel", name := "step", desc := "(II)I" } : Jvm.MethodName)) ∈ lw_all := lw_g (lw_at lw_m8 46 rfl) rfl
theorem q1880 : (Jvm.Cond.methodLink "OverHillLaw" (40 : Nat) ({ cls := "OverHillModel", name := "answers", desc := "(I)I" } : Jvm.MethodName)) ∈ lw_all := lw_g (lw_at lw_m8 62 rfl) rfl
theorem q1888 : (Jvm.Cond.methodLink "OverHillLaw" (44 : Nat) ({ cls := "OverHillModel", name := "stumbled", desc := "(II)I" } : Jvm.MethodName)) ∈ lw_all := lw_g (lw_at lw_m8 70 rfl) rfl
theorem q1892 : (Jvm.Cond.methodLink "OverHillLaw" (48 : Nat) ({ cls := "OverHillModel", name := "muddy", desc := "(I)I" } : Jvm.MethodName)) ∈ lw_all := lw_g (lw_at lw_m8 74 rfl) rfl
theorem q1900 : (Jvm.Cond.methodLink "OverHillLaw" (52 : Nat) ({ cls := "OverHillModel", name := "place", desc := "(II)I" } : Jvm.MethodName)) ∈ lw_all := lw_g (lw_at lw_m8 82 rfl) rfl
theorem q1916 : (Jvm.Cond.methodLink "OverHillLaw" (56 : Nat) ({ cls := "OverHillModel", name := "danced", desc := "(II)I" } : Jvm.MethodName)) ∈ lw_all := lw_g (lw_at lw_m8 98 rfl) rfl
theorem q1920 : (Jvm.Cond.methodLink "OverHillLaw" (60 : Nat) ({ cls := "OverHillModel", name := "hears", desc := "(II)I" } : Jvm.MethodName)) ∈ lw_all := lw_g (lw_at lw_m8 102 rfl) rfl
theorem q1928 : (Jvm.Cond.methodLink "OverHillLaw" (64 : Nat) ({ cls := "OverHillModel", name := "late", desc := "(II)I" } : Jvm.MethodName)) ∈ lw_all := lw_g (lw_at lw_m8 110 rfl) rfl
theorem q1932 : (Jvm.Cond.methodLink "OverHillLaw" (68 : Nat) ({ cls := "OverHillModel", name := "hole", desc := "(II)I" } : Jvm.MethodName)) ∈ lw_all := lw_g (lw_at lw_m8 114 rfl) rfl
theorem q1947 : (Jvm.Cond.methodLink "OverHillLaw" (72 : Nat) ({ cls := "OverHillModel", name := "next", desc := "(II)I" } : Jvm.MethodName)) ∈ lw_all := lw_g (lw_at lw_m8 129 rfl) rfl
theorem q1951 : (Jvm.Cond.methodLink "OverHillLaw" (77 : Nat) ({ cls := "OverHillModel", name := "holes", desc := "(III)I" } : Jvm.MethodName)) ∈ lw_all := lw_g (lw_at lw_m8 133 rfl) rfl
theorem q1963 : (Jvm.Cond.methodLink "OverHillLaw" (81 : Nat) ({ cls := "OverHillModel", name := "run", desc := "(II)I" } : Jvm.MethodName)) ∈ lw_all := lw_g (lw_at lw_m8 145 rfl) rfl
theorem q1971 : (Jvm.Cond.methodLink "OverHillLaw" (85 : Nat) ({ cls := "OverHillModel", name := "begins", desc := "(II)I" } : Jvm.MethodName)) ∈ lw_all := lw_g (lw_at lw_m8 153 rfl) rfl
theorem q1975 : (Jvm.Cond.methodLink "OverHillLaw" (89 : Nat) ({ cls := "OverHillModel", name := "undoes", desc := "(I)I" } : Jvm.MethodName)) ∈ lw_all := lw_g (lw_at lw_m8 157 rfl) rfl
theorem q1983 : (Jvm.Cond.methodLink "OverHillLaw" (93 : Nat) ({ cls := "OverHillModel", name := "causes", desc := "(II)I" } : Jvm.MethodName)) ∈ lw_all := lw_g (lw_at lw_m8 165 rfl) rfl
theorem q1987 : (Jvm.Cond.methodLink "OverHillLaw" (97 : Nat) ({ cls := "OverHillModel", name := "period", desc := "()I" } : Jvm.MethodName)) ∈ lw_all := lw_g (lw_at lw_m8 169 rfl) rfl
theorem q2002 : (Jvm.Cond.methodLink "OverHillLaw" (101 : Nat) ({ cls := "OverHillModel", name := "meets", desc := "(III)I" } : Jvm.MethodName)) ∈ lw_all := lw_g (lw_at lw_m8 184 rfl) rfl
theorem q2006 : (Jvm.Cond.methodLink "OverHillLaw" (105 : Nat) ({ cls := "OverHillModel", name := "shifted", desc := "(I)I" } : Jvm.MethodName)) ∈ lw_all := lw_g (lw_at lw_m8 188 rfl) rfl
theorem q2018 : (Jvm.Cond.methodLink "OverHillLaw" (109 : Nat) ({ cls := "OverHillModel", name := "shift", desc := "()I" } : Jvm.MethodName)) ∈ lw_all := lw_g (lw_at lw_m8 200 rfl) rfl
theorem q2022 : (Jvm.Cond.methodLink "OverHillLaw" (113 : Nat) ({ cls := "OverHillModel", name := "least", desc := "()I" } : Jvm.MethodName)) ∈ lw_all := lw_g (lw_at lw_m8 204 rfl) rfl
theorem q2026 : (Jvm.Cond.methodLink "OverHillLaw" (117 : Nat) ({ cls := "OverHillModel", name := "mend", desc := "(I)I" } : Jvm.MethodName)) ∈ lw_all := lw_g (lw_at lw_m8 208 rfl) rfl
theorem q2042 : (Jvm.Cond.methodLink "OverHillLaw" (121 : Nat) ({ cls := "OverHillModel", name := "mended", desc := "(II)I" } : Jvm.MethodName)) ∈ lw_all := lw_g (lw_at lw_m8 224 rfl) rfl
theorem q2046 : (Jvm.Cond.methodLink "OverHillLaw" (125 : Nat) ({ cls := "OverHillModel", name := "stuck", desc := "(I)I" } : Jvm.MethodName)) ∈ lw_all := lw_g (lw_at lw_m8 228 rfl) rfl
theorem q2050 : (Jvm.Cond.methodLink "OverHillLaw" (129 : Nat) ({ cls := "OverHillModel", name := "heard", desc := "(II)I" } : Jvm.MethodName)) ∈ lw_all := lw_g (lw_at lw_m8 232 rfl) rfl
theorem q2066 : (Jvm.Cond.methodLink "OverHillLaw" (133 : Nat) ({ cls := "OverHillModel", name := "first", desc := "(II)I" } : Jvm.MethodName)) ∈ lw_all := lw_g (lw_at lw_m9 8 rfl) rfl
theorem q2070 : (Jvm.Cond.methodLink "OverHillLaw" (138 : Nat) ({ cls := "OverHillModel", name := "when", desc := "(II)J" } : Jvm.MethodName)) ∈ lw_all := lw_g (lw_at lw_m9 12 rfl) rfl
theorem q2074 : (Jvm.Cond.methodLink "OverHillLaw" (142 : Nat) ({ cls := "OverHillModel", name := "listen", desc := "(II)I" } : Jvm.MethodName)) ∈ lw_all := lw_g (lw_at lw_m9 16 rfl) rfl
theorem q2082 : (Jvm.Cond.methodLink "OverHillLaw" (146 : Nat) ({ cls := "OverHillModel", name := "leaves", desc := "(II)I" } : Jvm.MethodName)) ∈ lw_all := lw_g (lw_at lw_m9 24 rfl) rfl
theorem q2086 : (Jvm.Cond.methodLink "OverHillLaw" (150 : Nat) ({ cls := "OverHillModel", name := "crosses", desc := "(I)I" } : Jvm.MethodName)) ∈ lw_all := lw_g (lw_at lw_m9 28 rfl) rfl
theorem q2097 : (Jvm.Cond.methodLink "OverHillLaw" (154 : Nat) ({ cls := "OverHillModel", name := "returns", desc := "(I)I" } : Jvm.MethodName)) ∈ lw_all := lw_g (lw_at lw_m9 39 rfl) rfl
theorem q2101 : (Jvm.Cond.methodLink "OverHillLaw" (158 : Nat) ({ cls := "OverHillModel", name := "meet", desc := "(II)I" } : Jvm.MethodName)) ∈ lw_all := lw_g (lw_at lw_m9 43 rfl) rfl
theorem q2109 : (Jvm.Cond.methodLink "OverHillLaw" (162 : Nat) ({ cls := "OverHillModel", name := "cell", desc := "(II)I" } : Jvm.MethodName)) ∈ lw_all := lw_g (lw_at lw_m9 51 rfl) rfl
theorem q2113 : (Jvm.Cond.methodLink "OverHillLaw" (166 : Nat) ({ cls := "OverHillModel", name := "longest", desc := "()I" } : Jvm.MethodName)) ∈ lw_all := lw_g (lw_at lw_m9 55 rfl) rfl
theorem q2117 : (Jvm.Cond.methodLink "OverHillLaw" (170 : Nat) ({ cls := "OverHillModel", name := "half", desc := "(I)I" } : Jvm.MethodName)) ∈ lw_all := lw_g (lw_at lw_m9 59 rfl) rfl
theorem q2133 : (Jvm.Cond.methodLink "OverHillLaw" (174 : Nat) ({ cls := "OverHillModel", name := "fills", desc := "(II)I" } : Jvm.MethodName)) ∈ lw_all := lw_g (lw_at lw_m9 75 rfl) rfl
theorem q2137 : (Jvm.Cond.methodLink "OverHillLaw" (178 : Nat) ({ cls := "OverHillModel", name := "open", desc := "(I)I" } : Jvm.MethodName)) ∈ lw_all := lw_g (lw_at lw_m9 79 rfl) rfl
theorem q2141 : (Jvm.Cond.methodLink "OverHillLaw" (182 : Nat) ({ cls := "OverHillModel", name := "together", desc := "(II)J" } : Jvm.MethodName)) ∈ lw_all := lw_g (lw_at lw_m9 83 rfl) rfl
theorem q2157 : (Jvm.Cond.methodLink "OverHillLaw" (187 : Nat) ({ cls := "OverHillModel", name := "again", desc := "(I)J" } : Jvm.MethodName)) ∈ lw_all := lw_g (lw_at lw_m9 99 rfl) rfl
theorem q2165 : (Jvm.Cond.methodLink "OverHillLaw" (191 : Nat) ({ cls := "OverHillModel", name := "most", desc := "()I" } : Jvm.MethodName)) ∈ lw_all := lw_g (lw_at lw_m9 107 rfl) rfl
theorem q2176 : (Jvm.Cond.methodLink "OverHillLaw" (195 : Nat) ({ cls := "OverHillModel", name := "chorus", desc := "()I" } : Jvm.MethodName)) ∈ lw_all := lw_g (lw_at lw_m9 118 rfl) rfl
theorem q2180 : (Jvm.Cond.methodLink "OverHillLaw" (199 : Nat) ({ cls := "OverHillModel", name := "treaties", desc := "()I" } : Jvm.MethodName)) ∈ lw_all := lw_g (lw_at lw_m9 122 rfl) rfl
theorem q2184 : (Jvm.Cond.methodLink "OverHillLaw" (203 : Nat) ({ cls := "OverHillModel", name := "leads", desc := "(I)I" } : Jvm.MethodName)) ∈ lw_all := lw_g (lw_at lw_m9 126 rfl) rfl
theorem q2188 : (Jvm.Cond.methodLink "OverHillLaw" (207 : Nat) ({ cls := "OverHillModel", name := "game", desc := "(I)I" } : Jvm.MethodName)) ∈ lw_all := lw_g (lw_at lw_m9 130 rfl) rfl
theorem q2204 : (Jvm.Cond.methodLink "OverHillLaw" (211 : Nat) ({ cls := "OverHillModel", name := "plays", desc := "(I)I" } : Jvm.MethodName)) ∈ lw_all := lw_g (lw_at lw_m9 146 rfl) rfl
theorem q2208 : (Jvm.Cond.methodLink "OverHillLaw" (215 : Nat) ({ cls := "OverHillModel", name := "dry", desc := "(II)J" } : Jvm.MethodName)) ∈ lw_all := lw_g (lw_at lw_m9 150 rfl) rfl
theorem q2224 : (Jvm.Cond.methodLink "OverHillLaw" (220 : Nat) ({ cls := "OverHillModel", name := "wet", desc := "(III)J" } : Jvm.MethodName)) ∈ lw_all := lw_g (lw_at lw_m9 166 rfl) rfl
theorem q2228 : (Jvm.Cond.methodLink "OverHillLaw" (224 : Nat) ({ cls := "OverHillModel", name := "drawn", desc := "(III)I" } : Jvm.MethodName)) ∈ lw_all := lw_g (lw_at lw_m9 170 rfl) rfl
theorem q2253 : (Jvm.Cond.methodLink "OverHillLaw" (228 : Nat) ({ cls := "OverHillModel", name := "nights", desc := "(III)I" } : Jvm.MethodName)) ∈ lw_all := lw_g (lw_at lw_m9 195 rfl) rfl
theorem q2258 : (Jvm.Cond.methodLink "OverHillLaw" (233 : Nat) ({ cls := "OverHillModel", name := "stumble", desc := "(IIII)I" } : Jvm.MethodName)) ∈ lw_all := lw_g (lw_at lw_m9 200 rfl) rfl
theorem q2266 : (Jvm.Cond.methodLink "OverHillLaw" (237 : Nat) ({ cls := "OverHillModel", name := "mud", desc := "(II)I" } : Jvm.MethodName)) ∈ lw_all := lw_g (lw_at lw_m9 208 rfl) rfl
theorem q2270 : (Jvm.Cond.methodLink "OverHillLaw" (241 : Nat) ({ cls := "OverHillModel", name := "teach", desc := "(III)I" } : Jvm.MethodName)) ∈ lw_all := lw_g (lw_at lw_m9 212 rfl) rfl
theorem q2274 : (Jvm.Cond.methodLink "OverHillLaw" (245 : Nat) ({ cls := "OverHillModel", name := "undo", desc := "()I" } : Jvm.MethodName)) ∈ lw_all := lw_g (lw_at lw_m9 216 rfl) rfl
theorem q2278 : (Jvm.Cond.methodLink "OverHillLaw" (249 : Nat) ({ cls := "OverHillModel", name := "count", desc := "(I)I" } : Jvm.MethodName)) ∈ lw_all := lw_g (lw_at lw_m9 220 rfl) rfl
theorem q2282 : (Jvm.Cond.methodLink "OverHillLaw" (253 : Nat) ({ cls := "OverHillModel", name := "image", desc := "(I)I" } : Jvm.MethodName)) ∈ lw_all := lw_g (lw_at lw_m9 224 rfl) rfl
theorem q2287 : (Jvm.Cond.methodLink "OverHillLaw" (257 : Nat) ({ cls := "OverHillModel", name := "back", desc := "(I)I" } : Jvm.MethodName)) ∈ lw_all := lw_g (lw_at lw_m9 229 rfl) rfl
theorem q2291 : (Jvm.Cond.constantLong "OverHillLaw" (262 : Nat) (4294967295 : Int64)) ∈ lw_all := lw_g (lw_at lw_m9 233 rfl) rfl

theorem q153 : (Jvm.Cond.initialized "OverHill$Token") ∈ lw_all := lw_g (lw_at lw_m1 15 rfl) rfl
set_option maxRecDepth 100000
theorem q541 : (Jvm.Cond.laysStatic "OverHill$Token" "END" "LOverHill$Token;") ∈ lw_tbl := lw_at lw_m2 163 rfl
theorem q552 : (Jvm.Cond.laysStatic "OverHill$Token" "WORD" "LOverHill$Token;") ∈ lw_tbl := lw_at lw_m2 174 rfl
theorem q558 : (Jvm.Cond.laysStatic "OverHill$Token" "NUMBER" "LOverHill$Token;") ∈ lw_tbl := lw_at lw_m2 180 rfl
theorem q560 : (Jvm.Cond.laysStatic "OverHill$Token" "STOP" "LOverHill$Token;") ∈ lw_tbl := lw_at lw_m2 182 rfl
theorem q562 : (Jvm.Cond.laysStatic "OverHill$Token" "NONE" "LOverHill$Token;") ∈ lw_tbl := lw_at lw_m2 184 rfl
theorem q1426 : (Jvm.Cond.selects "OverHill$Token" ({ cls := "java/lang/Object", name := "getClass", desc := "()Ljava/lang/Class;" } : Jvm.MethodName) ({ cls := "java/lang/Object", name := "getClass", desc := "()Ljava/lang/Class;" } : Jvm.MethodName)) ∈ lw_all := lw_g (lw_at lw_m6 88 rfl) rfl
theorem q2306 : (Jvm.Cond.castable "OverHill$Token" "java/lang/Object") ∈ lw_tbl := lw_at lw_m10 8 rfl

theorem q2319 : (Jvm.Cond.castable "[B" "java/lang/Object") ∈ lw_tbl := lw_at lw_m10 21 rfl
set_option maxRecDepth 100000

theorem q2317 : (Jvm.Cond.castable "[I" "java/lang/Object") ∈ lw_tbl := lw_at lw_m10 19 rfl
set_option maxRecDepth 100000

theorem q2323 : (Jvm.Cond.castable "[J" "java/lang/Object") ∈ lw_tbl := lw_at lw_m10 25 rfl
set_option maxRecDepth 100000

theorem q2320 : (Jvm.Cond.castable "[LOverHill$Slot;" "java/lang/Object") ∈ lw_tbl := lw_at lw_m10 22 rfl
set_option maxRecDepth 100000

theorem q2314 : (Jvm.Cond.sameMethod "[Ljava/lang/Object;" "java/lang/Object" "getClass" "()Ljava/lang/Class;") ∈ lw_all := lw_g (lw_at lw_m10 16 rfl) rfl
set_option maxRecDepth 100000
theorem q2315 : (Jvm.Cond.selects "[Ljava/lang/Object;" ({ cls := "java/lang/Object", name := "getClass", desc := "()Ljava/lang/Class;" } : Jvm.MethodName) ({ cls := "java/lang/Object", name := "getClass", desc := "()Ljava/lang/Class;" } : Jvm.MethodName)) ∈ lw_all := lw_g (lw_at lw_m10 17 rfl) rfl
theorem q2321 : (Jvm.Cond.castable "[Ljava/lang/Object;" "java/lang/Object") ∈ lw_tbl := lw_at lw_m10 23 rfl

theorem q2322 : (Jvm.Cond.castable "[S" "java/lang/Object") ∈ lw_tbl := lw_at lw_m10 24 rfl
set_option maxRecDepth 100000

theorem q2318 : (Jvm.Cond.castable "[Z" "java/lang/Object") ∈ lw_tbl := lw_at lw_m10 20 rfl
set_option maxRecDepth 100000

theorem q152 : (Jvm.Cond.initialized "java/lang/Enum") ∈ lw_all := lw_g (lw_at lw_m1 14 rfl) rfl
set_option maxRecDepth 100000

theorem q165 : (Jvm.Cond.initialized "java/lang/System") ∈ lw_all := lw_g (lw_at lw_m1 27 rfl) rfl
set_option maxRecDepth 100000
theorem q1335 : (Jvm.Cond.static ({ cls := "java/lang/System", name := "arraycopy", desc := "(Ljava/lang/Object;ILjava/lang/Object;II)V" } : Jvm.MethodName)) ∈ lw_all := lw_g (lw_at lw_m5 237 rfl) rfl
theorem q1336 : (Jvm.Cond.native ({ cls := "java/lang/System", name := "arraycopy", desc := "(Ljava/lang/Object;ILjava/lang/Object;II)V" } : Jvm.MethodName)) ∈ lw_all := lw_g (lw_at lw_m5 238 rfl) rfl

theorem q301 : (Jvm.Cond.arrayClass Jvm.ClassFile.FieldType.int) ∈ lw_all := lw_g (lw_at lw_m1 163 rfl) rfl
set_option maxRecDepth 100000
theorem q302 : (Jvm.Cond.arrayClass Jvm.ClassFile.FieldType.boolean) ∈ lw_all := lw_g (lw_at lw_m1 164 rfl) rfl
theorem q313 : (Jvm.Cond.arrayClass Jvm.ClassFile.FieldType.byte) ∈ lw_all := lw_g (lw_at lw_m1 175 rfl) rfl
theorem q365 : (Jvm.Cond.arrayOver (Jvm.ClassFile.FieldType.object "OverHill$Slot")) ∈ lw_tbl := lw_at lw_m1 227 rfl
theorem q1440 : (Jvm.Cond.arrayOver (Jvm.ClassFile.FieldType.object "java/lang/Object")) ∈ lw_tbl := lw_at lw_m6 102 rfl
theorem q1512 : (Jvm.Cond.arrayClass Jvm.ClassFile.FieldType.short) ∈ lw_all := lw_g (lw_at lw_m6 174 rfl) rfl
theorem q1513 : (Jvm.Cond.arrayClass Jvm.ClassFile.FieldType.long) ∈ lw_all := lw_g (lw_at lw_m6 175 rfl) rfl
