/-! OverHillModel -/
set_option maxRecDepth 100000
def RX8 : String := "OverHillModel"
def TX8 : u_T := fun k => match k with
  | 0 => ("OverHillModel", "thrown", "I", false)
  | 1 => ("OverHillModel", "width", "[I", true)
  | 2 => ("OverHillModel", "many", "[I", true)
  | 3 => ("OverHillModel", "cells", "[J", true)
  | 4 => ("OverHillModel", "moved", "[J", true)
  | 5 => ("OverHillModel", "tape", "[B", true)
  | 6 => ("OverHillModel", "taped", "I", false)
  | 7 => ("OverHillModel", "at", "I", false)
  | 8 => ("OverHillModel", "token", "I", false)
  | 9 => ("OverHillModel", "place", "I", false)
  | 10 => ("OverHillModel", "value", "I", false)
  | 11 => ("OverHillModel", "word", "J", false)
  | 12 => ("OverHillModel", "bad", "I", false)
  | 13 => ("OverHillModel", "badPlace", "I", false)
  | 14 => ("OverHillModel", "fault", "I", false)
  | 15 => ("OverHillModel", "faultPlace", "I", false)
  | 16 => ("OverHillModel", "lines", "[I", true)
  | 17 => ("OverHillModel", "has", "[I", true)
  | 18 => ("OverHillModel", "round", "[I", true)
  | 19 => ("OverHillModel", "meets", "[I", true)
  | 20 => ("OverHillModel", "stumble", "[I", true)
  | 21 => ("OverHillModel", "isMud", "[Z", true)
  | 22 => ("OverHillModel", "cell", "[I", true)
  | 23 => ("OverHillModel", "tune", "[I", true)
  | 24 => ("OverHillModel", "change", "[I", true)
  | 25 => ("OverHillModel", "isKept", "[Z", true)
  | 26 => ("OverHillModel", "steps", "[I", true)
  | 27 => ("OverHillModel", "places", "[I", true)
  | 28 => ("OverHillModel", "danced", "[I", true)
  | 29 => ("OverHillModel", "runMost", "I", false)
  | 30 => ("OverHillModel", "runBegins", "I", false)
  | 31 => ("OverHillModel", "heardBy", "[I", true)
  | 32 => ("OverHillModel", "fitMany", "I", false)
  | 33 => ("OverHillModel", "fitFirst", "I", false)
  | 34 => ("OverHillModel", "fitBeats", "J", false)
  | 35 => ("OverHillModel", "listenLeaves", "I", false)
  | 36 => ("OverHillModel", "there", "[I", true)
  | 37 => ("OverHillModel", "metAt", "I", false)
  | 38 => ("OverHillModel", "metIn", "I", false)
  | 39 => ("OverHillModel", "wins", "[I", true)
  | 40 => ("OverHillModel", "nightHoles", "I", false)
  | 41 => ("OverHillModel", "nightFirst", "I", false)
  | 42 => ("OverHillModel", "nightMud", "I", false)
  | 43 => ("OverHillModel", "nightSlips", "I", false)
  | _ => ("OverHillModel", "drawnNow", "J", false)
def tyX8 : Nat → FieldType := fun k => match k with
  | 0 => .int
  | 1 => .array .int
  | 2 => .array .int
  | 3 => .array .long
  | 4 => .array .long
  | 5 => .array .byte
  | 6 => .int
  | 7 => .int
  | 8 => .int
  | 9 => .int
  | 10 => .int
  | 11 => .long
  | 12 => .int
  | 13 => .int
  | 14 => .int
  | 15 => .int
  | 16 => .array .int
  | 17 => .array .int
  | 18 => .array .int
  | 19 => .array .int
  | 20 => .array .int
  | 21 => .array .boolean
  | 22 => .array .int
  | 23 => .array .int
  | 24 => .array .int
  | 25 => .array .boolean
  | 26 => .array .int
  | 27 => .array .int
  | 28 => .array .int
  | 29 => .int
  | 30 => .int
  | 31 => .array .int
  | 32 => .int
  | 33 => .int
  | 34 => .long
  | 35 => .int
  | 36 => .array .int
  | 37 => .int
  | 38 => .int
  | 39 => .array .int
  | 40 => .int
  | 41 => .int
  | 42 => .int
  | 43 => .int
  | _ => .long
abbrev wsX80 : List Cond := u_ws RX8 TX8 45
set_option maxRecDepth 100000 in
theorem nmX8 : ∀ a, a < 45 → ∀ b, b < 45 → a ≠ b → (TX8 a).2.1 ≠ (TX8 b).2.1 := by decide +kernel
set_option maxRecDepth 100000 in
theorem tyX8_ok : ∀ k, k < 45 → parseFieldDescriptor (TX8 k).2.2.1 = some (tyX8 k) := by decide +kernel
abbrev cX8_init : ByteArray := prog_13_method_1_code
def yX8_init : MethodName := ⟨RX8, "<init>", "()V"⟩
def dkwX8_init_8 : List UInt8 := [162, 0, 16, 42, 180, 0, 7, 27, 2, 79, 132, 1, 1, 167, 255, 241, 177]
abbrev dktX8_init_8 : List UInt8 := dkwX8_init_8 ++ []
def dkwX8_init_7 : List UInt8 := [181, 0, 71, 42, 16, 24, 188, 10, 181, 0, 74, 42, 17, 96, 0, 188, 10, 181, 0, 77, 3, 60, 27, 7]
abbrev dktX8_init_7 : List UInt8 := dkwX8_init_7 ++ dktX8_init_8
def dkwX8_init_6 : List UInt8 := [17, 1, 146, 188, 10, 181, 0, 65, 42, 17, 1, 144, 188, 10, 181, 0, 68, 42, 17, 2, 48, 188, 10]
abbrev dktX8_init_6 : List UInt8 := dkwX8_init_6 ++ dktX8_init_7
def dkwX8_init_5 : List UInt8 := [17, 3, 32, 188, 10, 181, 0, 56, 42, 6, 188, 4, 181, 0, 59, 42, 16, 13, 188, 10, 181, 0, 62, 42]
abbrev dktX8_init_5 : List UInt8 := dkwX8_init_5 ++ dktX8_init_6
def dkwX8_init_4 : List UInt8 := [188, 4, 181, 0, 46, 42, 16, 120, 188, 10, 181, 0, 50, 42, 16, 50, 188, 10, 181, 0, 53, 42]
abbrev dktX8_init_4 : List UInt8 := dkwX8_init_4 ++ dktX8_init_5
def dkwX8_init_3 : List UInt8 := [181, 0, 37, 42, 16, 30, 188, 10, 181, 0, 40, 42, 17, 0, 160, 188, 10, 181, 0, 43, 42, 17, 3, 232]
abbrev dktX8_init_3 : List UInt8 := dkwX8_init_3 ++ dktX8_init_4
def dkwX8_init_2 : List UInt8 := [181, 0, 27, 42, 8, 188, 10, 181, 0, 31, 42, 16, 55, 188, 10, 181, 0, 34, 42, 16, 120, 188, 10]
abbrev dktX8_init_2 : List UInt8 := dkwX8_init_2 ++ dktX8_init_3
def dkwX8_init_1 : List UInt8 := [181, 0, 16, 42, 16, 60, 188, 11, 181, 0, 20, 42, 17, 4, 176, 188, 8, 181, 0, 23, 42, 2]
abbrev dktX8_init_1 : List UInt8 := dkwX8_init_1 ++ dktX8_init_2
def dkwX8_init_0 : List UInt8 := [42, 183, 0, 1, 42, 7, 188, 10, 181, 0, 7, 42, 7, 188, 10, 181, 0, 13, 42, 17, 0, 240, 188, 11]
abbrev dktX8_init_0 : List UInt8 := dkwX8_init_0 ++ dktX8_init_1
theorem dksX8_init_0 : cX8_init.data.toList.drop 0 = dktX8_init_0 := by decide +kernel
theorem dksX8_init_1 : cX8_init.data.toList.drop 24 = dktX8_init_1 := dk_seg dksX8_init_0 24 rfl rfl
theorem dksX8_init_2 : cX8_init.data.toList.drop 46 = dktX8_init_2 := dk_seg dksX8_init_1 22 rfl rfl
theorem dksX8_init_3 : cX8_init.data.toList.drop 69 = dktX8_init_3 := dk_seg dksX8_init_2 23 rfl rfl
theorem dksX8_init_4 : cX8_init.data.toList.drop 93 = dktX8_init_4 := dk_seg dksX8_init_3 24 rfl rfl
theorem dksX8_init_5 : cX8_init.data.toList.drop 115 = dktX8_init_5 := dk_seg dksX8_init_4 22 rfl rfl
theorem dksX8_init_6 : cX8_init.data.toList.drop 139 = dktX8_init_6 := dk_seg dksX8_init_5 24 rfl rfl
theorem dksX8_init_7 : cX8_init.data.toList.drop 162 = dktX8_init_7 := dk_seg dksX8_init_6 23 rfl rfl
theorem dksX8_init_8 : cX8_init.data.toList.drop 186 = dktX8_init_8 := dk_seg dksX8_init_7 24 rfl rfl
theorem dX8_init_0 : decode cX8_init 0 = .ok (.aload_n 0, 1) := dk_42 (dk_at dksX8_init_0 0 rfl rfl)
theorem dX8_init_1 : decode cX8_init 1 = .ok (.invokespecial 1, 3) := dk_183 0 1 (dk_at dksX8_init_0 1 rfl rfl)
theorem dX8_init_4 : decode cX8_init 4 = .ok (.aload_n 0, 1) := dk_42 (dk_at dksX8_init_0 4 rfl rfl)
theorem dX8_init_5 : decode cX8_init 5 = .ok (.iconst 4, 1) := dk_7 (dk_at dksX8_init_0 5 rfl rfl)
theorem dX8_init_6 : decode cX8_init 6 = .ok (.newarray .int, 2) := dk_188_10 (dk_at dksX8_init_0 6 rfl rfl)
theorem dX8_init_8 : decode cX8_init 8 = .ok (.putfield 7, 3) := dk_181 0 7 (dk_at dksX8_init_0 8 rfl rfl)
theorem dX8_init_11 : decode cX8_init 11 = .ok (.aload_n 0, 1) := dk_42 (dk_at dksX8_init_0 11 rfl rfl)
theorem dX8_init_12 : decode cX8_init 12 = .ok (.iconst 4, 1) := dk_7 (dk_at dksX8_init_0 12 rfl rfl)
theorem dX8_init_13 : decode cX8_init 13 = .ok (.newarray .int, 2) := dk_188_10 (dk_at dksX8_init_0 13 rfl rfl)
theorem dX8_init_15 : decode cX8_init 15 = .ok (.putfield 13, 3) := dk_181 0 13 (dk_at dksX8_init_0 15 rfl rfl)
theorem dX8_init_18 : decode cX8_init 18 = .ok (.aload_n 0, 1) := dk_42 (dk_at dksX8_init_0 18 rfl rfl)
theorem dX8_init_19 : decode cX8_init 19 = .ok (.sipush 240, 3) := dk_17 0 240 (dk_at dksX8_init_0 19 rfl rfl)
theorem dX8_init_22 : decode cX8_init 22 = .ok (.newarray .long, 2) := dk_188_11 (dk_at dksX8_init_0 22 rfl rfl)
theorem dX8_init_24 : decode cX8_init 24 = .ok (.putfield 16, 3) := dk_181 0 16 (dk_at dksX8_init_1 0 rfl rfl)
theorem dX8_init_27 : decode cX8_init 27 = .ok (.aload_n 0, 1) := dk_42 (dk_at dksX8_init_1 3 rfl rfl)
theorem dX8_init_28 : decode cX8_init 28 = .ok (.bipush 60, 2) := dk_16 60 (dk_at dksX8_init_1 4 rfl rfl)
theorem dX8_init_30 : decode cX8_init 30 = .ok (.newarray .long, 2) := dk_188_11 (dk_at dksX8_init_1 6 rfl rfl)
theorem dX8_init_32 : decode cX8_init 32 = .ok (.putfield 20, 3) := dk_181 0 20 (dk_at dksX8_init_1 8 rfl rfl)
theorem dX8_init_35 : decode cX8_init 35 = .ok (.aload_n 0, 1) := dk_42 (dk_at dksX8_init_1 11 rfl rfl)
theorem dX8_init_36 : decode cX8_init 36 = .ok (.sipush 1200, 3) := dk_17 4 176 (dk_at dksX8_init_1 12 rfl rfl)
theorem dX8_init_39 : decode cX8_init 39 = .ok (.newarray .byte, 2) := dk_188_8 (dk_at dksX8_init_1 15 rfl rfl)
theorem dX8_init_41 : decode cX8_init 41 = .ok (.putfield 23, 3) := dk_181 0 23 (dk_at dksX8_init_1 17 rfl rfl)
theorem dX8_init_44 : decode cX8_init 44 = .ok (.aload_n 0, 1) := dk_42 (dk_at dksX8_init_1 20 rfl rfl)
theorem dX8_init_45 : decode cX8_init 45 = .ok (.iconst (-1), 1) := dk_2 (dk_at dksX8_init_1 21 rfl rfl)
theorem dX8_init_46 : decode cX8_init 46 = .ok (.putfield 27, 3) := dk_181 0 27 (dk_at dksX8_init_2 0 rfl rfl)
theorem dX8_init_49 : decode cX8_init 49 = .ok (.aload_n 0, 1) := dk_42 (dk_at dksX8_init_2 3 rfl rfl)
theorem dX8_init_50 : decode cX8_init 50 = .ok (.iconst 5, 1) := dk_8 (dk_at dksX8_init_2 4 rfl rfl)
theorem dX8_init_51 : decode cX8_init 51 = .ok (.newarray .int, 2) := dk_188_10 (dk_at dksX8_init_2 5 rfl rfl)
theorem dX8_init_53 : decode cX8_init 53 = .ok (.putfield 31, 3) := dk_181 0 31 (dk_at dksX8_init_2 7 rfl rfl)
theorem dX8_init_56 : decode cX8_init 56 = .ok (.aload_n 0, 1) := dk_42 (dk_at dksX8_init_2 10 rfl rfl)
theorem dX8_init_57 : decode cX8_init 57 = .ok (.bipush 55, 2) := dk_16 55 (dk_at dksX8_init_2 11 rfl rfl)
theorem dX8_init_59 : decode cX8_init 59 = .ok (.newarray .int, 2) := dk_188_10 (dk_at dksX8_init_2 13 rfl rfl)
theorem dX8_init_61 : decode cX8_init 61 = .ok (.putfield 34, 3) := dk_181 0 34 (dk_at dksX8_init_2 15 rfl rfl)
theorem dX8_init_64 : decode cX8_init 64 = .ok (.aload_n 0, 1) := dk_42 (dk_at dksX8_init_2 18 rfl rfl)
theorem dX8_init_65 : decode cX8_init 65 = .ok (.bipush 120, 2) := dk_16 120 (dk_at dksX8_init_2 19 rfl rfl)
theorem dX8_init_67 : decode cX8_init 67 = .ok (.newarray .int, 2) := dk_188_10 (dk_at dksX8_init_2 21 rfl rfl)
theorem dX8_init_69 : decode cX8_init 69 = .ok (.putfield 37, 3) := dk_181 0 37 (dk_at dksX8_init_3 0 rfl rfl)
theorem dX8_init_72 : decode cX8_init 72 = .ok (.aload_n 0, 1) := dk_42 (dk_at dksX8_init_3 3 rfl rfl)
theorem dX8_init_73 : decode cX8_init 73 = .ok (.bipush 30, 2) := dk_16 30 (dk_at dksX8_init_3 4 rfl rfl)
theorem dX8_init_75 : decode cX8_init 75 = .ok (.newarray .int, 2) := dk_188_10 (dk_at dksX8_init_3 6 rfl rfl)
theorem dX8_init_77 : decode cX8_init 77 = .ok (.putfield 40, 3) := dk_181 0 40 (dk_at dksX8_init_3 8 rfl rfl)
theorem dX8_init_80 : decode cX8_init 80 = .ok (.aload_n 0, 1) := dk_42 (dk_at dksX8_init_3 11 rfl rfl)
theorem dX8_init_81 : decode cX8_init 81 = .ok (.sipush 160, 3) := dk_17 0 160 (dk_at dksX8_init_3 12 rfl rfl)
theorem dX8_init_84 : decode cX8_init 84 = .ok (.newarray .int, 2) := dk_188_10 (dk_at dksX8_init_3 15 rfl rfl)
theorem dX8_init_86 : decode cX8_init 86 = .ok (.putfield 43, 3) := dk_181 0 43 (dk_at dksX8_init_3 17 rfl rfl)
theorem dX8_init_89 : decode cX8_init 89 = .ok (.aload_n 0, 1) := dk_42 (dk_at dksX8_init_3 20 rfl rfl)
theorem dX8_init_90 : decode cX8_init 90 = .ok (.sipush 1000, 3) := dk_17 3 232 (dk_at dksX8_init_3 21 rfl rfl)
theorem dX8_init_93 : decode cX8_init 93 = .ok (.newarray .boolean, 2) := dk_188_4 (dk_at dksX8_init_4 0 rfl rfl)
theorem dX8_init_95 : decode cX8_init 95 = .ok (.putfield 46, 3) := dk_181 0 46 (dk_at dksX8_init_4 2 rfl rfl)
theorem dX8_init_98 : decode cX8_init 98 = .ok (.aload_n 0, 1) := dk_42 (dk_at dksX8_init_4 5 rfl rfl)
theorem dX8_init_99 : decode cX8_init 99 = .ok (.bipush 120, 2) := dk_16 120 (dk_at dksX8_init_4 6 rfl rfl)
theorem dX8_init_101 : decode cX8_init 101 = .ok (.newarray .int, 2) := dk_188_10 (dk_at dksX8_init_4 8 rfl rfl)
theorem dX8_init_103 : decode cX8_init 103 = .ok (.putfield 50, 3) := dk_181 0 50 (dk_at dksX8_init_4 10 rfl rfl)
theorem dX8_init_106 : decode cX8_init 106 = .ok (.aload_n 0, 1) := dk_42 (dk_at dksX8_init_4 13 rfl rfl)
theorem dX8_init_107 : decode cX8_init 107 = .ok (.bipush 50, 2) := dk_16 50 (dk_at dksX8_init_4 14 rfl rfl)
theorem dX8_init_109 : decode cX8_init 109 = .ok (.newarray .int, 2) := dk_188_10 (dk_at dksX8_init_4 16 rfl rfl)
theorem dX8_init_111 : decode cX8_init 111 = .ok (.putfield 53, 3) := dk_181 0 53 (dk_at dksX8_init_4 18 rfl rfl)
theorem dX8_init_114 : decode cX8_init 114 = .ok (.aload_n 0, 1) := dk_42 (dk_at dksX8_init_4 21 rfl rfl)
theorem dX8_init_115 : decode cX8_init 115 = .ok (.sipush 800, 3) := dk_17 3 32 (dk_at dksX8_init_5 0 rfl rfl)
theorem dX8_init_118 : decode cX8_init 118 = .ok (.newarray .int, 2) := dk_188_10 (dk_at dksX8_init_5 3 rfl rfl)
theorem dX8_init_120 : decode cX8_init 120 = .ok (.putfield 56, 3) := dk_181 0 56 (dk_at dksX8_init_5 5 rfl rfl)
theorem dX8_init_123 : decode cX8_init 123 = .ok (.aload_n 0, 1) := dk_42 (dk_at dksX8_init_5 8 rfl rfl)
theorem dX8_init_124 : decode cX8_init 124 = .ok (.iconst 3, 1) := dk_6 (dk_at dksX8_init_5 9 rfl rfl)
theorem dX8_init_125 : decode cX8_init 125 = .ok (.newarray .boolean, 2) := dk_188_4 (dk_at dksX8_init_5 10 rfl rfl)
theorem dX8_init_127 : decode cX8_init 127 = .ok (.putfield 59, 3) := dk_181 0 59 (dk_at dksX8_init_5 12 rfl rfl)
theorem dX8_init_130 : decode cX8_init 130 = .ok (.aload_n 0, 1) := dk_42 (dk_at dksX8_init_5 15 rfl rfl)
theorem dX8_init_131 : decode cX8_init 131 = .ok (.bipush 13, 2) := dk_16 13 (dk_at dksX8_init_5 16 rfl rfl)
theorem dX8_init_133 : decode cX8_init 133 = .ok (.newarray .int, 2) := dk_188_10 (dk_at dksX8_init_5 18 rfl rfl)
theorem dX8_init_135 : decode cX8_init 135 = .ok (.putfield 62, 3) := dk_181 0 62 (dk_at dksX8_init_5 20 rfl rfl)
theorem dX8_init_138 : decode cX8_init 138 = .ok (.aload_n 0, 1) := dk_42 (dk_at dksX8_init_5 23 rfl rfl)
theorem dX8_init_139 : decode cX8_init 139 = .ok (.sipush 402, 3) := dk_17 1 146 (dk_at dksX8_init_6 0 rfl rfl)
theorem dX8_init_142 : decode cX8_init 142 = .ok (.newarray .int, 2) := dk_188_10 (dk_at dksX8_init_6 3 rfl rfl)
theorem dX8_init_144 : decode cX8_init 144 = .ok (.putfield 65, 3) := dk_181 0 65 (dk_at dksX8_init_6 5 rfl rfl)
theorem dX8_init_147 : decode cX8_init 147 = .ok (.aload_n 0, 1) := dk_42 (dk_at dksX8_init_6 8 rfl rfl)
theorem dX8_init_148 : decode cX8_init 148 = .ok (.sipush 400, 3) := dk_17 1 144 (dk_at dksX8_init_6 9 rfl rfl)
theorem dX8_init_151 : decode cX8_init 151 = .ok (.newarray .int, 2) := dk_188_10 (dk_at dksX8_init_6 12 rfl rfl)
theorem dX8_init_153 : decode cX8_init 153 = .ok (.putfield 68, 3) := dk_181 0 68 (dk_at dksX8_init_6 14 rfl rfl)
theorem dX8_init_156 : decode cX8_init 156 = .ok (.aload_n 0, 1) := dk_42 (dk_at dksX8_init_6 17 rfl rfl)
theorem dX8_init_157 : decode cX8_init 157 = .ok (.sipush 560, 3) := dk_17 2 48 (dk_at dksX8_init_6 18 rfl rfl)
theorem dX8_init_160 : decode cX8_init 160 = .ok (.newarray .int, 2) := dk_188_10 (dk_at dksX8_init_6 21 rfl rfl)
theorem dX8_init_162 : decode cX8_init 162 = .ok (.putfield 71, 3) := dk_181 0 71 (dk_at dksX8_init_7 0 rfl rfl)
theorem dX8_init_165 : decode cX8_init 165 = .ok (.aload_n 0, 1) := dk_42 (dk_at dksX8_init_7 3 rfl rfl)
theorem dX8_init_166 : decode cX8_init 166 = .ok (.bipush 24, 2) := dk_16 24 (dk_at dksX8_init_7 4 rfl rfl)
theorem dX8_init_168 : decode cX8_init 168 = .ok (.newarray .int, 2) := dk_188_10 (dk_at dksX8_init_7 6 rfl rfl)
theorem dX8_init_170 : decode cX8_init 170 = .ok (.putfield 74, 3) := dk_181 0 74 (dk_at dksX8_init_7 8 rfl rfl)
theorem dX8_init_173 : decode cX8_init 173 = .ok (.aload_n 0, 1) := dk_42 (dk_at dksX8_init_7 11 rfl rfl)
theorem dX8_init_174 : decode cX8_init 174 = .ok (.sipush 24576, 3) := dk_17 96 0 (dk_at dksX8_init_7 12 rfl rfl)
theorem dX8_init_177 : decode cX8_init 177 = .ok (.newarray .int, 2) := dk_188_10 (dk_at dksX8_init_7 15 rfl rfl)
theorem dX8_init_179 : decode cX8_init 179 = .ok (.putfield 77, 3) := dk_181 0 77 (dk_at dksX8_init_7 17 rfl rfl)
theorem dX8_init_182 : decode cX8_init 182 = .ok (.iconst 0, 1) := dk_3 (dk_at dksX8_init_7 20 rfl rfl)
theorem dX8_init_183 : decode cX8_init 183 = .ok (.istore_n 1, 1) := dk_60 (dk_at dksX8_init_7 21 rfl rfl)
theorem dX8_init_184 : decode cX8_init 184 = .ok (.iload_n 1, 1) := dk_27 (dk_at dksX8_init_7 22 rfl rfl)
theorem dX8_init_185 : decode cX8_init 185 = .ok (.iconst 4, 1) := dk_7 (dk_at dksX8_init_7 23 rfl rfl)
theorem dX8_init_186 : decode cX8_init 186 = .ok (.if_icmp .ge 16, 3) := dk_162 0 16 (dk_at dksX8_init_8 0 rfl rfl)
theorem dX8_init_189 : decode cX8_init 189 = .ok (.aload_n 0, 1) := dk_42 (dk_at dksX8_init_8 3 rfl rfl)
theorem dX8_init_190 : decode cX8_init 190 = .ok (.getfield 7, 3) := dk_180 0 7 (dk_at dksX8_init_8 4 rfl rfl)
theorem dX8_init_193 : decode cX8_init 193 = .ok (.iload_n 1, 1) := dk_27 (dk_at dksX8_init_8 7 rfl rfl)
theorem dX8_init_194 : decode cX8_init 194 = .ok (.iconst (-1), 1) := dk_2 (dk_at dksX8_init_8 8 rfl rfl)
theorem dX8_init_195 : decode cX8_init 195 = .ok (.iastore, 1) := dk_79 (dk_at dksX8_init_8 9 rfl rfl)
theorem dX8_init_196 : decode cX8_init 196 = .ok (.iinc 1 1, 3) := dk_132 1 1 (dk_at dksX8_init_8 10 rfl rfl)
theorem dX8_init_199 : decode cX8_init 199 = .ok (.goto (-15), 3) := dk_167 255 241 (dk_at dksX8_init_8 13 rfl rfl)
theorem dX8_init_202 : decode cX8_init 202 = .ok (.return_, 1) := dk_177 (dk_at dksX8_init_8 16 rfl rfl)
abbrev cX8_row : ByteArray := prog_13_method_5_code
def yX8_row : MethodName := ⟨RX8, "row", "(III)I"⟩
def dkwX8_row_3 : List UInt8 := [21, 4, 96, 9, 80, 132, 4, 1, 167, 255, 234, 3, 172]
abbrev dktX8_row_3 : List UInt8 := dkwX8_row_3 ++ []
def dkwX8_row_2 : List UInt8 := [180, 0, 13, 27, 29, 79, 3, 54, 4, 21, 4, 29, 162, 0, 22, 42, 180, 0, 16, 16, 60, 27, 104]
abbrev dktX8_row_2 : List UInt8 := dkwX8_row_2 ++ dktX8_row_3
def dkwX8_row_1 : List UInt8 := [29, 16, 60, 164, 0, 6, 16, 254, 172, 29, 156, 0, 6, 16, 253, 172, 42, 180, 0, 7, 27, 28, 79, 42]
abbrev dktX8_row_1 : List UInt8 := dkwX8_row_1 ++ dktX8_row_2
def dkwX8_row_0 : List UInt8 := [42, 3, 181, 0, 80, 27, 184, 0, 89, 153, 0, 21, 28, 133, 9, 20, 0, 83, 184, 0, 85, 153, 0, 9]
abbrev dktX8_row_0 : List UInt8 := dkwX8_row_0 ++ dktX8_row_1
theorem dksX8_row_0 : cX8_row.data.toList.drop 0 = dktX8_row_0 := by decide +kernel
theorem dksX8_row_1 : cX8_row.data.toList.drop 24 = dktX8_row_1 := dk_seg dksX8_row_0 24 rfl rfl
theorem dksX8_row_2 : cX8_row.data.toList.drop 48 = dktX8_row_2 := dk_seg dksX8_row_1 24 rfl rfl
theorem dksX8_row_3 : cX8_row.data.toList.drop 71 = dktX8_row_3 := dk_seg dksX8_row_2 23 rfl rfl
theorem dX8_row_0 : decode cX8_row 0 = .ok (.aload_n 0, 1) := dk_42 (dk_at dksX8_row_0 0 rfl rfl)
theorem dX8_row_1 : decode cX8_row 1 = .ok (.iconst 0, 1) := dk_3 (dk_at dksX8_row_0 1 rfl rfl)
theorem dX8_row_2 : decode cX8_row 2 = .ok (.putfield 80, 3) := dk_181 0 80 (dk_at dksX8_row_0 2 rfl rfl)
theorem dX8_row_5 : decode cX8_row 5 = .ok (.iload_n 1, 1) := dk_27 (dk_at dksX8_row_0 5 rfl rfl)
theorem dX8_row_6 : decode cX8_row 6 = .ok (.invokestatic 89, 3) := dk_184 0 89 (dk_at dksX8_row_0 6 rfl rfl)
theorem dX8_row_9 : decode cX8_row 9 = .ok (.ifCond .eq 21, 3) := dk_153 0 21 (dk_at dksX8_row_0 9 rfl rfl)
theorem dX8_row_12 : decode cX8_row 12 = .ok (.iload_n 2, 1) := dk_28 (dk_at dksX8_row_0 12 rfl rfl)
theorem dX8_row_13 : decode cX8_row 13 = .ok (.i2l, 1) := dk_133 (dk_at dksX8_row_0 13 rfl rfl)
theorem dX8_row_14 : decode cX8_row 14 = .ok (.lconst 0, 1) := dk_9 (dk_at dksX8_row_0 14 rfl rfl)
theorem dX8_row_15 : decode cX8_row 15 = .ok (.ldc2_w 83, 3) := dk_20 0 83 (dk_at dksX8_row_0 15 rfl rfl)
theorem dX8_row_18 : decode cX8_row 18 = .ok (.invokestatic 85, 3) := dk_184 0 85 (dk_at dksX8_row_0 18 rfl rfl)
theorem dX8_row_21 : decode cX8_row 21 = .ok (.ifCond .eq 9, 3) := dk_153 0 9 (dk_at dksX8_row_0 21 rfl rfl)
theorem dX8_row_24 : decode cX8_row 24 = .ok (.iload_n 3, 1) := dk_29 (dk_at dksX8_row_1 0 rfl rfl)
theorem dX8_row_25 : decode cX8_row 25 = .ok (.bipush 60, 2) := dk_16 60 (dk_at dksX8_row_1 1 rfl rfl)
theorem dX8_row_27 : decode cX8_row 27 = .ok (.if_icmp .le 6, 3) := dk_164 0 6 (dk_at dksX8_row_1 3 rfl rfl)
theorem dX8_row_30 : decode cX8_row 30 = .ok (.bipush (-2), 2) := dk_16 254 (dk_at dksX8_row_1 6 rfl rfl)
theorem dX8_row_32 : decode cX8_row 32 = .ok (.ireturn, 1) := dk_172 (dk_at dksX8_row_1 8 rfl rfl)
theorem dX8_row_33 : decode cX8_row 33 = .ok (.iload_n 3, 1) := dk_29 (dk_at dksX8_row_1 9 rfl rfl)
theorem dX8_row_34 : decode cX8_row 34 = .ok (.ifCond .ge 6, 3) := dk_156 0 6 (dk_at dksX8_row_1 10 rfl rfl)
theorem dX8_row_37 : decode cX8_row 37 = .ok (.bipush (-3), 2) := dk_16 253 (dk_at dksX8_row_1 13 rfl rfl)
theorem dX8_row_39 : decode cX8_row 39 = .ok (.ireturn, 1) := dk_172 (dk_at dksX8_row_1 15 rfl rfl)
theorem dX8_row_40 : decode cX8_row 40 = .ok (.aload_n 0, 1) := dk_42 (dk_at dksX8_row_1 16 rfl rfl)
theorem dX8_row_41 : decode cX8_row 41 = .ok (.getfield 7, 3) := dk_180 0 7 (dk_at dksX8_row_1 17 rfl rfl)
theorem dX8_row_44 : decode cX8_row 44 = .ok (.iload_n 1, 1) := dk_27 (dk_at dksX8_row_1 20 rfl rfl)
theorem dX8_row_45 : decode cX8_row 45 = .ok (.iload_n 2, 1) := dk_28 (dk_at dksX8_row_1 21 rfl rfl)
theorem dX8_row_46 : decode cX8_row 46 = .ok (.iastore, 1) := dk_79 (dk_at dksX8_row_1 22 rfl rfl)
theorem dX8_row_47 : decode cX8_row 47 = .ok (.aload_n 0, 1) := dk_42 (dk_at dksX8_row_1 23 rfl rfl)
theorem dX8_row_48 : decode cX8_row 48 = .ok (.getfield 13, 3) := dk_180 0 13 (dk_at dksX8_row_2 0 rfl rfl)
theorem dX8_row_51 : decode cX8_row 51 = .ok (.iload_n 1, 1) := dk_27 (dk_at dksX8_row_2 3 rfl rfl)
theorem dX8_row_52 : decode cX8_row 52 = .ok (.iload_n 3, 1) := dk_29 (dk_at dksX8_row_2 4 rfl rfl)
theorem dX8_row_53 : decode cX8_row 53 = .ok (.iastore, 1) := dk_79 (dk_at dksX8_row_2 5 rfl rfl)
theorem dX8_row_54 : decode cX8_row 54 = .ok (.iconst 0, 1) := dk_3 (dk_at dksX8_row_2 6 rfl rfl)
theorem dX8_row_55 : decode cX8_row 55 = .ok (.istore 4, 2) := dk_54 4 (dk_at dksX8_row_2 7 rfl rfl)
theorem dX8_row_57 : decode cX8_row 57 = .ok (.iload 4, 2) := dk_21 4 (dk_at dksX8_row_2 9 rfl rfl)
theorem dX8_row_59 : decode cX8_row 59 = .ok (.iload_n 3, 1) := dk_29 (dk_at dksX8_row_2 11 rfl rfl)
theorem dX8_row_60 : decode cX8_row 60 = .ok (.if_icmp .ge 22, 3) := dk_162 0 22 (dk_at dksX8_row_2 12 rfl rfl)
theorem dX8_row_63 : decode cX8_row 63 = .ok (.aload_n 0, 1) := dk_42 (dk_at dksX8_row_2 15 rfl rfl)
theorem dX8_row_64 : decode cX8_row 64 = .ok (.getfield 16, 3) := dk_180 0 16 (dk_at dksX8_row_2 16 rfl rfl)
theorem dX8_row_67 : decode cX8_row 67 = .ok (.bipush 60, 2) := dk_16 60 (dk_at dksX8_row_2 19 rfl rfl)
theorem dX8_row_69 : decode cX8_row 69 = .ok (.iload_n 1, 1) := dk_27 (dk_at dksX8_row_2 21 rfl rfl)
theorem dX8_row_70 : decode cX8_row 70 = .ok (.imul, 1) := dk_104 (dk_at dksX8_row_2 22 rfl rfl)
theorem dX8_row_71 : decode cX8_row 71 = .ok (.iload 4, 2) := dk_21 4 (dk_at dksX8_row_3 0 rfl rfl)
theorem dX8_row_73 : decode cX8_row 73 = .ok (.iadd, 1) := dk_96 (dk_at dksX8_row_3 2 rfl rfl)
theorem dX8_row_74 : decode cX8_row 74 = .ok (.lconst 0, 1) := dk_9 (dk_at dksX8_row_3 3 rfl rfl)
theorem dX8_row_75 : decode cX8_row 75 = .ok (.lastore, 1) := dk_80 (dk_at dksX8_row_3 4 rfl rfl)
theorem dX8_row_76 : decode cX8_row 76 = .ok (.iinc 4 1, 3) := dk_132 4 1 (dk_at dksX8_row_3 5 rfl rfl)
theorem dX8_row_79 : decode cX8_row 79 = .ok (.goto (-22), 3) := dk_167 255 234 (dk_at dksX8_row_3 8 rfl rfl)
theorem dX8_row_82 : decode cX8_row 82 = .ok (.iconst 0, 1) := dk_3 (dk_at dksX8_row_3 11 rfl rfl)
theorem dX8_row_83 : decode cX8_row 83 = .ok (.ireturn, 1) := dk_172 (dk_at dksX8_row_3 12 rfl rfl)
abbrev cX8_isSlot : ByteArray := prog_13_method_4_code
def yX8_isSlot : MethodName := ⟨RX8, "isSlot", "(I)Z"⟩
def dkwX8_isSlot_0 : List UInt8 := [26, 133, 9, 20, 0, 83, 184, 0, 85, 172]
abbrev dktX8_isSlot_0 : List UInt8 := dkwX8_isSlot_0 ++ []
theorem dksX8_isSlot_0 : cX8_isSlot.data.toList.drop 0 = dktX8_isSlot_0 := by decide +kernel
theorem dX8_isSlot_0 : decode cX8_isSlot 0 = .ok (.iload_n 0, 1) := dk_26 (dk_at dksX8_isSlot_0 0 rfl rfl)
theorem dX8_isSlot_1 : decode cX8_isSlot 1 = .ok (.i2l, 1) := dk_133 (dk_at dksX8_isSlot_0 1 rfl rfl)
theorem dX8_isSlot_2 : decode cX8_isSlot 2 = .ok (.lconst 0, 1) := dk_9 (dk_at dksX8_isSlot_0 2 rfl rfl)
theorem dX8_isSlot_3 : decode cX8_isSlot 3 = .ok (.ldc2_w 83, 3) := dk_20 0 83 (dk_at dksX8_isSlot_0 3 rfl rfl)
theorem dX8_isSlot_6 : decode cX8_isSlot 6 = .ok (.invokestatic 85, 3) := dk_184 0 85 (dk_at dksX8_isSlot_0 6 rfl rfl)
theorem dX8_isSlot_9 : decode cX8_isSlot 9 = .ok (.ireturn, 1) := dk_172 (dk_at dksX8_isSlot_0 9 rfl rfl)
abbrev cX8_in : ByteArray := prog_13_method_3_code
def yX8_in : MethodName := ⟨RX8, "in", "(JJJ)Z"⟩
def dkwX8_in_0 : List UInt8 := [30, 32, 148, 155, 0, 14, 30, 22, 4, 148, 157, 0, 7, 4, 167, 0, 4, 3, 172]
abbrev dktX8_in_0 : List UInt8 := dkwX8_in_0 ++ []
theorem dksX8_in_0 : cX8_in.data.toList.drop 0 = dktX8_in_0 := by decide +kernel
theorem dX8_in_0 : decode cX8_in 0 = .ok (.lload_n 0, 1) := dk_30 (dk_at dksX8_in_0 0 rfl rfl)
theorem dX8_in_1 : decode cX8_in 1 = .ok (.lload_n 2, 1) := dk_32 (dk_at dksX8_in_0 1 rfl rfl)
theorem dX8_in_2 : decode cX8_in 2 = .ok (.lcmp, 1) := dk_148 (dk_at dksX8_in_0 2 rfl rfl)
theorem dX8_in_3 : decode cX8_in 3 = .ok (.ifCond .lt 14, 3) := dk_155 0 14 (dk_at dksX8_in_0 3 rfl rfl)
theorem dX8_in_6 : decode cX8_in 6 = .ok (.lload_n 0, 1) := dk_30 (dk_at dksX8_in_0 6 rfl rfl)
theorem dX8_in_7 : decode cX8_in 7 = .ok (.lload 4, 2) := dk_22 4 (dk_at dksX8_in_0 7 rfl rfl)
theorem dX8_in_9 : decode cX8_in 9 = .ok (.lcmp, 1) := dk_148 (dk_at dksX8_in_0 9 rfl rfl)
theorem dX8_in_10 : decode cX8_in 10 = .ok (.ifCond .gt 7, 3) := dk_157 0 7 (dk_at dksX8_in_0 10 rfl rfl)
theorem dX8_in_13 : decode cX8_in 13 = .ok (.iconst 1, 1) := dk_4 (dk_at dksX8_in_0 13 rfl rfl)
theorem dX8_in_14 : decode cX8_in 14 = .ok (.goto 4, 3) := dk_167 0 4 (dk_at dksX8_in_0 14 rfl rfl)
theorem dX8_in_17 : decode cX8_in 17 = .ok (.iconst 0, 1) := dk_3 (dk_at dksX8_in_0 17 rfl rfl)
theorem dX8_in_18 : decode cX8_in 18 = .ok (.ireturn, 1) := dk_172 (dk_at dksX8_in_0 18 rfl rfl)
abbrev cX8_write : ByteArray := prog_13_method_7_code
def yX8_write : MethodName := ⟨RX8, "write", "(IIJ)I"⟩
def dkwX8_write_3 : List UInt8 := [3, 172]
abbrev dktX8_write_3 : List UInt8 := dkwX8_write_3 ++ []
def dkwX8_write_2 : List UInt8 := [16, 249, 172, 42, 180, 0, 16, 16, 60, 27, 104, 28, 96, 33, 42, 180, 0, 7, 27, 46, 184, 0, 93, 80]
abbrev dktX8_write_2 : List UInt8 := dkwX8_write_2 ++ dktX8_write_3
def dkwX8_write_1 : List UInt8 := [160, 0, 6, 16, 250, 172, 28, 133, 9, 42, 180, 0, 13, 27, 46, 4, 100, 133, 184, 0, 85, 154, 0, 6]
abbrev dktX8_write_1 : List UInt8 := dkwX8_write_1 ++ dktX8_write_2
def dkwX8_write_0 : List UInt8 := [42, 3, 181, 0, 80, 27, 184, 0, 89, 154, 0, 6, 16, 254, 172, 42, 180, 0, 7, 27, 46, 2]
abbrev dktX8_write_0 : List UInt8 := dkwX8_write_0 ++ dktX8_write_1
theorem dksX8_write_0 : cX8_write.data.toList.drop 0 = dktX8_write_0 := by decide +kernel
theorem dksX8_write_1 : cX8_write.data.toList.drop 22 = dktX8_write_1 := dk_seg dksX8_write_0 22 rfl rfl
theorem dksX8_write_2 : cX8_write.data.toList.drop 46 = dktX8_write_2 := dk_seg dksX8_write_1 24 rfl rfl
theorem dksX8_write_3 : cX8_write.data.toList.drop 70 = dktX8_write_3 := dk_seg dksX8_write_2 24 rfl rfl
theorem dX8_write_0 : decode cX8_write 0 = .ok (.aload_n 0, 1) := dk_42 (dk_at dksX8_write_0 0 rfl rfl)
theorem dX8_write_1 : decode cX8_write 1 = .ok (.iconst 0, 1) := dk_3 (dk_at dksX8_write_0 1 rfl rfl)
theorem dX8_write_2 : decode cX8_write 2 = .ok (.putfield 80, 3) := dk_181 0 80 (dk_at dksX8_write_0 2 rfl rfl)
theorem dX8_write_5 : decode cX8_write 5 = .ok (.iload_n 1, 1) := dk_27 (dk_at dksX8_write_0 5 rfl rfl)
theorem dX8_write_6 : decode cX8_write 6 = .ok (.invokestatic 89, 3) := dk_184 0 89 (dk_at dksX8_write_0 6 rfl rfl)
theorem dX8_write_9 : decode cX8_write 9 = .ok (.ifCond .ne 6, 3) := dk_154 0 6 (dk_at dksX8_write_0 9 rfl rfl)
theorem dX8_write_12 : decode cX8_write 12 = .ok (.bipush (-2), 2) := dk_16 254 (dk_at dksX8_write_0 12 rfl rfl)
theorem dX8_write_14 : decode cX8_write 14 = .ok (.ireturn, 1) := dk_172 (dk_at dksX8_write_0 14 rfl rfl)
theorem dX8_write_15 : decode cX8_write 15 = .ok (.aload_n 0, 1) := dk_42 (dk_at dksX8_write_0 15 rfl rfl)
theorem dX8_write_16 : decode cX8_write 16 = .ok (.getfield 7, 3) := dk_180 0 7 (dk_at dksX8_write_0 16 rfl rfl)
theorem dX8_write_19 : decode cX8_write 19 = .ok (.iload_n 1, 1) := dk_27 (dk_at dksX8_write_0 19 rfl rfl)
theorem dX8_write_20 : decode cX8_write 20 = .ok (.iaload, 1) := dk_46 (dk_at dksX8_write_0 20 rfl rfl)
theorem dX8_write_21 : decode cX8_write 21 = .ok (.iconst (-1), 1) := dk_2 (dk_at dksX8_write_0 21 rfl rfl)
theorem dX8_write_22 : decode cX8_write 22 = .ok (.if_icmp .ne 6, 3) := dk_160 0 6 (dk_at dksX8_write_1 0 rfl rfl)
theorem dX8_write_25 : decode cX8_write 25 = .ok (.bipush (-6), 2) := dk_16 250 (dk_at dksX8_write_1 3 rfl rfl)
theorem dX8_write_27 : decode cX8_write 27 = .ok (.ireturn, 1) := dk_172 (dk_at dksX8_write_1 5 rfl rfl)
theorem dX8_write_28 : decode cX8_write 28 = .ok (.iload_n 2, 1) := dk_28 (dk_at dksX8_write_1 6 rfl rfl)
theorem dX8_write_29 : decode cX8_write 29 = .ok (.i2l, 1) := dk_133 (dk_at dksX8_write_1 7 rfl rfl)
theorem dX8_write_30 : decode cX8_write 30 = .ok (.lconst 0, 1) := dk_9 (dk_at dksX8_write_1 8 rfl rfl)
theorem dX8_write_31 : decode cX8_write 31 = .ok (.aload_n 0, 1) := dk_42 (dk_at dksX8_write_1 9 rfl rfl)
theorem dX8_write_32 : decode cX8_write 32 = .ok (.getfield 13, 3) := dk_180 0 13 (dk_at dksX8_write_1 10 rfl rfl)
theorem dX8_write_35 : decode cX8_write 35 = .ok (.iload_n 1, 1) := dk_27 (dk_at dksX8_write_1 13 rfl rfl)
theorem dX8_write_36 : decode cX8_write 36 = .ok (.iaload, 1) := dk_46 (dk_at dksX8_write_1 14 rfl rfl)
theorem dX8_write_37 : decode cX8_write 37 = .ok (.iconst 1, 1) := dk_4 (dk_at dksX8_write_1 15 rfl rfl)
theorem dX8_write_38 : decode cX8_write 38 = .ok (.isub, 1) := dk_100 (dk_at dksX8_write_1 16 rfl rfl)
theorem dX8_write_39 : decode cX8_write 39 = .ok (.i2l, 1) := dk_133 (dk_at dksX8_write_1 17 rfl rfl)
theorem dX8_write_40 : decode cX8_write 40 = .ok (.invokestatic 85, 3) := dk_184 0 85 (dk_at dksX8_write_1 18 rfl rfl)
theorem dX8_write_43 : decode cX8_write 43 = .ok (.ifCond .ne 6, 3) := dk_154 0 6 (dk_at dksX8_write_1 21 rfl rfl)
theorem dX8_write_46 : decode cX8_write 46 = .ok (.bipush (-7), 2) := dk_16 249 (dk_at dksX8_write_2 0 rfl rfl)
theorem dX8_write_48 : decode cX8_write 48 = .ok (.ireturn, 1) := dk_172 (dk_at dksX8_write_2 2 rfl rfl)
theorem dX8_write_49 : decode cX8_write 49 = .ok (.aload_n 0, 1) := dk_42 (dk_at dksX8_write_2 3 rfl rfl)
theorem dX8_write_50 : decode cX8_write 50 = .ok (.getfield 16, 3) := dk_180 0 16 (dk_at dksX8_write_2 4 rfl rfl)
theorem dX8_write_53 : decode cX8_write 53 = .ok (.bipush 60, 2) := dk_16 60 (dk_at dksX8_write_2 7 rfl rfl)
theorem dX8_write_55 : decode cX8_write 55 = .ok (.iload_n 1, 1) := dk_27 (dk_at dksX8_write_2 9 rfl rfl)
theorem dX8_write_56 : decode cX8_write 56 = .ok (.imul, 1) := dk_104 (dk_at dksX8_write_2 10 rfl rfl)
theorem dX8_write_57 : decode cX8_write 57 = .ok (.iload_n 2, 1) := dk_28 (dk_at dksX8_write_2 11 rfl rfl)
theorem dX8_write_58 : decode cX8_write 58 = .ok (.iadd, 1) := dk_96 (dk_at dksX8_write_2 12 rfl rfl)
theorem dX8_write_59 : decode cX8_write 59 = .ok (.lload_n 3, 1) := dk_33 (dk_at dksX8_write_2 13 rfl rfl)
theorem dX8_write_60 : decode cX8_write 60 = .ok (.aload_n 0, 1) := dk_42 (dk_at dksX8_write_2 14 rfl rfl)
theorem dX8_write_61 : decode cX8_write 61 = .ok (.getfield 7, 3) := dk_180 0 7 (dk_at dksX8_write_2 15 rfl rfl)
theorem dX8_write_64 : decode cX8_write 64 = .ok (.iload_n 1, 1) := dk_27 (dk_at dksX8_write_2 18 rfl rfl)
theorem dX8_write_65 : decode cX8_write 65 = .ok (.iaload, 1) := dk_46 (dk_at dksX8_write_2 19 rfl rfl)
theorem dX8_write_66 : decode cX8_write 66 = .ok (.invokestatic 93, 3) := dk_184 0 93 (dk_at dksX8_write_2 20 rfl rfl)
theorem dX8_write_69 : decode cX8_write 69 = .ok (.lastore, 1) := dk_80 (dk_at dksX8_write_2 23 rfl rfl)
theorem dX8_write_70 : decode cX8_write 70 = .ok (.iconst 0, 1) := dk_3 (dk_at dksX8_write_3 0 rfl rfl)
theorem dX8_write_71 : decode cX8_write 71 = .ok (.ireturn, 1) := dk_172 (dk_at dksX8_write_3 1 rfl rfl)
abbrev cX8_cut : ByteArray := prog_13_method_6_code
def yX8_cut : MethodName := ⟨RX8, "cut", "(JI)J"⟩
def dkwX8_cut_1 : List UInt8 := [5, 160, 0, 9, 30, 136, 133, 167, 0, 4, 30, 173]
abbrev dktX8_cut_1 : List UInt8 := dkwX8_cut_1 ++ []
def dkwX8_cut_0 : List UInt8 := [28, 154, 0, 10, 30, 136, 145, 133, 167, 0, 27, 28, 4, 160, 0, 10, 30, 136, 147, 133, 167, 0, 15, 28]
abbrev dktX8_cut_0 : List UInt8 := dkwX8_cut_0 ++ dktX8_cut_1
theorem dksX8_cut_0 : cX8_cut.data.toList.drop 0 = dktX8_cut_0 := by decide +kernel
theorem dksX8_cut_1 : cX8_cut.data.toList.drop 24 = dktX8_cut_1 := dk_seg dksX8_cut_0 24 rfl rfl
theorem dX8_cut_0 : decode cX8_cut 0 = .ok (.iload_n 2, 1) := dk_28 (dk_at dksX8_cut_0 0 rfl rfl)
theorem dX8_cut_1 : decode cX8_cut 1 = .ok (.ifCond .ne 10, 3) := dk_154 0 10 (dk_at dksX8_cut_0 1 rfl rfl)
theorem dX8_cut_4 : decode cX8_cut 4 = .ok (.lload_n 0, 1) := dk_30 (dk_at dksX8_cut_0 4 rfl rfl)
theorem dX8_cut_5 : decode cX8_cut 5 = .ok (.l2i, 1) := dk_136 (dk_at dksX8_cut_0 5 rfl rfl)
theorem dX8_cut_6 : decode cX8_cut 6 = .ok (.i2b, 1) := dk_145 (dk_at dksX8_cut_0 6 rfl rfl)
theorem dX8_cut_7 : decode cX8_cut 7 = .ok (.i2l, 1) := dk_133 (dk_at dksX8_cut_0 7 rfl rfl)
theorem dX8_cut_8 : decode cX8_cut 8 = .ok (.goto 27, 3) := dk_167 0 27 (dk_at dksX8_cut_0 8 rfl rfl)
theorem dX8_cut_11 : decode cX8_cut 11 = .ok (.iload_n 2, 1) := dk_28 (dk_at dksX8_cut_0 11 rfl rfl)
theorem dX8_cut_12 : decode cX8_cut 12 = .ok (.iconst 1, 1) := dk_4 (dk_at dksX8_cut_0 12 rfl rfl)
theorem dX8_cut_13 : decode cX8_cut 13 = .ok (.if_icmp .ne 10, 3) := dk_160 0 10 (dk_at dksX8_cut_0 13 rfl rfl)
theorem dX8_cut_16 : decode cX8_cut 16 = .ok (.lload_n 0, 1) := dk_30 (dk_at dksX8_cut_0 16 rfl rfl)
theorem dX8_cut_17 : decode cX8_cut 17 = .ok (.l2i, 1) := dk_136 (dk_at dksX8_cut_0 17 rfl rfl)
theorem dX8_cut_18 : decode cX8_cut 18 = .ok (.i2s, 1) := dk_147 (dk_at dksX8_cut_0 18 rfl rfl)
theorem dX8_cut_19 : decode cX8_cut 19 = .ok (.i2l, 1) := dk_133 (dk_at dksX8_cut_0 19 rfl rfl)
theorem dX8_cut_20 : decode cX8_cut 20 = .ok (.goto 15, 3) := dk_167 0 15 (dk_at dksX8_cut_0 20 rfl rfl)
theorem dX8_cut_23 : decode cX8_cut 23 = .ok (.iload_n 2, 1) := dk_28 (dk_at dksX8_cut_0 23 rfl rfl)
theorem dX8_cut_24 : decode cX8_cut 24 = .ok (.iconst 2, 1) := dk_5 (dk_at dksX8_cut_1 0 rfl rfl)
theorem dX8_cut_25 : decode cX8_cut 25 = .ok (.if_icmp .ne 9, 3) := dk_160 0 9 (dk_at dksX8_cut_1 1 rfl rfl)
theorem dX8_cut_28 : decode cX8_cut 28 = .ok (.lload_n 0, 1) := dk_30 (dk_at dksX8_cut_1 4 rfl rfl)
theorem dX8_cut_29 : decode cX8_cut 29 = .ok (.l2i, 1) := dk_136 (dk_at dksX8_cut_1 5 rfl rfl)
theorem dX8_cut_30 : decode cX8_cut 30 = .ok (.i2l, 1) := dk_133 (dk_at dksX8_cut_1 6 rfl rfl)
theorem dX8_cut_31 : decode cX8_cut 31 = .ok (.goto 4, 3) := dk_167 0 4 (dk_at dksX8_cut_1 7 rfl rfl)
theorem dX8_cut_34 : decode cX8_cut 34 = .ok (.lload_n 0, 1) := dk_30 (dk_at dksX8_cut_1 10 rfl rfl)
theorem dX8_cut_35 : decode cX8_cut 35 = .ok (.lreturn, 1) := dk_173 (dk_at dksX8_cut_1 11 rfl rfl)
abbrev cX8_paste : ByteArray := prog_13_method_8_code
def yX8_paste : MethodName := ⟨RX8, "paste", "(IIIII)I"⟩
def dkwX8_paste_8 : List UInt8 := [167, 255, 224, 3, 172]
abbrev dktX8_paste_8 : List UInt8 := dkwX8_paste_8 ++ []
def dkwX8_paste_7 : List UInt8 := [180, 0, 16, 16, 60, 29, 104, 21, 4, 96, 21, 6, 96, 42, 180, 0, 20, 21, 6, 47, 80, 132, 6, 1]
abbrev dktX8_paste_7 : List UInt8 := dkwX8_paste_7 ++ dktX8_paste_8
def dkwX8_paste_6 : List UInt8 := [28, 96, 21, 6, 96, 47, 80, 132, 6, 1, 167, 255, 225, 3, 54, 6, 21, 6, 21, 5, 162, 0, 31, 42]
abbrev dktX8_paste_6 : List UInt8 := dkwX8_paste_6 ++ dktX8_paste_7
def dkwX8_paste_5 : List UInt8 := [3, 54, 6, 21, 6, 21, 5, 162, 0, 30, 42, 180, 0, 20, 21, 6, 42, 180, 0, 16, 16, 60, 27, 104]
abbrev dktX8_paste_5 : List UInt8 := dkwX8_paste_5 ++ dktX8_paste_6
def dkwX8_paste_4 : List UInt8 := [157, 0, 21, 21, 4, 133, 21, 5, 133, 97, 42, 180, 0, 13, 29, 46, 133, 148, 158, 0, 6, 16, 249, 172]
abbrev dktX8_paste_4 : List UInt8 := dkwX8_paste_4 ++ dktX8_paste_5
def dkwX8_paste_3 : List UInt8 := [155, 0, 43, 21, 5, 155, 0, 38, 28, 133, 21, 5, 133, 97, 42, 180, 0, 13, 27, 46, 133, 148]
abbrev dktX8_paste_3 : List UInt8 := dkwX8_paste_3 ++ dktX8_paste_4
def dkwX8_paste_2 : List UInt8 := [180, 0, 7, 27, 46, 42, 180, 0, 7, 29, 46, 159, 0, 6, 16, 248, 172, 28, 155, 0, 48, 21, 4]
abbrev dktX8_paste_2 : List UInt8 := dkwX8_paste_2 ++ dktX8_paste_3
def dkwX8_paste_1 : List UInt8 := [180, 0, 7, 27, 46, 2, 159, 0, 13, 42, 180, 0, 7, 29, 46, 2, 160, 0, 6, 16, 250, 172, 42]
abbrev dktX8_paste_1 : List UInt8 := dkwX8_paste_1 ++ dktX8_paste_2
def dkwX8_paste_0 : List UInt8 := [42, 3, 181, 0, 80, 27, 184, 0, 89, 153, 0, 10, 29, 184, 0, 89, 154, 0, 6, 16, 254, 172, 42]
abbrev dktX8_paste_0 : List UInt8 := dkwX8_paste_0 ++ dktX8_paste_1
theorem dksX8_paste_0 : cX8_paste.data.toList.drop 0 = dktX8_paste_0 := by decide +kernel
theorem dksX8_paste_1 : cX8_paste.data.toList.drop 23 = dktX8_paste_1 := dk_seg dksX8_paste_0 23 rfl rfl
theorem dksX8_paste_2 : cX8_paste.data.toList.drop 46 = dktX8_paste_2 := dk_seg dksX8_paste_1 23 rfl rfl
theorem dksX8_paste_3 : cX8_paste.data.toList.drop 69 = dktX8_paste_3 := dk_seg dksX8_paste_2 23 rfl rfl
theorem dksX8_paste_4 : cX8_paste.data.toList.drop 91 = dktX8_paste_4 := dk_seg dksX8_paste_3 22 rfl rfl
theorem dksX8_paste_5 : cX8_paste.data.toList.drop 115 = dktX8_paste_5 := dk_seg dksX8_paste_4 24 rfl rfl
theorem dksX8_paste_6 : cX8_paste.data.toList.drop 139 = dktX8_paste_6 := dk_seg dksX8_paste_5 24 rfl rfl
theorem dksX8_paste_7 : cX8_paste.data.toList.drop 163 = dktX8_paste_7 := dk_seg dksX8_paste_6 24 rfl rfl
theorem dksX8_paste_8 : cX8_paste.data.toList.drop 187 = dktX8_paste_8 := dk_seg dksX8_paste_7 24 rfl rfl
theorem dX8_paste_0 : decode cX8_paste 0 = .ok (.aload_n 0, 1) := dk_42 (dk_at dksX8_paste_0 0 rfl rfl)
theorem dX8_paste_1 : decode cX8_paste 1 = .ok (.iconst 0, 1) := dk_3 (dk_at dksX8_paste_0 1 rfl rfl)
theorem dX8_paste_2 : decode cX8_paste 2 = .ok (.putfield 80, 3) := dk_181 0 80 (dk_at dksX8_paste_0 2 rfl rfl)
theorem dX8_paste_5 : decode cX8_paste 5 = .ok (.iload_n 1, 1) := dk_27 (dk_at dksX8_paste_0 5 rfl rfl)
theorem dX8_paste_6 : decode cX8_paste 6 = .ok (.invokestatic 89, 3) := dk_184 0 89 (dk_at dksX8_paste_0 6 rfl rfl)
theorem dX8_paste_9 : decode cX8_paste 9 = .ok (.ifCond .eq 10, 3) := dk_153 0 10 (dk_at dksX8_paste_0 9 rfl rfl)
theorem dX8_paste_12 : decode cX8_paste 12 = .ok (.iload_n 3, 1) := dk_29 (dk_at dksX8_paste_0 12 rfl rfl)
theorem dX8_paste_13 : decode cX8_paste 13 = .ok (.invokestatic 89, 3) := dk_184 0 89 (dk_at dksX8_paste_0 13 rfl rfl)
theorem dX8_paste_16 : decode cX8_paste 16 = .ok (.ifCond .ne 6, 3) := dk_154 0 6 (dk_at dksX8_paste_0 16 rfl rfl)
theorem dX8_paste_19 : decode cX8_paste 19 = .ok (.bipush (-2), 2) := dk_16 254 (dk_at dksX8_paste_0 19 rfl rfl)
theorem dX8_paste_21 : decode cX8_paste 21 = .ok (.ireturn, 1) := dk_172 (dk_at dksX8_paste_0 21 rfl rfl)
theorem dX8_paste_22 : decode cX8_paste 22 = .ok (.aload_n 0, 1) := dk_42 (dk_at dksX8_paste_0 22 rfl rfl)
theorem dX8_paste_23 : decode cX8_paste 23 = .ok (.getfield 7, 3) := dk_180 0 7 (dk_at dksX8_paste_1 0 rfl rfl)
theorem dX8_paste_26 : decode cX8_paste 26 = .ok (.iload_n 1, 1) := dk_27 (dk_at dksX8_paste_1 3 rfl rfl)
theorem dX8_paste_27 : decode cX8_paste 27 = .ok (.iaload, 1) := dk_46 (dk_at dksX8_paste_1 4 rfl rfl)
theorem dX8_paste_28 : decode cX8_paste 28 = .ok (.iconst (-1), 1) := dk_2 (dk_at dksX8_paste_1 5 rfl rfl)
theorem dX8_paste_29 : decode cX8_paste 29 = .ok (.if_icmp .eq 13, 3) := dk_159 0 13 (dk_at dksX8_paste_1 6 rfl rfl)
theorem dX8_paste_32 : decode cX8_paste 32 = .ok (.aload_n 0, 1) := dk_42 (dk_at dksX8_paste_1 9 rfl rfl)
theorem dX8_paste_33 : decode cX8_paste 33 = .ok (.getfield 7, 3) := dk_180 0 7 (dk_at dksX8_paste_1 10 rfl rfl)
theorem dX8_paste_36 : decode cX8_paste 36 = .ok (.iload_n 3, 1) := dk_29 (dk_at dksX8_paste_1 13 rfl rfl)
theorem dX8_paste_37 : decode cX8_paste 37 = .ok (.iaload, 1) := dk_46 (dk_at dksX8_paste_1 14 rfl rfl)
theorem dX8_paste_38 : decode cX8_paste 38 = .ok (.iconst (-1), 1) := dk_2 (dk_at dksX8_paste_1 15 rfl rfl)
theorem dX8_paste_39 : decode cX8_paste 39 = .ok (.if_icmp .ne 6, 3) := dk_160 0 6 (dk_at dksX8_paste_1 16 rfl rfl)
theorem dX8_paste_42 : decode cX8_paste 42 = .ok (.bipush (-6), 2) := dk_16 250 (dk_at dksX8_paste_1 19 rfl rfl)
theorem dX8_paste_44 : decode cX8_paste 44 = .ok (.ireturn, 1) := dk_172 (dk_at dksX8_paste_1 21 rfl rfl)
theorem dX8_paste_45 : decode cX8_paste 45 = .ok (.aload_n 0, 1) := dk_42 (dk_at dksX8_paste_1 22 rfl rfl)
theorem dX8_paste_46 : decode cX8_paste 46 = .ok (.getfield 7, 3) := dk_180 0 7 (dk_at dksX8_paste_2 0 rfl rfl)
theorem dX8_paste_49 : decode cX8_paste 49 = .ok (.iload_n 1, 1) := dk_27 (dk_at dksX8_paste_2 3 rfl rfl)
theorem dX8_paste_50 : decode cX8_paste 50 = .ok (.iaload, 1) := dk_46 (dk_at dksX8_paste_2 4 rfl rfl)
theorem dX8_paste_51 : decode cX8_paste 51 = .ok (.aload_n 0, 1) := dk_42 (dk_at dksX8_paste_2 5 rfl rfl)
theorem dX8_paste_52 : decode cX8_paste 52 = .ok (.getfield 7, 3) := dk_180 0 7 (dk_at dksX8_paste_2 6 rfl rfl)
theorem dX8_paste_55 : decode cX8_paste 55 = .ok (.iload_n 3, 1) := dk_29 (dk_at dksX8_paste_2 9 rfl rfl)
theorem dX8_paste_56 : decode cX8_paste 56 = .ok (.iaload, 1) := dk_46 (dk_at dksX8_paste_2 10 rfl rfl)
theorem dX8_paste_57 : decode cX8_paste 57 = .ok (.if_icmp .eq 6, 3) := dk_159 0 6 (dk_at dksX8_paste_2 11 rfl rfl)
theorem dX8_paste_60 : decode cX8_paste 60 = .ok (.bipush (-8), 2) := dk_16 248 (dk_at dksX8_paste_2 14 rfl rfl)
theorem dX8_paste_62 : decode cX8_paste 62 = .ok (.ireturn, 1) := dk_172 (dk_at dksX8_paste_2 16 rfl rfl)
theorem dX8_paste_63 : decode cX8_paste 63 = .ok (.iload_n 2, 1) := dk_28 (dk_at dksX8_paste_2 17 rfl rfl)
theorem dX8_paste_64 : decode cX8_paste 64 = .ok (.ifCond .lt 48, 3) := dk_155 0 48 (dk_at dksX8_paste_2 18 rfl rfl)
theorem dX8_paste_67 : decode cX8_paste 67 = .ok (.iload 4, 2) := dk_21 4 (dk_at dksX8_paste_2 21 rfl rfl)
theorem dX8_paste_69 : decode cX8_paste 69 = .ok (.ifCond .lt 43, 3) := dk_155 0 43 (dk_at dksX8_paste_3 0 rfl rfl)
theorem dX8_paste_72 : decode cX8_paste 72 = .ok (.iload 5, 2) := dk_21 5 (dk_at dksX8_paste_3 3 rfl rfl)
theorem dX8_paste_74 : decode cX8_paste 74 = .ok (.ifCond .lt 38, 3) := dk_155 0 38 (dk_at dksX8_paste_3 5 rfl rfl)
theorem dX8_paste_77 : decode cX8_paste 77 = .ok (.iload_n 2, 1) := dk_28 (dk_at dksX8_paste_3 8 rfl rfl)
theorem dX8_paste_78 : decode cX8_paste 78 = .ok (.i2l, 1) := dk_133 (dk_at dksX8_paste_3 9 rfl rfl)
theorem dX8_paste_79 : decode cX8_paste 79 = .ok (.iload 5, 2) := dk_21 5 (dk_at dksX8_paste_3 10 rfl rfl)
theorem dX8_paste_81 : decode cX8_paste 81 = .ok (.i2l, 1) := dk_133 (dk_at dksX8_paste_3 12 rfl rfl)
theorem dX8_paste_82 : decode cX8_paste 82 = .ok (.ladd, 1) := dk_97 (dk_at dksX8_paste_3 13 rfl rfl)
theorem dX8_paste_83 : decode cX8_paste 83 = .ok (.aload_n 0, 1) := dk_42 (dk_at dksX8_paste_3 14 rfl rfl)
theorem dX8_paste_84 : decode cX8_paste 84 = .ok (.getfield 13, 3) := dk_180 0 13 (dk_at dksX8_paste_3 15 rfl rfl)
theorem dX8_paste_87 : decode cX8_paste 87 = .ok (.iload_n 1, 1) := dk_27 (dk_at dksX8_paste_3 18 rfl rfl)
theorem dX8_paste_88 : decode cX8_paste 88 = .ok (.iaload, 1) := dk_46 (dk_at dksX8_paste_3 19 rfl rfl)
theorem dX8_paste_89 : decode cX8_paste 89 = .ok (.i2l, 1) := dk_133 (dk_at dksX8_paste_3 20 rfl rfl)
theorem dX8_paste_90 : decode cX8_paste 90 = .ok (.lcmp, 1) := dk_148 (dk_at dksX8_paste_3 21 rfl rfl)
theorem dX8_paste_91 : decode cX8_paste 91 = .ok (.ifCond .gt 21, 3) := dk_157 0 21 (dk_at dksX8_paste_4 0 rfl rfl)
theorem dX8_paste_94 : decode cX8_paste 94 = .ok (.iload 4, 2) := dk_21 4 (dk_at dksX8_paste_4 3 rfl rfl)
theorem dX8_paste_96 : decode cX8_paste 96 = .ok (.i2l, 1) := dk_133 (dk_at dksX8_paste_4 5 rfl rfl)
theorem dX8_paste_97 : decode cX8_paste 97 = .ok (.iload 5, 2) := dk_21 5 (dk_at dksX8_paste_4 6 rfl rfl)
theorem dX8_paste_99 : decode cX8_paste 99 = .ok (.i2l, 1) := dk_133 (dk_at dksX8_paste_4 8 rfl rfl)
theorem dX8_paste_100 : decode cX8_paste 100 = .ok (.ladd, 1) := dk_97 (dk_at dksX8_paste_4 9 rfl rfl)
theorem dX8_paste_101 : decode cX8_paste 101 = .ok (.aload_n 0, 1) := dk_42 (dk_at dksX8_paste_4 10 rfl rfl)
theorem dX8_paste_102 : decode cX8_paste 102 = .ok (.getfield 13, 3) := dk_180 0 13 (dk_at dksX8_paste_4 11 rfl rfl)
theorem dX8_paste_105 : decode cX8_paste 105 = .ok (.iload_n 3, 1) := dk_29 (dk_at dksX8_paste_4 14 rfl rfl)
theorem dX8_paste_106 : decode cX8_paste 106 = .ok (.iaload, 1) := dk_46 (dk_at dksX8_paste_4 15 rfl rfl)
theorem dX8_paste_107 : decode cX8_paste 107 = .ok (.i2l, 1) := dk_133 (dk_at dksX8_paste_4 16 rfl rfl)
theorem dX8_paste_108 : decode cX8_paste 108 = .ok (.lcmp, 1) := dk_148 (dk_at dksX8_paste_4 17 rfl rfl)
theorem dX8_paste_109 : decode cX8_paste 109 = .ok (.ifCond .le 6, 3) := dk_158 0 6 (dk_at dksX8_paste_4 18 rfl rfl)
theorem dX8_paste_112 : decode cX8_paste 112 = .ok (.bipush (-7), 2) := dk_16 249 (dk_at dksX8_paste_4 21 rfl rfl)
theorem dX8_paste_114 : decode cX8_paste 114 = .ok (.ireturn, 1) := dk_172 (dk_at dksX8_paste_4 23 rfl rfl)
theorem dX8_paste_115 : decode cX8_paste 115 = .ok (.iconst 0, 1) := dk_3 (dk_at dksX8_paste_5 0 rfl rfl)
theorem dX8_paste_116 : decode cX8_paste 116 = .ok (.istore 6, 2) := dk_54 6 (dk_at dksX8_paste_5 1 rfl rfl)
theorem dX8_paste_118 : decode cX8_paste 118 = .ok (.iload 6, 2) := dk_21 6 (dk_at dksX8_paste_5 3 rfl rfl)
theorem dX8_paste_120 : decode cX8_paste 120 = .ok (.iload 5, 2) := dk_21 5 (dk_at dksX8_paste_5 5 rfl rfl)
theorem dX8_paste_122 : decode cX8_paste 122 = .ok (.if_icmp .ge 30, 3) := dk_162 0 30 (dk_at dksX8_paste_5 7 rfl rfl)
theorem dX8_paste_125 : decode cX8_paste 125 = .ok (.aload_n 0, 1) := dk_42 (dk_at dksX8_paste_5 10 rfl rfl)
theorem dX8_paste_126 : decode cX8_paste 126 = .ok (.getfield 20, 3) := dk_180 0 20 (dk_at dksX8_paste_5 11 rfl rfl)
theorem dX8_paste_129 : decode cX8_paste 129 = .ok (.iload 6, 2) := dk_21 6 (dk_at dksX8_paste_5 14 rfl rfl)
theorem dX8_paste_131 : decode cX8_paste 131 = .ok (.aload_n 0, 1) := dk_42 (dk_at dksX8_paste_5 16 rfl rfl)
theorem dX8_paste_132 : decode cX8_paste 132 = .ok (.getfield 16, 3) := dk_180 0 16 (dk_at dksX8_paste_5 17 rfl rfl)
theorem dX8_paste_135 : decode cX8_paste 135 = .ok (.bipush 60, 2) := dk_16 60 (dk_at dksX8_paste_5 20 rfl rfl)
theorem dX8_paste_137 : decode cX8_paste 137 = .ok (.iload_n 1, 1) := dk_27 (dk_at dksX8_paste_5 22 rfl rfl)
theorem dX8_paste_138 : decode cX8_paste 138 = .ok (.imul, 1) := dk_104 (dk_at dksX8_paste_5 23 rfl rfl)
theorem dX8_paste_139 : decode cX8_paste 139 = .ok (.iload_n 2, 1) := dk_28 (dk_at dksX8_paste_6 0 rfl rfl)
theorem dX8_paste_140 : decode cX8_paste 140 = .ok (.iadd, 1) := dk_96 (dk_at dksX8_paste_6 1 rfl rfl)
theorem dX8_paste_141 : decode cX8_paste 141 = .ok (.iload 6, 2) := dk_21 6 (dk_at dksX8_paste_6 2 rfl rfl)
theorem dX8_paste_143 : decode cX8_paste 143 = .ok (.iadd, 1) := dk_96 (dk_at dksX8_paste_6 4 rfl rfl)
theorem dX8_paste_144 : decode cX8_paste 144 = .ok (.laload, 1) := dk_47 (dk_at dksX8_paste_6 5 rfl rfl)
theorem dX8_paste_145 : decode cX8_paste 145 = .ok (.lastore, 1) := dk_80 (dk_at dksX8_paste_6 6 rfl rfl)
theorem dX8_paste_146 : decode cX8_paste 146 = .ok (.iinc 6 1, 3) := dk_132 6 1 (dk_at dksX8_paste_6 7 rfl rfl)
theorem dX8_paste_149 : decode cX8_paste 149 = .ok (.goto (-31), 3) := dk_167 255 225 (dk_at dksX8_paste_6 10 rfl rfl)
theorem dX8_paste_152 : decode cX8_paste 152 = .ok (.iconst 0, 1) := dk_3 (dk_at dksX8_paste_6 13 rfl rfl)
theorem dX8_paste_153 : decode cX8_paste 153 = .ok (.istore 6, 2) := dk_54 6 (dk_at dksX8_paste_6 14 rfl rfl)
theorem dX8_paste_155 : decode cX8_paste 155 = .ok (.iload 6, 2) := dk_21 6 (dk_at dksX8_paste_6 16 rfl rfl)
theorem dX8_paste_157 : decode cX8_paste 157 = .ok (.iload 5, 2) := dk_21 5 (dk_at dksX8_paste_6 18 rfl rfl)
theorem dX8_paste_159 : decode cX8_paste 159 = .ok (.if_icmp .ge 31, 3) := dk_162 0 31 (dk_at dksX8_paste_6 20 rfl rfl)
theorem dX8_paste_162 : decode cX8_paste 162 = .ok (.aload_n 0, 1) := dk_42 (dk_at dksX8_paste_6 23 rfl rfl)
theorem dX8_paste_163 : decode cX8_paste 163 = .ok (.getfield 16, 3) := dk_180 0 16 (dk_at dksX8_paste_7 0 rfl rfl)
theorem dX8_paste_166 : decode cX8_paste 166 = .ok (.bipush 60, 2) := dk_16 60 (dk_at dksX8_paste_7 3 rfl rfl)
theorem dX8_paste_168 : decode cX8_paste 168 = .ok (.iload_n 3, 1) := dk_29 (dk_at dksX8_paste_7 5 rfl rfl)
theorem dX8_paste_169 : decode cX8_paste 169 = .ok (.imul, 1) := dk_104 (dk_at dksX8_paste_7 6 rfl rfl)
theorem dX8_paste_170 : decode cX8_paste 170 = .ok (.iload 4, 2) := dk_21 4 (dk_at dksX8_paste_7 7 rfl rfl)
theorem dX8_paste_172 : decode cX8_paste 172 = .ok (.iadd, 1) := dk_96 (dk_at dksX8_paste_7 9 rfl rfl)
theorem dX8_paste_173 : decode cX8_paste 173 = .ok (.iload 6, 2) := dk_21 6 (dk_at dksX8_paste_7 10 rfl rfl)
theorem dX8_paste_175 : decode cX8_paste 175 = .ok (.iadd, 1) := dk_96 (dk_at dksX8_paste_7 12 rfl rfl)
theorem dX8_paste_176 : decode cX8_paste 176 = .ok (.aload_n 0, 1) := dk_42 (dk_at dksX8_paste_7 13 rfl rfl)
theorem dX8_paste_177 : decode cX8_paste 177 = .ok (.getfield 20, 3) := dk_180 0 20 (dk_at dksX8_paste_7 14 rfl rfl)
theorem dX8_paste_180 : decode cX8_paste 180 = .ok (.iload 6, 2) := dk_21 6 (dk_at dksX8_paste_7 17 rfl rfl)
theorem dX8_paste_182 : decode cX8_paste 182 = .ok (.laload, 1) := dk_47 (dk_at dksX8_paste_7 19 rfl rfl)
theorem dX8_paste_183 : decode cX8_paste 183 = .ok (.lastore, 1) := dk_80 (dk_at dksX8_paste_7 20 rfl rfl)
theorem dX8_paste_184 : decode cX8_paste 184 = .ok (.iinc 6 1, 3) := dk_132 6 1 (dk_at dksX8_paste_7 21 rfl rfl)
theorem dX8_paste_187 : decode cX8_paste 187 = .ok (.goto (-32), 3) := dk_167 255 224 (dk_at dksX8_paste_8 0 rfl rfl)
theorem dX8_paste_190 : decode cX8_paste 190 = .ok (.iconst 0, 1) := dk_3 (dk_at dksX8_paste_8 3 rfl rfl)
theorem dX8_paste_191 : decode cX8_paste 191 = .ok (.ireturn, 1) := dk_172 (dk_at dksX8_paste_8 4 rfl rfl)
abbrev cX8_feed : ByteArray := prog_13_method_9_code
def yX8_feed : MethodName := ⟨RX8, "feed", "(IIIII)I"⟩
def dkwX8_feed_2 : List UInt8 := [182, 0, 100, 42, 180, 0, 97, 172]
abbrev dktX8_feed_2 : List UInt8 := dkwX8_feed_2 ++ []
def dkwX8_feed_1 : List UInt8 := [182, 0, 100, 42, 28, 182, 0, 100, 42, 29, 182, 0, 100, 42, 21, 4, 182, 0, 100, 42, 21, 5]
abbrev dktX8_feed_1 : List UInt8 := dkwX8_feed_1 ++ dktX8_feed_2
def dkwX8_feed_0 : List UInt8 := [42, 3, 181, 0, 80, 42, 180, 0, 97, 16, 20, 96, 17, 4, 176, 164, 0, 5, 2, 172, 42, 27]
abbrev dktX8_feed_0 : List UInt8 := dkwX8_feed_0 ++ dktX8_feed_1
theorem dksX8_feed_0 : cX8_feed.data.toList.drop 0 = dktX8_feed_0 := by decide +kernel
theorem dksX8_feed_1 : cX8_feed.data.toList.drop 22 = dktX8_feed_1 := dk_seg dksX8_feed_0 22 rfl rfl
theorem dksX8_feed_2 : cX8_feed.data.toList.drop 44 = dktX8_feed_2 := dk_seg dksX8_feed_1 22 rfl rfl
theorem dX8_feed_0 : decode cX8_feed 0 = .ok (.aload_n 0, 1) := dk_42 (dk_at dksX8_feed_0 0 rfl rfl)
theorem dX8_feed_1 : decode cX8_feed 1 = .ok (.iconst 0, 1) := dk_3 (dk_at dksX8_feed_0 1 rfl rfl)
theorem dX8_feed_2 : decode cX8_feed 2 = .ok (.putfield 80, 3) := dk_181 0 80 (dk_at dksX8_feed_0 2 rfl rfl)
theorem dX8_feed_5 : decode cX8_feed 5 = .ok (.aload_n 0, 1) := dk_42 (dk_at dksX8_feed_0 5 rfl rfl)
theorem dX8_feed_6 : decode cX8_feed 6 = .ok (.getfield 97, 3) := dk_180 0 97 (dk_at dksX8_feed_0 6 rfl rfl)
theorem dX8_feed_9 : decode cX8_feed 9 = .ok (.bipush 20, 2) := dk_16 20 (dk_at dksX8_feed_0 9 rfl rfl)
theorem dX8_feed_11 : decode cX8_feed 11 = .ok (.iadd, 1) := dk_96 (dk_at dksX8_feed_0 11 rfl rfl)
theorem dX8_feed_12 : decode cX8_feed 12 = .ok (.sipush 1200, 3) := dk_17 4 176 (dk_at dksX8_feed_0 12 rfl rfl)
theorem dX8_feed_15 : decode cX8_feed 15 = .ok (.if_icmp .le 5, 3) := dk_164 0 5 (dk_at dksX8_feed_0 15 rfl rfl)
theorem dX8_feed_18 : decode cX8_feed 18 = .ok (.iconst (-1), 1) := dk_2 (dk_at dksX8_feed_0 18 rfl rfl)
theorem dX8_feed_19 : decode cX8_feed 19 = .ok (.ireturn, 1) := dk_172 (dk_at dksX8_feed_0 19 rfl rfl)
theorem dX8_feed_20 : decode cX8_feed 20 = .ok (.aload_n 0, 1) := dk_42 (dk_at dksX8_feed_0 20 rfl rfl)
theorem dX8_feed_21 : decode cX8_feed 21 = .ok (.iload_n 1, 1) := dk_27 (dk_at dksX8_feed_0 21 rfl rfl)
theorem dX8_feed_22 : decode cX8_feed 22 = .ok (.invokevirtual 100, 3) := dk_182 0 100 (dk_at dksX8_feed_1 0 rfl rfl)
theorem dX8_feed_25 : decode cX8_feed 25 = .ok (.aload_n 0, 1) := dk_42 (dk_at dksX8_feed_1 3 rfl rfl)
theorem dX8_feed_26 : decode cX8_feed 26 = .ok (.iload_n 2, 1) := dk_28 (dk_at dksX8_feed_1 4 rfl rfl)
theorem dX8_feed_27 : decode cX8_feed 27 = .ok (.invokevirtual 100, 3) := dk_182 0 100 (dk_at dksX8_feed_1 5 rfl rfl)
theorem dX8_feed_30 : decode cX8_feed 30 = .ok (.aload_n 0, 1) := dk_42 (dk_at dksX8_feed_1 8 rfl rfl)
theorem dX8_feed_31 : decode cX8_feed 31 = .ok (.iload_n 3, 1) := dk_29 (dk_at dksX8_feed_1 9 rfl rfl)
theorem dX8_feed_32 : decode cX8_feed 32 = .ok (.invokevirtual 100, 3) := dk_182 0 100 (dk_at dksX8_feed_1 10 rfl rfl)
theorem dX8_feed_35 : decode cX8_feed 35 = .ok (.aload_n 0, 1) := dk_42 (dk_at dksX8_feed_1 13 rfl rfl)
theorem dX8_feed_36 : decode cX8_feed 36 = .ok (.iload 4, 2) := dk_21 4 (dk_at dksX8_feed_1 14 rfl rfl)
theorem dX8_feed_38 : decode cX8_feed 38 = .ok (.invokevirtual 100, 3) := dk_182 0 100 (dk_at dksX8_feed_1 16 rfl rfl)
theorem dX8_feed_41 : decode cX8_feed 41 = .ok (.aload_n 0, 1) := dk_42 (dk_at dksX8_feed_1 19 rfl rfl)
theorem dX8_feed_42 : decode cX8_feed 42 = .ok (.iload 5, 2) := dk_21 5 (dk_at dksX8_feed_1 20 rfl rfl)
theorem dX8_feed_44 : decode cX8_feed 44 = .ok (.invokevirtual 100, 3) := dk_182 0 100 (dk_at dksX8_feed_2 0 rfl rfl)
theorem dX8_feed_47 : decode cX8_feed 47 = .ok (.aload_n 0, 1) := dk_42 (dk_at dksX8_feed_2 3 rfl rfl)
theorem dX8_feed_48 : decode cX8_feed 48 = .ok (.getfield 97, 3) := dk_180 0 97 (dk_at dksX8_feed_2 4 rfl rfl)
theorem dX8_feed_51 : decode cX8_feed 51 = .ok (.ireturn, 1) := dk_172 (dk_at dksX8_feed_2 7 rfl rfl)
abbrev cX8_four : ByteArray := prog_13_method_10_code
def yX8_four : MethodName := ⟨RX8, "four", "(I)V"⟩
def dkwX8_four_1 : List UInt8 := [180, 0, 97, 4, 96, 181, 0, 97, 132, 2, 248, 167, 255, 226, 177]
abbrev dktX8_four_1 : List UInt8 := dkwX8_four_1 ++ []
def dkwX8_four_0 : List UInt8 := [16, 24, 61, 28, 155, 0, 32, 42, 180, 0, 23, 42, 180, 0, 97, 27, 28, 122, 145, 84, 42, 89]
abbrev dktX8_four_0 : List UInt8 := dkwX8_four_0 ++ dktX8_four_1
theorem dksX8_four_0 : cX8_four.data.toList.drop 0 = dktX8_four_0 := by decide +kernel
theorem dksX8_four_1 : cX8_four.data.toList.drop 22 = dktX8_four_1 := dk_seg dksX8_four_0 22 rfl rfl
theorem dX8_four_0 : decode cX8_four 0 = .ok (.bipush 24, 2) := dk_16 24 (dk_at dksX8_four_0 0 rfl rfl)
theorem dX8_four_2 : decode cX8_four 2 = .ok (.istore_n 2, 1) := dk_61 (dk_at dksX8_four_0 2 rfl rfl)
theorem dX8_four_3 : decode cX8_four 3 = .ok (.iload_n 2, 1) := dk_28 (dk_at dksX8_four_0 3 rfl rfl)
theorem dX8_four_4 : decode cX8_four 4 = .ok (.ifCond .lt 32, 3) := dk_155 0 32 (dk_at dksX8_four_0 4 rfl rfl)
theorem dX8_four_7 : decode cX8_four 7 = .ok (.aload_n 0, 1) := dk_42 (dk_at dksX8_four_0 7 rfl rfl)
theorem dX8_four_8 : decode cX8_four 8 = .ok (.getfield 23, 3) := dk_180 0 23 (dk_at dksX8_four_0 8 rfl rfl)
theorem dX8_four_11 : decode cX8_four 11 = .ok (.aload_n 0, 1) := dk_42 (dk_at dksX8_four_0 11 rfl rfl)
theorem dX8_four_12 : decode cX8_four 12 = .ok (.getfield 97, 3) := dk_180 0 97 (dk_at dksX8_four_0 12 rfl rfl)
theorem dX8_four_15 : decode cX8_four 15 = .ok (.iload_n 1, 1) := dk_27 (dk_at dksX8_four_0 15 rfl rfl)
theorem dX8_four_16 : decode cX8_four 16 = .ok (.iload_n 2, 1) := dk_28 (dk_at dksX8_four_0 16 rfl rfl)
theorem dX8_four_17 : decode cX8_four 17 = .ok (.ishr, 1) := dk_122 (dk_at dksX8_four_0 17 rfl rfl)
theorem dX8_four_18 : decode cX8_four 18 = .ok (.i2b, 1) := dk_145 (dk_at dksX8_four_0 18 rfl rfl)
theorem dX8_four_19 : decode cX8_four 19 = .ok (.bastore, 1) := dk_84 (dk_at dksX8_four_0 19 rfl rfl)
theorem dX8_four_20 : decode cX8_four 20 = .ok (.aload_n 0, 1) := dk_42 (dk_at dksX8_four_0 20 rfl rfl)
theorem dX8_four_21 : decode cX8_four 21 = .ok (.dup, 1) := dk_89 (dk_at dksX8_four_0 21 rfl rfl)
theorem dX8_four_22 : decode cX8_four 22 = .ok (.getfield 97, 3) := dk_180 0 97 (dk_at dksX8_four_1 0 rfl rfl)
theorem dX8_four_25 : decode cX8_four 25 = .ok (.iconst 1, 1) := dk_4 (dk_at dksX8_four_1 3 rfl rfl)
theorem dX8_four_26 : decode cX8_four 26 = .ok (.iadd, 1) := dk_96 (dk_at dksX8_four_1 4 rfl rfl)
theorem dX8_four_27 : decode cX8_four 27 = .ok (.putfield 97, 3) := dk_181 0 97 (dk_at dksX8_four_1 5 rfl rfl)
theorem dX8_four_30 : decode cX8_four 30 = .ok (.iinc 2 (-8), 3) := dk_132 2 248 (dk_at dksX8_four_1 8 rfl rfl)
theorem dX8_four_33 : decode cX8_four 33 = .ok (.goto (-30), 3) := dk_167 255 226 (dk_at dksX8_four_1 11 rfl rfl)
theorem dX8_four_36 : decode cX8_four 36 = .ok (.return_, 1) := dk_177 (dk_at dksX8_four_1 14 rfl rfl)
abbrev cX8_end : ByteArray := prog_13_method_11_code
def yX8_end : MethodName := ⟨RX8, "end", "(I)I"⟩
def dkwX8_end_1 : List UInt8 := [181, 0, 97, 27, 172]
abbrev dktX8_end_1 : List UInt8 := dkwX8_end_1 ++ []
def dkwX8_end_0 : List UInt8 := [42, 3, 181, 0, 80, 27, 133, 9, 42, 180, 0, 97, 133, 184, 0, 85, 154, 0, 5, 2, 172, 42, 27]
abbrev dktX8_end_0 : List UInt8 := dkwX8_end_0 ++ dktX8_end_1
theorem dksX8_end_0 : cX8_end.data.toList.drop 0 = dktX8_end_0 := by decide +kernel
theorem dksX8_end_1 : cX8_end.data.toList.drop 23 = dktX8_end_1 := dk_seg dksX8_end_0 23 rfl rfl
theorem dX8_end_0 : decode cX8_end 0 = .ok (.aload_n 0, 1) := dk_42 (dk_at dksX8_end_0 0 rfl rfl)
theorem dX8_end_1 : decode cX8_end 1 = .ok (.iconst 0, 1) := dk_3 (dk_at dksX8_end_0 1 rfl rfl)
theorem dX8_end_2 : decode cX8_end 2 = .ok (.putfield 80, 3) := dk_181 0 80 (dk_at dksX8_end_0 2 rfl rfl)
theorem dX8_end_5 : decode cX8_end 5 = .ok (.iload_n 1, 1) := dk_27 (dk_at dksX8_end_0 5 rfl rfl)
theorem dX8_end_6 : decode cX8_end 6 = .ok (.i2l, 1) := dk_133 (dk_at dksX8_end_0 6 rfl rfl)
theorem dX8_end_7 : decode cX8_end 7 = .ok (.lconst 0, 1) := dk_9 (dk_at dksX8_end_0 7 rfl rfl)
theorem dX8_end_8 : decode cX8_end 8 = .ok (.aload_n 0, 1) := dk_42 (dk_at dksX8_end_0 8 rfl rfl)
theorem dX8_end_9 : decode cX8_end 9 = .ok (.getfield 97, 3) := dk_180 0 97 (dk_at dksX8_end_0 9 rfl rfl)
theorem dX8_end_12 : decode cX8_end 12 = .ok (.i2l, 1) := dk_133 (dk_at dksX8_end_0 12 rfl rfl)
theorem dX8_end_13 : decode cX8_end 13 = .ok (.invokestatic 85, 3) := dk_184 0 85 (dk_at dksX8_end_0 13 rfl rfl)
theorem dX8_end_16 : decode cX8_end 16 = .ok (.ifCond .ne 5, 3) := dk_154 0 5 (dk_at dksX8_end_0 16 rfl rfl)
theorem dX8_end_19 : decode cX8_end 19 = .ok (.iconst (-1), 1) := dk_2 (dk_at dksX8_end_0 19 rfl rfl)
theorem dX8_end_20 : decode cX8_end 20 = .ok (.ireturn, 1) := dk_172 (dk_at dksX8_end_0 20 rfl rfl)
theorem dX8_end_21 : decode cX8_end 21 = .ok (.aload_n 0, 1) := dk_42 (dk_at dksX8_end_0 21 rfl rfl)
theorem dX8_end_22 : decode cX8_end 22 = .ok (.iload_n 1, 1) := dk_27 (dk_at dksX8_end_0 22 rfl rfl)
theorem dX8_end_23 : decode cX8_end 23 = .ok (.putfield 97, 3) := dk_181 0 97 (dk_at dksX8_end_1 0 rfl rfl)
theorem dX8_end_26 : decode cX8_end 26 = .ok (.iload_n 1, 1) := dk_27 (dk_at dksX8_end_1 3 rfl rfl)
theorem dX8_end_27 : decode cX8_end 27 = .ok (.ireturn, 1) := dk_172 (dk_at dksX8_end_1 4 rfl rfl)
abbrev cX8_fault : ByteArray := prog_13_method_24_code
def yX8_fault : MethodName := ⟨RX8, "fault", "(I)I"⟩
def dkwX8_fault_1 : List UInt8 := [180, 0, 27, 167, 0, 4, 2, 172]
abbrev dktX8_fault_1 : List UInt8 := dkwX8_fault_1 ++ []
def dkwX8_fault_0 : List UInt8 := [42, 3, 181, 0, 80, 27, 154, 0, 10, 42, 180, 0, 159, 167, 0, 16, 27, 4, 160, 0, 10, 42]
abbrev dktX8_fault_0 : List UInt8 := dkwX8_fault_0 ++ dktX8_fault_1
theorem dksX8_fault_0 : cX8_fault.data.toList.drop 0 = dktX8_fault_0 := by decide +kernel
theorem dksX8_fault_1 : cX8_fault.data.toList.drop 22 = dktX8_fault_1 := dk_seg dksX8_fault_0 22 rfl rfl
theorem dX8_fault_0 : decode cX8_fault 0 = .ok (.aload_n 0, 1) := dk_42 (dk_at dksX8_fault_0 0 rfl rfl)
theorem dX8_fault_1 : decode cX8_fault 1 = .ok (.iconst 0, 1) := dk_3 (dk_at dksX8_fault_0 1 rfl rfl)
theorem dX8_fault_2 : decode cX8_fault 2 = .ok (.putfield 80, 3) := dk_181 0 80 (dk_at dksX8_fault_0 2 rfl rfl)
theorem dX8_fault_5 : decode cX8_fault 5 = .ok (.iload_n 1, 1) := dk_27 (dk_at dksX8_fault_0 5 rfl rfl)
theorem dX8_fault_6 : decode cX8_fault 6 = .ok (.ifCond .ne 10, 3) := dk_154 0 10 (dk_at dksX8_fault_0 6 rfl rfl)
theorem dX8_fault_9 : decode cX8_fault 9 = .ok (.aload_n 0, 1) := dk_42 (dk_at dksX8_fault_0 9 rfl rfl)
theorem dX8_fault_10 : decode cX8_fault 10 = .ok (.getfield 159, 3) := dk_180 0 159 (dk_at dksX8_fault_0 10 rfl rfl)
theorem dX8_fault_13 : decode cX8_fault 13 = .ok (.goto 16, 3) := dk_167 0 16 (dk_at dksX8_fault_0 13 rfl rfl)
theorem dX8_fault_16 : decode cX8_fault 16 = .ok (.iload_n 1, 1) := dk_27 (dk_at dksX8_fault_0 16 rfl rfl)
theorem dX8_fault_17 : decode cX8_fault 17 = .ok (.iconst 1, 1) := dk_4 (dk_at dksX8_fault_0 17 rfl rfl)
theorem dX8_fault_18 : decode cX8_fault 18 = .ok (.if_icmp .ne 10, 3) := dk_160 0 10 (dk_at dksX8_fault_0 18 rfl rfl)
theorem dX8_fault_21 : decode cX8_fault 21 = .ok (.aload_n 0, 1) := dk_42 (dk_at dksX8_fault_0 21 rfl rfl)
theorem dX8_fault_22 : decode cX8_fault 22 = .ok (.getfield 27, 3) := dk_180 0 27 (dk_at dksX8_fault_1 0 rfl rfl)
theorem dX8_fault_25 : decode cX8_fault 25 = .ok (.goto 4, 3) := dk_167 0 4 (dk_at dksX8_fault_1 3 rfl rfl)
theorem dX8_fault_28 : decode cX8_fault 28 = .ok (.iconst (-1), 1) := dk_2 (dk_at dksX8_fault_1 6 rfl rfl)
theorem dX8_fault_29 : decode cX8_fault 29 = .ok (.ireturn, 1) := dk_172 (dk_at dksX8_fault_1 7 rfl rfl)
abbrev cX8_dance : ByteArray := prog_13_method_36_code
def yX8_dance : MethodName := ⟨RX8, "dance", "()I"⟩
def dkwX8_dance_6 : List UInt8 := [180, 0, 31, 3, 46, 172]
abbrev dktX8_dance_6 : List UInt8 := dkwX8_dance_6 ++ []
def dkwX8_dance_5 : List UInt8 := [167, 255, 153, 42, 182, 0, 244, 42, 180, 0, 132, 153, 0, 6, 16, 252, 172, 42, 7, 3, 182, 0, 247, 42]
abbrev dktX8_dance_5 : List UInt8 := dkwX8_dance_5 ++ dktX8_dance_6
def dkwX8_dance_4 : List UInt8 := [182, 0, 238, 42, 182, 0, 168, 153, 0, 7, 42, 182, 0, 241, 42, 180, 0, 31, 7, 92, 46, 4, 96, 79]
abbrev dktX8_dance_4 : List UInt8 := dkwX8_dance_4 ++ dktX8_dance_5
def dkwX8_dance_3 : List UInt8 := [182, 0, 177, 42, 5, 42, 20, 0, 236, 3, 16, 100, 182, 0, 174, 182, 0, 177, 167, 0, 7, 42]
abbrev dktX8_dance_3 : List UInt8 := dkwX8_dance_3 ++ dktX8_dance_4
def dkwX8_dance_2 : List UInt8 := [20, 0, 232, 3, 16, 20, 182, 0, 174, 182, 0, 177, 42, 4, 42, 20, 0, 234, 3, 16, 100, 182, 0, 174]
abbrev dktX8_dance_2 : List UInt8 := dkwX8_dance_2 ++ dktX8_dance_3
def dkwX8_dance_1 : List UInt8 := [153, 0, 95, 42, 180, 0, 31, 7, 46, 154, 0, 58, 42, 20, 0, 230, 182, 0, 151, 42, 3, 42]
abbrev dktX8_dance_1 : List UInt8 := dkwX8_dance_1 ++ dktX8_dance_2
def dkwX8_dance_0 : List UInt8 := [42, 3, 181, 0, 80, 42, 182, 0, 224, 42, 182, 0, 227, 42, 182, 0, 168, 153, 0, 102, 42, 180, 0, 121]
abbrev dktX8_dance_0 : List UInt8 := dkwX8_dance_0 ++ dktX8_dance_1
theorem dksX8_dance_0 : cX8_dance.data.toList.drop 0 = dktX8_dance_0 := by decide +kernel
theorem dksX8_dance_1 : cX8_dance.data.toList.drop 24 = dktX8_dance_1 := dk_seg dksX8_dance_0 24 rfl rfl
theorem dksX8_dance_2 : cX8_dance.data.toList.drop 46 = dktX8_dance_2 := dk_seg dksX8_dance_1 22 rfl rfl
theorem dksX8_dance_3 : cX8_dance.data.toList.drop 70 = dktX8_dance_3 := dk_seg dksX8_dance_2 24 rfl rfl
theorem dksX8_dance_4 : cX8_dance.data.toList.drop 92 = dktX8_dance_4 := dk_seg dksX8_dance_3 22 rfl rfl
theorem dksX8_dance_5 : cX8_dance.data.toList.drop 116 = dktX8_dance_5 := dk_seg dksX8_dance_4 24 rfl rfl
theorem dksX8_dance_6 : cX8_dance.data.toList.drop 140 = dktX8_dance_6 := dk_seg dksX8_dance_5 24 rfl rfl
theorem dX8_dance_0 : decode cX8_dance 0 = .ok (.aload_n 0, 1) := dk_42 (dk_at dksX8_dance_0 0 rfl rfl)
theorem dX8_dance_1 : decode cX8_dance 1 = .ok (.iconst 0, 1) := dk_3 (dk_at dksX8_dance_0 1 rfl rfl)
theorem dX8_dance_2 : decode cX8_dance 2 = .ok (.putfield 80, 3) := dk_181 0 80 (dk_at dksX8_dance_0 2 rfl rfl)
theorem dX8_dance_5 : decode cX8_dance 5 = .ok (.aload_n 0, 1) := dk_42 (dk_at dksX8_dance_0 5 rfl rfl)
theorem dX8_dance_6 : decode cX8_dance 6 = .ok (.invokevirtual 224, 3) := dk_182 0 224 (dk_at dksX8_dance_0 6 rfl rfl)
theorem dX8_dance_9 : decode cX8_dance 9 = .ok (.aload_n 0, 1) := dk_42 (dk_at dksX8_dance_0 9 rfl rfl)
theorem dX8_dance_10 : decode cX8_dance 10 = .ok (.invokevirtual 227, 3) := dk_182 0 227 (dk_at dksX8_dance_0 10 rfl rfl)
theorem dX8_dance_13 : decode cX8_dance 13 = .ok (.aload_n 0, 1) := dk_42 (dk_at dksX8_dance_0 13 rfl rfl)
theorem dX8_dance_14 : decode cX8_dance 14 = .ok (.invokevirtual 168, 3) := dk_182 0 168 (dk_at dksX8_dance_0 14 rfl rfl)
theorem dX8_dance_17 : decode cX8_dance 17 = .ok (.ifCond .eq 102, 3) := dk_153 0 102 (dk_at dksX8_dance_0 17 rfl rfl)
theorem dX8_dance_20 : decode cX8_dance 20 = .ok (.aload_n 0, 1) := dk_42 (dk_at dksX8_dance_0 20 rfl rfl)
theorem dX8_dance_21 : decode cX8_dance 21 = .ok (.getfield 121, 3) := dk_180 0 121 (dk_at dksX8_dance_0 21 rfl rfl)
theorem dX8_dance_24 : decode cX8_dance 24 = .ok (.ifCond .eq 95, 3) := dk_153 0 95 (dk_at dksX8_dance_1 0 rfl rfl)
theorem dX8_dance_27 : decode cX8_dance 27 = .ok (.aload_n 0, 1) := dk_42 (dk_at dksX8_dance_1 3 rfl rfl)
theorem dX8_dance_28 : decode cX8_dance 28 = .ok (.getfield 31, 3) := dk_180 0 31 (dk_at dksX8_dance_1 4 rfl rfl)
theorem dX8_dance_31 : decode cX8_dance 31 = .ok (.iconst 4, 1) := dk_7 (dk_at dksX8_dance_1 7 rfl rfl)
theorem dX8_dance_32 : decode cX8_dance 32 = .ok (.iaload, 1) := dk_46 (dk_at dksX8_dance_1 8 rfl rfl)
theorem dX8_dance_33 : decode cX8_dance 33 = .ok (.ifCond .ne 58, 3) := dk_154 0 58 (dk_at dksX8_dance_1 9 rfl rfl)
theorem dX8_dance_36 : decode cX8_dance 36 = .ok (.aload_n 0, 1) := dk_42 (dk_at dksX8_dance_1 12 rfl rfl)
theorem dX8_dance_37 : decode cX8_dance 37 = .ok (.ldc2_w 230, 3) := dk_20 0 230 (dk_at dksX8_dance_1 13 rfl rfl)
theorem dX8_dance_40 : decode cX8_dance 40 = .ok (.invokevirtual 151, 3) := dk_182 0 151 (dk_at dksX8_dance_1 16 rfl rfl)
theorem dX8_dance_43 : decode cX8_dance 43 = .ok (.aload_n 0, 1) := dk_42 (dk_at dksX8_dance_1 19 rfl rfl)
theorem dX8_dance_44 : decode cX8_dance 44 = .ok (.iconst 0, 1) := dk_3 (dk_at dksX8_dance_1 20 rfl rfl)
theorem dX8_dance_45 : decode cX8_dance 45 = .ok (.aload_n 0, 1) := dk_42 (dk_at dksX8_dance_1 21 rfl rfl)
theorem dX8_dance_46 : decode cX8_dance 46 = .ok (.ldc2_w 232, 3) := dk_20 0 232 (dk_at dksX8_dance_2 0 rfl rfl)
theorem dX8_dance_49 : decode cX8_dance 49 = .ok (.iconst 0, 1) := dk_3 (dk_at dksX8_dance_2 3 rfl rfl)
theorem dX8_dance_50 : decode cX8_dance 50 = .ok (.bipush 20, 2) := dk_16 20 (dk_at dksX8_dance_2 4 rfl rfl)
theorem dX8_dance_52 : decode cX8_dance 52 = .ok (.invokevirtual 174, 3) := dk_182 0 174 (dk_at dksX8_dance_2 6 rfl rfl)
theorem dX8_dance_55 : decode cX8_dance 55 = .ok (.invokevirtual 177, 3) := dk_182 0 177 (dk_at dksX8_dance_2 9 rfl rfl)
theorem dX8_dance_58 : decode cX8_dance 58 = .ok (.aload_n 0, 1) := dk_42 (dk_at dksX8_dance_2 12 rfl rfl)
theorem dX8_dance_59 : decode cX8_dance 59 = .ok (.iconst 1, 1) := dk_4 (dk_at dksX8_dance_2 13 rfl rfl)
theorem dX8_dance_60 : decode cX8_dance 60 = .ok (.aload_n 0, 1) := dk_42 (dk_at dksX8_dance_2 14 rfl rfl)
theorem dX8_dance_61 : decode cX8_dance 61 = .ok (.ldc2_w 234, 3) := dk_20 0 234 (dk_at dksX8_dance_2 15 rfl rfl)
theorem dX8_dance_64 : decode cX8_dance 64 = .ok (.iconst 0, 1) := dk_3 (dk_at dksX8_dance_2 18 rfl rfl)
theorem dX8_dance_65 : decode cX8_dance 65 = .ok (.bipush 100, 2) := dk_16 100 (dk_at dksX8_dance_2 19 rfl rfl)
theorem dX8_dance_67 : decode cX8_dance 67 = .ok (.invokevirtual 174, 3) := dk_182 0 174 (dk_at dksX8_dance_2 21 rfl rfl)
theorem dX8_dance_70 : decode cX8_dance 70 = .ok (.invokevirtual 177, 3) := dk_182 0 177 (dk_at dksX8_dance_3 0 rfl rfl)
theorem dX8_dance_73 : decode cX8_dance 73 = .ok (.aload_n 0, 1) := dk_42 (dk_at dksX8_dance_3 3 rfl rfl)
theorem dX8_dance_74 : decode cX8_dance 74 = .ok (.iconst 2, 1) := dk_5 (dk_at dksX8_dance_3 4 rfl rfl)
theorem dX8_dance_75 : decode cX8_dance 75 = .ok (.aload_n 0, 1) := dk_42 (dk_at dksX8_dance_3 5 rfl rfl)
theorem dX8_dance_76 : decode cX8_dance 76 = .ok (.ldc2_w 236, 3) := dk_20 0 236 (dk_at dksX8_dance_3 6 rfl rfl)
theorem dX8_dance_79 : decode cX8_dance 79 = .ok (.iconst 0, 1) := dk_3 (dk_at dksX8_dance_3 9 rfl rfl)
theorem dX8_dance_80 : decode cX8_dance 80 = .ok (.bipush 100, 2) := dk_16 100 (dk_at dksX8_dance_3 10 rfl rfl)
theorem dX8_dance_82 : decode cX8_dance 82 = .ok (.invokevirtual 174, 3) := dk_182 0 174 (dk_at dksX8_dance_3 12 rfl rfl)
theorem dX8_dance_85 : decode cX8_dance 85 = .ok (.invokevirtual 177, 3) := dk_182 0 177 (dk_at dksX8_dance_3 15 rfl rfl)
theorem dX8_dance_88 : decode cX8_dance 88 = .ok (.goto 7, 3) := dk_167 0 7 (dk_at dksX8_dance_3 18 rfl rfl)
theorem dX8_dance_91 : decode cX8_dance 91 = .ok (.aload_n 0, 1) := dk_42 (dk_at dksX8_dance_3 21 rfl rfl)
theorem dX8_dance_92 : decode cX8_dance 92 = .ok (.invokevirtual 238, 3) := dk_182 0 238 (dk_at dksX8_dance_4 0 rfl rfl)
theorem dX8_dance_95 : decode cX8_dance 95 = .ok (.aload_n 0, 1) := dk_42 (dk_at dksX8_dance_4 3 rfl rfl)
theorem dX8_dance_96 : decode cX8_dance 96 = .ok (.invokevirtual 168, 3) := dk_182 0 168 (dk_at dksX8_dance_4 4 rfl rfl)
theorem dX8_dance_99 : decode cX8_dance 99 = .ok (.ifCond .eq 7, 3) := dk_153 0 7 (dk_at dksX8_dance_4 7 rfl rfl)
theorem dX8_dance_102 : decode cX8_dance 102 = .ok (.aload_n 0, 1) := dk_42 (dk_at dksX8_dance_4 10 rfl rfl)
theorem dX8_dance_103 : decode cX8_dance 103 = .ok (.invokevirtual 241, 3) := dk_182 0 241 (dk_at dksX8_dance_4 11 rfl rfl)
theorem dX8_dance_106 : decode cX8_dance 106 = .ok (.aload_n 0, 1) := dk_42 (dk_at dksX8_dance_4 14 rfl rfl)
theorem dX8_dance_107 : decode cX8_dance 107 = .ok (.getfield 31, 3) := dk_180 0 31 (dk_at dksX8_dance_4 15 rfl rfl)
theorem dX8_dance_110 : decode cX8_dance 110 = .ok (.iconst 4, 1) := dk_7 (dk_at dksX8_dance_4 18 rfl rfl)
theorem dX8_dance_111 : decode cX8_dance 111 = .ok (.dup2, 1) := dk_92 (dk_at dksX8_dance_4 19 rfl rfl)
theorem dX8_dance_112 : decode cX8_dance 112 = .ok (.iaload, 1) := dk_46 (dk_at dksX8_dance_4 20 rfl rfl)
theorem dX8_dance_113 : decode cX8_dance 113 = .ok (.iconst 1, 1) := dk_4 (dk_at dksX8_dance_4 21 rfl rfl)
theorem dX8_dance_114 : decode cX8_dance 114 = .ok (.iadd, 1) := dk_96 (dk_at dksX8_dance_4 22 rfl rfl)
theorem dX8_dance_115 : decode cX8_dance 115 = .ok (.iastore, 1) := dk_79 (dk_at dksX8_dance_4 23 rfl rfl)
theorem dX8_dance_116 : decode cX8_dance 116 = .ok (.goto (-103), 3) := dk_167 255 153 (dk_at dksX8_dance_5 0 rfl rfl)
theorem dX8_dance_119 : decode cX8_dance 119 = .ok (.aload_n 0, 1) := dk_42 (dk_at dksX8_dance_5 3 rfl rfl)
theorem dX8_dance_120 : decode cX8_dance 120 = .ok (.invokevirtual 244, 3) := dk_182 0 244 (dk_at dksX8_dance_5 4 rfl rfl)
theorem dX8_dance_123 : decode cX8_dance 123 = .ok (.aload_n 0, 1) := dk_42 (dk_at dksX8_dance_5 7 rfl rfl)
theorem dX8_dance_124 : decode cX8_dance 124 = .ok (.getfield 132, 3) := dk_180 0 132 (dk_at dksX8_dance_5 8 rfl rfl)
theorem dX8_dance_127 : decode cX8_dance 127 = .ok (.ifCond .eq 6, 3) := dk_153 0 6 (dk_at dksX8_dance_5 11 rfl rfl)
theorem dX8_dance_130 : decode cX8_dance 130 = .ok (.bipush (-4), 2) := dk_16 252 (dk_at dksX8_dance_5 14 rfl rfl)
theorem dX8_dance_132 : decode cX8_dance 132 = .ok (.ireturn, 1) := dk_172 (dk_at dksX8_dance_5 16 rfl rfl)
theorem dX8_dance_133 : decode cX8_dance 133 = .ok (.aload_n 0, 1) := dk_42 (dk_at dksX8_dance_5 17 rfl rfl)
theorem dX8_dance_134 : decode cX8_dance 134 = .ok (.iconst 4, 1) := dk_7 (dk_at dksX8_dance_5 18 rfl rfl)
theorem dX8_dance_135 : decode cX8_dance 135 = .ok (.iconst 0, 1) := dk_3 (dk_at dksX8_dance_5 19 rfl rfl)
theorem dX8_dance_136 : decode cX8_dance 136 = .ok (.invokevirtual 247, 3) := dk_182 0 247 (dk_at dksX8_dance_5 20 rfl rfl)
theorem dX8_dance_139 : decode cX8_dance 139 = .ok (.aload_n 0, 1) := dk_42 (dk_at dksX8_dance_5 23 rfl rfl)
theorem dX8_dance_140 : decode cX8_dance 140 = .ok (.getfield 31, 3) := dk_180 0 31 (dk_at dksX8_dance_6 0 rfl rfl)
theorem dX8_dance_143 : decode cX8_dance 143 = .ok (.iconst 0, 1) := dk_3 (dk_at dksX8_dance_6 3 rfl rfl)
theorem dX8_dance_144 : decode cX8_dance 144 = .ok (.iaload, 1) := dk_46 (dk_at dksX8_dance_6 4 rfl rfl)
theorem dX8_dance_145 : decode cX8_dance 145 = .ok (.ireturn, 1) := dk_172 (dk_at dksX8_dance_6 5 rfl rfl)
abbrev cX8_clears : ByteArray := prog_13_method_35_code
def yX8_clears : MethodName := ⟨RX8, "clears", "()V"⟩
def dkwX8_clears_3 : List UInt8 := [3, 84, 132, 1, 1, 167, 255, 235, 177]
abbrev dktX8_clears_3 : List UInt8 := dkwX8_clears_3 ++ []
def dkwX8_clears_2 : List UInt8 := [132, 1, 1, 167, 255, 236, 3, 60, 27, 17, 0, 200, 162, 0, 20, 42, 180, 0, 46, 17, 3, 32, 27, 96]
abbrev dktX8_clears_2 : List UInt8 := dkwX8_clears_2 ++ dktX8_clears_3
def dkwX8_clears_1 : List UInt8 := [167, 255, 241, 3, 60, 27, 16, 6, 162, 0, 20, 42, 180, 0, 40, 16, 24, 27, 96, 16, 63, 79]
abbrev dktX8_clears_1 : List UInt8 := dkwX8_clears_1 ++ dktX8_clears_2
def dkwX8_clears_0 : List UInt8 := [42, 180, 0, 31, 7, 3, 79, 3, 60, 27, 16, 11, 162, 0, 15, 42, 27, 3, 182, 0, 177, 132, 1, 1]
abbrev dktX8_clears_0 : List UInt8 := dkwX8_clears_0 ++ dktX8_clears_1
theorem dksX8_clears_0 : cX8_clears.data.toList.drop 0 = dktX8_clears_0 := by decide +kernel
theorem dksX8_clears_1 : cX8_clears.data.toList.drop 24 = dktX8_clears_1 := dk_seg dksX8_clears_0 24 rfl rfl
theorem dksX8_clears_2 : cX8_clears.data.toList.drop 46 = dktX8_clears_2 := dk_seg dksX8_clears_1 22 rfl rfl
theorem dksX8_clears_3 : cX8_clears.data.toList.drop 70 = dktX8_clears_3 := dk_seg dksX8_clears_2 24 rfl rfl
theorem dX8_clears_0 : decode cX8_clears 0 = .ok (.aload_n 0, 1) := dk_42 (dk_at dksX8_clears_0 0 rfl rfl)
theorem dX8_clears_1 : decode cX8_clears 1 = .ok (.getfield 31, 3) := dk_180 0 31 (dk_at dksX8_clears_0 1 rfl rfl)
theorem dX8_clears_4 : decode cX8_clears 4 = .ok (.iconst 4, 1) := dk_7 (dk_at dksX8_clears_0 4 rfl rfl)
theorem dX8_clears_5 : decode cX8_clears 5 = .ok (.iconst 0, 1) := dk_3 (dk_at dksX8_clears_0 5 rfl rfl)
theorem dX8_clears_6 : decode cX8_clears 6 = .ok (.iastore, 1) := dk_79 (dk_at dksX8_clears_0 6 rfl rfl)
theorem dX8_clears_7 : decode cX8_clears 7 = .ok (.iconst 0, 1) := dk_3 (dk_at dksX8_clears_0 7 rfl rfl)
theorem dX8_clears_8 : decode cX8_clears 8 = .ok (.istore_n 1, 1) := dk_60 (dk_at dksX8_clears_0 8 rfl rfl)
theorem dX8_clears_9 : decode cX8_clears 9 = .ok (.iload_n 1, 1) := dk_27 (dk_at dksX8_clears_0 9 rfl rfl)
theorem dX8_clears_10 : decode cX8_clears 10 = .ok (.bipush 11, 2) := dk_16 11 (dk_at dksX8_clears_0 10 rfl rfl)
theorem dX8_clears_12 : decode cX8_clears 12 = .ok (.if_icmp .ge 15, 3) := dk_162 0 15 (dk_at dksX8_clears_0 12 rfl rfl)
theorem dX8_clears_15 : decode cX8_clears 15 = .ok (.aload_n 0, 1) := dk_42 (dk_at dksX8_clears_0 15 rfl rfl)
theorem dX8_clears_16 : decode cX8_clears 16 = .ok (.iload_n 1, 1) := dk_27 (dk_at dksX8_clears_0 16 rfl rfl)
theorem dX8_clears_17 : decode cX8_clears 17 = .ok (.iconst 0, 1) := dk_3 (dk_at dksX8_clears_0 17 rfl rfl)
theorem dX8_clears_18 : decode cX8_clears 18 = .ok (.invokevirtual 177, 3) := dk_182 0 177 (dk_at dksX8_clears_0 18 rfl rfl)
theorem dX8_clears_21 : decode cX8_clears 21 = .ok (.iinc 1 1, 3) := dk_132 1 1 (dk_at dksX8_clears_0 21 rfl rfl)
theorem dX8_clears_24 : decode cX8_clears 24 = .ok (.goto (-15), 3) := dk_167 255 241 (dk_at dksX8_clears_1 0 rfl rfl)
theorem dX8_clears_27 : decode cX8_clears 27 = .ok (.iconst 0, 1) := dk_3 (dk_at dksX8_clears_1 3 rfl rfl)
theorem dX8_clears_28 : decode cX8_clears 28 = .ok (.istore_n 1, 1) := dk_60 (dk_at dksX8_clears_1 4 rfl rfl)
theorem dX8_clears_29 : decode cX8_clears 29 = .ok (.iload_n 1, 1) := dk_27 (dk_at dksX8_clears_1 5 rfl rfl)
theorem dX8_clears_30 : decode cX8_clears 30 = .ok (.bipush 6, 2) := dk_16 6 (dk_at dksX8_clears_1 6 rfl rfl)
theorem dX8_clears_32 : decode cX8_clears 32 = .ok (.if_icmp .ge 20, 3) := dk_162 0 20 (dk_at dksX8_clears_1 8 rfl rfl)
theorem dX8_clears_35 : decode cX8_clears 35 = .ok (.aload_n 0, 1) := dk_42 (dk_at dksX8_clears_1 11 rfl rfl)
theorem dX8_clears_36 : decode cX8_clears 36 = .ok (.getfield 40, 3) := dk_180 0 40 (dk_at dksX8_clears_1 12 rfl rfl)
theorem dX8_clears_39 : decode cX8_clears 39 = .ok (.bipush 24, 2) := dk_16 24 (dk_at dksX8_clears_1 15 rfl rfl)
theorem dX8_clears_41 : decode cX8_clears 41 = .ok (.iload_n 1, 1) := dk_27 (dk_at dksX8_clears_1 17 rfl rfl)
theorem dX8_clears_42 : decode cX8_clears 42 = .ok (.iadd, 1) := dk_96 (dk_at dksX8_clears_1 18 rfl rfl)
theorem dX8_clears_43 : decode cX8_clears 43 = .ok (.bipush 63, 2) := dk_16 63 (dk_at dksX8_clears_1 19 rfl rfl)
theorem dX8_clears_45 : decode cX8_clears 45 = .ok (.iastore, 1) := dk_79 (dk_at dksX8_clears_1 21 rfl rfl)
theorem dX8_clears_46 : decode cX8_clears 46 = .ok (.iinc 1 1, 3) := dk_132 1 1 (dk_at dksX8_clears_2 0 rfl rfl)
theorem dX8_clears_49 : decode cX8_clears 49 = .ok (.goto (-20), 3) := dk_167 255 236 (dk_at dksX8_clears_2 3 rfl rfl)
theorem dX8_clears_52 : decode cX8_clears 52 = .ok (.iconst 0, 1) := dk_3 (dk_at dksX8_clears_2 6 rfl rfl)
theorem dX8_clears_53 : decode cX8_clears 53 = .ok (.istore_n 1, 1) := dk_60 (dk_at dksX8_clears_2 7 rfl rfl)
theorem dX8_clears_54 : decode cX8_clears 54 = .ok (.iload_n 1, 1) := dk_27 (dk_at dksX8_clears_2 8 rfl rfl)
theorem dX8_clears_55 : decode cX8_clears 55 = .ok (.sipush 200, 3) := dk_17 0 200 (dk_at dksX8_clears_2 9 rfl rfl)
theorem dX8_clears_58 : decode cX8_clears 58 = .ok (.if_icmp .ge 20, 3) := dk_162 0 20 (dk_at dksX8_clears_2 12 rfl rfl)
theorem dX8_clears_61 : decode cX8_clears 61 = .ok (.aload_n 0, 1) := dk_42 (dk_at dksX8_clears_2 15 rfl rfl)
theorem dX8_clears_62 : decode cX8_clears 62 = .ok (.getfield 46, 3) := dk_180 0 46 (dk_at dksX8_clears_2 16 rfl rfl)
theorem dX8_clears_65 : decode cX8_clears 65 = .ok (.sipush 800, 3) := dk_17 3 32 (dk_at dksX8_clears_2 19 rfl rfl)
theorem dX8_clears_68 : decode cX8_clears 68 = .ok (.iload_n 1, 1) := dk_27 (dk_at dksX8_clears_2 22 rfl rfl)
theorem dX8_clears_69 : decode cX8_clears 69 = .ok (.iadd, 1) := dk_96 (dk_at dksX8_clears_2 23 rfl rfl)
theorem dX8_clears_70 : decode cX8_clears 70 = .ok (.iconst 0, 1) := dk_3 (dk_at dksX8_clears_3 0 rfl rfl)
theorem dX8_clears_71 : decode cX8_clears 71 = .ok (.bastore, 1) := dk_84 (dk_at dksX8_clears_3 1 rfl rfl)
theorem dX8_clears_72 : decode cX8_clears 72 = .ok (.iinc 1 1, 3) := dk_132 1 1 (dk_at dksX8_clears_3 2 rfl rfl)
theorem dX8_clears_75 : decode cX8_clears 75 = .ok (.goto (-21), 3) := dk_167 255 235 (dk_at dksX8_clears_3 5 rfl rfl)
theorem dX8_clears_78 : decode cX8_clears 78 = .ok (.return_, 1) := dk_177 (dk_at dksX8_clears_3 8 rfl rfl)
abbrev cX8_reads : ByteArray := prog_13_method_26_code
def yX8_reads : MethodName := ⟨RX8, "reads", "(II)V"⟩
def dkwX8_reads_0 : List UInt8 := [42, 180, 0, 34, 16, 44, 27, 96, 28, 79, 177]
abbrev dktX8_reads_0 : List UInt8 := dkwX8_reads_0 ++ []
theorem dksX8_reads_0 : cX8_reads.data.toList.drop 0 = dktX8_reads_0 := by decide +kernel
theorem dX8_reads_0 : decode cX8_reads 0 = .ok (.aload_n 0, 1) := dk_42 (dk_at dksX8_reads_0 0 rfl rfl)
theorem dX8_reads_1 : decode cX8_reads 1 = .ok (.getfield 34, 3) := dk_180 0 34 (dk_at dksX8_reads_0 1 rfl rfl)
theorem dX8_reads_4 : decode cX8_reads 4 = .ok (.bipush 44, 2) := dk_16 44 (dk_at dksX8_reads_0 4 rfl rfl)
theorem dX8_reads_6 : decode cX8_reads 6 = .ok (.iload_n 1, 1) := dk_27 (dk_at dksX8_reads_0 6 rfl rfl)
theorem dX8_reads_7 : decode cX8_reads 7 = .ok (.iadd, 1) := dk_96 (dk_at dksX8_reads_0 7 rfl rfl)
theorem dX8_reads_8 : decode cX8_reads 8 = .ok (.iload_n 2, 1) := dk_28 (dk_at dksX8_reads_0 8 rfl rfl)
theorem dX8_reads_9 : decode cX8_reads 9 = .ok (.iastore, 1) := dk_79 (dk_at dksX8_reads_0 9 rfl rfl)
theorem dX8_reads_10 : decode cX8_reads 10 = .ok (.return_, 1) := dk_177 (dk_at dksX8_reads_0 10 rfl rfl)
abbrev cX8_begins : ByteArray := prog_13_method_22_code
def yX8_begins : MethodName := ⟨RX8, "begins", "()V"⟩
def dkwX8_begins_0 : List UInt8 := [42, 3, 181, 0, 132, 42, 2, 181, 0, 135, 42, 3, 181, 0, 104, 42, 182, 0, 142, 177]
abbrev dktX8_begins_0 : List UInt8 := dkwX8_begins_0 ++ []
theorem dksX8_begins_0 : cX8_begins.data.toList.drop 0 = dktX8_begins_0 := by decide +kernel
theorem dX8_begins_0 : decode cX8_begins 0 = .ok (.aload_n 0, 1) := dk_42 (dk_at dksX8_begins_0 0 rfl rfl)
theorem dX8_begins_1 : decode cX8_begins 1 = .ok (.iconst 0, 1) := dk_3 (dk_at dksX8_begins_0 1 rfl rfl)
theorem dX8_begins_2 : decode cX8_begins 2 = .ok (.putfield 132, 3) := dk_181 0 132 (dk_at dksX8_begins_0 2 rfl rfl)
theorem dX8_begins_5 : decode cX8_begins 5 = .ok (.aload_n 0, 1) := dk_42 (dk_at dksX8_begins_0 5 rfl rfl)
theorem dX8_begins_6 : decode cX8_begins 6 = .ok (.iconst (-1), 1) := dk_2 (dk_at dksX8_begins_0 6 rfl rfl)
theorem dX8_begins_7 : decode cX8_begins 7 = .ok (.putfield 135, 3) := dk_181 0 135 (dk_at dksX8_begins_0 7 rfl rfl)
theorem dX8_begins_10 : decode cX8_begins 10 = .ok (.aload_n 0, 1) := dk_42 (dk_at dksX8_begins_0 10 rfl rfl)
theorem dX8_begins_11 : decode cX8_begins 11 = .ok (.iconst 0, 1) := dk_3 (dk_at dksX8_begins_0 11 rfl rfl)
theorem dX8_begins_12 : decode cX8_begins 12 = .ok (.putfield 104, 3) := dk_181 0 104 (dk_at dksX8_begins_0 12 rfl rfl)
theorem dX8_begins_15 : decode cX8_begins 15 = .ok (.aload_n 0, 1) := dk_42 (dk_at dksX8_begins_0 15 rfl rfl)
theorem dX8_begins_16 : decode cX8_begins 16 = .ok (.invokevirtual 142, 3) := dk_182 0 142 (dk_at dksX8_begins_0 16 rfl rfl)
theorem dX8_begins_19 : decode cX8_begins 19 = .ok (.return_, 1) := dk_177 (dk_at dksX8_begins_0 19 rfl rfl)
abbrev cX8_next : ByteArray := prog_13_method_13_code
def yX8_next : MethodName := ⟨RX8, "next", "()V"⟩
def dkwX8_next_13 : List UInt8 := [181, 0, 104, 177]
abbrev dktX8_next_13 : List UInt8 := dkwX8_next_13 ++ []
def dkwX8_next_12 : List UInt8 := [180, 0, 104, 51, 16, 59, 160, 0, 7, 6, 167, 0, 4, 7, 181, 0, 121, 42, 89, 180, 0, 104, 4, 96]
abbrev dktX8_next_12 : List UInt8 := dkwX8_next_12 ++ dktX8_next_13
def dkwX8_next_11 : List UInt8 := [181, 0, 114, 42, 89, 180, 0, 104, 4, 96, 181, 0, 104, 167, 255, 193, 42, 42, 180, 0, 23, 42]
abbrev dktX8_next_11 : List UInt8 := dkwX8_next_11 ++ dktX8_next_12
def dkwX8_next_10 : List UInt8 := [167, 0, 23, 16, 10, 42, 180, 0, 114, 104, 42, 180, 0, 23, 42, 180, 0, 104, 51, 96, 16, 48, 100]
abbrev dktX8_next_10 : List UInt8 := dkwX8_next_10 ++ dktX8_next_11
def dkwX8_next_9 : List UInt8 := [16, 48, 16, 57, 182, 0, 107, 153, 0, 87, 42, 42, 180, 0, 114, 18, 130, 164, 0, 8, 18, 131]
abbrev dktX8_next_9 : List UInt8 := dkwX8_next_9 ++ dktX8_next_10
def dkwX8_next_8 : List UInt8 := [180, 0, 104, 16, 48, 16, 57, 182, 0, 107, 153, 0, 74, 42, 5, 181, 0, 121, 42, 42, 180, 0, 104]
abbrev dktX8_next_8 : List UInt8 := dkwX8_next_8 ++ dktX8_next_9
def dkwX8_next_7 : List UInt8 := [181, 0, 117, 42, 89, 180, 0, 104, 4, 96, 181, 0, 104, 132, 1, 1, 167, 255, 176, 167, 0, 122, 42, 42]
abbrev dktX8_next_7 : List UInt8 := dkwX8_next_7 ++ dktX8_next_8
def dkwX8_next_6 : List UInt8 := [180, 0, 104, 51, 133, 97, 20, 0, 128, 101, 181, 0, 117, 27, 16, 11, 164, 0, 10, 42, 20, 0, 124]
abbrev dktX8_next_6 : List UInt8 := dkwX8_next_6 ++ dktX8_next_7
def dkwX8_next_5 : List UInt8 := [16, 11, 164, 0, 9, 20, 0, 124, 167, 0, 26, 20, 0, 126, 42, 180, 0, 117, 105, 42, 180, 0, 23, 42]
abbrev dktX8_next_5 : List UInt8 := dkwX8_next_5 ++ dktX8_next_6
def dkwX8_next_4 : List UInt8 := [4, 181, 0, 121, 3, 60, 42, 42, 180, 0, 104, 16, 97, 16, 122, 182, 0, 107, 153, 0, 71, 42, 27]
abbrev dktX8_next_4 : List UInt8 := dkwX8_next_4 ++ dktX8_next_5
def dkwX8_next_3 : List UInt8 := [42, 3, 181, 0, 121, 167, 0, 230, 42, 42, 180, 0, 104, 16, 97, 16, 122, 182, 0, 107, 153, 0, 96, 42]
abbrev dktX8_next_3 : List UInt8 := dkwX8_next_3 ++ dktX8_next_4
def dkwX8_next_2 : List UInt8 := [181, 0, 111, 42, 3, 181, 0, 114, 42, 9, 181, 0, 117, 42, 180, 0, 104, 42, 180, 0, 97, 160, 0, 11]
abbrev dktX8_next_2 : List UInt8 := dkwX8_next_2 ++ dktX8_next_3
def dkwX8_next_1 : List UInt8 := [182, 0, 107, 153, 0, 16, 42, 89, 180, 0, 104, 4, 96, 181, 0, 104, 167, 255, 216, 42, 42, 180, 0, 104]
abbrev dktX8_next_1 : List UInt8 := dkwX8_next_1 ++ dktX8_next_2
def dkwX8_next_0 : List UInt8 := [42, 42, 180, 0, 104, 16, 32, 16, 32, 182, 0, 107, 154, 0, 18, 42, 42, 180, 0, 104, 16, 10, 16, 10]
abbrev dktX8_next_0 : List UInt8 := dkwX8_next_0 ++ dktX8_next_1
theorem dksX8_next_0 : cX8_next.data.toList.drop 0 = dktX8_next_0 := by decide +kernel
theorem dksX8_next_1 : cX8_next.data.toList.drop 24 = dktX8_next_1 := dk_seg dksX8_next_0 24 rfl rfl
theorem dksX8_next_2 : cX8_next.data.toList.drop 48 = dktX8_next_2 := dk_seg dksX8_next_1 24 rfl rfl
theorem dksX8_next_3 : cX8_next.data.toList.drop 72 = dktX8_next_3 := dk_seg dksX8_next_2 24 rfl rfl
theorem dksX8_next_4 : cX8_next.data.toList.drop 96 = dktX8_next_4 := dk_seg dksX8_next_3 24 rfl rfl
theorem dksX8_next_5 : cX8_next.data.toList.drop 119 = dktX8_next_5 := dk_seg dksX8_next_4 23 rfl rfl
theorem dksX8_next_6 : cX8_next.data.toList.drop 143 = dktX8_next_6 := dk_seg dksX8_next_5 24 rfl rfl
theorem dksX8_next_7 : cX8_next.data.toList.drop 166 = dktX8_next_7 := dk_seg dksX8_next_6 23 rfl rfl
theorem dksX8_next_8 : cX8_next.data.toList.drop 190 = dktX8_next_8 := dk_seg dksX8_next_7 24 rfl rfl
theorem dksX8_next_9 : cX8_next.data.toList.drop 213 = dktX8_next_9 := dk_seg dksX8_next_8 23 rfl rfl
theorem dksX8_next_10 : cX8_next.data.toList.drop 235 = dktX8_next_10 := dk_seg dksX8_next_9 22 rfl rfl
theorem dksX8_next_11 : cX8_next.data.toList.drop 258 = dktX8_next_11 := dk_seg dksX8_next_10 23 rfl rfl
theorem dksX8_next_12 : cX8_next.data.toList.drop 280 = dktX8_next_12 := dk_seg dksX8_next_11 22 rfl rfl
theorem dksX8_next_13 : cX8_next.data.toList.drop 304 = dktX8_next_13 := dk_seg dksX8_next_12 24 rfl rfl
theorem dX8_next_0 : decode cX8_next 0 = .ok (.aload_n 0, 1) := dk_42 (dk_at dksX8_next_0 0 rfl rfl)
theorem dX8_next_1 : decode cX8_next 1 = .ok (.aload_n 0, 1) := dk_42 (dk_at dksX8_next_0 1 rfl rfl)
theorem dX8_next_2 : decode cX8_next 2 = .ok (.getfield 104, 3) := dk_180 0 104 (dk_at dksX8_next_0 2 rfl rfl)
theorem dX8_next_5 : decode cX8_next 5 = .ok (.bipush 32, 2) := dk_16 32 (dk_at dksX8_next_0 5 rfl rfl)
theorem dX8_next_7 : decode cX8_next 7 = .ok (.bipush 32, 2) := dk_16 32 (dk_at dksX8_next_0 7 rfl rfl)
theorem dX8_next_9 : decode cX8_next 9 = .ok (.invokevirtual 107, 3) := dk_182 0 107 (dk_at dksX8_next_0 9 rfl rfl)
theorem dX8_next_12 : decode cX8_next 12 = .ok (.ifCond .ne 18, 3) := dk_154 0 18 (dk_at dksX8_next_0 12 rfl rfl)
theorem dX8_next_15 : decode cX8_next 15 = .ok (.aload_n 0, 1) := dk_42 (dk_at dksX8_next_0 15 rfl rfl)
theorem dX8_next_16 : decode cX8_next 16 = .ok (.aload_n 0, 1) := dk_42 (dk_at dksX8_next_0 16 rfl rfl)
theorem dX8_next_17 : decode cX8_next 17 = .ok (.getfield 104, 3) := dk_180 0 104 (dk_at dksX8_next_0 17 rfl rfl)
theorem dX8_next_20 : decode cX8_next 20 = .ok (.bipush 10, 2) := dk_16 10 (dk_at dksX8_next_0 20 rfl rfl)
theorem dX8_next_22 : decode cX8_next 22 = .ok (.bipush 10, 2) := dk_16 10 (dk_at dksX8_next_0 22 rfl rfl)
theorem dX8_next_24 : decode cX8_next 24 = .ok (.invokevirtual 107, 3) := dk_182 0 107 (dk_at dksX8_next_1 0 rfl rfl)
theorem dX8_next_27 : decode cX8_next 27 = .ok (.ifCond .eq 16, 3) := dk_153 0 16 (dk_at dksX8_next_1 3 rfl rfl)
theorem dX8_next_30 : decode cX8_next 30 = .ok (.aload_n 0, 1) := dk_42 (dk_at dksX8_next_1 6 rfl rfl)
theorem dX8_next_31 : decode cX8_next 31 = .ok (.dup, 1) := dk_89 (dk_at dksX8_next_1 7 rfl rfl)
theorem dX8_next_32 : decode cX8_next 32 = .ok (.getfield 104, 3) := dk_180 0 104 (dk_at dksX8_next_1 8 rfl rfl)
theorem dX8_next_35 : decode cX8_next 35 = .ok (.iconst 1, 1) := dk_4 (dk_at dksX8_next_1 11 rfl rfl)
theorem dX8_next_36 : decode cX8_next 36 = .ok (.iadd, 1) := dk_96 (dk_at dksX8_next_1 12 rfl rfl)
theorem dX8_next_37 : decode cX8_next 37 = .ok (.putfield 104, 3) := dk_181 0 104 (dk_at dksX8_next_1 13 rfl rfl)
theorem dX8_next_40 : decode cX8_next 40 = .ok (.goto (-40), 3) := dk_167 255 216 (dk_at dksX8_next_1 16 rfl rfl)
theorem dX8_next_43 : decode cX8_next 43 = .ok (.aload_n 0, 1) := dk_42 (dk_at dksX8_next_1 19 rfl rfl)
theorem dX8_next_44 : decode cX8_next 44 = .ok (.aload_n 0, 1) := dk_42 (dk_at dksX8_next_1 20 rfl rfl)
theorem dX8_next_45 : decode cX8_next 45 = .ok (.getfield 104, 3) := dk_180 0 104 (dk_at dksX8_next_1 21 rfl rfl)
theorem dX8_next_48 : decode cX8_next 48 = .ok (.putfield 111, 3) := dk_181 0 111 (dk_at dksX8_next_2 0 rfl rfl)
theorem dX8_next_51 : decode cX8_next 51 = .ok (.aload_n 0, 1) := dk_42 (dk_at dksX8_next_2 3 rfl rfl)
theorem dX8_next_52 : decode cX8_next 52 = .ok (.iconst 0, 1) := dk_3 (dk_at dksX8_next_2 4 rfl rfl)
theorem dX8_next_53 : decode cX8_next 53 = .ok (.putfield 114, 3) := dk_181 0 114 (dk_at dksX8_next_2 5 rfl rfl)
theorem dX8_next_56 : decode cX8_next 56 = .ok (.aload_n 0, 1) := dk_42 (dk_at dksX8_next_2 8 rfl rfl)
theorem dX8_next_57 : decode cX8_next 57 = .ok (.lconst 0, 1) := dk_9 (dk_at dksX8_next_2 9 rfl rfl)
theorem dX8_next_58 : decode cX8_next 58 = .ok (.putfield 117, 3) := dk_181 0 117 (dk_at dksX8_next_2 10 rfl rfl)
theorem dX8_next_61 : decode cX8_next 61 = .ok (.aload_n 0, 1) := dk_42 (dk_at dksX8_next_2 13 rfl rfl)
theorem dX8_next_62 : decode cX8_next 62 = .ok (.getfield 104, 3) := dk_180 0 104 (dk_at dksX8_next_2 14 rfl rfl)
theorem dX8_next_65 : decode cX8_next 65 = .ok (.aload_n 0, 1) := dk_42 (dk_at dksX8_next_2 17 rfl rfl)
theorem dX8_next_66 : decode cX8_next 66 = .ok (.getfield 97, 3) := dk_180 0 97 (dk_at dksX8_next_2 18 rfl rfl)
theorem dX8_next_69 : decode cX8_next 69 = .ok (.if_icmp .ne 11, 3) := dk_160 0 11 (dk_at dksX8_next_2 21 rfl rfl)
theorem dX8_next_72 : decode cX8_next 72 = .ok (.aload_n 0, 1) := dk_42 (dk_at dksX8_next_3 0 rfl rfl)
theorem dX8_next_73 : decode cX8_next 73 = .ok (.iconst 0, 1) := dk_3 (dk_at dksX8_next_3 1 rfl rfl)
theorem dX8_next_74 : decode cX8_next 74 = .ok (.putfield 121, 3) := dk_181 0 121 (dk_at dksX8_next_3 2 rfl rfl)
theorem dX8_next_77 : decode cX8_next 77 = .ok (.goto 230, 3) := dk_167 0 230 (dk_at dksX8_next_3 5 rfl rfl)
theorem dX8_next_80 : decode cX8_next 80 = .ok (.aload_n 0, 1) := dk_42 (dk_at dksX8_next_3 8 rfl rfl)
theorem dX8_next_81 : decode cX8_next 81 = .ok (.aload_n 0, 1) := dk_42 (dk_at dksX8_next_3 9 rfl rfl)
theorem dX8_next_82 : decode cX8_next 82 = .ok (.getfield 104, 3) := dk_180 0 104 (dk_at dksX8_next_3 10 rfl rfl)
theorem dX8_next_85 : decode cX8_next 85 = .ok (.bipush 97, 2) := dk_16 97 (dk_at dksX8_next_3 13 rfl rfl)
theorem dX8_next_87 : decode cX8_next 87 = .ok (.bipush 122, 2) := dk_16 122 (dk_at dksX8_next_3 15 rfl rfl)
theorem dX8_next_89 : decode cX8_next 89 = .ok (.invokevirtual 107, 3) := dk_182 0 107 (dk_at dksX8_next_3 17 rfl rfl)
theorem dX8_next_92 : decode cX8_next 92 = .ok (.ifCond .eq 96, 3) := dk_153 0 96 (dk_at dksX8_next_3 20 rfl rfl)
theorem dX8_next_95 : decode cX8_next 95 = .ok (.aload_n 0, 1) := dk_42 (dk_at dksX8_next_3 23 rfl rfl)
theorem dX8_next_96 : decode cX8_next 96 = .ok (.iconst 1, 1) := dk_4 (dk_at dksX8_next_4 0 rfl rfl)
theorem dX8_next_97 : decode cX8_next 97 = .ok (.putfield 121, 3) := dk_181 0 121 (dk_at dksX8_next_4 1 rfl rfl)
theorem dX8_next_100 : decode cX8_next 100 = .ok (.iconst 0, 1) := dk_3 (dk_at dksX8_next_4 4 rfl rfl)
theorem dX8_next_101 : decode cX8_next 101 = .ok (.istore_n 1, 1) := dk_60 (dk_at dksX8_next_4 5 rfl rfl)
theorem dX8_next_102 : decode cX8_next 102 = .ok (.aload_n 0, 1) := dk_42 (dk_at dksX8_next_4 6 rfl rfl)
theorem dX8_next_103 : decode cX8_next 103 = .ok (.aload_n 0, 1) := dk_42 (dk_at dksX8_next_4 7 rfl rfl)
theorem dX8_next_104 : decode cX8_next 104 = .ok (.getfield 104, 3) := dk_180 0 104 (dk_at dksX8_next_4 8 rfl rfl)
theorem dX8_next_107 : decode cX8_next 107 = .ok (.bipush 97, 2) := dk_16 97 (dk_at dksX8_next_4 11 rfl rfl)
theorem dX8_next_109 : decode cX8_next 109 = .ok (.bipush 122, 2) := dk_16 122 (dk_at dksX8_next_4 13 rfl rfl)
theorem dX8_next_111 : decode cX8_next 111 = .ok (.invokevirtual 107, 3) := dk_182 0 107 (dk_at dksX8_next_4 15 rfl rfl)
theorem dX8_next_114 : decode cX8_next 114 = .ok (.ifCond .eq 71, 3) := dk_153 0 71 (dk_at dksX8_next_4 18 rfl rfl)
theorem dX8_next_117 : decode cX8_next 117 = .ok (.aload_n 0, 1) := dk_42 (dk_at dksX8_next_4 21 rfl rfl)
theorem dX8_next_118 : decode cX8_next 118 = .ok (.iload_n 1, 1) := dk_27 (dk_at dksX8_next_4 22 rfl rfl)
theorem dX8_next_119 : decode cX8_next 119 = .ok (.bipush 11, 2) := dk_16 11 (dk_at dksX8_next_5 0 rfl rfl)
theorem dX8_next_121 : decode cX8_next 121 = .ok (.if_icmp .le 9, 3) := dk_164 0 9 (dk_at dksX8_next_5 2 rfl rfl)
theorem dX8_next_124 : decode cX8_next 124 = .ok (.ldc2_w 124, 3) := dk_20 0 124 (dk_at dksX8_next_5 5 rfl rfl)
theorem dX8_next_127 : decode cX8_next 127 = .ok (.goto 26, 3) := dk_167 0 26 (dk_at dksX8_next_5 8 rfl rfl)
theorem dX8_next_130 : decode cX8_next 130 = .ok (.ldc2_w 126, 3) := dk_20 0 126 (dk_at dksX8_next_5 11 rfl rfl)
theorem dX8_next_133 : decode cX8_next 133 = .ok (.aload_n 0, 1) := dk_42 (dk_at dksX8_next_5 14 rfl rfl)
theorem dX8_next_134 : decode cX8_next 134 = .ok (.getfield 117, 3) := dk_180 0 117 (dk_at dksX8_next_5 15 rfl rfl)
theorem dX8_next_137 : decode cX8_next 137 = .ok (.lmul, 1) := dk_105 (dk_at dksX8_next_5 18 rfl rfl)
theorem dX8_next_138 : decode cX8_next 138 = .ok (.aload_n 0, 1) := dk_42 (dk_at dksX8_next_5 19 rfl rfl)
theorem dX8_next_139 : decode cX8_next 139 = .ok (.getfield 23, 3) := dk_180 0 23 (dk_at dksX8_next_5 20 rfl rfl)
theorem dX8_next_142 : decode cX8_next 142 = .ok (.aload_n 0, 1) := dk_42 (dk_at dksX8_next_5 23 rfl rfl)
theorem dX8_next_143 : decode cX8_next 143 = .ok (.getfield 104, 3) := dk_180 0 104 (dk_at dksX8_next_6 0 rfl rfl)
theorem dX8_next_146 : decode cX8_next 146 = .ok (.baload, 1) := dk_51 (dk_at dksX8_next_6 3 rfl rfl)
theorem dX8_next_147 : decode cX8_next 147 = .ok (.i2l, 1) := dk_133 (dk_at dksX8_next_6 4 rfl rfl)
theorem dX8_next_148 : decode cX8_next 148 = .ok (.ladd, 1) := dk_97 (dk_at dksX8_next_6 5 rfl rfl)
theorem dX8_next_149 : decode cX8_next 149 = .ok (.ldc2_w 128, 3) := dk_20 0 128 (dk_at dksX8_next_6 6 rfl rfl)
theorem dX8_next_152 : decode cX8_next 152 = .ok (.lsub, 1) := dk_101 (dk_at dksX8_next_6 9 rfl rfl)
theorem dX8_next_153 : decode cX8_next 153 = .ok (.putfield 117, 3) := dk_181 0 117 (dk_at dksX8_next_6 10 rfl rfl)
theorem dX8_next_156 : decode cX8_next 156 = .ok (.iload_n 1, 1) := dk_27 (dk_at dksX8_next_6 13 rfl rfl)
theorem dX8_next_157 : decode cX8_next 157 = .ok (.bipush 11, 2) := dk_16 11 (dk_at dksX8_next_6 14 rfl rfl)
theorem dX8_next_159 : decode cX8_next 159 = .ok (.if_icmp .le 10, 3) := dk_164 0 10 (dk_at dksX8_next_6 16 rfl rfl)
theorem dX8_next_162 : decode cX8_next 162 = .ok (.aload_n 0, 1) := dk_42 (dk_at dksX8_next_6 19 rfl rfl)
theorem dX8_next_163 : decode cX8_next 163 = .ok (.ldc2_w 124, 3) := dk_20 0 124 (dk_at dksX8_next_6 20 rfl rfl)
theorem dX8_next_166 : decode cX8_next 166 = .ok (.putfield 117, 3) := dk_181 0 117 (dk_at dksX8_next_7 0 rfl rfl)
theorem dX8_next_169 : decode cX8_next 169 = .ok (.aload_n 0, 1) := dk_42 (dk_at dksX8_next_7 3 rfl rfl)
theorem dX8_next_170 : decode cX8_next 170 = .ok (.dup, 1) := dk_89 (dk_at dksX8_next_7 4 rfl rfl)
theorem dX8_next_171 : decode cX8_next 171 = .ok (.getfield 104, 3) := dk_180 0 104 (dk_at dksX8_next_7 5 rfl rfl)
theorem dX8_next_174 : decode cX8_next 174 = .ok (.iconst 1, 1) := dk_4 (dk_at dksX8_next_7 8 rfl rfl)
theorem dX8_next_175 : decode cX8_next 175 = .ok (.iadd, 1) := dk_96 (dk_at dksX8_next_7 9 rfl rfl)
theorem dX8_next_176 : decode cX8_next 176 = .ok (.putfield 104, 3) := dk_181 0 104 (dk_at dksX8_next_7 10 rfl rfl)
theorem dX8_next_179 : decode cX8_next 179 = .ok (.iinc 1 1, 3) := dk_132 1 1 (dk_at dksX8_next_7 13 rfl rfl)
theorem dX8_next_182 : decode cX8_next 182 = .ok (.goto (-80), 3) := dk_167 255 176 (dk_at dksX8_next_7 16 rfl rfl)
theorem dX8_next_185 : decode cX8_next 185 = .ok (.goto 122, 3) := dk_167 0 122 (dk_at dksX8_next_7 19 rfl rfl)
theorem dX8_next_188 : decode cX8_next 188 = .ok (.aload_n 0, 1) := dk_42 (dk_at dksX8_next_7 22 rfl rfl)
theorem dX8_next_189 : decode cX8_next 189 = .ok (.aload_n 0, 1) := dk_42 (dk_at dksX8_next_7 23 rfl rfl)
theorem dX8_next_190 : decode cX8_next 190 = .ok (.getfield 104, 3) := dk_180 0 104 (dk_at dksX8_next_8 0 rfl rfl)
theorem dX8_next_193 : decode cX8_next 193 = .ok (.bipush 48, 2) := dk_16 48 (dk_at dksX8_next_8 3 rfl rfl)
theorem dX8_next_195 : decode cX8_next 195 = .ok (.bipush 57, 2) := dk_16 57 (dk_at dksX8_next_8 5 rfl rfl)
theorem dX8_next_197 : decode cX8_next 197 = .ok (.invokevirtual 107, 3) := dk_182 0 107 (dk_at dksX8_next_8 7 rfl rfl)
theorem dX8_next_200 : decode cX8_next 200 = .ok (.ifCond .eq 74, 3) := dk_153 0 74 (dk_at dksX8_next_8 10 rfl rfl)
theorem dX8_next_203 : decode cX8_next 203 = .ok (.aload_n 0, 1) := dk_42 (dk_at dksX8_next_8 13 rfl rfl)
theorem dX8_next_204 : decode cX8_next 204 = .ok (.iconst 2, 1) := dk_5 (dk_at dksX8_next_8 14 rfl rfl)
theorem dX8_next_205 : decode cX8_next 205 = .ok (.putfield 121, 3) := dk_181 0 121 (dk_at dksX8_next_8 15 rfl rfl)
theorem dX8_next_208 : decode cX8_next 208 = .ok (.aload_n 0, 1) := dk_42 (dk_at dksX8_next_8 18 rfl rfl)
theorem dX8_next_209 : decode cX8_next 209 = .ok (.aload_n 0, 1) := dk_42 (dk_at dksX8_next_8 19 rfl rfl)
theorem dX8_next_210 : decode cX8_next 210 = .ok (.getfield 104, 3) := dk_180 0 104 (dk_at dksX8_next_8 20 rfl rfl)
theorem dX8_next_213 : decode cX8_next 213 = .ok (.bipush 48, 2) := dk_16 48 (dk_at dksX8_next_9 0 rfl rfl)
theorem dX8_next_215 : decode cX8_next 215 = .ok (.bipush 57, 2) := dk_16 57 (dk_at dksX8_next_9 2 rfl rfl)
theorem dX8_next_217 : decode cX8_next 217 = .ok (.invokevirtual 107, 3) := dk_182 0 107 (dk_at dksX8_next_9 4 rfl rfl)
theorem dX8_next_220 : decode cX8_next 220 = .ok (.ifCond .eq 87, 3) := dk_153 0 87 (dk_at dksX8_next_9 7 rfl rfl)
theorem dX8_next_223 : decode cX8_next 223 = .ok (.aload_n 0, 1) := dk_42 (dk_at dksX8_next_9 10 rfl rfl)
theorem dX8_next_224 : decode cX8_next 224 = .ok (.aload_n 0, 1) := dk_42 (dk_at dksX8_next_9 11 rfl rfl)
theorem dX8_next_225 : decode cX8_next 225 = .ok (.getfield 114, 3) := dk_180 0 114 (dk_at dksX8_next_9 12 rfl rfl)
theorem dX8_next_228 : decode cX8_next 228 = .ok (.ldc 130, 2) := dk_18 130 (dk_at dksX8_next_9 15 rfl rfl)
theorem dX8_next_230 : decode cX8_next 230 = .ok (.if_icmp .le 8, 3) := dk_164 0 8 (dk_at dksX8_next_9 17 rfl rfl)
theorem dX8_next_233 : decode cX8_next 233 = .ok (.ldc 131, 2) := dk_18 131 (dk_at dksX8_next_9 20 rfl rfl)
theorem dX8_next_235 : decode cX8_next 235 = .ok (.goto 23, 3) := dk_167 0 23 (dk_at dksX8_next_10 0 rfl rfl)
theorem dX8_next_238 : decode cX8_next 238 = .ok (.bipush 10, 2) := dk_16 10 (dk_at dksX8_next_10 3 rfl rfl)
theorem dX8_next_240 : decode cX8_next 240 = .ok (.aload_n 0, 1) := dk_42 (dk_at dksX8_next_10 5 rfl rfl)
theorem dX8_next_241 : decode cX8_next 241 = .ok (.getfield 114, 3) := dk_180 0 114 (dk_at dksX8_next_10 6 rfl rfl)
theorem dX8_next_244 : decode cX8_next 244 = .ok (.imul, 1) := dk_104 (dk_at dksX8_next_10 9 rfl rfl)
theorem dX8_next_245 : decode cX8_next 245 = .ok (.aload_n 0, 1) := dk_42 (dk_at dksX8_next_10 10 rfl rfl)
theorem dX8_next_246 : decode cX8_next 246 = .ok (.getfield 23, 3) := dk_180 0 23 (dk_at dksX8_next_10 11 rfl rfl)
theorem dX8_next_249 : decode cX8_next 249 = .ok (.aload_n 0, 1) := dk_42 (dk_at dksX8_next_10 14 rfl rfl)
theorem dX8_next_250 : decode cX8_next 250 = .ok (.getfield 104, 3) := dk_180 0 104 (dk_at dksX8_next_10 15 rfl rfl)
theorem dX8_next_253 : decode cX8_next 253 = .ok (.baload, 1) := dk_51 (dk_at dksX8_next_10 18 rfl rfl)
theorem dX8_next_254 : decode cX8_next 254 = .ok (.iadd, 1) := dk_96 (dk_at dksX8_next_10 19 rfl rfl)
theorem dX8_next_255 : decode cX8_next 255 = .ok (.bipush 48, 2) := dk_16 48 (dk_at dksX8_next_10 20 rfl rfl)
theorem dX8_next_257 : decode cX8_next 257 = .ok (.isub, 1) := dk_100 (dk_at dksX8_next_10 22 rfl rfl)
theorem dX8_next_258 : decode cX8_next 258 = .ok (.putfield 114, 3) := dk_181 0 114 (dk_at dksX8_next_11 0 rfl rfl)
theorem dX8_next_261 : decode cX8_next 261 = .ok (.aload_n 0, 1) := dk_42 (dk_at dksX8_next_11 3 rfl rfl)
theorem dX8_next_262 : decode cX8_next 262 = .ok (.dup, 1) := dk_89 (dk_at dksX8_next_11 4 rfl rfl)
theorem dX8_next_263 : decode cX8_next 263 = .ok (.getfield 104, 3) := dk_180 0 104 (dk_at dksX8_next_11 5 rfl rfl)
theorem dX8_next_266 : decode cX8_next 266 = .ok (.iconst 1, 1) := dk_4 (dk_at dksX8_next_11 8 rfl rfl)
theorem dX8_next_267 : decode cX8_next 267 = .ok (.iadd, 1) := dk_96 (dk_at dksX8_next_11 9 rfl rfl)
theorem dX8_next_268 : decode cX8_next 268 = .ok (.putfield 104, 3) := dk_181 0 104 (dk_at dksX8_next_11 10 rfl rfl)
theorem dX8_next_271 : decode cX8_next 271 = .ok (.goto (-63), 3) := dk_167 255 193 (dk_at dksX8_next_11 13 rfl rfl)
theorem dX8_next_274 : decode cX8_next 274 = .ok (.aload_n 0, 1) := dk_42 (dk_at dksX8_next_11 16 rfl rfl)
theorem dX8_next_275 : decode cX8_next 275 = .ok (.aload_n 0, 1) := dk_42 (dk_at dksX8_next_11 17 rfl rfl)
theorem dX8_next_276 : decode cX8_next 276 = .ok (.getfield 23, 3) := dk_180 0 23 (dk_at dksX8_next_11 18 rfl rfl)
theorem dX8_next_279 : decode cX8_next 279 = .ok (.aload_n 0, 1) := dk_42 (dk_at dksX8_next_11 21 rfl rfl)
theorem dX8_next_280 : decode cX8_next 280 = .ok (.getfield 104, 3) := dk_180 0 104 (dk_at dksX8_next_12 0 rfl rfl)
theorem dX8_next_283 : decode cX8_next 283 = .ok (.baload, 1) := dk_51 (dk_at dksX8_next_12 3 rfl rfl)
theorem dX8_next_284 : decode cX8_next 284 = .ok (.bipush 59, 2) := dk_16 59 (dk_at dksX8_next_12 4 rfl rfl)
theorem dX8_next_286 : decode cX8_next 286 = .ok (.if_icmp .ne 7, 3) := dk_160 0 7 (dk_at dksX8_next_12 6 rfl rfl)
theorem dX8_next_289 : decode cX8_next 289 = .ok (.iconst 3, 1) := dk_6 (dk_at dksX8_next_12 9 rfl rfl)
theorem dX8_next_290 : decode cX8_next 290 = .ok (.goto 4, 3) := dk_167 0 4 (dk_at dksX8_next_12 10 rfl rfl)
theorem dX8_next_293 : decode cX8_next 293 = .ok (.iconst 4, 1) := dk_7 (dk_at dksX8_next_12 13 rfl rfl)
theorem dX8_next_294 : decode cX8_next 294 = .ok (.putfield 121, 3) := dk_181 0 121 (dk_at dksX8_next_12 14 rfl rfl)
theorem dX8_next_297 : decode cX8_next 297 = .ok (.aload_n 0, 1) := dk_42 (dk_at dksX8_next_12 17 rfl rfl)
theorem dX8_next_298 : decode cX8_next 298 = .ok (.dup, 1) := dk_89 (dk_at dksX8_next_12 18 rfl rfl)
theorem dX8_next_299 : decode cX8_next 299 = .ok (.getfield 104, 3) := dk_180 0 104 (dk_at dksX8_next_12 19 rfl rfl)
theorem dX8_next_302 : decode cX8_next 302 = .ok (.iconst 1, 1) := dk_4 (dk_at dksX8_next_12 22 rfl rfl)
theorem dX8_next_303 : decode cX8_next 303 = .ok (.iadd, 1) := dk_96 (dk_at dksX8_next_12 23 rfl rfl)
theorem dX8_next_304 : decode cX8_next 304 = .ok (.putfield 104, 3) := dk_181 0 104 (dk_at dksX8_next_13 0 rfl rfl)
theorem dX8_next_307 : decode cX8_next 307 = .ok (.return_, 1) := dk_177 (dk_at dksX8_next_13 3 rfl rfl)
abbrev cX8_isByte : ByteArray := prog_13_method_12_code
def yX8_isByte : MethodName := ⟨RX8, "isByte", "(III)Z"⟩
def dkwX8_isByte_1 : List UInt8 := [29, 163, 0, 7, 4, 167, 0, 4, 3, 172]
abbrev dktX8_isByte_1 : List UInt8 := dkwX8_isByte_1 ++ []
def dkwX8_isByte_0 : List UInt8 := [27, 42, 180, 0, 97, 162, 0, 27, 42, 180, 0, 23, 27, 51, 28, 161, 0, 17, 42, 180, 0, 23, 27, 51]
abbrev dktX8_isByte_0 : List UInt8 := dkwX8_isByte_0 ++ dktX8_isByte_1
theorem dksX8_isByte_0 : cX8_isByte.data.toList.drop 0 = dktX8_isByte_0 := by decide +kernel
theorem dksX8_isByte_1 : cX8_isByte.data.toList.drop 24 = dktX8_isByte_1 := dk_seg dksX8_isByte_0 24 rfl rfl
theorem dX8_isByte_0 : decode cX8_isByte 0 = .ok (.iload_n 1, 1) := dk_27 (dk_at dksX8_isByte_0 0 rfl rfl)
theorem dX8_isByte_1 : decode cX8_isByte 1 = .ok (.aload_n 0, 1) := dk_42 (dk_at dksX8_isByte_0 1 rfl rfl)
theorem dX8_isByte_2 : decode cX8_isByte 2 = .ok (.getfield 97, 3) := dk_180 0 97 (dk_at dksX8_isByte_0 2 rfl rfl)
theorem dX8_isByte_5 : decode cX8_isByte 5 = .ok (.if_icmp .ge 27, 3) := dk_162 0 27 (dk_at dksX8_isByte_0 5 rfl rfl)
theorem dX8_isByte_8 : decode cX8_isByte 8 = .ok (.aload_n 0, 1) := dk_42 (dk_at dksX8_isByte_0 8 rfl rfl)
theorem dX8_isByte_9 : decode cX8_isByte 9 = .ok (.getfield 23, 3) := dk_180 0 23 (dk_at dksX8_isByte_0 9 rfl rfl)
theorem dX8_isByte_12 : decode cX8_isByte 12 = .ok (.iload_n 1, 1) := dk_27 (dk_at dksX8_isByte_0 12 rfl rfl)
theorem dX8_isByte_13 : decode cX8_isByte 13 = .ok (.baload, 1) := dk_51 (dk_at dksX8_isByte_0 13 rfl rfl)
theorem dX8_isByte_14 : decode cX8_isByte 14 = .ok (.iload_n 2, 1) := dk_28 (dk_at dksX8_isByte_0 14 rfl rfl)
theorem dX8_isByte_15 : decode cX8_isByte 15 = .ok (.if_icmp .lt 17, 3) := dk_161 0 17 (dk_at dksX8_isByte_0 15 rfl rfl)
theorem dX8_isByte_18 : decode cX8_isByte 18 = .ok (.aload_n 0, 1) := dk_42 (dk_at dksX8_isByte_0 18 rfl rfl)
theorem dX8_isByte_19 : decode cX8_isByte 19 = .ok (.getfield 23, 3) := dk_180 0 23 (dk_at dksX8_isByte_0 19 rfl rfl)
theorem dX8_isByte_22 : decode cX8_isByte 22 = .ok (.iload_n 1, 1) := dk_27 (dk_at dksX8_isByte_0 22 rfl rfl)
theorem dX8_isByte_23 : decode cX8_isByte 23 = .ok (.baload, 1) := dk_51 (dk_at dksX8_isByte_0 23 rfl rfl)
theorem dX8_isByte_24 : decode cX8_isByte 24 = .ok (.iload_n 3, 1) := dk_29 (dk_at dksX8_isByte_1 0 rfl rfl)
theorem dX8_isByte_25 : decode cX8_isByte 25 = .ok (.if_icmp .gt 7, 3) := dk_163 0 7 (dk_at dksX8_isByte_1 1 rfl rfl)
theorem dX8_isByte_28 : decode cX8_isByte 28 = .ok (.iconst 1, 1) := dk_4 (dk_at dksX8_isByte_1 4 rfl rfl)
theorem dX8_isByte_29 : decode cX8_isByte 29 = .ok (.goto 4, 3) := dk_167 0 4 (dk_at dksX8_isByte_1 5 rfl rfl)
theorem dX8_isByte_32 : decode cX8_isByte 32 = .ok (.iconst 0, 1) := dk_3 (dk_at dksX8_isByte_1 8 rfl rfl)
theorem dX8_isByte_33 : decode cX8_isByte 33 = .ok (.ireturn, 1) := dk_172 (dk_at dksX8_isByte_1 9 rfl rfl)
abbrev cX8_isGood : ByteArray := prog_13_method_14_code
def yX8_isGood : MethodName := ⟨RX8, "isGood", "()Z"⟩
def dkwX8_isGood_0 : List UInt8 := [42, 180, 0, 132, 154, 0, 7, 4, 167, 0, 4, 3, 172]
abbrev dktX8_isGood_0 : List UInt8 := dkwX8_isGood_0 ++ []
theorem dksX8_isGood_0 : cX8_isGood.data.toList.drop 0 = dktX8_isGood_0 := by decide +kernel
theorem dX8_isGood_0 : decode cX8_isGood 0 = .ok (.aload_n 0, 1) := dk_42 (dk_at dksX8_isGood_0 0 rfl rfl)
theorem dX8_isGood_1 : decode cX8_isGood 1 = .ok (.getfield 132, 3) := dk_180 0 132 (dk_at dksX8_isGood_0 1 rfl rfl)
theorem dX8_isGood_4 : decode cX8_isGood 4 = .ok (.ifCond .ne 7, 3) := dk_154 0 7 (dk_at dksX8_isGood_0 4 rfl rfl)
theorem dX8_isGood_7 : decode cX8_isGood 7 = .ok (.iconst 1, 1) := dk_4 (dk_at dksX8_isGood_0 7 rfl rfl)
theorem dX8_isGood_8 : decode cX8_isGood 8 = .ok (.goto 4, 3) := dk_167 0 4 (dk_at dksX8_isGood_0 8 rfl rfl)
theorem dX8_isGood_11 : decode cX8_isGood 11 = .ok (.iconst 0, 1) := dk_3 (dk_at dksX8_isGood_0 11 rfl rfl)
theorem dX8_isGood_12 : decode cX8_isGood 12 = .ok (.ireturn, 1) := dk_172 (dk_at dksX8_isGood_0 12 rfl rfl)
abbrev cX8_asks : ByteArray := prog_13_method_18_code
def yX8_asks : MethodName := ⟨RX8, "asks", "(J)V"⟩
def dkwX8_asks_0 : List UInt8 := [42, 31, 182, 0, 145, 154, 0, 8, 42, 4, 182, 0, 148, 177]
abbrev dktX8_asks_0 : List UInt8 := dkwX8_asks_0 ++ []
theorem dksX8_asks_0 : cX8_asks.data.toList.drop 0 = dktX8_asks_0 := by decide +kernel
theorem dX8_asks_0 : decode cX8_asks 0 = .ok (.aload_n 0, 1) := dk_42 (dk_at dksX8_asks_0 0 rfl rfl)
theorem dX8_asks_1 : decode cX8_asks 1 = .ok (.lload_n 1, 1) := dk_31 (dk_at dksX8_asks_0 1 rfl rfl)
theorem dX8_asks_2 : decode cX8_asks 2 = .ok (.invokevirtual 145, 3) := dk_182 0 145 (dk_at dksX8_asks_0 2 rfl rfl)
theorem dX8_asks_5 : decode cX8_asks 5 = .ok (.ifCond .ne 8, 3) := dk_154 0 8 (dk_at dksX8_asks_0 5 rfl rfl)
theorem dX8_asks_8 : decode cX8_asks 8 = .ok (.aload_n 0, 1) := dk_42 (dk_at dksX8_asks_0 8 rfl rfl)
theorem dX8_asks_9 : decode cX8_asks 9 = .ok (.iconst 1, 1) := dk_4 (dk_at dksX8_asks_0 9 rfl rfl)
theorem dX8_asks_10 : decode cX8_asks 10 = .ok (.invokevirtual 148, 3) := dk_182 0 148 (dk_at dksX8_asks_0 10 rfl rfl)
theorem dX8_asks_13 : decode cX8_asks 13 = .ok (.return_, 1) := dk_177 (dk_at dksX8_asks_0 13 rfl rfl)
abbrev cX8_takes : ByteArray := prog_13_method_17_code
def yX8_takes : MethodName := ⟨RX8, "takes", "(J)Z"⟩
def dkwX8_takes_0 : List UInt8 := [42, 31, 182, 0, 138, 154, 0, 5, 3, 172, 42, 182, 0, 142, 4, 172]
abbrev dktX8_takes_0 : List UInt8 := dkwX8_takes_0 ++ []
theorem dksX8_takes_0 : cX8_takes.data.toList.drop 0 = dktX8_takes_0 := by decide +kernel
theorem dX8_takes_0 : decode cX8_takes 0 = .ok (.aload_n 0, 1) := dk_42 (dk_at dksX8_takes_0 0 rfl rfl)
theorem dX8_takes_1 : decode cX8_takes 1 = .ok (.lload_n 1, 1) := dk_31 (dk_at dksX8_takes_0 1 rfl rfl)
theorem dX8_takes_2 : decode cX8_takes 2 = .ok (.invokevirtual 138, 3) := dk_182 0 138 (dk_at dksX8_takes_0 2 rfl rfl)
theorem dX8_takes_5 : decode cX8_takes 5 = .ok (.ifCond .ne 5, 3) := dk_154 0 5 (dk_at dksX8_takes_0 5 rfl rfl)
theorem dX8_takes_8 : decode cX8_takes 8 = .ok (.iconst 0, 1) := dk_3 (dk_at dksX8_takes_0 8 rfl rfl)
theorem dX8_takes_9 : decode cX8_takes 9 = .ok (.ireturn, 1) := dk_172 (dk_at dksX8_takes_0 9 rfl rfl)
theorem dX8_takes_10 : decode cX8_takes 10 = .ok (.aload_n 0, 1) := dk_42 (dk_at dksX8_takes_0 10 rfl rfl)
theorem dX8_takes_11 : decode cX8_takes 11 = .ok (.invokevirtual 142, 3) := dk_182 0 142 (dk_at dksX8_takes_0 11 rfl rfl)
theorem dX8_takes_14 : decode cX8_takes 14 = .ok (.iconst 1, 1) := dk_4 (dk_at dksX8_takes_0 14 rfl rfl)
theorem dX8_takes_15 : decode cX8_takes 15 = .ok (.ireturn, 1) := dk_172 (dk_at dksX8_takes_0 15 rfl rfl)
abbrev cX8_is : ByteArray := prog_13_method_16_code
def yX8_is : MethodName := ⟨RX8, "is", "(J)Z"⟩
def dkwX8_is_1 : List UInt8 := [4, 167, 0, 4, 3, 172]
abbrev dktX8_is_1 : List UInt8 := dkwX8_is_1 ++ []
def dkwX8_is_0 : List UInt8 := [42, 180, 0, 132, 154, 0, 24, 42, 180, 0, 121, 4, 160, 0, 16, 42, 180, 0, 117, 31, 148, 154, 0, 7]
abbrev dktX8_is_0 : List UInt8 := dkwX8_is_0 ++ dktX8_is_1
theorem dksX8_is_0 : cX8_is.data.toList.drop 0 = dktX8_is_0 := by decide +kernel
theorem dksX8_is_1 : cX8_is.data.toList.drop 24 = dktX8_is_1 := dk_seg dksX8_is_0 24 rfl rfl
theorem dX8_is_0 : decode cX8_is 0 = .ok (.aload_n 0, 1) := dk_42 (dk_at dksX8_is_0 0 rfl rfl)
theorem dX8_is_1 : decode cX8_is 1 = .ok (.getfield 132, 3) := dk_180 0 132 (dk_at dksX8_is_0 1 rfl rfl)
theorem dX8_is_4 : decode cX8_is 4 = .ok (.ifCond .ne 24, 3) := dk_154 0 24 (dk_at dksX8_is_0 4 rfl rfl)
theorem dX8_is_7 : decode cX8_is 7 = .ok (.aload_n 0, 1) := dk_42 (dk_at dksX8_is_0 7 rfl rfl)
theorem dX8_is_8 : decode cX8_is 8 = .ok (.getfield 121, 3) := dk_180 0 121 (dk_at dksX8_is_0 8 rfl rfl)
theorem dX8_is_11 : decode cX8_is 11 = .ok (.iconst 1, 1) := dk_4 (dk_at dksX8_is_0 11 rfl rfl)
theorem dX8_is_12 : decode cX8_is 12 = .ok (.if_icmp .ne 16, 3) := dk_160 0 16 (dk_at dksX8_is_0 12 rfl rfl)
theorem dX8_is_15 : decode cX8_is 15 = .ok (.aload_n 0, 1) := dk_42 (dk_at dksX8_is_0 15 rfl rfl)
theorem dX8_is_16 : decode cX8_is 16 = .ok (.getfield 117, 3) := dk_180 0 117 (dk_at dksX8_is_0 16 rfl rfl)
theorem dX8_is_19 : decode cX8_is 19 = .ok (.lload_n 1, 1) := dk_31 (dk_at dksX8_is_0 19 rfl rfl)
theorem dX8_is_20 : decode cX8_is 20 = .ok (.lcmp, 1) := dk_148 (dk_at dksX8_is_0 20 rfl rfl)
theorem dX8_is_21 : decode cX8_is 21 = .ok (.ifCond .ne 7, 3) := dk_154 0 7 (dk_at dksX8_is_0 21 rfl rfl)
theorem dX8_is_24 : decode cX8_is 24 = .ok (.iconst 1, 1) := dk_4 (dk_at dksX8_is_1 0 rfl rfl)
theorem dX8_is_25 : decode cX8_is 25 = .ok (.goto 4, 3) := dk_167 0 4 (dk_at dksX8_is_1 1 rfl rfl)
theorem dX8_is_28 : decode cX8_is 28 = .ok (.iconst 0, 1) := dk_3 (dk_at dksX8_is_1 4 rfl rfl)
theorem dX8_is_29 : decode cX8_is 29 = .ok (.ireturn, 1) := dk_172 (dk_at dksX8_is_1 5 rfl rfl)
abbrev cX8_fails : ByteArray := prog_13_method_15_code
def yX8_fails : MethodName := ⟨RX8, "fails", "(I)V"⟩
def dkwX8_fails_0 : List UInt8 := [42, 180, 0, 132, 153, 0, 4, 177, 42, 27, 181, 0, 132, 42, 42, 180, 0, 111, 181, 0, 135, 177]
abbrev dktX8_fails_0 : List UInt8 := dkwX8_fails_0 ++ []
theorem dksX8_fails_0 : cX8_fails.data.toList.drop 0 = dktX8_fails_0 := by decide +kernel
theorem dX8_fails_0 : decode cX8_fails 0 = .ok (.aload_n 0, 1) := dk_42 (dk_at dksX8_fails_0 0 rfl rfl)
theorem dX8_fails_1 : decode cX8_fails 1 = .ok (.getfield 132, 3) := dk_180 0 132 (dk_at dksX8_fails_0 1 rfl rfl)
theorem dX8_fails_4 : decode cX8_fails 4 = .ok (.ifCond .eq 4, 3) := dk_153 0 4 (dk_at dksX8_fails_0 4 rfl rfl)
theorem dX8_fails_7 : decode cX8_fails 7 = .ok (.return_, 1) := dk_177 (dk_at dksX8_fails_0 7 rfl rfl)
theorem dX8_fails_8 : decode cX8_fails 8 = .ok (.aload_n 0, 1) := dk_42 (dk_at dksX8_fails_0 8 rfl rfl)
theorem dX8_fails_9 : decode cX8_fails 9 = .ok (.iload_n 1, 1) := dk_27 (dk_at dksX8_fails_0 9 rfl rfl)
theorem dX8_fails_10 : decode cX8_fails 10 = .ok (.putfield 132, 3) := dk_181 0 132 (dk_at dksX8_fails_0 10 rfl rfl)
theorem dX8_fails_13 : decode cX8_fails 13 = .ok (.aload_n 0, 1) := dk_42 (dk_at dksX8_fails_0 13 rfl rfl)
theorem dX8_fails_14 : decode cX8_fails 14 = .ok (.aload_n 0, 1) := dk_42 (dk_at dksX8_fails_0 14 rfl rfl)
theorem dX8_fails_15 : decode cX8_fails 15 = .ok (.getfield 111, 3) := dk_180 0 111 (dk_at dksX8_fails_0 15 rfl rfl)
theorem dX8_fails_18 : decode cX8_fails 18 = .ok (.putfield 135, 3) := dk_181 0 135 (dk_at dksX8_fails_0 18 rfl rfl)
theorem dX8_fails_21 : decode cX8_fails 21 = .ok (.return_, 1) := dk_177 (dk_at dksX8_fails_0 21 rfl rfl)
abbrev cX8_number : ByteArray := prog_13_method_20_code
def yX8_number : MethodName := ⟨RX8, "number", "(JII)I"⟩
def dkwX8_number_0 : List UInt8 := [42, 31, 182, 0, 151, 42, 29, 21, 4, 182, 0, 155, 172]
abbrev dktX8_number_0 : List UInt8 := dkwX8_number_0 ++ []
theorem dksX8_number_0 : cX8_number.data.toList.drop 0 = dktX8_number_0 := by decide +kernel
theorem dX8_number_0 : decode cX8_number 0 = .ok (.aload_n 0, 1) := dk_42 (dk_at dksX8_number_0 0 rfl rfl)
theorem dX8_number_1 : decode cX8_number 1 = .ok (.lload_n 1, 1) := dk_31 (dk_at dksX8_number_0 1 rfl rfl)
theorem dX8_number_2 : decode cX8_number 2 = .ok (.invokevirtual 151, 3) := dk_182 0 151 (dk_at dksX8_number_0 2 rfl rfl)
theorem dX8_number_5 : decode cX8_number 5 = .ok (.aload_n 0, 1) := dk_42 (dk_at dksX8_number_0 5 rfl rfl)
theorem dX8_number_6 : decode cX8_number 6 = .ok (.iload_n 3, 1) := dk_29 (dk_at dksX8_number_0 6 rfl rfl)
theorem dX8_number_7 : decode cX8_number 7 = .ok (.iload 4, 2) := dk_21 4 (dk_at dksX8_number_0 7 rfl rfl)
theorem dX8_number_9 : decode cX8_number 9 = .ok (.invokevirtual 155, 3) := dk_182 0 155 (dk_at dksX8_number_0 9 rfl rfl)
theorem dX8_number_12 : decode cX8_number 12 = .ok (.ireturn, 1) := dk_172 (dk_at dksX8_number_0 12 rfl rfl)
abbrev cX8_number_2 : ByteArray := prog_13_method_19_code
def yX8_number_2 : MethodName := ⟨RX8, "number", "(II)I"⟩
def dkwX8_number_2_2 : List UInt8 := [180, 0, 114, 62, 42, 182, 0, 142, 29, 172]
abbrev dktX8_number_2_2 : List UInt8 := dkwX8_number_2_2 ++ []
def dkwX8_number_2_1 : List UInt8 := [42, 180, 0, 114, 133, 27, 133, 28, 133, 184, 0, 85, 154, 0, 10, 42, 5, 182, 0, 148, 27, 172, 42]
abbrev dktX8_number_2_1 : List UInt8 := dkwX8_number_2_1 ++ dktX8_number_2_2
def dkwX8_number_2_0 : List UInt8 := [42, 180, 0, 132, 153, 0, 5, 27, 172, 42, 180, 0, 121, 5, 159, 0, 10, 42, 4, 182, 0, 148, 27, 172]
abbrev dktX8_number_2_0 : List UInt8 := dkwX8_number_2_0 ++ dktX8_number_2_1
theorem dksX8_number_2_0 : cX8_number_2.data.toList.drop 0 = dktX8_number_2_0 := by decide +kernel
theorem dksX8_number_2_1 : cX8_number_2.data.toList.drop 24 = dktX8_number_2_1 := dk_seg dksX8_number_2_0 24 rfl rfl
theorem dksX8_number_2_2 : cX8_number_2.data.toList.drop 47 = dktX8_number_2_2 := dk_seg dksX8_number_2_1 23 rfl rfl
theorem dX8_number_2_0 : decode cX8_number_2 0 = .ok (.aload_n 0, 1) := dk_42 (dk_at dksX8_number_2_0 0 rfl rfl)
theorem dX8_number_2_1 : decode cX8_number_2 1 = .ok (.getfield 132, 3) := dk_180 0 132 (dk_at dksX8_number_2_0 1 rfl rfl)
theorem dX8_number_2_4 : decode cX8_number_2 4 = .ok (.ifCond .eq 5, 3) := dk_153 0 5 (dk_at dksX8_number_2_0 4 rfl rfl)
theorem dX8_number_2_7 : decode cX8_number_2 7 = .ok (.iload_n 1, 1) := dk_27 (dk_at dksX8_number_2_0 7 rfl rfl)
theorem dX8_number_2_8 : decode cX8_number_2 8 = .ok (.ireturn, 1) := dk_172 (dk_at dksX8_number_2_0 8 rfl rfl)
theorem dX8_number_2_9 : decode cX8_number_2 9 = .ok (.aload_n 0, 1) := dk_42 (dk_at dksX8_number_2_0 9 rfl rfl)
theorem dX8_number_2_10 : decode cX8_number_2 10 = .ok (.getfield 121, 3) := dk_180 0 121 (dk_at dksX8_number_2_0 10 rfl rfl)
theorem dX8_number_2_13 : decode cX8_number_2 13 = .ok (.iconst 2, 1) := dk_5 (dk_at dksX8_number_2_0 13 rfl rfl)
theorem dX8_number_2_14 : decode cX8_number_2 14 = .ok (.if_icmp .eq 10, 3) := dk_159 0 10 (dk_at dksX8_number_2_0 14 rfl rfl)
theorem dX8_number_2_17 : decode cX8_number_2 17 = .ok (.aload_n 0, 1) := dk_42 (dk_at dksX8_number_2_0 17 rfl rfl)
theorem dX8_number_2_18 : decode cX8_number_2 18 = .ok (.iconst 1, 1) := dk_4 (dk_at dksX8_number_2_0 18 rfl rfl)
theorem dX8_number_2_19 : decode cX8_number_2 19 = .ok (.invokevirtual 148, 3) := dk_182 0 148 (dk_at dksX8_number_2_0 19 rfl rfl)
theorem dX8_number_2_22 : decode cX8_number_2 22 = .ok (.iload_n 1, 1) := dk_27 (dk_at dksX8_number_2_0 22 rfl rfl)
theorem dX8_number_2_23 : decode cX8_number_2 23 = .ok (.ireturn, 1) := dk_172 (dk_at dksX8_number_2_0 23 rfl rfl)
theorem dX8_number_2_24 : decode cX8_number_2 24 = .ok (.aload_n 0, 1) := dk_42 (dk_at dksX8_number_2_1 0 rfl rfl)
theorem dX8_number_2_25 : decode cX8_number_2 25 = .ok (.getfield 114, 3) := dk_180 0 114 (dk_at dksX8_number_2_1 1 rfl rfl)
theorem dX8_number_2_28 : decode cX8_number_2 28 = .ok (.i2l, 1) := dk_133 (dk_at dksX8_number_2_1 4 rfl rfl)
theorem dX8_number_2_29 : decode cX8_number_2 29 = .ok (.iload_n 1, 1) := dk_27 (dk_at dksX8_number_2_1 5 rfl rfl)
theorem dX8_number_2_30 : decode cX8_number_2 30 = .ok (.i2l, 1) := dk_133 (dk_at dksX8_number_2_1 6 rfl rfl)
theorem dX8_number_2_31 : decode cX8_number_2 31 = .ok (.iload_n 2, 1) := dk_28 (dk_at dksX8_number_2_1 7 rfl rfl)
theorem dX8_number_2_32 : decode cX8_number_2 32 = .ok (.i2l, 1) := dk_133 (dk_at dksX8_number_2_1 8 rfl rfl)
theorem dX8_number_2_33 : decode cX8_number_2 33 = .ok (.invokestatic 85, 3) := dk_184 0 85 (dk_at dksX8_number_2_1 9 rfl rfl)
theorem dX8_number_2_36 : decode cX8_number_2 36 = .ok (.ifCond .ne 10, 3) := dk_154 0 10 (dk_at dksX8_number_2_1 12 rfl rfl)
theorem dX8_number_2_39 : decode cX8_number_2 39 = .ok (.aload_n 0, 1) := dk_42 (dk_at dksX8_number_2_1 15 rfl rfl)
theorem dX8_number_2_40 : decode cX8_number_2 40 = .ok (.iconst 2, 1) := dk_5 (dk_at dksX8_number_2_1 16 rfl rfl)
theorem dX8_number_2_41 : decode cX8_number_2 41 = .ok (.invokevirtual 148, 3) := dk_182 0 148 (dk_at dksX8_number_2_1 17 rfl rfl)
theorem dX8_number_2_44 : decode cX8_number_2 44 = .ok (.iload_n 1, 1) := dk_27 (dk_at dksX8_number_2_1 20 rfl rfl)
theorem dX8_number_2_45 : decode cX8_number_2 45 = .ok (.ireturn, 1) := dk_172 (dk_at dksX8_number_2_1 21 rfl rfl)
theorem dX8_number_2_46 : decode cX8_number_2 46 = .ok (.aload_n 0, 1) := dk_42 (dk_at dksX8_number_2_1 22 rfl rfl)
theorem dX8_number_2_47 : decode cX8_number_2 47 = .ok (.getfield 114, 3) := dk_180 0 114 (dk_at dksX8_number_2_2 0 rfl rfl)
theorem dX8_number_2_50 : decode cX8_number_2 50 = .ok (.istore_n 3, 1) := dk_62 (dk_at dksX8_number_2_2 3 rfl rfl)
theorem dX8_number_2_51 : decode cX8_number_2 51 = .ok (.aload_n 0, 1) := dk_42 (dk_at dksX8_number_2_2 4 rfl rfl)
theorem dX8_number_2_52 : decode cX8_number_2 52 = .ok (.invokevirtual 142, 3) := dk_182 0 142 (dk_at dksX8_number_2_2 5 rfl rfl)
theorem dX8_number_2_55 : decode cX8_number_2 55 = .ok (.iload_n 3, 1) := dk_29 (dk_at dksX8_number_2_2 8 rfl rfl)
theorem dX8_number_2_56 : decode cX8_number_2 56 = .ok (.ireturn, 1) := dk_172 (dk_at dksX8_number_2_2 9 rfl rfl)
abbrev cX8_line : ByteArray := prog_13_method_34_code
def yX8_line : MethodName := ⟨RX8, "line", "()V"⟩
def dkwX8_line_13 : List UInt8 := [177]
abbrev dktX8_line_13 : List UInt8 := dkwX8_line_13 ++ []
def dkwX8_line_12 : List UInt8 := [182, 0, 190, 54, 4, 42, 182, 0, 168, 153, 0, 15, 42, 180, 0, 46, 17, 3, 32, 21, 4, 96, 4, 84]
abbrev dktX8_line_12 : List UInt8 := dkwX8_line_12 ++ dktX8_line_13
def dkwX8_line_11 : List UInt8 := [42, 180, 0, 46, 17, 3, 32, 42, 180, 0, 114, 96, 51, 153, 0, 8, 42, 5, 182, 0, 148, 42]
abbrev dktX8_line_11 : List UInt8 := dkwX8_line_11 ++ dktX8_line_12
def dkwX8_line_10 : List UInt8 := [180, 0, 132, 154, 0, 42, 42, 180, 0, 121, 5, 160, 0, 34, 42, 180, 0, 114, 17, 0, 200, 162, 0, 24]
abbrev dktX8_line_10 : List UInt8 := dkwX8_line_10 ++ dktX8_line_11
def dkwX8_line_9 : List UInt8 := [20, 0, 217, 182, 0, 145, 153, 0, 10, 42, 182, 0, 219, 167, 0, 81, 42, 20, 0, 222, 182, 0, 151, 42]
abbrev dktX8_line_9 : List UInt8 := dkwX8_line_9 ++ dktX8_line_10
def dkwX8_line_8 : List UInt8 := [182, 0, 177, 167, 0, 115, 42, 20, 0, 212, 182, 0, 145, 153, 0, 10, 42, 182, 0, 214, 167, 0, 98, 42]
abbrev dktX8_line_8 : List UInt8 := dkwX8_line_8 ++ dktX8_line_9
def dkwX8_line_7 : List UInt8 := [42, 16, 9, 182, 0, 181, 96, 104, 16, 30, 182, 0, 208, 42, 16, 9, 42, 16, 9, 182, 0, 181, 4, 96]
abbrev dktX8_line_7 : List UInt8 := dkwX8_line_7 ++ dktX8_line_8
def dkwX8_line_6 : List UInt8 := [4, 96, 182, 0, 177, 167, 0, 161, 29, 153, 0, 45, 42, 182, 0, 142, 42, 42, 180, 0, 53, 5, 16, 20]
abbrev dktX8_line_6 : List UInt8 := dkwX8_line_6 ++ dktX8_line_7
def dkwX8_line_5 : List UInt8 := [16, 48, 42, 16, 8, 182, 0, 181, 96, 104, 16, 9, 182, 0, 208, 42, 16, 8, 42, 16, 8, 182, 0, 181]
abbrev dktX8_line_5 : List UInt8 := dkwX8_line_5 ++ dktX8_line_6
def dkwX8_line_4 : List UInt8 := [167, 0, 214, 28, 153, 0, 52, 42, 182, 0, 142, 42, 20, 0, 206, 182, 0, 151, 42, 42, 180, 0, 50, 5]
abbrev dktX8_line_4 : List UInt8 := dkwX8_line_4 ++ dktX8_line_5
def dkwX8_line_3 : List UInt8 := [182, 0, 148, 42, 180, 0, 132, 153, 0, 4, 177, 27, 153, 0, 14, 42, 182, 0, 142, 42, 182, 0, 203]
abbrev dktX8_line_3 : List UInt8 := dkwX8_line_3 ++ dktX8_line_4
def dkwX8_line_2 : List UInt8 := [182, 0, 181, 16, 12, 159, 0, 17, 29, 153, 0, 18, 42, 16, 9, 182, 0, 181, 8, 160, 0, 8, 42, 6]
abbrev dktX8_line_2 : List UInt8 := dkwX8_line_2 ++ dktX8_line_3
def dkwX8_line_1 : List UInt8 := [27, 153, 0, 14, 42, 16, 7, 182, 0, 181, 16, 8, 159, 0, 32, 28, 153, 0, 14, 42, 16, 8]
abbrev dktX8_line_1 : List UInt8 := dkwX8_line_1 ++ dktX8_line_2
def dkwX8_line_0 : List UInt8 := [42, 20, 0, 197, 182, 0, 138, 60, 42, 20, 0, 199, 182, 0, 138, 61, 42, 20, 0, 201, 182, 0, 138, 62]
abbrev dktX8_line_0 : List UInt8 := dkwX8_line_0 ++ dktX8_line_1
theorem dksX8_line_0 : cX8_line.data.toList.drop 0 = dktX8_line_0 := by decide +kernel
theorem dksX8_line_1 : cX8_line.data.toList.drop 24 = dktX8_line_1 := dk_seg dksX8_line_0 24 rfl rfl
theorem dksX8_line_2 : cX8_line.data.toList.drop 46 = dktX8_line_2 := dk_seg dksX8_line_1 22 rfl rfl
theorem dksX8_line_3 : cX8_line.data.toList.drop 70 = dktX8_line_3 := dk_seg dksX8_line_2 24 rfl rfl
theorem dksX8_line_4 : cX8_line.data.toList.drop 93 = dktX8_line_4 := dk_seg dksX8_line_3 23 rfl rfl
theorem dksX8_line_5 : cX8_line.data.toList.drop 117 = dktX8_line_5 := dk_seg dksX8_line_4 24 rfl rfl
theorem dksX8_line_6 : cX8_line.data.toList.drop 141 = dktX8_line_6 := dk_seg dksX8_line_5 24 rfl rfl
theorem dksX8_line_7 : cX8_line.data.toList.drop 165 = dktX8_line_7 := dk_seg dksX8_line_6 24 rfl rfl
theorem dksX8_line_8 : cX8_line.data.toList.drop 189 = dktX8_line_8 := dk_seg dksX8_line_7 24 rfl rfl
theorem dksX8_line_9 : cX8_line.data.toList.drop 213 = dktX8_line_9 := dk_seg dksX8_line_8 24 rfl rfl
theorem dksX8_line_10 : cX8_line.data.toList.drop 237 = dktX8_line_10 := dk_seg dksX8_line_9 24 rfl rfl
theorem dksX8_line_11 : cX8_line.data.toList.drop 261 = dktX8_line_11 := dk_seg dksX8_line_10 24 rfl rfl
theorem dksX8_line_12 : cX8_line.data.toList.drop 283 = dktX8_line_12 := dk_seg dksX8_line_11 22 rfl rfl
theorem dksX8_line_13 : cX8_line.data.toList.drop 307 = dktX8_line_13 := dk_seg dksX8_line_12 24 rfl rfl
theorem dX8_line_0 : decode cX8_line 0 = .ok (.aload_n 0, 1) := dk_42 (dk_at dksX8_line_0 0 rfl rfl)
theorem dX8_line_1 : decode cX8_line 1 = .ok (.ldc2_w 197, 3) := dk_20 0 197 (dk_at dksX8_line_0 1 rfl rfl)
theorem dX8_line_4 : decode cX8_line 4 = .ok (.invokevirtual 138, 3) := dk_182 0 138 (dk_at dksX8_line_0 4 rfl rfl)
theorem dX8_line_7 : decode cX8_line 7 = .ok (.istore_n 1, 1) := dk_60 (dk_at dksX8_line_0 7 rfl rfl)
theorem dX8_line_8 : decode cX8_line 8 = .ok (.aload_n 0, 1) := dk_42 (dk_at dksX8_line_0 8 rfl rfl)
theorem dX8_line_9 : decode cX8_line 9 = .ok (.ldc2_w 199, 3) := dk_20 0 199 (dk_at dksX8_line_0 9 rfl rfl)
theorem dX8_line_12 : decode cX8_line 12 = .ok (.invokevirtual 138, 3) := dk_182 0 138 (dk_at dksX8_line_0 12 rfl rfl)
theorem dX8_line_15 : decode cX8_line 15 = .ok (.istore_n 2, 1) := dk_61 (dk_at dksX8_line_0 15 rfl rfl)
theorem dX8_line_16 : decode cX8_line 16 = .ok (.aload_n 0, 1) := dk_42 (dk_at dksX8_line_0 16 rfl rfl)
theorem dX8_line_17 : decode cX8_line 17 = .ok (.ldc2_w 201, 3) := dk_20 0 201 (dk_at dksX8_line_0 17 rfl rfl)
theorem dX8_line_20 : decode cX8_line 20 = .ok (.invokevirtual 138, 3) := dk_182 0 138 (dk_at dksX8_line_0 20 rfl rfl)
theorem dX8_line_23 : decode cX8_line 23 = .ok (.istore_n 3, 1) := dk_62 (dk_at dksX8_line_0 23 rfl rfl)
theorem dX8_line_24 : decode cX8_line 24 = .ok (.iload_n 1, 1) := dk_27 (dk_at dksX8_line_1 0 rfl rfl)
theorem dX8_line_25 : decode cX8_line 25 = .ok (.ifCond .eq 14, 3) := dk_153 0 14 (dk_at dksX8_line_1 1 rfl rfl)
theorem dX8_line_28 : decode cX8_line 28 = .ok (.aload_n 0, 1) := dk_42 (dk_at dksX8_line_1 4 rfl rfl)
theorem dX8_line_29 : decode cX8_line 29 = .ok (.bipush 7, 2) := dk_16 7 (dk_at dksX8_line_1 5 rfl rfl)
theorem dX8_line_31 : decode cX8_line 31 = .ok (.invokevirtual 181, 3) := dk_182 0 181 (dk_at dksX8_line_1 7 rfl rfl)
theorem dX8_line_34 : decode cX8_line 34 = .ok (.bipush 8, 2) := dk_16 8 (dk_at dksX8_line_1 10 rfl rfl)
theorem dX8_line_36 : decode cX8_line 36 = .ok (.if_icmp .eq 32, 3) := dk_159 0 32 (dk_at dksX8_line_1 12 rfl rfl)
theorem dX8_line_39 : decode cX8_line 39 = .ok (.iload_n 2, 1) := dk_28 (dk_at dksX8_line_1 15 rfl rfl)
theorem dX8_line_40 : decode cX8_line 40 = .ok (.ifCond .eq 14, 3) := dk_153 0 14 (dk_at dksX8_line_1 16 rfl rfl)
theorem dX8_line_43 : decode cX8_line 43 = .ok (.aload_n 0, 1) := dk_42 (dk_at dksX8_line_1 19 rfl rfl)
theorem dX8_line_44 : decode cX8_line 44 = .ok (.bipush 8, 2) := dk_16 8 (dk_at dksX8_line_1 20 rfl rfl)
theorem dX8_line_46 : decode cX8_line 46 = .ok (.invokevirtual 181, 3) := dk_182 0 181 (dk_at dksX8_line_2 0 rfl rfl)
theorem dX8_line_49 : decode cX8_line 49 = .ok (.bipush 12, 2) := dk_16 12 (dk_at dksX8_line_2 3 rfl rfl)
theorem dX8_line_51 : decode cX8_line 51 = .ok (.if_icmp .eq 17, 3) := dk_159 0 17 (dk_at dksX8_line_2 5 rfl rfl)
theorem dX8_line_54 : decode cX8_line 54 = .ok (.iload_n 3, 1) := dk_29 (dk_at dksX8_line_2 8 rfl rfl)
theorem dX8_line_55 : decode cX8_line 55 = .ok (.ifCond .eq 18, 3) := dk_153 0 18 (dk_at dksX8_line_2 9 rfl rfl)
theorem dX8_line_58 : decode cX8_line 58 = .ok (.aload_n 0, 1) := dk_42 (dk_at dksX8_line_2 12 rfl rfl)
theorem dX8_line_59 : decode cX8_line 59 = .ok (.bipush 9, 2) := dk_16 9 (dk_at dksX8_line_2 13 rfl rfl)
theorem dX8_line_61 : decode cX8_line 61 = .ok (.invokevirtual 181, 3) := dk_182 0 181 (dk_at dksX8_line_2 15 rfl rfl)
theorem dX8_line_64 : decode cX8_line 64 = .ok (.iconst 5, 1) := dk_8 (dk_at dksX8_line_2 18 rfl rfl)
theorem dX8_line_65 : decode cX8_line 65 = .ok (.if_icmp .ne 8, 3) := dk_160 0 8 (dk_at dksX8_line_2 19 rfl rfl)
theorem dX8_line_68 : decode cX8_line 68 = .ok (.aload_n 0, 1) := dk_42 (dk_at dksX8_line_2 22 rfl rfl)
theorem dX8_line_69 : decode cX8_line 69 = .ok (.iconst 3, 1) := dk_6 (dk_at dksX8_line_2 23 rfl rfl)
theorem dX8_line_70 : decode cX8_line 70 = .ok (.invokevirtual 148, 3) := dk_182 0 148 (dk_at dksX8_line_3 0 rfl rfl)
theorem dX8_line_73 : decode cX8_line 73 = .ok (.aload_n 0, 1) := dk_42 (dk_at dksX8_line_3 3 rfl rfl)
theorem dX8_line_74 : decode cX8_line 74 = .ok (.getfield 132, 3) := dk_180 0 132 (dk_at dksX8_line_3 4 rfl rfl)
theorem dX8_line_77 : decode cX8_line 77 = .ok (.ifCond .eq 4, 3) := dk_153 0 4 (dk_at dksX8_line_3 7 rfl rfl)
theorem dX8_line_80 : decode cX8_line 80 = .ok (.return_, 1) := dk_177 (dk_at dksX8_line_3 10 rfl rfl)
theorem dX8_line_81 : decode cX8_line 81 = .ok (.iload_n 1, 1) := dk_27 (dk_at dksX8_line_3 11 rfl rfl)
theorem dX8_line_82 : decode cX8_line 82 = .ok (.ifCond .eq 14, 3) := dk_153 0 14 (dk_at dksX8_line_3 12 rfl rfl)
theorem dX8_line_85 : decode cX8_line 85 = .ok (.aload_n 0, 1) := dk_42 (dk_at dksX8_line_3 15 rfl rfl)
theorem dX8_line_86 : decode cX8_line 86 = .ok (.invokevirtual 142, 3) := dk_182 0 142 (dk_at dksX8_line_3 16 rfl rfl)
theorem dX8_line_89 : decode cX8_line 89 = .ok (.aload_n 0, 1) := dk_42 (dk_at dksX8_line_3 19 rfl rfl)
theorem dX8_line_90 : decode cX8_line 90 = .ok (.invokevirtual 203, 3) := dk_182 0 203 (dk_at dksX8_line_3 20 rfl rfl)
theorem dX8_line_93 : decode cX8_line 93 = .ok (.goto 214, 3) := dk_167 0 214 (dk_at dksX8_line_4 0 rfl rfl)
theorem dX8_line_96 : decode cX8_line 96 = .ok (.iload_n 2, 1) := dk_28 (dk_at dksX8_line_4 3 rfl rfl)
theorem dX8_line_97 : decode cX8_line 97 = .ok (.ifCond .eq 52, 3) := dk_153 0 52 (dk_at dksX8_line_4 4 rfl rfl)
theorem dX8_line_100 : decode cX8_line 100 = .ok (.aload_n 0, 1) := dk_42 (dk_at dksX8_line_4 7 rfl rfl)
theorem dX8_line_101 : decode cX8_line 101 = .ok (.invokevirtual 142, 3) := dk_182 0 142 (dk_at dksX8_line_4 8 rfl rfl)
theorem dX8_line_104 : decode cX8_line 104 = .ok (.aload_n 0, 1) := dk_42 (dk_at dksX8_line_4 11 rfl rfl)
theorem dX8_line_105 : decode cX8_line 105 = .ok (.ldc2_w 206, 3) := dk_20 0 206 (dk_at dksX8_line_4 12 rfl rfl)
theorem dX8_line_108 : decode cX8_line 108 = .ok (.invokevirtual 151, 3) := dk_182 0 151 (dk_at dksX8_line_4 15 rfl rfl)
theorem dX8_line_111 : decode cX8_line 111 = .ok (.aload_n 0, 1) := dk_42 (dk_at dksX8_line_4 18 rfl rfl)
theorem dX8_line_112 : decode cX8_line 112 = .ok (.aload_n 0, 1) := dk_42 (dk_at dksX8_line_4 19 rfl rfl)
theorem dX8_line_113 : decode cX8_line 113 = .ok (.getfield 50, 3) := dk_180 0 50 (dk_at dksX8_line_4 20 rfl rfl)
theorem dX8_line_116 : decode cX8_line 116 = .ok (.iconst 2, 1) := dk_5 (dk_at dksX8_line_4 23 rfl rfl)
theorem dX8_line_117 : decode cX8_line 117 = .ok (.bipush 48, 2) := dk_16 48 (dk_at dksX8_line_5 0 rfl rfl)
theorem dX8_line_119 : decode cX8_line 119 = .ok (.aload_n 0, 1) := dk_42 (dk_at dksX8_line_5 2 rfl rfl)
theorem dX8_line_120 : decode cX8_line 120 = .ok (.bipush 8, 2) := dk_16 8 (dk_at dksX8_line_5 3 rfl rfl)
theorem dX8_line_122 : decode cX8_line 122 = .ok (.invokevirtual 181, 3) := dk_182 0 181 (dk_at dksX8_line_5 5 rfl rfl)
theorem dX8_line_125 : decode cX8_line 125 = .ok (.iadd, 1) := dk_96 (dk_at dksX8_line_5 8 rfl rfl)
theorem dX8_line_126 : decode cX8_line 126 = .ok (.imul, 1) := dk_104 (dk_at dksX8_line_5 9 rfl rfl)
theorem dX8_line_127 : decode cX8_line 127 = .ok (.bipush 9, 2) := dk_16 9 (dk_at dksX8_line_5 10 rfl rfl)
theorem dX8_line_129 : decode cX8_line 129 = .ok (.invokevirtual 208, 3) := dk_182 0 208 (dk_at dksX8_line_5 12 rfl rfl)
theorem dX8_line_132 : decode cX8_line 132 = .ok (.aload_n 0, 1) := dk_42 (dk_at dksX8_line_5 15 rfl rfl)
theorem dX8_line_133 : decode cX8_line 133 = .ok (.bipush 8, 2) := dk_16 8 (dk_at dksX8_line_5 16 rfl rfl)
theorem dX8_line_135 : decode cX8_line 135 = .ok (.aload_n 0, 1) := dk_42 (dk_at dksX8_line_5 18 rfl rfl)
theorem dX8_line_136 : decode cX8_line 136 = .ok (.bipush 8, 2) := dk_16 8 (dk_at dksX8_line_5 19 rfl rfl)
theorem dX8_line_138 : decode cX8_line 138 = .ok (.invokevirtual 181, 3) := dk_182 0 181 (dk_at dksX8_line_5 21 rfl rfl)
theorem dX8_line_141 : decode cX8_line 141 = .ok (.iconst 1, 1) := dk_4 (dk_at dksX8_line_6 0 rfl rfl)
theorem dX8_line_142 : decode cX8_line 142 = .ok (.iadd, 1) := dk_96 (dk_at dksX8_line_6 1 rfl rfl)
theorem dX8_line_143 : decode cX8_line 143 = .ok (.invokevirtual 177, 3) := dk_182 0 177 (dk_at dksX8_line_6 2 rfl rfl)
theorem dX8_line_146 : decode cX8_line 146 = .ok (.goto 161, 3) := dk_167 0 161 (dk_at dksX8_line_6 5 rfl rfl)
theorem dX8_line_149 : decode cX8_line 149 = .ok (.iload_n 3, 1) := dk_29 (dk_at dksX8_line_6 8 rfl rfl)
theorem dX8_line_150 : decode cX8_line 150 = .ok (.ifCond .eq 45, 3) := dk_153 0 45 (dk_at dksX8_line_6 9 rfl rfl)
theorem dX8_line_153 : decode cX8_line 153 = .ok (.aload_n 0, 1) := dk_42 (dk_at dksX8_line_6 12 rfl rfl)
theorem dX8_line_154 : decode cX8_line 154 = .ok (.invokevirtual 142, 3) := dk_182 0 142 (dk_at dksX8_line_6 13 rfl rfl)
theorem dX8_line_157 : decode cX8_line 157 = .ok (.aload_n 0, 1) := dk_42 (dk_at dksX8_line_6 16 rfl rfl)
theorem dX8_line_158 : decode cX8_line 158 = .ok (.aload_n 0, 1) := dk_42 (dk_at dksX8_line_6 17 rfl rfl)
theorem dX8_line_159 : decode cX8_line 159 = .ok (.getfield 53, 3) := dk_180 0 53 (dk_at dksX8_line_6 18 rfl rfl)
theorem dX8_line_162 : decode cX8_line 162 = .ok (.iconst 2, 1) := dk_5 (dk_at dksX8_line_6 21 rfl rfl)
theorem dX8_line_163 : decode cX8_line 163 = .ok (.bipush 20, 2) := dk_16 20 (dk_at dksX8_line_6 22 rfl rfl)
theorem dX8_line_165 : decode cX8_line 165 = .ok (.aload_n 0, 1) := dk_42 (dk_at dksX8_line_7 0 rfl rfl)
theorem dX8_line_166 : decode cX8_line 166 = .ok (.bipush 9, 2) := dk_16 9 (dk_at dksX8_line_7 1 rfl rfl)
theorem dX8_line_168 : decode cX8_line 168 = .ok (.invokevirtual 181, 3) := dk_182 0 181 (dk_at dksX8_line_7 3 rfl rfl)
theorem dX8_line_171 : decode cX8_line 171 = .ok (.iadd, 1) := dk_96 (dk_at dksX8_line_7 6 rfl rfl)
theorem dX8_line_172 : decode cX8_line 172 = .ok (.imul, 1) := dk_104 (dk_at dksX8_line_7 7 rfl rfl)
theorem dX8_line_173 : decode cX8_line 173 = .ok (.bipush 30, 2) := dk_16 30 (dk_at dksX8_line_7 8 rfl rfl)
theorem dX8_line_175 : decode cX8_line 175 = .ok (.invokevirtual 208, 3) := dk_182 0 208 (dk_at dksX8_line_7 10 rfl rfl)
theorem dX8_line_178 : decode cX8_line 178 = .ok (.aload_n 0, 1) := dk_42 (dk_at dksX8_line_7 13 rfl rfl)
theorem dX8_line_179 : decode cX8_line 179 = .ok (.bipush 9, 2) := dk_16 9 (dk_at dksX8_line_7 14 rfl rfl)
theorem dX8_line_181 : decode cX8_line 181 = .ok (.aload_n 0, 1) := dk_42 (dk_at dksX8_line_7 16 rfl rfl)
theorem dX8_line_182 : decode cX8_line 182 = .ok (.bipush 9, 2) := dk_16 9 (dk_at dksX8_line_7 17 rfl rfl)
theorem dX8_line_184 : decode cX8_line 184 = .ok (.invokevirtual 181, 3) := dk_182 0 181 (dk_at dksX8_line_7 19 rfl rfl)
theorem dX8_line_187 : decode cX8_line 187 = .ok (.iconst 1, 1) := dk_4 (dk_at dksX8_line_7 22 rfl rfl)
theorem dX8_line_188 : decode cX8_line 188 = .ok (.iadd, 1) := dk_96 (dk_at dksX8_line_7 23 rfl rfl)
theorem dX8_line_189 : decode cX8_line 189 = .ok (.invokevirtual 177, 3) := dk_182 0 177 (dk_at dksX8_line_8 0 rfl rfl)
theorem dX8_line_192 : decode cX8_line 192 = .ok (.goto 115, 3) := dk_167 0 115 (dk_at dksX8_line_8 3 rfl rfl)
theorem dX8_line_195 : decode cX8_line 195 = .ok (.aload_n 0, 1) := dk_42 (dk_at dksX8_line_8 6 rfl rfl)
theorem dX8_line_196 : decode cX8_line 196 = .ok (.ldc2_w 212, 3) := dk_20 0 212 (dk_at dksX8_line_8 7 rfl rfl)
theorem dX8_line_199 : decode cX8_line 199 = .ok (.invokevirtual 145, 3) := dk_182 0 145 (dk_at dksX8_line_8 10 rfl rfl)
theorem dX8_line_202 : decode cX8_line 202 = .ok (.ifCond .eq 10, 3) := dk_153 0 10 (dk_at dksX8_line_8 13 rfl rfl)
theorem dX8_line_205 : decode cX8_line 205 = .ok (.aload_n 0, 1) := dk_42 (dk_at dksX8_line_8 16 rfl rfl)
theorem dX8_line_206 : decode cX8_line 206 = .ok (.invokevirtual 214, 3) := dk_182 0 214 (dk_at dksX8_line_8 17 rfl rfl)
theorem dX8_line_209 : decode cX8_line 209 = .ok (.goto 98, 3) := dk_167 0 98 (dk_at dksX8_line_8 20 rfl rfl)
theorem dX8_line_212 : decode cX8_line 212 = .ok (.aload_n 0, 1) := dk_42 (dk_at dksX8_line_8 23 rfl rfl)
theorem dX8_line_213 : decode cX8_line 213 = .ok (.ldc2_w 217, 3) := dk_20 0 217 (dk_at dksX8_line_9 0 rfl rfl)
theorem dX8_line_216 : decode cX8_line 216 = .ok (.invokevirtual 145, 3) := dk_182 0 145 (dk_at dksX8_line_9 3 rfl rfl)
theorem dX8_line_219 : decode cX8_line 219 = .ok (.ifCond .eq 10, 3) := dk_153 0 10 (dk_at dksX8_line_9 6 rfl rfl)
theorem dX8_line_222 : decode cX8_line 222 = .ok (.aload_n 0, 1) := dk_42 (dk_at dksX8_line_9 9 rfl rfl)
theorem dX8_line_223 : decode cX8_line 223 = .ok (.invokevirtual 219, 3) := dk_182 0 219 (dk_at dksX8_line_9 10 rfl rfl)
theorem dX8_line_226 : decode cX8_line 226 = .ok (.goto 81, 3) := dk_167 0 81 (dk_at dksX8_line_9 13 rfl rfl)
theorem dX8_line_229 : decode cX8_line 229 = .ok (.aload_n 0, 1) := dk_42 (dk_at dksX8_line_9 16 rfl rfl)
theorem dX8_line_230 : decode cX8_line 230 = .ok (.ldc2_w 222, 3) := dk_20 0 222 (dk_at dksX8_line_9 17 rfl rfl)
theorem dX8_line_233 : decode cX8_line 233 = .ok (.invokevirtual 151, 3) := dk_182 0 151 (dk_at dksX8_line_9 20 rfl rfl)
theorem dX8_line_236 : decode cX8_line 236 = .ok (.aload_n 0, 1) := dk_42 (dk_at dksX8_line_9 23 rfl rfl)
theorem dX8_line_237 : decode cX8_line 237 = .ok (.getfield 132, 3) := dk_180 0 132 (dk_at dksX8_line_10 0 rfl rfl)
theorem dX8_line_240 : decode cX8_line 240 = .ok (.ifCond .ne 42, 3) := dk_154 0 42 (dk_at dksX8_line_10 3 rfl rfl)
theorem dX8_line_243 : decode cX8_line 243 = .ok (.aload_n 0, 1) := dk_42 (dk_at dksX8_line_10 6 rfl rfl)
theorem dX8_line_244 : decode cX8_line 244 = .ok (.getfield 121, 3) := dk_180 0 121 (dk_at dksX8_line_10 7 rfl rfl)
theorem dX8_line_247 : decode cX8_line 247 = .ok (.iconst 2, 1) := dk_5 (dk_at dksX8_line_10 10 rfl rfl)
theorem dX8_line_248 : decode cX8_line 248 = .ok (.if_icmp .ne 34, 3) := dk_160 0 34 (dk_at dksX8_line_10 11 rfl rfl)
theorem dX8_line_251 : decode cX8_line 251 = .ok (.aload_n 0, 1) := dk_42 (dk_at dksX8_line_10 14 rfl rfl)
theorem dX8_line_252 : decode cX8_line 252 = .ok (.getfield 114, 3) := dk_180 0 114 (dk_at dksX8_line_10 15 rfl rfl)
theorem dX8_line_255 : decode cX8_line 255 = .ok (.sipush 200, 3) := dk_17 0 200 (dk_at dksX8_line_10 18 rfl rfl)
theorem dX8_line_258 : decode cX8_line 258 = .ok (.if_icmp .ge 24, 3) := dk_162 0 24 (dk_at dksX8_line_10 21 rfl rfl)
theorem dX8_line_261 : decode cX8_line 261 = .ok (.aload_n 0, 1) := dk_42 (dk_at dksX8_line_11 0 rfl rfl)
theorem dX8_line_262 : decode cX8_line 262 = .ok (.getfield 46, 3) := dk_180 0 46 (dk_at dksX8_line_11 1 rfl rfl)
theorem dX8_line_265 : decode cX8_line 265 = .ok (.sipush 800, 3) := dk_17 3 32 (dk_at dksX8_line_11 4 rfl rfl)
theorem dX8_line_268 : decode cX8_line 268 = .ok (.aload_n 0, 1) := dk_42 (dk_at dksX8_line_11 7 rfl rfl)
theorem dX8_line_269 : decode cX8_line 269 = .ok (.getfield 114, 3) := dk_180 0 114 (dk_at dksX8_line_11 8 rfl rfl)
theorem dX8_line_272 : decode cX8_line 272 = .ok (.iadd, 1) := dk_96 (dk_at dksX8_line_11 11 rfl rfl)
theorem dX8_line_273 : decode cX8_line 273 = .ok (.baload, 1) := dk_51 (dk_at dksX8_line_11 12 rfl rfl)
theorem dX8_line_274 : decode cX8_line 274 = .ok (.ifCond .eq 8, 3) := dk_153 0 8 (dk_at dksX8_line_11 13 rfl rfl)
theorem dX8_line_277 : decode cX8_line 277 = .ok (.aload_n 0, 1) := dk_42 (dk_at dksX8_line_11 16 rfl rfl)
theorem dX8_line_278 : decode cX8_line 278 = .ok (.iconst 2, 1) := dk_5 (dk_at dksX8_line_11 17 rfl rfl)
theorem dX8_line_279 : decode cX8_line 279 = .ok (.invokevirtual 148, 3) := dk_182 0 148 (dk_at dksX8_line_11 18 rfl rfl)
theorem dX8_line_282 : decode cX8_line 282 = .ok (.aload_n 0, 1) := dk_42 (dk_at dksX8_line_11 21 rfl rfl)
theorem dX8_line_283 : decode cX8_line 283 = .ok (.invokevirtual 190, 3) := dk_182 0 190 (dk_at dksX8_line_12 0 rfl rfl)
theorem dX8_line_286 : decode cX8_line 286 = .ok (.istore 4, 2) := dk_54 4 (dk_at dksX8_line_12 3 rfl rfl)
theorem dX8_line_288 : decode cX8_line 288 = .ok (.aload_n 0, 1) := dk_42 (dk_at dksX8_line_12 5 rfl rfl)
theorem dX8_line_289 : decode cX8_line 289 = .ok (.invokevirtual 168, 3) := dk_182 0 168 (dk_at dksX8_line_12 6 rfl rfl)
theorem dX8_line_292 : decode cX8_line 292 = .ok (.ifCond .eq 15, 3) := dk_153 0 15 (dk_at dksX8_line_12 9 rfl rfl)
theorem dX8_line_295 : decode cX8_line 295 = .ok (.aload_n 0, 1) := dk_42 (dk_at dksX8_line_12 12 rfl rfl)
theorem dX8_line_296 : decode cX8_line 296 = .ok (.getfield 46, 3) := dk_180 0 46 (dk_at dksX8_line_12 13 rfl rfl)
theorem dX8_line_299 : decode cX8_line 299 = .ok (.sipush 800, 3) := dk_17 3 32 (dk_at dksX8_line_12 16 rfl rfl)
theorem dX8_line_302 : decode cX8_line 302 = .ok (.iload 4, 2) := dk_21 4 (dk_at dksX8_line_12 19 rfl rfl)
theorem dX8_line_304 : decode cX8_line 304 = .ok (.iadd, 1) := dk_96 (dk_at dksX8_line_12 21 rfl rfl)
theorem dX8_line_305 : decode cX8_line 305 = .ok (.iconst 1, 1) := dk_4 (dk_at dksX8_line_12 22 rfl rfl)
theorem dX8_line_306 : decode cX8_line 306 = .ok (.bastore, 1) := dk_84 (dk_at dksX8_line_12 23 rfl rfl)
theorem dX8_line_307 : decode cX8_line 307 = .ok (.return_, 1) := dk_177 (dk_at dksX8_line_13 0 rfl rfl)
abbrev cX8_hasRead : ByteArray := prog_13_method_25_code
def yX8_hasRead : MethodName := ⟨RX8, "hasRead", "(I)I"⟩
def dkwX8_hasRead_0 : List UInt8 := [42, 180, 0, 34, 16, 44, 27, 96, 46, 172]
abbrev dktX8_hasRead_0 : List UInt8 := dkwX8_hasRead_0 ++ []
theorem dksX8_hasRead_0 : cX8_hasRead.data.toList.drop 0 = dktX8_hasRead_0 := by decide +kernel
theorem dX8_hasRead_0 : decode cX8_hasRead 0 = .ok (.aload_n 0, 1) := dk_42 (dk_at dksX8_hasRead_0 0 rfl rfl)
theorem dX8_hasRead_1 : decode cX8_hasRead 1 = .ok (.getfield 34, 3) := dk_180 0 34 (dk_at dksX8_hasRead_0 1 rfl rfl)
theorem dX8_hasRead_4 : decode cX8_hasRead 4 = .ok (.bipush 44, 2) := dk_16 44 (dk_at dksX8_hasRead_0 4 rfl rfl)
theorem dX8_hasRead_6 : decode cX8_hasRead 6 = .ok (.iload_n 1, 1) := dk_27 (dk_at dksX8_hasRead_0 6 rfl rfl)
theorem dX8_hasRead_7 : decode cX8_hasRead 7 = .ok (.iadd, 1) := dk_96 (dk_at dksX8_hasRead_0 7 rfl rfl)
theorem dX8_hasRead_8 : decode cX8_hasRead 8 = .ok (.iaload, 1) := dk_46 (dk_at dksX8_hasRead_0 8 rfl rfl)
theorem dX8_hasRead_9 : decode cX8_hasRead 9 = .ok (.ireturn, 1) := dk_172 (dk_at dksX8_hasRead_0 9 rfl rfl)
abbrev cX8_stumbleLine : ByteArray := prog_13_method_32_code
def yX8_stumbleLine : MethodName := ⟨RX8, "stumbleLine", "()V"⟩
def dkwX8_stumbleLine_5 : List UInt8 := [16, 7, 42, 16, 7, 182, 0, 181, 4, 96, 182, 0, 177, 177]
abbrev dktX8_stumbleLine_5 : List UInt8 := dkwX8_stumbleLine_5 ++ []
def dkwX8_stumbleLine_4 : List UInt8 := [182, 0, 174, 79, 42, 180, 0, 43, 27, 6, 96, 42, 20, 0, 195, 3, 16, 9, 182, 0, 174, 79, 42]
abbrev dktX8_stumbleLine_4 : List UInt8 := dkwX8_stumbleLine_4 ++ dktX8_stumbleLine_5
def dkwX8_stumbleLine_3 : List UInt8 := [182, 0, 190, 79, 42, 180, 0, 43, 27, 28, 79, 42, 180, 0, 43, 27, 5, 96, 42, 20, 0, 193, 3, 8]
abbrev dktX8_stumbleLine_3 : List UInt8 := dkwX8_stumbleLine_3 ++ dktX8_stumbleLine_4
def dkwX8_stumbleLine_2 : List UInt8 := [180, 0, 114, 182, 0, 187, 153, 0, 8, 42, 5, 182, 0, 148, 42, 180, 0, 43, 27, 4, 96, 42]
abbrev dktX8_stumbleLine_2 : List UInt8 := dkwX8_stumbleLine_2 ++ dktX8_stumbleLine_3
def dkwX8_stumbleLine_1 : List UInt8 := [182, 0, 151, 42, 180, 0, 132, 154, 0, 29, 42, 180, 0, 121, 5, 160, 0, 21, 42, 7, 28, 42]
abbrev dktX8_stumbleLine_1 : List UInt8 := dkwX8_stumbleLine_1 ++ dktX8_stumbleLine_2
def dkwX8_stumbleLine_0 : List UInt8 := [7, 16, 32, 42, 16, 7, 182, 0, 181, 96, 104, 60, 42, 3, 4, 182, 0, 155, 61, 42, 20, 0, 185]
abbrev dktX8_stumbleLine_0 : List UInt8 := dkwX8_stumbleLine_0 ++ dktX8_stumbleLine_1
theorem dksX8_stumbleLine_0 : cX8_stumbleLine.data.toList.drop 0 = dktX8_stumbleLine_0 := by decide +kernel
theorem dksX8_stumbleLine_1 : cX8_stumbleLine.data.toList.drop 23 = dktX8_stumbleLine_1 := dk_seg dksX8_stumbleLine_0 23 rfl rfl
theorem dksX8_stumbleLine_2 : cX8_stumbleLine.data.toList.drop 45 = dktX8_stumbleLine_2 := dk_seg dksX8_stumbleLine_1 22 rfl rfl
theorem dksX8_stumbleLine_3 : cX8_stumbleLine.data.toList.drop 67 = dktX8_stumbleLine_3 := dk_seg dksX8_stumbleLine_2 22 rfl rfl
theorem dksX8_stumbleLine_4 : cX8_stumbleLine.data.toList.drop 91 = dktX8_stumbleLine_4 := dk_seg dksX8_stumbleLine_3 24 rfl rfl
theorem dksX8_stumbleLine_5 : cX8_stumbleLine.data.toList.drop 114 = dktX8_stumbleLine_5 := dk_seg dksX8_stumbleLine_4 23 rfl rfl
theorem dX8_stumbleLine_0 : decode cX8_stumbleLine 0 = .ok (.iconst 4, 1) := dk_7 (dk_at dksX8_stumbleLine_0 0 rfl rfl)
theorem dX8_stumbleLine_1 : decode cX8_stumbleLine 1 = .ok (.bipush 32, 2) := dk_16 32 (dk_at dksX8_stumbleLine_0 1 rfl rfl)
theorem dX8_stumbleLine_3 : decode cX8_stumbleLine 3 = .ok (.aload_n 0, 1) := dk_42 (dk_at dksX8_stumbleLine_0 3 rfl rfl)
theorem dX8_stumbleLine_4 : decode cX8_stumbleLine 4 = .ok (.bipush 7, 2) := dk_16 7 (dk_at dksX8_stumbleLine_0 4 rfl rfl)
theorem dX8_stumbleLine_6 : decode cX8_stumbleLine 6 = .ok (.invokevirtual 181, 3) := dk_182 0 181 (dk_at dksX8_stumbleLine_0 6 rfl rfl)
theorem dX8_stumbleLine_9 : decode cX8_stumbleLine 9 = .ok (.iadd, 1) := dk_96 (dk_at dksX8_stumbleLine_0 9 rfl rfl)
theorem dX8_stumbleLine_10 : decode cX8_stumbleLine 10 = .ok (.imul, 1) := dk_104 (dk_at dksX8_stumbleLine_0 10 rfl rfl)
theorem dX8_stumbleLine_11 : decode cX8_stumbleLine 11 = .ok (.istore_n 1, 1) := dk_60 (dk_at dksX8_stumbleLine_0 11 rfl rfl)
theorem dX8_stumbleLine_12 : decode cX8_stumbleLine 12 = .ok (.aload_n 0, 1) := dk_42 (dk_at dksX8_stumbleLine_0 12 rfl rfl)
theorem dX8_stumbleLine_13 : decode cX8_stumbleLine 13 = .ok (.iconst 0, 1) := dk_3 (dk_at dksX8_stumbleLine_0 13 rfl rfl)
theorem dX8_stumbleLine_14 : decode cX8_stumbleLine 14 = .ok (.iconst 1, 1) := dk_4 (dk_at dksX8_stumbleLine_0 14 rfl rfl)
theorem dX8_stumbleLine_15 : decode cX8_stumbleLine 15 = .ok (.invokevirtual 155, 3) := dk_182 0 155 (dk_at dksX8_stumbleLine_0 15 rfl rfl)
theorem dX8_stumbleLine_18 : decode cX8_stumbleLine 18 = .ok (.istore_n 2, 1) := dk_61 (dk_at dksX8_stumbleLine_0 18 rfl rfl)
theorem dX8_stumbleLine_19 : decode cX8_stumbleLine 19 = .ok (.aload_n 0, 1) := dk_42 (dk_at dksX8_stumbleLine_0 19 rfl rfl)
theorem dX8_stumbleLine_20 : decode cX8_stumbleLine 20 = .ok (.ldc2_w 185, 3) := dk_20 0 185 (dk_at dksX8_stumbleLine_0 20 rfl rfl)
theorem dX8_stumbleLine_23 : decode cX8_stumbleLine 23 = .ok (.invokevirtual 151, 3) := dk_182 0 151 (dk_at dksX8_stumbleLine_1 0 rfl rfl)
theorem dX8_stumbleLine_26 : decode cX8_stumbleLine 26 = .ok (.aload_n 0, 1) := dk_42 (dk_at dksX8_stumbleLine_1 3 rfl rfl)
theorem dX8_stumbleLine_27 : decode cX8_stumbleLine 27 = .ok (.getfield 132, 3) := dk_180 0 132 (dk_at dksX8_stumbleLine_1 4 rfl rfl)
theorem dX8_stumbleLine_30 : decode cX8_stumbleLine 30 = .ok (.ifCond .ne 29, 3) := dk_154 0 29 (dk_at dksX8_stumbleLine_1 7 rfl rfl)
theorem dX8_stumbleLine_33 : decode cX8_stumbleLine 33 = .ok (.aload_n 0, 1) := dk_42 (dk_at dksX8_stumbleLine_1 10 rfl rfl)
theorem dX8_stumbleLine_34 : decode cX8_stumbleLine 34 = .ok (.getfield 121, 3) := dk_180 0 121 (dk_at dksX8_stumbleLine_1 11 rfl rfl)
theorem dX8_stumbleLine_37 : decode cX8_stumbleLine 37 = .ok (.iconst 2, 1) := dk_5 (dk_at dksX8_stumbleLine_1 14 rfl rfl)
theorem dX8_stumbleLine_38 : decode cX8_stumbleLine 38 = .ok (.if_icmp .ne 21, 3) := dk_160 0 21 (dk_at dksX8_stumbleLine_1 15 rfl rfl)
theorem dX8_stumbleLine_41 : decode cX8_stumbleLine 41 = .ok (.aload_n 0, 1) := dk_42 (dk_at dksX8_stumbleLine_1 18 rfl rfl)
theorem dX8_stumbleLine_42 : decode cX8_stumbleLine 42 = .ok (.iconst 4, 1) := dk_7 (dk_at dksX8_stumbleLine_1 19 rfl rfl)
theorem dX8_stumbleLine_43 : decode cX8_stumbleLine 43 = .ok (.iload_n 2, 1) := dk_28 (dk_at dksX8_stumbleLine_1 20 rfl rfl)
theorem dX8_stumbleLine_44 : decode cX8_stumbleLine 44 = .ok (.aload_n 0, 1) := dk_42 (dk_at dksX8_stumbleLine_1 21 rfl rfl)
theorem dX8_stumbleLine_45 : decode cX8_stumbleLine 45 = .ok (.getfield 114, 3) := dk_180 0 114 (dk_at dksX8_stumbleLine_2 0 rfl rfl)
theorem dX8_stumbleLine_48 : decode cX8_stumbleLine 48 = .ok (.invokevirtual 187, 3) := dk_182 0 187 (dk_at dksX8_stumbleLine_2 3 rfl rfl)
theorem dX8_stumbleLine_51 : decode cX8_stumbleLine 51 = .ok (.ifCond .eq 8, 3) := dk_153 0 8 (dk_at dksX8_stumbleLine_2 6 rfl rfl)
theorem dX8_stumbleLine_54 : decode cX8_stumbleLine 54 = .ok (.aload_n 0, 1) := dk_42 (dk_at dksX8_stumbleLine_2 9 rfl rfl)
theorem dX8_stumbleLine_55 : decode cX8_stumbleLine 55 = .ok (.iconst 2, 1) := dk_5 (dk_at dksX8_stumbleLine_2 10 rfl rfl)
theorem dX8_stumbleLine_56 : decode cX8_stumbleLine 56 = .ok (.invokevirtual 148, 3) := dk_182 0 148 (dk_at dksX8_stumbleLine_2 11 rfl rfl)
theorem dX8_stumbleLine_59 : decode cX8_stumbleLine 59 = .ok (.aload_n 0, 1) := dk_42 (dk_at dksX8_stumbleLine_2 14 rfl rfl)
theorem dX8_stumbleLine_60 : decode cX8_stumbleLine 60 = .ok (.getfield 43, 3) := dk_180 0 43 (dk_at dksX8_stumbleLine_2 15 rfl rfl)
theorem dX8_stumbleLine_63 : decode cX8_stumbleLine 63 = .ok (.iload_n 1, 1) := dk_27 (dk_at dksX8_stumbleLine_2 18 rfl rfl)
theorem dX8_stumbleLine_64 : decode cX8_stumbleLine 64 = .ok (.iconst 1, 1) := dk_4 (dk_at dksX8_stumbleLine_2 19 rfl rfl)
theorem dX8_stumbleLine_65 : decode cX8_stumbleLine 65 = .ok (.iadd, 1) := dk_96 (dk_at dksX8_stumbleLine_2 20 rfl rfl)
theorem dX8_stumbleLine_66 : decode cX8_stumbleLine 66 = .ok (.aload_n 0, 1) := dk_42 (dk_at dksX8_stumbleLine_2 21 rfl rfl)
theorem dX8_stumbleLine_67 : decode cX8_stumbleLine 67 = .ok (.invokevirtual 190, 3) := dk_182 0 190 (dk_at dksX8_stumbleLine_3 0 rfl rfl)
theorem dX8_stumbleLine_70 : decode cX8_stumbleLine 70 = .ok (.iastore, 1) := dk_79 (dk_at dksX8_stumbleLine_3 3 rfl rfl)
theorem dX8_stumbleLine_71 : decode cX8_stumbleLine 71 = .ok (.aload_n 0, 1) := dk_42 (dk_at dksX8_stumbleLine_3 4 rfl rfl)
theorem dX8_stumbleLine_72 : decode cX8_stumbleLine 72 = .ok (.getfield 43, 3) := dk_180 0 43 (dk_at dksX8_stumbleLine_3 5 rfl rfl)
theorem dX8_stumbleLine_75 : decode cX8_stumbleLine 75 = .ok (.iload_n 1, 1) := dk_27 (dk_at dksX8_stumbleLine_3 8 rfl rfl)
theorem dX8_stumbleLine_76 : decode cX8_stumbleLine 76 = .ok (.iload_n 2, 1) := dk_28 (dk_at dksX8_stumbleLine_3 9 rfl rfl)
theorem dX8_stumbleLine_77 : decode cX8_stumbleLine 77 = .ok (.iastore, 1) := dk_79 (dk_at dksX8_stumbleLine_3 10 rfl rfl)
theorem dX8_stumbleLine_78 : decode cX8_stumbleLine 78 = .ok (.aload_n 0, 1) := dk_42 (dk_at dksX8_stumbleLine_3 11 rfl rfl)
theorem dX8_stumbleLine_79 : decode cX8_stumbleLine 79 = .ok (.getfield 43, 3) := dk_180 0 43 (dk_at dksX8_stumbleLine_3 12 rfl rfl)
theorem dX8_stumbleLine_82 : decode cX8_stumbleLine 82 = .ok (.iload_n 1, 1) := dk_27 (dk_at dksX8_stumbleLine_3 15 rfl rfl)
theorem dX8_stumbleLine_83 : decode cX8_stumbleLine 83 = .ok (.iconst 2, 1) := dk_5 (dk_at dksX8_stumbleLine_3 16 rfl rfl)
theorem dX8_stumbleLine_84 : decode cX8_stumbleLine 84 = .ok (.iadd, 1) := dk_96 (dk_at dksX8_stumbleLine_3 17 rfl rfl)
theorem dX8_stumbleLine_85 : decode cX8_stumbleLine 85 = .ok (.aload_n 0, 1) := dk_42 (dk_at dksX8_stumbleLine_3 18 rfl rfl)
theorem dX8_stumbleLine_86 : decode cX8_stumbleLine 86 = .ok (.ldc2_w 193, 3) := dk_20 0 193 (dk_at dksX8_stumbleLine_3 19 rfl rfl)
theorem dX8_stumbleLine_89 : decode cX8_stumbleLine 89 = .ok (.iconst 0, 1) := dk_3 (dk_at dksX8_stumbleLine_3 22 rfl rfl)
theorem dX8_stumbleLine_90 : decode cX8_stumbleLine 90 = .ok (.iconst 5, 1) := dk_8 (dk_at dksX8_stumbleLine_3 23 rfl rfl)
theorem dX8_stumbleLine_91 : decode cX8_stumbleLine 91 = .ok (.invokevirtual 174, 3) := dk_182 0 174 (dk_at dksX8_stumbleLine_4 0 rfl rfl)
theorem dX8_stumbleLine_94 : decode cX8_stumbleLine 94 = .ok (.iastore, 1) := dk_79 (dk_at dksX8_stumbleLine_4 3 rfl rfl)
theorem dX8_stumbleLine_95 : decode cX8_stumbleLine 95 = .ok (.aload_n 0, 1) := dk_42 (dk_at dksX8_stumbleLine_4 4 rfl rfl)
theorem dX8_stumbleLine_96 : decode cX8_stumbleLine 96 = .ok (.getfield 43, 3) := dk_180 0 43 (dk_at dksX8_stumbleLine_4 5 rfl rfl)
theorem dX8_stumbleLine_99 : decode cX8_stumbleLine 99 = .ok (.iload_n 1, 1) := dk_27 (dk_at dksX8_stumbleLine_4 8 rfl rfl)
theorem dX8_stumbleLine_100 : decode cX8_stumbleLine 100 = .ok (.iconst 3, 1) := dk_6 (dk_at dksX8_stumbleLine_4 9 rfl rfl)
theorem dX8_stumbleLine_101 : decode cX8_stumbleLine 101 = .ok (.iadd, 1) := dk_96 (dk_at dksX8_stumbleLine_4 10 rfl rfl)
theorem dX8_stumbleLine_102 : decode cX8_stumbleLine 102 = .ok (.aload_n 0, 1) := dk_42 (dk_at dksX8_stumbleLine_4 11 rfl rfl)
theorem dX8_stumbleLine_103 : decode cX8_stumbleLine 103 = .ok (.ldc2_w 195, 3) := dk_20 0 195 (dk_at dksX8_stumbleLine_4 12 rfl rfl)
theorem dX8_stumbleLine_106 : decode cX8_stumbleLine 106 = .ok (.iconst 0, 1) := dk_3 (dk_at dksX8_stumbleLine_4 15 rfl rfl)
theorem dX8_stumbleLine_107 : decode cX8_stumbleLine 107 = .ok (.bipush 9, 2) := dk_16 9 (dk_at dksX8_stumbleLine_4 16 rfl rfl)
theorem dX8_stumbleLine_109 : decode cX8_stumbleLine 109 = .ok (.invokevirtual 174, 3) := dk_182 0 174 (dk_at dksX8_stumbleLine_4 18 rfl rfl)
theorem dX8_stumbleLine_112 : decode cX8_stumbleLine 112 = .ok (.iastore, 1) := dk_79 (dk_at dksX8_stumbleLine_4 21 rfl rfl)
theorem dX8_stumbleLine_113 : decode cX8_stumbleLine 113 = .ok (.aload_n 0, 1) := dk_42 (dk_at dksX8_stumbleLine_4 22 rfl rfl)
theorem dX8_stumbleLine_114 : decode cX8_stumbleLine 114 = .ok (.bipush 7, 2) := dk_16 7 (dk_at dksX8_stumbleLine_5 0 rfl rfl)
theorem dX8_stumbleLine_116 : decode cX8_stumbleLine 116 = .ok (.aload_n 0, 1) := dk_42 (dk_at dksX8_stumbleLine_5 2 rfl rfl)
theorem dX8_stumbleLine_117 : decode cX8_stumbleLine 117 = .ok (.bipush 7, 2) := dk_16 7 (dk_at dksX8_stumbleLine_5 3 rfl rfl)
theorem dX8_stumbleLine_119 : decode cX8_stumbleLine 119 = .ok (.invokevirtual 181, 3) := dk_182 0 181 (dk_at dksX8_stumbleLine_5 5 rfl rfl)
theorem dX8_stumbleLine_122 : decode cX8_stumbleLine 122 = .ok (.iconst 1, 1) := dk_4 (dk_at dksX8_stumbleLine_5 8 rfl rfl)
theorem dX8_stumbleLine_123 : decode cX8_stumbleLine 123 = .ok (.iadd, 1) := dk_96 (dk_at dksX8_stumbleLine_5 9 rfl rfl)
theorem dX8_stumbleLine_124 : decode cX8_stumbleLine 124 = .ok (.invokevirtual 177, 3) := dk_182 0 177 (dk_at dksX8_stumbleLine_5 10 rfl rfl)
theorem dX8_stumbleLine_127 : decode cX8_stumbleLine 127 = .ok (.return_, 1) := dk_177 (dk_at dksX8_stumbleLine_5 13 rfl rfl)
abbrev cX8_isStumbled : ByteArray := prog_13_method_31_code
def yX8_isStumbled : MethodName := ⟨RX8, "isStumbled", "(III)Z"⟩
def dkwX8_isStumbled_2 : List UInt8 := [21, 4, 96, 104, 4, 96, 46, 29, 160, 0, 5, 4, 172, 132, 4, 1, 167, 255, 196, 3, 172]
abbrev dktX8_isStumbled_2 : List UInt8 := dkwX8_isStumbled_2 ++ []
def dkwX8_isStumbled_1 : List UInt8 := [7, 16, 8, 27, 104, 21, 4, 96, 104, 46, 28, 160, 0, 25, 42, 180, 0, 43, 7, 16, 8, 27, 104]
abbrev dktX8_isStumbled_1 : List UInt8 := dkwX8_isStumbled_1 ++ dktX8_isStumbled_2
def dkwX8_isStumbled_0 : List UInt8 := [3, 54, 4, 21, 4, 42, 180, 0, 34, 16, 11, 27, 104, 16, 7, 96, 46, 162, 0, 49, 42, 180, 0, 43]
abbrev dktX8_isStumbled_0 : List UInt8 := dkwX8_isStumbled_0 ++ dktX8_isStumbled_1
theorem dksX8_isStumbled_0 : cX8_isStumbled.data.toList.drop 0 = dktX8_isStumbled_0 := by decide +kernel
theorem dksX8_isStumbled_1 : cX8_isStumbled.data.toList.drop 24 = dktX8_isStumbled_1 := dk_seg dksX8_isStumbled_0 24 rfl rfl
theorem dksX8_isStumbled_2 : cX8_isStumbled.data.toList.drop 47 = dktX8_isStumbled_2 := dk_seg dksX8_isStumbled_1 23 rfl rfl
theorem dX8_isStumbled_0 : decode cX8_isStumbled 0 = .ok (.iconst 0, 1) := dk_3 (dk_at dksX8_isStumbled_0 0 rfl rfl)
theorem dX8_isStumbled_1 : decode cX8_isStumbled 1 = .ok (.istore 4, 2) := dk_54 4 (dk_at dksX8_isStumbled_0 1 rfl rfl)
theorem dX8_isStumbled_3 : decode cX8_isStumbled 3 = .ok (.iload 4, 2) := dk_21 4 (dk_at dksX8_isStumbled_0 3 rfl rfl)
theorem dX8_isStumbled_5 : decode cX8_isStumbled 5 = .ok (.aload_n 0, 1) := dk_42 (dk_at dksX8_isStumbled_0 5 rfl rfl)
theorem dX8_isStumbled_6 : decode cX8_isStumbled 6 = .ok (.getfield 34, 3) := dk_180 0 34 (dk_at dksX8_isStumbled_0 6 rfl rfl)
theorem dX8_isStumbled_9 : decode cX8_isStumbled 9 = .ok (.bipush 11, 2) := dk_16 11 (dk_at dksX8_isStumbled_0 9 rfl rfl)
theorem dX8_isStumbled_11 : decode cX8_isStumbled 11 = .ok (.iload_n 1, 1) := dk_27 (dk_at dksX8_isStumbled_0 11 rfl rfl)
theorem dX8_isStumbled_12 : decode cX8_isStumbled 12 = .ok (.imul, 1) := dk_104 (dk_at dksX8_isStumbled_0 12 rfl rfl)
theorem dX8_isStumbled_13 : decode cX8_isStumbled 13 = .ok (.bipush 7, 2) := dk_16 7 (dk_at dksX8_isStumbled_0 13 rfl rfl)
theorem dX8_isStumbled_15 : decode cX8_isStumbled 15 = .ok (.iadd, 1) := dk_96 (dk_at dksX8_isStumbled_0 15 rfl rfl)
theorem dX8_isStumbled_16 : decode cX8_isStumbled 16 = .ok (.iaload, 1) := dk_46 (dk_at dksX8_isStumbled_0 16 rfl rfl)
theorem dX8_isStumbled_17 : decode cX8_isStumbled 17 = .ok (.if_icmp .ge 49, 3) := dk_162 0 49 (dk_at dksX8_isStumbled_0 17 rfl rfl)
theorem dX8_isStumbled_20 : decode cX8_isStumbled 20 = .ok (.aload_n 0, 1) := dk_42 (dk_at dksX8_isStumbled_0 20 rfl rfl)
theorem dX8_isStumbled_21 : decode cX8_isStumbled 21 = .ok (.getfield 43, 3) := dk_180 0 43 (dk_at dksX8_isStumbled_0 21 rfl rfl)
theorem dX8_isStumbled_24 : decode cX8_isStumbled 24 = .ok (.iconst 4, 1) := dk_7 (dk_at dksX8_isStumbled_1 0 rfl rfl)
theorem dX8_isStumbled_25 : decode cX8_isStumbled 25 = .ok (.bipush 8, 2) := dk_16 8 (dk_at dksX8_isStumbled_1 1 rfl rfl)
theorem dX8_isStumbled_27 : decode cX8_isStumbled 27 = .ok (.iload_n 1, 1) := dk_27 (dk_at dksX8_isStumbled_1 3 rfl rfl)
theorem dX8_isStumbled_28 : decode cX8_isStumbled 28 = .ok (.imul, 1) := dk_104 (dk_at dksX8_isStumbled_1 4 rfl rfl)
theorem dX8_isStumbled_29 : decode cX8_isStumbled 29 = .ok (.iload 4, 2) := dk_21 4 (dk_at dksX8_isStumbled_1 5 rfl rfl)
theorem dX8_isStumbled_31 : decode cX8_isStumbled 31 = .ok (.iadd, 1) := dk_96 (dk_at dksX8_isStumbled_1 7 rfl rfl)
theorem dX8_isStumbled_32 : decode cX8_isStumbled 32 = .ok (.imul, 1) := dk_104 (dk_at dksX8_isStumbled_1 8 rfl rfl)
theorem dX8_isStumbled_33 : decode cX8_isStumbled 33 = .ok (.iaload, 1) := dk_46 (dk_at dksX8_isStumbled_1 9 rfl rfl)
theorem dX8_isStumbled_34 : decode cX8_isStumbled 34 = .ok (.iload_n 2, 1) := dk_28 (dk_at dksX8_isStumbled_1 10 rfl rfl)
theorem dX8_isStumbled_35 : decode cX8_isStumbled 35 = .ok (.if_icmp .ne 25, 3) := dk_160 0 25 (dk_at dksX8_isStumbled_1 11 rfl rfl)
theorem dX8_isStumbled_38 : decode cX8_isStumbled 38 = .ok (.aload_n 0, 1) := dk_42 (dk_at dksX8_isStumbled_1 14 rfl rfl)
theorem dX8_isStumbled_39 : decode cX8_isStumbled 39 = .ok (.getfield 43, 3) := dk_180 0 43 (dk_at dksX8_isStumbled_1 15 rfl rfl)
theorem dX8_isStumbled_42 : decode cX8_isStumbled 42 = .ok (.iconst 4, 1) := dk_7 (dk_at dksX8_isStumbled_1 18 rfl rfl)
theorem dX8_isStumbled_43 : decode cX8_isStumbled 43 = .ok (.bipush 8, 2) := dk_16 8 (dk_at dksX8_isStumbled_1 19 rfl rfl)
theorem dX8_isStumbled_45 : decode cX8_isStumbled 45 = .ok (.iload_n 1, 1) := dk_27 (dk_at dksX8_isStumbled_1 21 rfl rfl)
theorem dX8_isStumbled_46 : decode cX8_isStumbled 46 = .ok (.imul, 1) := dk_104 (dk_at dksX8_isStumbled_1 22 rfl rfl)
theorem dX8_isStumbled_47 : decode cX8_isStumbled 47 = .ok (.iload 4, 2) := dk_21 4 (dk_at dksX8_isStumbled_2 0 rfl rfl)
theorem dX8_isStumbled_49 : decode cX8_isStumbled 49 = .ok (.iadd, 1) := dk_96 (dk_at dksX8_isStumbled_2 2 rfl rfl)
theorem dX8_isStumbled_50 : decode cX8_isStumbled 50 = .ok (.imul, 1) := dk_104 (dk_at dksX8_isStumbled_2 3 rfl rfl)
theorem dX8_isStumbled_51 : decode cX8_isStumbled 51 = .ok (.iconst 1, 1) := dk_4 (dk_at dksX8_isStumbled_2 4 rfl rfl)
theorem dX8_isStumbled_52 : decode cX8_isStumbled 52 = .ok (.iadd, 1) := dk_96 (dk_at dksX8_isStumbled_2 5 rfl rfl)
theorem dX8_isStumbled_53 : decode cX8_isStumbled 53 = .ok (.iaload, 1) := dk_46 (dk_at dksX8_isStumbled_2 6 rfl rfl)
theorem dX8_isStumbled_54 : decode cX8_isStumbled 54 = .ok (.iload_n 3, 1) := dk_29 (dk_at dksX8_isStumbled_2 7 rfl rfl)
theorem dX8_isStumbled_55 : decode cX8_isStumbled 55 = .ok (.if_icmp .ne 5, 3) := dk_160 0 5 (dk_at dksX8_isStumbled_2 8 rfl rfl)
theorem dX8_isStumbled_58 : decode cX8_isStumbled 58 = .ok (.iconst 1, 1) := dk_4 (dk_at dksX8_isStumbled_2 11 rfl rfl)
theorem dX8_isStumbled_59 : decode cX8_isStumbled 59 = .ok (.ireturn, 1) := dk_172 (dk_at dksX8_isStumbled_2 12 rfl rfl)
theorem dX8_isStumbled_60 : decode cX8_isStumbled 60 = .ok (.iinc 4 1, 3) := dk_132 4 1 (dk_at dksX8_isStumbled_2 13 rfl rfl)
theorem dX8_isStumbled_63 : decode cX8_isStumbled 63 = .ok (.goto (-60), 3) := dk_167 255 196 (dk_at dksX8_isStumbled_2 16 rfl rfl)
theorem dX8_isStumbled_66 : decode cX8_isStumbled 66 = .ok (.iconst 0, 1) := dk_3 (dk_at dksX8_isStumbled_2 19 rfl rfl)
theorem dX8_isStumbled_67 : decode cX8_isStumbled 67 = .ok (.ireturn, 1) := dk_172 (dk_at dksX8_isStumbled_2 20 rfl rfl)
abbrev cX8_beatHere : ByteArray := prog_13_method_28_code
def yX8_beatHere : MethodName := ⟨RX8, "beatHere", "()I"⟩
def dkwX8_beatHere_0 : List UInt8 := [42, 3, 17, 0, 199, 182, 0, 155, 172]
abbrev dktX8_beatHere_0 : List UInt8 := dkwX8_beatHere_0 ++ []
theorem dksX8_beatHere_0 : cX8_beatHere.data.toList.drop 0 = dktX8_beatHere_0 := by decide +kernel
theorem dX8_beatHere_0 : decode cX8_beatHere 0 = .ok (.aload_n 0, 1) := dk_42 (dk_at dksX8_beatHere_0 0 rfl rfl)
theorem dX8_beatHere_1 : decode cX8_beatHere 1 = .ok (.iconst 0, 1) := dk_3 (dk_at dksX8_beatHere_0 1 rfl rfl)
theorem dX8_beatHere_2 : decode cX8_beatHere 2 = .ok (.sipush 199, 3) := dk_17 0 199 (dk_at dksX8_beatHere_0 2 rfl rfl)
theorem dX8_beatHere_5 : decode cX8_beatHere 5 = .ok (.invokevirtual 155, 3) := dk_182 0 155 (dk_at dksX8_beatHere_0 5 rfl rfl)
theorem dX8_beatHere_8 : decode cX8_beatHere 8 = .ok (.ireturn, 1) := dk_172 (dk_at dksX8_beatHere_0 8 rfl rfl)
abbrev cX8_everyLine : ByteArray := prog_13_method_33_code
def yX8_everyLine : MethodName := ⟨RX8, "everyLine", "([III)V"⟩
def dkwX8_everyLine_1 : List UInt8 := [182, 0, 174, 79, 177]
abbrev dktX8_everyLine_1 : List UInt8 := dkwX8_everyLine_1 ++ []
def dkwX8_everyLine_0 : List UInt8 := [43, 28, 42, 4, 29, 182, 0, 155, 79, 43, 28, 4, 96, 42, 20, 0, 185, 3, 43, 28, 46, 4, 100]
abbrev dktX8_everyLine_0 : List UInt8 := dkwX8_everyLine_0 ++ dktX8_everyLine_1
theorem dksX8_everyLine_0 : cX8_everyLine.data.toList.drop 0 = dktX8_everyLine_0 := by decide +kernel
theorem dksX8_everyLine_1 : cX8_everyLine.data.toList.drop 23 = dktX8_everyLine_1 := dk_seg dksX8_everyLine_0 23 rfl rfl
theorem dX8_everyLine_0 : decode cX8_everyLine 0 = .ok (.aload_n 1, 1) := dk_43 (dk_at dksX8_everyLine_0 0 rfl rfl)
theorem dX8_everyLine_1 : decode cX8_everyLine 1 = .ok (.iload_n 2, 1) := dk_28 (dk_at dksX8_everyLine_0 1 rfl rfl)
theorem dX8_everyLine_2 : decode cX8_everyLine 2 = .ok (.aload_n 0, 1) := dk_42 (dk_at dksX8_everyLine_0 2 rfl rfl)
theorem dX8_everyLine_3 : decode cX8_everyLine 3 = .ok (.iconst 1, 1) := dk_4 (dk_at dksX8_everyLine_0 3 rfl rfl)
theorem dX8_everyLine_4 : decode cX8_everyLine 4 = .ok (.iload_n 3, 1) := dk_29 (dk_at dksX8_everyLine_0 4 rfl rfl)
theorem dX8_everyLine_5 : decode cX8_everyLine 5 = .ok (.invokevirtual 155, 3) := dk_182 0 155 (dk_at dksX8_everyLine_0 5 rfl rfl)
theorem dX8_everyLine_8 : decode cX8_everyLine 8 = .ok (.iastore, 1) := dk_79 (dk_at dksX8_everyLine_0 8 rfl rfl)
theorem dX8_everyLine_9 : decode cX8_everyLine 9 = .ok (.aload_n 1, 1) := dk_43 (dk_at dksX8_everyLine_0 9 rfl rfl)
theorem dX8_everyLine_10 : decode cX8_everyLine 10 = .ok (.iload_n 2, 1) := dk_28 (dk_at dksX8_everyLine_0 10 rfl rfl)
theorem dX8_everyLine_11 : decode cX8_everyLine 11 = .ok (.iconst 1, 1) := dk_4 (dk_at dksX8_everyLine_0 11 rfl rfl)
theorem dX8_everyLine_12 : decode cX8_everyLine 12 = .ok (.iadd, 1) := dk_96 (dk_at dksX8_everyLine_0 12 rfl rfl)
theorem dX8_everyLine_13 : decode cX8_everyLine 13 = .ok (.aload_n 0, 1) := dk_42 (dk_at dksX8_everyLine_0 13 rfl rfl)
theorem dX8_everyLine_14 : decode cX8_everyLine 14 = .ok (.ldc2_w 185, 3) := dk_20 0 185 (dk_at dksX8_everyLine_0 14 rfl rfl)
theorem dX8_everyLine_17 : decode cX8_everyLine 17 = .ok (.iconst 0, 1) := dk_3 (dk_at dksX8_everyLine_0 17 rfl rfl)
theorem dX8_everyLine_18 : decode cX8_everyLine 18 = .ok (.aload_n 1, 1) := dk_43 (dk_at dksX8_everyLine_0 18 rfl rfl)
theorem dX8_everyLine_19 : decode cX8_everyLine 19 = .ok (.iload_n 2, 1) := dk_28 (dk_at dksX8_everyLine_0 19 rfl rfl)
theorem dX8_everyLine_20 : decode cX8_everyLine 20 = .ok (.iaload, 1) := dk_46 (dk_at dksX8_everyLine_0 20 rfl rfl)
theorem dX8_everyLine_21 : decode cX8_everyLine 21 = .ok (.iconst 1, 1) := dk_4 (dk_at dksX8_everyLine_0 21 rfl rfl)
theorem dX8_everyLine_22 : decode cX8_everyLine 22 = .ok (.isub, 1) := dk_100 (dk_at dksX8_everyLine_0 22 rfl rfl)
theorem dX8_everyLine_23 : decode cX8_everyLine 23 = .ok (.invokevirtual 174, 3) := dk_182 0 174 (dk_at dksX8_everyLine_1 0 rfl rfl)
theorem dX8_everyLine_26 : decode cX8_everyLine 26 = .ok (.iastore, 1) := dk_79 (dk_at dksX8_everyLine_1 3 rfl rfl)
theorem dX8_everyLine_27 : decode cX8_everyLine 27 = .ok (.return_, 1) := dk_177 (dk_at dksX8_everyLine_1 4 rfl rfl)
abbrev cX8_roundLine : ByteArray := prog_13_method_29_code
def yX8_roundLine : MethodName := ⟨RX8, "roundLine", "()V"⟩
def dkwX8_roundLine_6 : List UInt8 := [167, 255, 225, 42, 6, 27, 96, 28, 182, 0, 177, 42, 8, 27, 96, 29, 182, 0, 177, 177]
abbrev dktX8_roundLine_6 : List UInt8 := dkwX8_roundLine_6 ++ []
def dkwX8_roundLine_5 : List UInt8 := [180, 0, 37, 16, 12, 16, 8, 27, 96, 104, 21, 4, 96, 42, 180, 0, 62, 21, 4, 46, 79, 132, 4, 1]
abbrev dktX8_roundLine_5 : List UInt8 := dkwX8_roundLine_5 ++ dktX8_roundLine_6
def dkwX8_roundLine_4 : List UInt8 := [182, 0, 174, 62, 42, 180, 0, 132, 153, 0, 4, 177, 3, 54, 4, 21, 4, 28, 162, 0, 31, 42]
abbrev dktX8_roundLine_4 : List UInt8 := dkwX8_roundLine_4 ++ dktX8_roundLine_5
def dkwX8_roundLine_3 : List UInt8 := [182, 0, 168, 153, 0, 11, 42, 180, 0, 121, 5, 159, 255, 194, 42, 20, 0, 172, 3, 28, 4, 100]
abbrev dktX8_roundLine_3 : List UInt8 := dkwX8_roundLine_3 ++ dktX8_roundLine_4
def dkwX8_roundLine_2 : List UInt8 := [182, 0, 164, 62, 42, 182, 0, 168, 153, 0, 10, 42, 180, 0, 62, 28, 29, 79, 132, 2, 1, 42]
abbrev dktX8_roundLine_2 : List UInt8 := dkwX8_roundLine_2 ++ dktX8_roundLine_3
def dkwX8_roundLine_1 : List UInt8 := [180, 0, 121, 5, 160, 0, 12, 42, 180, 0, 114, 16, 6, 162, 0, 8, 42, 6, 182, 0, 148, 42]
abbrev dktX8_roundLine_1 : List UInt8 := dkwX8_roundLine_1 ++ dktX8_roundLine_2
def dkwX8_roundLine_0 : List UInt8 := [42, 3, 4, 182, 0, 155, 60, 42, 20, 0, 162, 182, 0, 151, 3, 61, 28, 16, 12, 160, 0, 25, 42]
abbrev dktX8_roundLine_0 : List UInt8 := dkwX8_roundLine_0 ++ dktX8_roundLine_1
theorem dksX8_roundLine_0 : cX8_roundLine.data.toList.drop 0 = dktX8_roundLine_0 := by decide +kernel
theorem dksX8_roundLine_1 : cX8_roundLine.data.toList.drop 23 = dktX8_roundLine_1 := dk_seg dksX8_roundLine_0 23 rfl rfl
theorem dksX8_roundLine_2 : cX8_roundLine.data.toList.drop 45 = dktX8_roundLine_2 := dk_seg dksX8_roundLine_1 22 rfl rfl
theorem dksX8_roundLine_3 : cX8_roundLine.data.toList.drop 67 = dktX8_roundLine_3 := dk_seg dksX8_roundLine_2 22 rfl rfl
theorem dksX8_roundLine_4 : cX8_roundLine.data.toList.drop 89 = dktX8_roundLine_4 := dk_seg dksX8_roundLine_3 22 rfl rfl
theorem dksX8_roundLine_5 : cX8_roundLine.data.toList.drop 111 = dktX8_roundLine_5 := dk_seg dksX8_roundLine_4 22 rfl rfl
theorem dksX8_roundLine_6 : cX8_roundLine.data.toList.drop 135 = dktX8_roundLine_6 := dk_seg dksX8_roundLine_5 24 rfl rfl
theorem dX8_roundLine_0 : decode cX8_roundLine 0 = .ok (.aload_n 0, 1) := dk_42 (dk_at dksX8_roundLine_0 0 rfl rfl)
theorem dX8_roundLine_1 : decode cX8_roundLine 1 = .ok (.iconst 0, 1) := dk_3 (dk_at dksX8_roundLine_0 1 rfl rfl)
theorem dX8_roundLine_2 : decode cX8_roundLine 2 = .ok (.iconst 1, 1) := dk_4 (dk_at dksX8_roundLine_0 2 rfl rfl)
theorem dX8_roundLine_3 : decode cX8_roundLine 3 = .ok (.invokevirtual 155, 3) := dk_182 0 155 (dk_at dksX8_roundLine_0 3 rfl rfl)
theorem dX8_roundLine_6 : decode cX8_roundLine 6 = .ok (.istore_n 1, 1) := dk_60 (dk_at dksX8_roundLine_0 6 rfl rfl)
theorem dX8_roundLine_7 : decode cX8_roundLine 7 = .ok (.aload_n 0, 1) := dk_42 (dk_at dksX8_roundLine_0 7 rfl rfl)
theorem dX8_roundLine_8 : decode cX8_roundLine 8 = .ok (.ldc2_w 162, 3) := dk_20 0 162 (dk_at dksX8_roundLine_0 8 rfl rfl)
theorem dX8_roundLine_11 : decode cX8_roundLine 11 = .ok (.invokevirtual 151, 3) := dk_182 0 151 (dk_at dksX8_roundLine_0 11 rfl rfl)
theorem dX8_roundLine_14 : decode cX8_roundLine 14 = .ok (.iconst 0, 1) := dk_3 (dk_at dksX8_roundLine_0 14 rfl rfl)
theorem dX8_roundLine_15 : decode cX8_roundLine 15 = .ok (.istore_n 2, 1) := dk_61 (dk_at dksX8_roundLine_0 15 rfl rfl)
theorem dX8_roundLine_16 : decode cX8_roundLine 16 = .ok (.iload_n 2, 1) := dk_28 (dk_at dksX8_roundLine_0 16 rfl rfl)
theorem dX8_roundLine_17 : decode cX8_roundLine 17 = .ok (.bipush 12, 2) := dk_16 12 (dk_at dksX8_roundLine_0 17 rfl rfl)
theorem dX8_roundLine_19 : decode cX8_roundLine 19 = .ok (.if_icmp .ne 25, 3) := dk_160 0 25 (dk_at dksX8_roundLine_0 19 rfl rfl)
theorem dX8_roundLine_22 : decode cX8_roundLine 22 = .ok (.aload_n 0, 1) := dk_42 (dk_at dksX8_roundLine_0 22 rfl rfl)
theorem dX8_roundLine_23 : decode cX8_roundLine 23 = .ok (.getfield 121, 3) := dk_180 0 121 (dk_at dksX8_roundLine_1 0 rfl rfl)
theorem dX8_roundLine_26 : decode cX8_roundLine 26 = .ok (.iconst 2, 1) := dk_5 (dk_at dksX8_roundLine_1 3 rfl rfl)
theorem dX8_roundLine_27 : decode cX8_roundLine 27 = .ok (.if_icmp .ne 12, 3) := dk_160 0 12 (dk_at dksX8_roundLine_1 4 rfl rfl)
theorem dX8_roundLine_30 : decode cX8_roundLine 30 = .ok (.aload_n 0, 1) := dk_42 (dk_at dksX8_roundLine_1 7 rfl rfl)
theorem dX8_roundLine_31 : decode cX8_roundLine 31 = .ok (.getfield 114, 3) := dk_180 0 114 (dk_at dksX8_roundLine_1 8 rfl rfl)
theorem dX8_roundLine_34 : decode cX8_roundLine 34 = .ok (.bipush 6, 2) := dk_16 6 (dk_at dksX8_roundLine_1 11 rfl rfl)
theorem dX8_roundLine_36 : decode cX8_roundLine 36 = .ok (.if_icmp .ge 8, 3) := dk_162 0 8 (dk_at dksX8_roundLine_1 13 rfl rfl)
theorem dX8_roundLine_39 : decode cX8_roundLine 39 = .ok (.aload_n 0, 1) := dk_42 (dk_at dksX8_roundLine_1 16 rfl rfl)
theorem dX8_roundLine_40 : decode cX8_roundLine 40 = .ok (.iconst 3, 1) := dk_6 (dk_at dksX8_roundLine_1 17 rfl rfl)
theorem dX8_roundLine_41 : decode cX8_roundLine 41 = .ok (.invokevirtual 148, 3) := dk_182 0 148 (dk_at dksX8_roundLine_1 18 rfl rfl)
theorem dX8_roundLine_44 : decode cX8_roundLine 44 = .ok (.aload_n 0, 1) := dk_42 (dk_at dksX8_roundLine_1 21 rfl rfl)
theorem dX8_roundLine_45 : decode cX8_roundLine 45 = .ok (.invokevirtual 164, 3) := dk_182 0 164 (dk_at dksX8_roundLine_2 0 rfl rfl)
theorem dX8_roundLine_48 : decode cX8_roundLine 48 = .ok (.istore_n 3, 1) := dk_62 (dk_at dksX8_roundLine_2 3 rfl rfl)
theorem dX8_roundLine_49 : decode cX8_roundLine 49 = .ok (.aload_n 0, 1) := dk_42 (dk_at dksX8_roundLine_2 4 rfl rfl)
theorem dX8_roundLine_50 : decode cX8_roundLine 50 = .ok (.invokevirtual 168, 3) := dk_182 0 168 (dk_at dksX8_roundLine_2 5 rfl rfl)
theorem dX8_roundLine_53 : decode cX8_roundLine 53 = .ok (.ifCond .eq 10, 3) := dk_153 0 10 (dk_at dksX8_roundLine_2 8 rfl rfl)
theorem dX8_roundLine_56 : decode cX8_roundLine 56 = .ok (.aload_n 0, 1) := dk_42 (dk_at dksX8_roundLine_2 11 rfl rfl)
theorem dX8_roundLine_57 : decode cX8_roundLine 57 = .ok (.getfield 62, 3) := dk_180 0 62 (dk_at dksX8_roundLine_2 12 rfl rfl)
theorem dX8_roundLine_60 : decode cX8_roundLine 60 = .ok (.iload_n 2, 1) := dk_28 (dk_at dksX8_roundLine_2 15 rfl rfl)
theorem dX8_roundLine_61 : decode cX8_roundLine 61 = .ok (.iload_n 3, 1) := dk_29 (dk_at dksX8_roundLine_2 16 rfl rfl)
theorem dX8_roundLine_62 : decode cX8_roundLine 62 = .ok (.iastore, 1) := dk_79 (dk_at dksX8_roundLine_2 17 rfl rfl)
theorem dX8_roundLine_63 : decode cX8_roundLine 63 = .ok (.iinc 2 1, 3) := dk_132 2 1 (dk_at dksX8_roundLine_2 18 rfl rfl)
theorem dX8_roundLine_66 : decode cX8_roundLine 66 = .ok (.aload_n 0, 1) := dk_42 (dk_at dksX8_roundLine_2 21 rfl rfl)
theorem dX8_roundLine_67 : decode cX8_roundLine 67 = .ok (.invokevirtual 168, 3) := dk_182 0 168 (dk_at dksX8_roundLine_3 0 rfl rfl)
theorem dX8_roundLine_70 : decode cX8_roundLine 70 = .ok (.ifCond .eq 11, 3) := dk_153 0 11 (dk_at dksX8_roundLine_3 3 rfl rfl)
theorem dX8_roundLine_73 : decode cX8_roundLine 73 = .ok (.aload_n 0, 1) := dk_42 (dk_at dksX8_roundLine_3 6 rfl rfl)
theorem dX8_roundLine_74 : decode cX8_roundLine 74 = .ok (.getfield 121, 3) := dk_180 0 121 (dk_at dksX8_roundLine_3 7 rfl rfl)
theorem dX8_roundLine_77 : decode cX8_roundLine 77 = .ok (.iconst 2, 1) := dk_5 (dk_at dksX8_roundLine_3 10 rfl rfl)
theorem dX8_roundLine_78 : decode cX8_roundLine 78 = .ok (.if_icmp .eq (-62), 3) := dk_159 255 194 (dk_at dksX8_roundLine_3 11 rfl rfl)
theorem dX8_roundLine_81 : decode cX8_roundLine 81 = .ok (.aload_n 0, 1) := dk_42 (dk_at dksX8_roundLine_3 14 rfl rfl)
theorem dX8_roundLine_82 : decode cX8_roundLine 82 = .ok (.ldc2_w 172, 3) := dk_20 0 172 (dk_at dksX8_roundLine_3 15 rfl rfl)
theorem dX8_roundLine_85 : decode cX8_roundLine 85 = .ok (.iconst 0, 1) := dk_3 (dk_at dksX8_roundLine_3 18 rfl rfl)
theorem dX8_roundLine_86 : decode cX8_roundLine 86 = .ok (.iload_n 2, 1) := dk_28 (dk_at dksX8_roundLine_3 19 rfl rfl)
theorem dX8_roundLine_87 : decode cX8_roundLine 87 = .ok (.iconst 1, 1) := dk_4 (dk_at dksX8_roundLine_3 20 rfl rfl)
theorem dX8_roundLine_88 : decode cX8_roundLine 88 = .ok (.isub, 1) := dk_100 (dk_at dksX8_roundLine_3 21 rfl rfl)
theorem dX8_roundLine_89 : decode cX8_roundLine 89 = .ok (.invokevirtual 174, 3) := dk_182 0 174 (dk_at dksX8_roundLine_4 0 rfl rfl)
theorem dX8_roundLine_92 : decode cX8_roundLine 92 = .ok (.istore_n 3, 1) := dk_62 (dk_at dksX8_roundLine_4 3 rfl rfl)
theorem dX8_roundLine_93 : decode cX8_roundLine 93 = .ok (.aload_n 0, 1) := dk_42 (dk_at dksX8_roundLine_4 4 rfl rfl)
theorem dX8_roundLine_94 : decode cX8_roundLine 94 = .ok (.getfield 132, 3) := dk_180 0 132 (dk_at dksX8_roundLine_4 5 rfl rfl)
theorem dX8_roundLine_97 : decode cX8_roundLine 97 = .ok (.ifCond .eq 4, 3) := dk_153 0 4 (dk_at dksX8_roundLine_4 8 rfl rfl)
theorem dX8_roundLine_100 : decode cX8_roundLine 100 = .ok (.return_, 1) := dk_177 (dk_at dksX8_roundLine_4 11 rfl rfl)
theorem dX8_roundLine_101 : decode cX8_roundLine 101 = .ok (.iconst 0, 1) := dk_3 (dk_at dksX8_roundLine_4 12 rfl rfl)
theorem dX8_roundLine_102 : decode cX8_roundLine 102 = .ok (.istore 4, 2) := dk_54 4 (dk_at dksX8_roundLine_4 13 rfl rfl)
theorem dX8_roundLine_104 : decode cX8_roundLine 104 = .ok (.iload 4, 2) := dk_21 4 (dk_at dksX8_roundLine_4 15 rfl rfl)
theorem dX8_roundLine_106 : decode cX8_roundLine 106 = .ok (.iload_n 2, 1) := dk_28 (dk_at dksX8_roundLine_4 17 rfl rfl)
theorem dX8_roundLine_107 : decode cX8_roundLine 107 = .ok (.if_icmp .ge 31, 3) := dk_162 0 31 (dk_at dksX8_roundLine_4 18 rfl rfl)
theorem dX8_roundLine_110 : decode cX8_roundLine 110 = .ok (.aload_n 0, 1) := dk_42 (dk_at dksX8_roundLine_4 21 rfl rfl)
theorem dX8_roundLine_111 : decode cX8_roundLine 111 = .ok (.getfield 37, 3) := dk_180 0 37 (dk_at dksX8_roundLine_5 0 rfl rfl)
theorem dX8_roundLine_114 : decode cX8_roundLine 114 = .ok (.bipush 12, 2) := dk_16 12 (dk_at dksX8_roundLine_5 3 rfl rfl)
theorem dX8_roundLine_116 : decode cX8_roundLine 116 = .ok (.bipush 8, 2) := dk_16 8 (dk_at dksX8_roundLine_5 5 rfl rfl)
theorem dX8_roundLine_118 : decode cX8_roundLine 118 = .ok (.iload_n 1, 1) := dk_27 (dk_at dksX8_roundLine_5 7 rfl rfl)
theorem dX8_roundLine_119 : decode cX8_roundLine 119 = .ok (.iadd, 1) := dk_96 (dk_at dksX8_roundLine_5 8 rfl rfl)
theorem dX8_roundLine_120 : decode cX8_roundLine 120 = .ok (.imul, 1) := dk_104 (dk_at dksX8_roundLine_5 9 rfl rfl)
theorem dX8_roundLine_121 : decode cX8_roundLine 121 = .ok (.iload 4, 2) := dk_21 4 (dk_at dksX8_roundLine_5 10 rfl rfl)
theorem dX8_roundLine_123 : decode cX8_roundLine 123 = .ok (.iadd, 1) := dk_96 (dk_at dksX8_roundLine_5 12 rfl rfl)
theorem dX8_roundLine_124 : decode cX8_roundLine 124 = .ok (.aload_n 0, 1) := dk_42 (dk_at dksX8_roundLine_5 13 rfl rfl)
theorem dX8_roundLine_125 : decode cX8_roundLine 125 = .ok (.getfield 62, 3) := dk_180 0 62 (dk_at dksX8_roundLine_5 14 rfl rfl)
theorem dX8_roundLine_128 : decode cX8_roundLine 128 = .ok (.iload 4, 2) := dk_21 4 (dk_at dksX8_roundLine_5 17 rfl rfl)
theorem dX8_roundLine_130 : decode cX8_roundLine 130 = .ok (.iaload, 1) := dk_46 (dk_at dksX8_roundLine_5 19 rfl rfl)
theorem dX8_roundLine_131 : decode cX8_roundLine 131 = .ok (.iastore, 1) := dk_79 (dk_at dksX8_roundLine_5 20 rfl rfl)
theorem dX8_roundLine_132 : decode cX8_roundLine 132 = .ok (.iinc 4 1, 3) := dk_132 4 1 (dk_at dksX8_roundLine_5 21 rfl rfl)
theorem dX8_roundLine_135 : decode cX8_roundLine 135 = .ok (.goto (-31), 3) := dk_167 255 225 (dk_at dksX8_roundLine_6 0 rfl rfl)
theorem dX8_roundLine_138 : decode cX8_roundLine 138 = .ok (.aload_n 0, 1) := dk_42 (dk_at dksX8_roundLine_6 3 rfl rfl)
theorem dX8_roundLine_139 : decode cX8_roundLine 139 = .ok (.iconst 3, 1) := dk_6 (dk_at dksX8_roundLine_6 4 rfl rfl)
theorem dX8_roundLine_140 : decode cX8_roundLine 140 = .ok (.iload_n 1, 1) := dk_27 (dk_at dksX8_roundLine_6 5 rfl rfl)
theorem dX8_roundLine_141 : decode cX8_roundLine 141 = .ok (.iadd, 1) := dk_96 (dk_at dksX8_roundLine_6 6 rfl rfl)
theorem dX8_roundLine_142 : decode cX8_roundLine 142 = .ok (.iload_n 2, 1) := dk_28 (dk_at dksX8_roundLine_6 7 rfl rfl)
theorem dX8_roundLine_143 : decode cX8_roundLine 143 = .ok (.invokevirtual 177, 3) := dk_182 0 177 (dk_at dksX8_roundLine_6 8 rfl rfl)
theorem dX8_roundLine_146 : decode cX8_roundLine 146 = .ok (.aload_n 0, 1) := dk_42 (dk_at dksX8_roundLine_6 11 rfl rfl)
theorem dX8_roundLine_147 : decode cX8_roundLine 147 = .ok (.iconst 5, 1) := dk_8 (dk_at dksX8_roundLine_6 12 rfl rfl)
theorem dX8_roundLine_148 : decode cX8_roundLine 148 = .ok (.iload_n 1, 1) := dk_27 (dk_at dksX8_roundLine_6 13 rfl rfl)
theorem dX8_roundLine_149 : decode cX8_roundLine 149 = .ok (.iadd, 1) := dk_96 (dk_at dksX8_roundLine_6 14 rfl rfl)
theorem dX8_roundLine_150 : decode cX8_roundLine 150 = .ok (.iload_n 3, 1) := dk_29 (dk_at dksX8_roundLine_6 15 rfl rfl)
theorem dX8_roundLine_151 : decode cX8_roundLine 151 = .ok (.invokevirtual 177, 3) := dk_182 0 177 (dk_at dksX8_roundLine_6 16 rfl rfl)
theorem dX8_roundLine_154 : decode cX8_roundLine 154 = .ok (.return_, 1) := dk_177 (dk_at dksX8_roundLine_6 19 rfl rfl)
abbrev cX8_stepHere : ByteArray := prog_13_method_27_code
def yX8_stepHere : MethodName := ⟨RX8, "stepHere", "()I"⟩
def dkwX8_stepHere_0 : List UInt8 := [42, 3, 8, 182, 0, 155, 172]
abbrev dktX8_stepHere_0 : List UInt8 := dkwX8_stepHere_0 ++ []
theorem dksX8_stepHere_0 : cX8_stepHere.data.toList.drop 0 = dktX8_stepHere_0 := by decide +kernel
theorem dX8_stepHere_0 : decode cX8_stepHere 0 = .ok (.aload_n 0, 1) := dk_42 (dk_at dksX8_stepHere_0 0 rfl rfl)
theorem dX8_stepHere_1 : decode cX8_stepHere 1 = .ok (.iconst 0, 1) := dk_3 (dk_at dksX8_stepHere_0 1 rfl rfl)
theorem dX8_stepHere_2 : decode cX8_stepHere 2 = .ok (.iconst 5, 1) := dk_8 (dk_at dksX8_stepHere_0 2 rfl rfl)
theorem dX8_stepHere_3 : decode cX8_stepHere 3 = .ok (.invokevirtual 155, 3) := dk_182 0 155 (dk_at dksX8_stepHere_0 3 rfl rfl)
theorem dX8_stepHere_6 : decode cX8_stepHere 6 = .ok (.ireturn, 1) := dk_172 (dk_at dksX8_stepHere_0 6 rfl rfl)
abbrev cX8_answersLine : ByteArray := prog_13_method_30_code
def yX8_answersLine : MethodName := ⟨RX8, "answersLine", "()V"⟩
def dkwX8_answersLine_2 : List UInt8 := [96, 28, 79, 177]
abbrev dktX8_answersLine_2 : List UInt8 := dkwX8_answersLine_2 ++ []
def dkwX8_answersLine_1 : List UInt8 := [42, 182, 0, 164, 120, 128, 61, 167, 255, 232, 42, 182, 0, 168, 153, 0, 13, 42, 180, 0, 40, 16, 24, 27]
abbrev dktX8_answersLine_1 : List UInt8 := dkwX8_answersLine_1 ++ dktX8_answersLine_2
def dkwX8_answersLine_0 : List UInt8 := [42, 182, 0, 164, 60, 3, 61, 42, 182, 0, 168, 153, 0, 23, 42, 180, 0, 121, 5, 160, 0, 15, 28, 4]
abbrev dktX8_answersLine_0 : List UInt8 := dkwX8_answersLine_0 ++ dktX8_answersLine_1
theorem dksX8_answersLine_0 : cX8_answersLine.data.toList.drop 0 = dktX8_answersLine_0 := by decide +kernel
theorem dksX8_answersLine_1 : cX8_answersLine.data.toList.drop 24 = dktX8_answersLine_1 := dk_seg dksX8_answersLine_0 24 rfl rfl
theorem dksX8_answersLine_2 : cX8_answersLine.data.toList.drop 48 = dktX8_answersLine_2 := dk_seg dksX8_answersLine_1 24 rfl rfl
theorem dX8_answersLine_0 : decode cX8_answersLine 0 = .ok (.aload_n 0, 1) := dk_42 (dk_at dksX8_answersLine_0 0 rfl rfl)
theorem dX8_answersLine_1 : decode cX8_answersLine 1 = .ok (.invokevirtual 164, 3) := dk_182 0 164 (dk_at dksX8_answersLine_0 1 rfl rfl)
theorem dX8_answersLine_4 : decode cX8_answersLine 4 = .ok (.istore_n 1, 1) := dk_60 (dk_at dksX8_answersLine_0 4 rfl rfl)
theorem dX8_answersLine_5 : decode cX8_answersLine 5 = .ok (.iconst 0, 1) := dk_3 (dk_at dksX8_answersLine_0 5 rfl rfl)
theorem dX8_answersLine_6 : decode cX8_answersLine 6 = .ok (.istore_n 2, 1) := dk_61 (dk_at dksX8_answersLine_0 6 rfl rfl)
theorem dX8_answersLine_7 : decode cX8_answersLine 7 = .ok (.aload_n 0, 1) := dk_42 (dk_at dksX8_answersLine_0 7 rfl rfl)
theorem dX8_answersLine_8 : decode cX8_answersLine 8 = .ok (.invokevirtual 168, 3) := dk_182 0 168 (dk_at dksX8_answersLine_0 8 rfl rfl)
theorem dX8_answersLine_11 : decode cX8_answersLine 11 = .ok (.ifCond .eq 23, 3) := dk_153 0 23 (dk_at dksX8_answersLine_0 11 rfl rfl)
theorem dX8_answersLine_14 : decode cX8_answersLine 14 = .ok (.aload_n 0, 1) := dk_42 (dk_at dksX8_answersLine_0 14 rfl rfl)
theorem dX8_answersLine_15 : decode cX8_answersLine 15 = .ok (.getfield 121, 3) := dk_180 0 121 (dk_at dksX8_answersLine_0 15 rfl rfl)
theorem dX8_answersLine_18 : decode cX8_answersLine 18 = .ok (.iconst 2, 1) := dk_5 (dk_at dksX8_answersLine_0 18 rfl rfl)
theorem dX8_answersLine_19 : decode cX8_answersLine 19 = .ok (.if_icmp .ne 15, 3) := dk_160 0 15 (dk_at dksX8_answersLine_0 19 rfl rfl)
theorem dX8_answersLine_22 : decode cX8_answersLine 22 = .ok (.iload_n 2, 1) := dk_28 (dk_at dksX8_answersLine_0 22 rfl rfl)
theorem dX8_answersLine_23 : decode cX8_answersLine 23 = .ok (.iconst 1, 1) := dk_4 (dk_at dksX8_answersLine_0 23 rfl rfl)
theorem dX8_answersLine_24 : decode cX8_answersLine 24 = .ok (.aload_n 0, 1) := dk_42 (dk_at dksX8_answersLine_1 0 rfl rfl)
theorem dX8_answersLine_25 : decode cX8_answersLine 25 = .ok (.invokevirtual 164, 3) := dk_182 0 164 (dk_at dksX8_answersLine_1 1 rfl rfl)
theorem dX8_answersLine_28 : decode cX8_answersLine 28 = .ok (.ishl, 1) := dk_120 (dk_at dksX8_answersLine_1 4 rfl rfl)
theorem dX8_answersLine_29 : decode cX8_answersLine 29 = .ok (.ior, 1) := dk_128 (dk_at dksX8_answersLine_1 5 rfl rfl)
theorem dX8_answersLine_30 : decode cX8_answersLine 30 = .ok (.istore_n 2, 1) := dk_61 (dk_at dksX8_answersLine_1 6 rfl rfl)
theorem dX8_answersLine_31 : decode cX8_answersLine 31 = .ok (.goto (-24), 3) := dk_167 255 232 (dk_at dksX8_answersLine_1 7 rfl rfl)
theorem dX8_answersLine_34 : decode cX8_answersLine 34 = .ok (.aload_n 0, 1) := dk_42 (dk_at dksX8_answersLine_1 10 rfl rfl)
theorem dX8_answersLine_35 : decode cX8_answersLine 35 = .ok (.invokevirtual 168, 3) := dk_182 0 168 (dk_at dksX8_answersLine_1 11 rfl rfl)
theorem dX8_answersLine_38 : decode cX8_answersLine 38 = .ok (.ifCond .eq 13, 3) := dk_153 0 13 (dk_at dksX8_answersLine_1 14 rfl rfl)
theorem dX8_answersLine_41 : decode cX8_answersLine 41 = .ok (.aload_n 0, 1) := dk_42 (dk_at dksX8_answersLine_1 17 rfl rfl)
theorem dX8_answersLine_42 : decode cX8_answersLine 42 = .ok (.getfield 40, 3) := dk_180 0 40 (dk_at dksX8_answersLine_1 18 rfl rfl)
theorem dX8_answersLine_45 : decode cX8_answersLine 45 = .ok (.bipush 24, 2) := dk_16 24 (dk_at dksX8_answersLine_1 21 rfl rfl)
theorem dX8_answersLine_47 : decode cX8_answersLine 47 = .ok (.iload_n 1, 1) := dk_27 (dk_at dksX8_answersLine_1 23 rfl rfl)
theorem dX8_answersLine_48 : decode cX8_answersLine 48 = .ok (.iadd, 1) := dk_96 (dk_at dksX8_answersLine_2 0 rfl rfl)
theorem dX8_answersLine_49 : decode cX8_answersLine 49 = .ok (.iload_n 2, 1) := dk_28 (dk_at dksX8_answersLine_2 1 rfl rfl)
theorem dX8_answersLine_50 : decode cX8_answersLine 50 = .ok (.iastore, 1) := dk_79 (dk_at dksX8_answersLine_2 2 rfl rfl)
theorem dX8_answersLine_51 : decode cX8_answersLine 51 = .ok (.return_, 1) := dk_177 (dk_at dksX8_answersLine_2 3 rfl rfl)
abbrev cX8_ends : ByteArray := prog_13_method_21_code
def yX8_ends : MethodName := ⟨RX8, "ends", "()V"⟩
def dkwX8_ends_1 : List UInt8 := [177]
abbrev dktX8_ends_1 : List UInt8 := dkwX8_ends_1 ++ []
def dkwX8_ends_0 : List UInt8 := [42, 180, 0, 121, 6, 159, 0, 8, 42, 4, 182, 0, 148, 42, 180, 0, 132, 154, 0, 7, 42, 182, 0, 142]
abbrev dktX8_ends_0 : List UInt8 := dkwX8_ends_0 ++ dktX8_ends_1
theorem dksX8_ends_0 : cX8_ends.data.toList.drop 0 = dktX8_ends_0 := by decide +kernel
theorem dksX8_ends_1 : cX8_ends.data.toList.drop 24 = dktX8_ends_1 := dk_seg dksX8_ends_0 24 rfl rfl
theorem dX8_ends_0 : decode cX8_ends 0 = .ok (.aload_n 0, 1) := dk_42 (dk_at dksX8_ends_0 0 rfl rfl)
theorem dX8_ends_1 : decode cX8_ends 1 = .ok (.getfield 121, 3) := dk_180 0 121 (dk_at dksX8_ends_0 1 rfl rfl)
theorem dX8_ends_4 : decode cX8_ends 4 = .ok (.iconst 3, 1) := dk_6 (dk_at dksX8_ends_0 4 rfl rfl)
theorem dX8_ends_5 : decode cX8_ends 5 = .ok (.if_icmp .eq 8, 3) := dk_159 0 8 (dk_at dksX8_ends_0 5 rfl rfl)
theorem dX8_ends_8 : decode cX8_ends 8 = .ok (.aload_n 0, 1) := dk_42 (dk_at dksX8_ends_0 8 rfl rfl)
theorem dX8_ends_9 : decode cX8_ends 9 = .ok (.iconst 1, 1) := dk_4 (dk_at dksX8_ends_0 9 rfl rfl)
theorem dX8_ends_10 : decode cX8_ends 10 = .ok (.invokevirtual 148, 3) := dk_182 0 148 (dk_at dksX8_ends_0 10 rfl rfl)
theorem dX8_ends_13 : decode cX8_ends 13 = .ok (.aload_n 0, 1) := dk_42 (dk_at dksX8_ends_0 13 rfl rfl)
theorem dX8_ends_14 : decode cX8_ends 14 = .ok (.getfield 132, 3) := dk_180 0 132 (dk_at dksX8_ends_0 14 rfl rfl)
theorem dX8_ends_17 : decode cX8_ends 17 = .ok (.ifCond .ne 7, 3) := dk_154 0 7 (dk_at dksX8_ends_0 17 rfl rfl)
theorem dX8_ends_20 : decode cX8_ends 20 = .ok (.aload_n 0, 1) := dk_42 (dk_at dksX8_ends_0 20 rfl rfl)
theorem dX8_ends_21 : decode cX8_ends 21 = .ok (.invokevirtual 142, 3) := dk_182 0 142 (dk_at dksX8_ends_0 21 rfl rfl)
theorem dX8_ends_24 : decode cX8_ends 24 = .ok (.return_, 1) := dk_177 (dk_at dksX8_ends_1 0 rfl rfl)
abbrev cX8_isOver : ByteArray := prog_13_method_23_code
def yX8_isOver : MethodName := ⟨RX8, "isOver", "()V"⟩
def dkwX8_isOver_1 : List UInt8 := [167, 0, 7, 42, 180, 0, 135, 181, 0, 27, 177]
abbrev dktX8_isOver_1 : List UInt8 := dkwX8_isOver_1 ++ []
def dkwX8_isOver_0 : List UInt8 := [42, 3, 181, 0, 97, 42, 42, 180, 0, 132, 181, 0, 159, 42, 42, 180, 0, 132, 154, 0, 7, 2]
abbrev dktX8_isOver_0 : List UInt8 := dkwX8_isOver_0 ++ dktX8_isOver_1
theorem dksX8_isOver_0 : cX8_isOver.data.toList.drop 0 = dktX8_isOver_0 := by decide +kernel
theorem dksX8_isOver_1 : cX8_isOver.data.toList.drop 22 = dktX8_isOver_1 := dk_seg dksX8_isOver_0 22 rfl rfl
theorem dX8_isOver_0 : decode cX8_isOver 0 = .ok (.aload_n 0, 1) := dk_42 (dk_at dksX8_isOver_0 0 rfl rfl)
theorem dX8_isOver_1 : decode cX8_isOver 1 = .ok (.iconst 0, 1) := dk_3 (dk_at dksX8_isOver_0 1 rfl rfl)
theorem dX8_isOver_2 : decode cX8_isOver 2 = .ok (.putfield 97, 3) := dk_181 0 97 (dk_at dksX8_isOver_0 2 rfl rfl)
theorem dX8_isOver_5 : decode cX8_isOver 5 = .ok (.aload_n 0, 1) := dk_42 (dk_at dksX8_isOver_0 5 rfl rfl)
theorem dX8_isOver_6 : decode cX8_isOver 6 = .ok (.aload_n 0, 1) := dk_42 (dk_at dksX8_isOver_0 6 rfl rfl)
theorem dX8_isOver_7 : decode cX8_isOver 7 = .ok (.getfield 132, 3) := dk_180 0 132 (dk_at dksX8_isOver_0 7 rfl rfl)
theorem dX8_isOver_10 : decode cX8_isOver 10 = .ok (.putfield 159, 3) := dk_181 0 159 (dk_at dksX8_isOver_0 10 rfl rfl)
theorem dX8_isOver_13 : decode cX8_isOver 13 = .ok (.aload_n 0, 1) := dk_42 (dk_at dksX8_isOver_0 13 rfl rfl)
theorem dX8_isOver_14 : decode cX8_isOver 14 = .ok (.aload_n 0, 1) := dk_42 (dk_at dksX8_isOver_0 14 rfl rfl)
theorem dX8_isOver_15 : decode cX8_isOver 15 = .ok (.getfield 132, 3) := dk_180 0 132 (dk_at dksX8_isOver_0 15 rfl rfl)
theorem dX8_isOver_18 : decode cX8_isOver 18 = .ok (.ifCond .ne 7, 3) := dk_154 0 7 (dk_at dksX8_isOver_0 18 rfl rfl)
theorem dX8_isOver_21 : decode cX8_isOver 21 = .ok (.iconst (-1), 1) := dk_2 (dk_at dksX8_isOver_0 21 rfl rfl)
theorem dX8_isOver_22 : decode cX8_isOver 22 = .ok (.goto 7, 3) := dk_167 0 7 (dk_at dksX8_isOver_1 0 rfl rfl)
theorem dX8_isOver_25 : decode cX8_isOver 25 = .ok (.aload_n 0, 1) := dk_42 (dk_at dksX8_isOver_1 3 rfl rfl)
theorem dX8_isOver_26 : decode cX8_isOver 26 = .ok (.getfield 135, 3) := dk_180 0 135 (dk_at dksX8_isOver_1 4 rfl rfl)
theorem dX8_isOver_29 : decode cX8_isOver 29 = .ok (.putfield 27, 3) := dk_181 0 27 (dk_at dksX8_isOver_1 7 rfl rfl)
theorem dX8_isOver_32 : decode cX8_isOver 32 = .ok (.return_, 1) := dk_177 (dk_at dksX8_isOver_1 10 rfl rfl)
abbrev cX8_copyDance : ByteArray := prog_13_method_38_code
def yX8_copyDance : MethodName := ⟨RX8, "copyDance", "(II)V"⟩
def dkwX8_copyDance_5 : List UInt8 := [17, 0, 200, 27, 104, 29, 96, 51, 84, 132, 3, 1, 167, 255, 222, 177]
abbrev dktX8_copyDance_5 : List UInt8 := dkwX8_copyDance_5 ++ []
def dkwX8_copyDance_4 : List UInt8 := [29, 17, 0, 200, 162, 0, 33, 42, 180, 0, 46, 17, 0, 200, 28, 104, 29, 96, 42, 180, 0, 46]
abbrev dktX8_copyDance_4 : List UInt8 := dkwX8_copyDance_4 ++ dktX8_copyDance_5
def dkwX8_copyDance_3 : List UInt8 := [180, 0, 53, 16, 10, 27, 28, 184, 0, 250, 42, 180, 0, 56, 17, 0, 160, 27, 28, 184, 0, 250, 3, 62]
abbrev dktX8_copyDance_3 : List UInt8 := dkwX8_copyDance_3 ++ dktX8_copyDance_4
def dkwX8_copyDance_2 : List UInt8 := [180, 0, 43, 16, 32, 27, 28, 184, 0, 250, 42, 180, 0, 50, 16, 24, 27, 28, 184, 0, 250, 42]
abbrev dktX8_copyDance_2 : List UInt8 := dkwX8_copyDance_2 ++ dktX8_copyDance_3
def dkwX8_copyDance_1 : List UInt8 := [180, 0, 37, 16, 24, 27, 28, 184, 0, 250, 42, 180, 0, 40, 16, 6, 27, 28, 184, 0, 250, 42]
abbrev dktX8_copyDance_1 : List UInt8 := dkwX8_copyDance_1 ++ dktX8_copyDance_2
def dkwX8_copyDance_0 : List UInt8 := [42, 180, 0, 31, 4, 27, 28, 184, 0, 250, 42, 180, 0, 34, 16, 11, 27, 28, 184, 0, 250, 42]
abbrev dktX8_copyDance_0 : List UInt8 := dkwX8_copyDance_0 ++ dktX8_copyDance_1
theorem dksX8_copyDance_0 : cX8_copyDance.data.toList.drop 0 = dktX8_copyDance_0 := by decide +kernel
theorem dksX8_copyDance_1 : cX8_copyDance.data.toList.drop 22 = dktX8_copyDance_1 := dk_seg dksX8_copyDance_0 22 rfl rfl
theorem dksX8_copyDance_2 : cX8_copyDance.data.toList.drop 44 = dktX8_copyDance_2 := dk_seg dksX8_copyDance_1 22 rfl rfl
theorem dksX8_copyDance_3 : cX8_copyDance.data.toList.drop 66 = dktX8_copyDance_3 := dk_seg dksX8_copyDance_2 22 rfl rfl
theorem dksX8_copyDance_4 : cX8_copyDance.data.toList.drop 90 = dktX8_copyDance_4 := dk_seg dksX8_copyDance_3 24 rfl rfl
theorem dksX8_copyDance_5 : cX8_copyDance.data.toList.drop 112 = dktX8_copyDance_5 := dk_seg dksX8_copyDance_4 22 rfl rfl
theorem dX8_copyDance_0 : decode cX8_copyDance 0 = .ok (.aload_n 0, 1) := dk_42 (dk_at dksX8_copyDance_0 0 rfl rfl)
theorem dX8_copyDance_1 : decode cX8_copyDance 1 = .ok (.getfield 31, 3) := dk_180 0 31 (dk_at dksX8_copyDance_0 1 rfl rfl)
theorem dX8_copyDance_4 : decode cX8_copyDance 4 = .ok (.iconst 1, 1) := dk_4 (dk_at dksX8_copyDance_0 4 rfl rfl)
theorem dX8_copyDance_5 : decode cX8_copyDance 5 = .ok (.iload_n 1, 1) := dk_27 (dk_at dksX8_copyDance_0 5 rfl rfl)
theorem dX8_copyDance_6 : decode cX8_copyDance 6 = .ok (.iload_n 2, 1) := dk_28 (dk_at dksX8_copyDance_0 6 rfl rfl)
theorem dX8_copyDance_7 : decode cX8_copyDance 7 = .ok (.invokestatic 250, 3) := dk_184 0 250 (dk_at dksX8_copyDance_0 7 rfl rfl)
theorem dX8_copyDance_10 : decode cX8_copyDance 10 = .ok (.aload_n 0, 1) := dk_42 (dk_at dksX8_copyDance_0 10 rfl rfl)
theorem dX8_copyDance_11 : decode cX8_copyDance 11 = .ok (.getfield 34, 3) := dk_180 0 34 (dk_at dksX8_copyDance_0 11 rfl rfl)
theorem dX8_copyDance_14 : decode cX8_copyDance 14 = .ok (.bipush 11, 2) := dk_16 11 (dk_at dksX8_copyDance_0 14 rfl rfl)
theorem dX8_copyDance_16 : decode cX8_copyDance 16 = .ok (.iload_n 1, 1) := dk_27 (dk_at dksX8_copyDance_0 16 rfl rfl)
theorem dX8_copyDance_17 : decode cX8_copyDance 17 = .ok (.iload_n 2, 1) := dk_28 (dk_at dksX8_copyDance_0 17 rfl rfl)
theorem dX8_copyDance_18 : decode cX8_copyDance 18 = .ok (.invokestatic 250, 3) := dk_184 0 250 (dk_at dksX8_copyDance_0 18 rfl rfl)
theorem dX8_copyDance_21 : decode cX8_copyDance 21 = .ok (.aload_n 0, 1) := dk_42 (dk_at dksX8_copyDance_0 21 rfl rfl)
theorem dX8_copyDance_22 : decode cX8_copyDance 22 = .ok (.getfield 37, 3) := dk_180 0 37 (dk_at dksX8_copyDance_1 0 rfl rfl)
theorem dX8_copyDance_25 : decode cX8_copyDance 25 = .ok (.bipush 24, 2) := dk_16 24 (dk_at dksX8_copyDance_1 3 rfl rfl)
theorem dX8_copyDance_27 : decode cX8_copyDance 27 = .ok (.iload_n 1, 1) := dk_27 (dk_at dksX8_copyDance_1 5 rfl rfl)
theorem dX8_copyDance_28 : decode cX8_copyDance 28 = .ok (.iload_n 2, 1) := dk_28 (dk_at dksX8_copyDance_1 6 rfl rfl)
theorem dX8_copyDance_29 : decode cX8_copyDance 29 = .ok (.invokestatic 250, 3) := dk_184 0 250 (dk_at dksX8_copyDance_1 7 rfl rfl)
theorem dX8_copyDance_32 : decode cX8_copyDance 32 = .ok (.aload_n 0, 1) := dk_42 (dk_at dksX8_copyDance_1 10 rfl rfl)
theorem dX8_copyDance_33 : decode cX8_copyDance 33 = .ok (.getfield 40, 3) := dk_180 0 40 (dk_at dksX8_copyDance_1 11 rfl rfl)
theorem dX8_copyDance_36 : decode cX8_copyDance 36 = .ok (.bipush 6, 2) := dk_16 6 (dk_at dksX8_copyDance_1 14 rfl rfl)
theorem dX8_copyDance_38 : decode cX8_copyDance 38 = .ok (.iload_n 1, 1) := dk_27 (dk_at dksX8_copyDance_1 16 rfl rfl)
theorem dX8_copyDance_39 : decode cX8_copyDance 39 = .ok (.iload_n 2, 1) := dk_28 (dk_at dksX8_copyDance_1 17 rfl rfl)
theorem dX8_copyDance_40 : decode cX8_copyDance 40 = .ok (.invokestatic 250, 3) := dk_184 0 250 (dk_at dksX8_copyDance_1 18 rfl rfl)
theorem dX8_copyDance_43 : decode cX8_copyDance 43 = .ok (.aload_n 0, 1) := dk_42 (dk_at dksX8_copyDance_1 21 rfl rfl)
theorem dX8_copyDance_44 : decode cX8_copyDance 44 = .ok (.getfield 43, 3) := dk_180 0 43 (dk_at dksX8_copyDance_2 0 rfl rfl)
theorem dX8_copyDance_47 : decode cX8_copyDance 47 = .ok (.bipush 32, 2) := dk_16 32 (dk_at dksX8_copyDance_2 3 rfl rfl)
theorem dX8_copyDance_49 : decode cX8_copyDance 49 = .ok (.iload_n 1, 1) := dk_27 (dk_at dksX8_copyDance_2 5 rfl rfl)
theorem dX8_copyDance_50 : decode cX8_copyDance 50 = .ok (.iload_n 2, 1) := dk_28 (dk_at dksX8_copyDance_2 6 rfl rfl)
theorem dX8_copyDance_51 : decode cX8_copyDance 51 = .ok (.invokestatic 250, 3) := dk_184 0 250 (dk_at dksX8_copyDance_2 7 rfl rfl)
theorem dX8_copyDance_54 : decode cX8_copyDance 54 = .ok (.aload_n 0, 1) := dk_42 (dk_at dksX8_copyDance_2 10 rfl rfl)
theorem dX8_copyDance_55 : decode cX8_copyDance 55 = .ok (.getfield 50, 3) := dk_180 0 50 (dk_at dksX8_copyDance_2 11 rfl rfl)
theorem dX8_copyDance_58 : decode cX8_copyDance 58 = .ok (.bipush 24, 2) := dk_16 24 (dk_at dksX8_copyDance_2 14 rfl rfl)
theorem dX8_copyDance_60 : decode cX8_copyDance 60 = .ok (.iload_n 1, 1) := dk_27 (dk_at dksX8_copyDance_2 16 rfl rfl)
theorem dX8_copyDance_61 : decode cX8_copyDance 61 = .ok (.iload_n 2, 1) := dk_28 (dk_at dksX8_copyDance_2 17 rfl rfl)
theorem dX8_copyDance_62 : decode cX8_copyDance 62 = .ok (.invokestatic 250, 3) := dk_184 0 250 (dk_at dksX8_copyDance_2 18 rfl rfl)
theorem dX8_copyDance_65 : decode cX8_copyDance 65 = .ok (.aload_n 0, 1) := dk_42 (dk_at dksX8_copyDance_2 21 rfl rfl)
theorem dX8_copyDance_66 : decode cX8_copyDance 66 = .ok (.getfield 53, 3) := dk_180 0 53 (dk_at dksX8_copyDance_3 0 rfl rfl)
theorem dX8_copyDance_69 : decode cX8_copyDance 69 = .ok (.bipush 10, 2) := dk_16 10 (dk_at dksX8_copyDance_3 3 rfl rfl)
theorem dX8_copyDance_71 : decode cX8_copyDance 71 = .ok (.iload_n 1, 1) := dk_27 (dk_at dksX8_copyDance_3 5 rfl rfl)
theorem dX8_copyDance_72 : decode cX8_copyDance 72 = .ok (.iload_n 2, 1) := dk_28 (dk_at dksX8_copyDance_3 6 rfl rfl)
theorem dX8_copyDance_73 : decode cX8_copyDance 73 = .ok (.invokestatic 250, 3) := dk_184 0 250 (dk_at dksX8_copyDance_3 7 rfl rfl)
theorem dX8_copyDance_76 : decode cX8_copyDance 76 = .ok (.aload_n 0, 1) := dk_42 (dk_at dksX8_copyDance_3 10 rfl rfl)
theorem dX8_copyDance_77 : decode cX8_copyDance 77 = .ok (.getfield 56, 3) := dk_180 0 56 (dk_at dksX8_copyDance_3 11 rfl rfl)
theorem dX8_copyDance_80 : decode cX8_copyDance 80 = .ok (.sipush 160, 3) := dk_17 0 160 (dk_at dksX8_copyDance_3 14 rfl rfl)
theorem dX8_copyDance_83 : decode cX8_copyDance 83 = .ok (.iload_n 1, 1) := dk_27 (dk_at dksX8_copyDance_3 17 rfl rfl)
theorem dX8_copyDance_84 : decode cX8_copyDance 84 = .ok (.iload_n 2, 1) := dk_28 (dk_at dksX8_copyDance_3 18 rfl rfl)
theorem dX8_copyDance_85 : decode cX8_copyDance 85 = .ok (.invokestatic 250, 3) := dk_184 0 250 (dk_at dksX8_copyDance_3 19 rfl rfl)
theorem dX8_copyDance_88 : decode cX8_copyDance 88 = .ok (.iconst 0, 1) := dk_3 (dk_at dksX8_copyDance_3 22 rfl rfl)
theorem dX8_copyDance_89 : decode cX8_copyDance 89 = .ok (.istore_n 3, 1) := dk_62 (dk_at dksX8_copyDance_3 23 rfl rfl)
theorem dX8_copyDance_90 : decode cX8_copyDance 90 = .ok (.iload_n 3, 1) := dk_29 (dk_at dksX8_copyDance_4 0 rfl rfl)
theorem dX8_copyDance_91 : decode cX8_copyDance 91 = .ok (.sipush 200, 3) := dk_17 0 200 (dk_at dksX8_copyDance_4 1 rfl rfl)
theorem dX8_copyDance_94 : decode cX8_copyDance 94 = .ok (.if_icmp .ge 33, 3) := dk_162 0 33 (dk_at dksX8_copyDance_4 4 rfl rfl)
theorem dX8_copyDance_97 : decode cX8_copyDance 97 = .ok (.aload_n 0, 1) := dk_42 (dk_at dksX8_copyDance_4 7 rfl rfl)
theorem dX8_copyDance_98 : decode cX8_copyDance 98 = .ok (.getfield 46, 3) := dk_180 0 46 (dk_at dksX8_copyDance_4 8 rfl rfl)
theorem dX8_copyDance_101 : decode cX8_copyDance 101 = .ok (.sipush 200, 3) := dk_17 0 200 (dk_at dksX8_copyDance_4 11 rfl rfl)
theorem dX8_copyDance_104 : decode cX8_copyDance 104 = .ok (.iload_n 2, 1) := dk_28 (dk_at dksX8_copyDance_4 14 rfl rfl)
theorem dX8_copyDance_105 : decode cX8_copyDance 105 = .ok (.imul, 1) := dk_104 (dk_at dksX8_copyDance_4 15 rfl rfl)
theorem dX8_copyDance_106 : decode cX8_copyDance 106 = .ok (.iload_n 3, 1) := dk_29 (dk_at dksX8_copyDance_4 16 rfl rfl)
theorem dX8_copyDance_107 : decode cX8_copyDance 107 = .ok (.iadd, 1) := dk_96 (dk_at dksX8_copyDance_4 17 rfl rfl)
theorem dX8_copyDance_108 : decode cX8_copyDance 108 = .ok (.aload_n 0, 1) := dk_42 (dk_at dksX8_copyDance_4 18 rfl rfl)
theorem dX8_copyDance_109 : decode cX8_copyDance 109 = .ok (.getfield 46, 3) := dk_180 0 46 (dk_at dksX8_copyDance_4 19 rfl rfl)
theorem dX8_copyDance_112 : decode cX8_copyDance 112 = .ok (.sipush 200, 3) := dk_17 0 200 (dk_at dksX8_copyDance_5 0 rfl rfl)
theorem dX8_copyDance_115 : decode cX8_copyDance 115 = .ok (.iload_n 1, 1) := dk_27 (dk_at dksX8_copyDance_5 3 rfl rfl)
theorem dX8_copyDance_116 : decode cX8_copyDance 116 = .ok (.imul, 1) := dk_104 (dk_at dksX8_copyDance_5 4 rfl rfl)
theorem dX8_copyDance_117 : decode cX8_copyDance 117 = .ok (.iload_n 3, 1) := dk_29 (dk_at dksX8_copyDance_5 5 rfl rfl)
theorem dX8_copyDance_118 : decode cX8_copyDance 118 = .ok (.iadd, 1) := dk_96 (dk_at dksX8_copyDance_5 6 rfl rfl)
theorem dX8_copyDance_119 : decode cX8_copyDance 119 = .ok (.baload, 1) := dk_51 (dk_at dksX8_copyDance_5 7 rfl rfl)
theorem dX8_copyDance_120 : decode cX8_copyDance 120 = .ok (.bastore, 1) := dk_84 (dk_at dksX8_copyDance_5 8 rfl rfl)
theorem dX8_copyDance_121 : decode cX8_copyDance 121 = .ok (.iinc 3 1, 3) := dk_132 3 1 (dk_at dksX8_copyDance_5 9 rfl rfl)
theorem dX8_copyDance_124 : decode cX8_copyDance 124 = .ok (.goto (-34), 3) := dk_167 255 222 (dk_at dksX8_copyDance_5 12 rfl rfl)
theorem dX8_copyDance_127 : decode cX8_copyDance 127 = .ok (.return_, 1) := dk_177 (dk_at dksX8_copyDance_5 15 rfl rfl)
abbrev cX8_copyRow : ByteArray := prog_13_method_37_code
def yX8_copyRow : MethodName := ⟨RX8, "copyRow", "([IIII)V"⟩
def dkwX8_copyRow_1 : List UInt8 := [79, 132, 4, 1, 167, 255, 231, 177]
abbrev dktX8_copyRow_1 : List UInt8 := dkwX8_copyRow_1 ++ []
def dkwX8_copyRow_0 : List UInt8 := [3, 54, 4, 21, 4, 27, 162, 0, 25, 42, 27, 29, 104, 21, 4, 96, 42, 27, 28, 104, 21, 4, 96, 46]
abbrev dktX8_copyRow_0 : List UInt8 := dkwX8_copyRow_0 ++ dktX8_copyRow_1
theorem dksX8_copyRow_0 : cX8_copyRow.data.toList.drop 0 = dktX8_copyRow_0 := by decide +kernel
theorem dksX8_copyRow_1 : cX8_copyRow.data.toList.drop 24 = dktX8_copyRow_1 := dk_seg dksX8_copyRow_0 24 rfl rfl
theorem dX8_copyRow_0 : decode cX8_copyRow 0 = .ok (.iconst 0, 1) := dk_3 (dk_at dksX8_copyRow_0 0 rfl rfl)
theorem dX8_copyRow_1 : decode cX8_copyRow 1 = .ok (.istore 4, 2) := dk_54 4 (dk_at dksX8_copyRow_0 1 rfl rfl)
theorem dX8_copyRow_3 : decode cX8_copyRow 3 = .ok (.iload 4, 2) := dk_21 4 (dk_at dksX8_copyRow_0 3 rfl rfl)
theorem dX8_copyRow_5 : decode cX8_copyRow 5 = .ok (.iload_n 1, 1) := dk_27 (dk_at dksX8_copyRow_0 5 rfl rfl)
theorem dX8_copyRow_6 : decode cX8_copyRow 6 = .ok (.if_icmp .ge 25, 3) := dk_162 0 25 (dk_at dksX8_copyRow_0 6 rfl rfl)
theorem dX8_copyRow_9 : decode cX8_copyRow 9 = .ok (.aload_n 0, 1) := dk_42 (dk_at dksX8_copyRow_0 9 rfl rfl)
theorem dX8_copyRow_10 : decode cX8_copyRow 10 = .ok (.iload_n 1, 1) := dk_27 (dk_at dksX8_copyRow_0 10 rfl rfl)
theorem dX8_copyRow_11 : decode cX8_copyRow 11 = .ok (.iload_n 3, 1) := dk_29 (dk_at dksX8_copyRow_0 11 rfl rfl)
theorem dX8_copyRow_12 : decode cX8_copyRow 12 = .ok (.imul, 1) := dk_104 (dk_at dksX8_copyRow_0 12 rfl rfl)
theorem dX8_copyRow_13 : decode cX8_copyRow 13 = .ok (.iload 4, 2) := dk_21 4 (dk_at dksX8_copyRow_0 13 rfl rfl)
theorem dX8_copyRow_15 : decode cX8_copyRow 15 = .ok (.iadd, 1) := dk_96 (dk_at dksX8_copyRow_0 15 rfl rfl)
theorem dX8_copyRow_16 : decode cX8_copyRow 16 = .ok (.aload_n 0, 1) := dk_42 (dk_at dksX8_copyRow_0 16 rfl rfl)
theorem dX8_copyRow_17 : decode cX8_copyRow 17 = .ok (.iload_n 1, 1) := dk_27 (dk_at dksX8_copyRow_0 17 rfl rfl)
theorem dX8_copyRow_18 : decode cX8_copyRow 18 = .ok (.iload_n 2, 1) := dk_28 (dk_at dksX8_copyRow_0 18 rfl rfl)
theorem dX8_copyRow_19 : decode cX8_copyRow 19 = .ok (.imul, 1) := dk_104 (dk_at dksX8_copyRow_0 19 rfl rfl)
theorem dX8_copyRow_20 : decode cX8_copyRow 20 = .ok (.iload 4, 2) := dk_21 4 (dk_at dksX8_copyRow_0 20 rfl rfl)
theorem dX8_copyRow_22 : decode cX8_copyRow 22 = .ok (.iadd, 1) := dk_96 (dk_at dksX8_copyRow_0 22 rfl rfl)
theorem dX8_copyRow_23 : decode cX8_copyRow 23 = .ok (.iaload, 1) := dk_46 (dk_at dksX8_copyRow_0 23 rfl rfl)
theorem dX8_copyRow_24 : decode cX8_copyRow 24 = .ok (.iastore, 1) := dk_79 (dk_at dksX8_copyRow_1 0 rfl rfl)
theorem dX8_copyRow_25 : decode cX8_copyRow 25 = .ok (.iinc 4 1, 3) := dk_132 4 1 (dk_at dksX8_copyRow_1 1 rfl rfl)
theorem dX8_copyRow_28 : decode cX8_copyRow 28 = .ok (.goto (-25), 3) := dk_167 255 231 (dk_at dksX8_copyRow_1 4 rfl rfl)
theorem dX8_copyRow_31 : decode cX8_copyRow 31 = .ok (.return_, 1) := dk_177 (dk_at dksX8_copyRow_1 7 rfl rfl)
abbrev cX8_step : ByteArray := prog_13_method_47_code
def yX8_step : MethodName := ⟨RX8, "step", "(II)I"⟩
def dkwX8_step_2 : List UInt8 := [167, 0, 4, 2, 172]
abbrev dktX8_step_2 : List UInt8 := dkwX8_step_2 ++ []
def dkwX8_step_1 : List UInt8 := [182, 1, 8, 4, 100, 133, 184, 0, 85, 153, 0, 17, 42, 180, 0, 37, 16, 12, 27, 104, 28, 96, 46]
abbrev dktX8_step_1 : List UInt8 := dkwX8_step_1 ++ dktX8_step_2
def dkwX8_step_0 : List UInt8 := [42, 3, 181, 0, 80, 42, 27, 182, 1, 5, 154, 0, 8, 16, 254, 167, 0, 35, 28, 133, 9, 42, 27]
abbrev dktX8_step_0 : List UInt8 := dkwX8_step_0 ++ dktX8_step_1
theorem dksX8_step_0 : cX8_step.data.toList.drop 0 = dktX8_step_0 := by decide +kernel
theorem dksX8_step_1 : cX8_step.data.toList.drop 23 = dktX8_step_1 := dk_seg dksX8_step_0 23 rfl rfl
theorem dksX8_step_2 : cX8_step.data.toList.drop 46 = dktX8_step_2 := dk_seg dksX8_step_1 23 rfl rfl
theorem dX8_step_0 : decode cX8_step 0 = .ok (.aload_n 0, 1) := dk_42 (dk_at dksX8_step_0 0 rfl rfl)
theorem dX8_step_1 : decode cX8_step 1 = .ok (.iconst 0, 1) := dk_3 (dk_at dksX8_step_0 1 rfl rfl)
theorem dX8_step_2 : decode cX8_step 2 = .ok (.putfield 80, 3) := dk_181 0 80 (dk_at dksX8_step_0 2 rfl rfl)
theorem dX8_step_5 : decode cX8_step 5 = .ok (.aload_n 0, 1) := dk_42 (dk_at dksX8_step_0 5 rfl rfl)
theorem dX8_step_6 : decode cX8_step 6 = .ok (.iload_n 1, 1) := dk_27 (dk_at dksX8_step_0 6 rfl rfl)
theorem dX8_step_7 : decode cX8_step 7 = .ok (.invokevirtual 261, 3) := dk_182 1 5 (dk_at dksX8_step_0 7 rfl rfl)
theorem dX8_step_10 : decode cX8_step 10 = .ok (.ifCond .ne 8, 3) := dk_154 0 8 (dk_at dksX8_step_0 10 rfl rfl)
theorem dX8_step_13 : decode cX8_step 13 = .ok (.bipush (-2), 2) := dk_16 254 (dk_at dksX8_step_0 13 rfl rfl)
theorem dX8_step_15 : decode cX8_step 15 = .ok (.goto 35, 3) := dk_167 0 35 (dk_at dksX8_step_0 15 rfl rfl)
theorem dX8_step_18 : decode cX8_step 18 = .ok (.iload_n 2, 1) := dk_28 (dk_at dksX8_step_0 18 rfl rfl)
theorem dX8_step_19 : decode cX8_step 19 = .ok (.i2l, 1) := dk_133 (dk_at dksX8_step_0 19 rfl rfl)
theorem dX8_step_20 : decode cX8_step 20 = .ok (.lconst 0, 1) := dk_9 (dk_at dksX8_step_0 20 rfl rfl)
theorem dX8_step_21 : decode cX8_step 21 = .ok (.aload_n 0, 1) := dk_42 (dk_at dksX8_step_0 21 rfl rfl)
theorem dX8_step_22 : decode cX8_step 22 = .ok (.iload_n 1, 1) := dk_27 (dk_at dksX8_step_0 22 rfl rfl)
theorem dX8_step_23 : decode cX8_step 23 = .ok (.invokevirtual 264, 3) := dk_182 1 8 (dk_at dksX8_step_1 0 rfl rfl)
theorem dX8_step_26 : decode cX8_step 26 = .ok (.iconst 1, 1) := dk_4 (dk_at dksX8_step_1 3 rfl rfl)
theorem dX8_step_27 : decode cX8_step 27 = .ok (.isub, 1) := dk_100 (dk_at dksX8_step_1 4 rfl rfl)
theorem dX8_step_28 : decode cX8_step 28 = .ok (.i2l, 1) := dk_133 (dk_at dksX8_step_1 5 rfl rfl)
theorem dX8_step_29 : decode cX8_step 29 = .ok (.invokestatic 85, 3) := dk_184 0 85 (dk_at dksX8_step_1 6 rfl rfl)
theorem dX8_step_32 : decode cX8_step 32 = .ok (.ifCond .eq 17, 3) := dk_153 0 17 (dk_at dksX8_step_1 9 rfl rfl)
theorem dX8_step_35 : decode cX8_step 35 = .ok (.aload_n 0, 1) := dk_42 (dk_at dksX8_step_1 12 rfl rfl)
theorem dX8_step_36 : decode cX8_step 36 = .ok (.getfield 37, 3) := dk_180 0 37 (dk_at dksX8_step_1 13 rfl rfl)
theorem dX8_step_39 : decode cX8_step 39 = .ok (.bipush 12, 2) := dk_16 12 (dk_at dksX8_step_1 16 rfl rfl)
theorem dX8_step_41 : decode cX8_step 41 = .ok (.iload_n 1, 1) := dk_27 (dk_at dksX8_step_1 18 rfl rfl)
theorem dX8_step_42 : decode cX8_step 42 = .ok (.imul, 1) := dk_104 (dk_at dksX8_step_1 19 rfl rfl)
theorem dX8_step_43 : decode cX8_step 43 = .ok (.iload_n 2, 1) := dk_28 (dk_at dksX8_step_1 20 rfl rfl)
theorem dX8_step_44 : decode cX8_step 44 = .ok (.iadd, 1) := dk_96 (dk_at dksX8_step_1 21 rfl rfl)
theorem dX8_step_45 : decode cX8_step 45 = .ok (.iaload, 1) := dk_46 (dk_at dksX8_step_1 22 rfl rfl)
theorem dX8_step_46 : decode cX8_step 46 = .ok (.goto 4, 3) := dk_167 0 4 (dk_at dksX8_step_2 0 rfl rfl)
theorem dX8_step_49 : decode cX8_step 49 = .ok (.iconst (-1), 1) := dk_2 (dk_at dksX8_step_2 3 rfl rfl)
theorem dX8_step_50 : decode cX8_step 50 = .ok (.ireturn, 1) := dk_172 (dk_at dksX8_step_2 4 rfl rfl)
abbrev cX8_isSide : ByteArray := prog_13_method_40_code
def yX8_isSide : MethodName := ⟨RX8, "isSide", "(I)Z"⟩
def dkwX8_isSide_0 : List UInt8 := [42, 182, 0, 254, 153, 0, 17, 27, 133, 9, 10, 184, 0, 85, 153, 0, 7, 4, 167, 0, 4, 3, 172]
abbrev dktX8_isSide_0 : List UInt8 := dkwX8_isSide_0 ++ []
theorem dksX8_isSide_0 : cX8_isSide.data.toList.drop 0 = dktX8_isSide_0 := by decide +kernel
theorem dX8_isSide_0 : decode cX8_isSide 0 = .ok (.aload_n 0, 1) := dk_42 (dk_at dksX8_isSide_0 0 rfl rfl)
theorem dX8_isSide_1 : decode cX8_isSide 1 = .ok (.invokevirtual 254, 3) := dk_182 0 254 (dk_at dksX8_isSide_0 1 rfl rfl)
theorem dX8_isSide_4 : decode cX8_isSide 4 = .ok (.ifCond .eq 17, 3) := dk_153 0 17 (dk_at dksX8_isSide_0 4 rfl rfl)
theorem dX8_isSide_7 : decode cX8_isSide 7 = .ok (.iload_n 1, 1) := dk_27 (dk_at dksX8_isSide_0 7 rfl rfl)
theorem dX8_isSide_8 : decode cX8_isSide 8 = .ok (.i2l, 1) := dk_133 (dk_at dksX8_isSide_0 8 rfl rfl)
theorem dX8_isSide_9 : decode cX8_isSide 9 = .ok (.lconst 0, 1) := dk_9 (dk_at dksX8_isSide_0 9 rfl rfl)
theorem dX8_isSide_10 : decode cX8_isSide 10 = .ok (.lconst 1, 1) := dk_10 (dk_at dksX8_isSide_0 10 rfl rfl)
theorem dX8_isSide_11 : decode cX8_isSide 11 = .ok (.invokestatic 85, 3) := dk_184 0 85 (dk_at dksX8_isSide_0 11 rfl rfl)
theorem dX8_isSide_14 : decode cX8_isSide 14 = .ok (.ifCond .eq 7, 3) := dk_153 0 7 (dk_at dksX8_isSide_0 14 rfl rfl)
theorem dX8_isSide_17 : decode cX8_isSide 17 = .ok (.iconst 1, 1) := dk_4 (dk_at dksX8_isSide_0 17 rfl rfl)
theorem dX8_isSide_18 : decode cX8_isSide 18 = .ok (.goto 4, 3) := dk_167 0 4 (dk_at dksX8_isSide_0 18 rfl rfl)
theorem dX8_isSide_21 : decode cX8_isSide 21 = .ok (.iconst 0, 1) := dk_3 (dk_at dksX8_isSide_0 21 rfl rfl)
theorem dX8_isSide_22 : decode cX8_isSide 22 = .ok (.ireturn, 1) := dk_172 (dk_at dksX8_isSide_0 22 rfl rfl)
abbrev cX8_isDance : ByteArray := prog_13_method_39_code
def yX8_isDance : MethodName := ⟨RX8, "isDance", "()Z"⟩
def dkwX8_isDance_0 : List UInt8 := [42, 180, 0, 31, 3, 46, 158, 0, 7, 4, 167, 0, 4, 3, 172]
abbrev dktX8_isDance_0 : List UInt8 := dkwX8_isDance_0 ++ []
theorem dksX8_isDance_0 : cX8_isDance.data.toList.drop 0 = dktX8_isDance_0 := by decide +kernel
theorem dX8_isDance_0 : decode cX8_isDance 0 = .ok (.aload_n 0, 1) := dk_42 (dk_at dksX8_isDance_0 0 rfl rfl)
theorem dX8_isDance_1 : decode cX8_isDance 1 = .ok (.getfield 31, 3) := dk_180 0 31 (dk_at dksX8_isDance_0 1 rfl rfl)
theorem dX8_isDance_4 : decode cX8_isDance 4 = .ok (.iconst 0, 1) := dk_3 (dk_at dksX8_isDance_0 4 rfl rfl)
theorem dX8_isDance_5 : decode cX8_isDance 5 = .ok (.iaload, 1) := dk_46 (dk_at dksX8_isDance_0 5 rfl rfl)
theorem dX8_isDance_6 : decode cX8_isDance 6 = .ok (.ifCond .le 7, 3) := dk_158 0 7 (dk_at dksX8_isDance_0 6 rfl rfl)
theorem dX8_isDance_9 : decode cX8_isDance 9 = .ok (.iconst 1, 1) := dk_4 (dk_at dksX8_isDance_0 9 rfl rfl)
theorem dX8_isDance_10 : decode cX8_isDance 10 = .ok (.goto 4, 3) := dk_167 0 4 (dk_at dksX8_isDance_0 10 rfl rfl)
theorem dX8_isDance_13 : decode cX8_isDance 13 = .ok (.iconst 0, 1) := dk_3 (dk_at dksX8_isDance_0 13 rfl rfl)
theorem dX8_isDance_14 : decode cX8_isDance 14 = .ok (.ireturn, 1) := dk_172 (dk_at dksX8_isDance_0 14 rfl rfl)
abbrev cX8_lengthOf : ByteArray := prog_13_method_44_code
def yX8_lengthOf : MethodName := ⟨RX8, "lengthOf", "(I)I"⟩
def dkwX8_lengthOf_0 : List UInt8 := [42, 180, 0, 34, 6, 27, 96, 46, 172]
abbrev dktX8_lengthOf_0 : List UInt8 := dkwX8_lengthOf_0 ++ []
theorem dksX8_lengthOf_0 : cX8_lengthOf.data.toList.drop 0 = dktX8_lengthOf_0 := by decide +kernel
theorem dX8_lengthOf_0 : decode cX8_lengthOf 0 = .ok (.aload_n 0, 1) := dk_42 (dk_at dksX8_lengthOf_0 0 rfl rfl)
theorem dX8_lengthOf_1 : decode cX8_lengthOf 1 = .ok (.getfield 34, 3) := dk_180 0 34 (dk_at dksX8_lengthOf_0 1 rfl rfl)
theorem dX8_lengthOf_4 : decode cX8_lengthOf 4 = .ok (.iconst 3, 1) := dk_6 (dk_at dksX8_lengthOf_0 4 rfl rfl)
theorem dX8_lengthOf_5 : decode cX8_lengthOf 5 = .ok (.iload_n 1, 1) := dk_27 (dk_at dksX8_lengthOf_0 5 rfl rfl)
theorem dX8_lengthOf_6 : decode cX8_lengthOf 6 = .ok (.iadd, 1) := dk_96 (dk_at dksX8_lengthOf_0 6 rfl rfl)
theorem dX8_lengthOf_7 : decode cX8_lengthOf 7 = .ok (.iaload, 1) := dk_46 (dk_at dksX8_lengthOf_0 7 rfl rfl)
theorem dX8_lengthOf_8 : decode cX8_lengthOf 8 = .ok (.ireturn, 1) := dk_172 (dk_at dksX8_lengthOf_0 8 rfl rfl)
abbrev cX8_answers : ByteArray := prog_13_method_48_code
def yX8_answers : MethodName := ⟨RX8, "answers", "(I)I"⟩
def dkwX8_answers_1 : List UInt8 := [27, 46, 167, 0, 5, 16, 254, 172]
abbrev dktX8_answers_1 : List UInt8 := dkwX8_answers_1 ++ []
def dkwX8_answers_0 : List UInt8 := [42, 3, 181, 0, 80, 42, 182, 0, 254, 153, 0, 20, 27, 133, 184, 1, 11, 153, 0, 12, 42, 180, 0, 40]
abbrev dktX8_answers_0 : List UInt8 := dkwX8_answers_0 ++ dktX8_answers_1
theorem dksX8_answers_0 : cX8_answers.data.toList.drop 0 = dktX8_answers_0 := by decide +kernel
theorem dksX8_answers_1 : cX8_answers.data.toList.drop 24 = dktX8_answers_1 := dk_seg dksX8_answers_0 24 rfl rfl
theorem dX8_answers_0 : decode cX8_answers 0 = .ok (.aload_n 0, 1) := dk_42 (dk_at dksX8_answers_0 0 rfl rfl)
theorem dX8_answers_1 : decode cX8_answers 1 = .ok (.iconst 0, 1) := dk_3 (dk_at dksX8_answers_0 1 rfl rfl)
theorem dX8_answers_2 : decode cX8_answers 2 = .ok (.putfield 80, 3) := dk_181 0 80 (dk_at dksX8_answers_0 2 rfl rfl)
theorem dX8_answers_5 : decode cX8_answers 5 = .ok (.aload_n 0, 1) := dk_42 (dk_at dksX8_answers_0 5 rfl rfl)
theorem dX8_answers_6 : decode cX8_answers 6 = .ok (.invokevirtual 254, 3) := dk_182 0 254 (dk_at dksX8_answers_0 6 rfl rfl)
theorem dX8_answers_9 : decode cX8_answers 9 = .ok (.ifCond .eq 20, 3) := dk_153 0 20 (dk_at dksX8_answers_0 9 rfl rfl)
theorem dX8_answers_12 : decode cX8_answers 12 = .ok (.iload_n 1, 1) := dk_27 (dk_at dksX8_answers_0 12 rfl rfl)
theorem dX8_answers_13 : decode cX8_answers 13 = .ok (.i2l, 1) := dk_133 (dk_at dksX8_answers_0 13 rfl rfl)
theorem dX8_answers_14 : decode cX8_answers 14 = .ok (.invokestatic 267, 3) := dk_184 1 11 (dk_at dksX8_answers_0 14 rfl rfl)
theorem dX8_answers_17 : decode cX8_answers 17 = .ok (.ifCond .eq 12, 3) := dk_153 0 12 (dk_at dksX8_answers_0 17 rfl rfl)
theorem dX8_answers_20 : decode cX8_answers 20 = .ok (.aload_n 0, 1) := dk_42 (dk_at dksX8_answers_0 20 rfl rfl)
theorem dX8_answers_21 : decode cX8_answers 21 = .ok (.getfield 40, 3) := dk_180 0 40 (dk_at dksX8_answers_0 21 rfl rfl)
theorem dX8_answers_24 : decode cX8_answers 24 = .ok (.iload_n 1, 1) := dk_27 (dk_at dksX8_answers_1 0 rfl rfl)
theorem dX8_answers_25 : decode cX8_answers 25 = .ok (.iaload, 1) := dk_46 (dk_at dksX8_answers_1 1 rfl rfl)
theorem dX8_answers_26 : decode cX8_answers 26 = .ok (.goto 5, 3) := dk_167 0 5 (dk_at dksX8_answers_1 2 rfl rfl)
theorem dX8_answers_29 : decode cX8_answers 29 = .ok (.bipush (-2), 2) := dk_16 254 (dk_at dksX8_answers_1 5 rfl rfl)
theorem dX8_answers_31 : decode cX8_answers 31 = .ok (.ireturn, 1) := dk_172 (dk_at dksX8_answers_1 7 rfl rfl)
abbrev cX8_isStep : ByteArray := prog_13_method_42_code
def yX8_isStep : MethodName := ⟨RX8, "isStep", "(J)Z"⟩
def dkwX8_isStep_0 : List UInt8 := [30, 9, 20, 1, 3, 184, 0, 85, 172]
abbrev dktX8_isStep_0 : List UInt8 := dkwX8_isStep_0 ++ []
theorem dksX8_isStep_0 : cX8_isStep.data.toList.drop 0 = dktX8_isStep_0 := by decide +kernel
theorem dX8_isStep_0 : decode cX8_isStep 0 = .ok (.lload_n 0, 1) := dk_30 (dk_at dksX8_isStep_0 0 rfl rfl)
theorem dX8_isStep_1 : decode cX8_isStep 1 = .ok (.lconst 0, 1) := dk_9 (dk_at dksX8_isStep_0 1 rfl rfl)
theorem dX8_isStep_2 : decode cX8_isStep 2 = .ok (.ldc2_w 259, 3) := dk_20 1 3 (dk_at dksX8_isStep_0 2 rfl rfl)
theorem dX8_isStep_5 : decode cX8_isStep 5 = .ok (.invokestatic 85, 3) := dk_184 0 85 (dk_at dksX8_isStep_0 5 rfl rfl)
theorem dX8_isStep_8 : decode cX8_isStep 8 = .ok (.ireturn, 1) := dk_172 (dk_at dksX8_isStep_0 8 rfl rfl)
abbrev cX8_stumbled : ByteArray := prog_13_method_49_code
def yX8_stumbled : MethodName := ⟨RX8, "stumbled", "(II)I"⟩
def dkwX8_stumbled_2 : List UInt8 := [167, 0, 5, 16, 254, 172]
abbrev dktX8_stumbled_2 : List UInt8 := dkwX8_stumbled_2 ++ []
def dkwX8_stumbled_1 : List UInt8 := [28, 133, 9, 20, 0, 83, 184, 0, 85, 153, 0, 16, 42, 180, 0, 43, 7, 27, 104, 28, 96, 46]
abbrev dktX8_stumbled_1 : List UInt8 := dkwX8_stumbled_1 ++ dktX8_stumbled_2
def dkwX8_stumbled_0 : List UInt8 := [42, 3, 181, 0, 80, 27, 133, 9, 42, 180, 0, 34, 16, 7, 46, 4, 100, 133, 184, 0, 85, 153, 0, 28]
abbrev dktX8_stumbled_0 : List UInt8 := dkwX8_stumbled_0 ++ dktX8_stumbled_1
theorem dksX8_stumbled_0 : cX8_stumbled.data.toList.drop 0 = dktX8_stumbled_0 := by decide +kernel
theorem dksX8_stumbled_1 : cX8_stumbled.data.toList.drop 24 = dktX8_stumbled_1 := dk_seg dksX8_stumbled_0 24 rfl rfl
theorem dksX8_stumbled_2 : cX8_stumbled.data.toList.drop 46 = dktX8_stumbled_2 := dk_seg dksX8_stumbled_1 22 rfl rfl
theorem dX8_stumbled_0 : decode cX8_stumbled 0 = .ok (.aload_n 0, 1) := dk_42 (dk_at dksX8_stumbled_0 0 rfl rfl)
theorem dX8_stumbled_1 : decode cX8_stumbled 1 = .ok (.iconst 0, 1) := dk_3 (dk_at dksX8_stumbled_0 1 rfl rfl)
theorem dX8_stumbled_2 : decode cX8_stumbled 2 = .ok (.putfield 80, 3) := dk_181 0 80 (dk_at dksX8_stumbled_0 2 rfl rfl)
theorem dX8_stumbled_5 : decode cX8_stumbled 5 = .ok (.iload_n 1, 1) := dk_27 (dk_at dksX8_stumbled_0 5 rfl rfl)
theorem dX8_stumbled_6 : decode cX8_stumbled 6 = .ok (.i2l, 1) := dk_133 (dk_at dksX8_stumbled_0 6 rfl rfl)
theorem dX8_stumbled_7 : decode cX8_stumbled 7 = .ok (.lconst 0, 1) := dk_9 (dk_at dksX8_stumbled_0 7 rfl rfl)
theorem dX8_stumbled_8 : decode cX8_stumbled 8 = .ok (.aload_n 0, 1) := dk_42 (dk_at dksX8_stumbled_0 8 rfl rfl)
theorem dX8_stumbled_9 : decode cX8_stumbled 9 = .ok (.getfield 34, 3) := dk_180 0 34 (dk_at dksX8_stumbled_0 9 rfl rfl)
theorem dX8_stumbled_12 : decode cX8_stumbled 12 = .ok (.bipush 7, 2) := dk_16 7 (dk_at dksX8_stumbled_0 12 rfl rfl)
theorem dX8_stumbled_14 : decode cX8_stumbled 14 = .ok (.iaload, 1) := dk_46 (dk_at dksX8_stumbled_0 14 rfl rfl)
theorem dX8_stumbled_15 : decode cX8_stumbled 15 = .ok (.iconst 1, 1) := dk_4 (dk_at dksX8_stumbled_0 15 rfl rfl)
theorem dX8_stumbled_16 : decode cX8_stumbled 16 = .ok (.isub, 1) := dk_100 (dk_at dksX8_stumbled_0 16 rfl rfl)
theorem dX8_stumbled_17 : decode cX8_stumbled 17 = .ok (.i2l, 1) := dk_133 (dk_at dksX8_stumbled_0 17 rfl rfl)
theorem dX8_stumbled_18 : decode cX8_stumbled 18 = .ok (.invokestatic 85, 3) := dk_184 0 85 (dk_at dksX8_stumbled_0 18 rfl rfl)
theorem dX8_stumbled_21 : decode cX8_stumbled 21 = .ok (.ifCond .eq 28, 3) := dk_153 0 28 (dk_at dksX8_stumbled_0 21 rfl rfl)
theorem dX8_stumbled_24 : decode cX8_stumbled 24 = .ok (.iload_n 2, 1) := dk_28 (dk_at dksX8_stumbled_1 0 rfl rfl)
theorem dX8_stumbled_25 : decode cX8_stumbled 25 = .ok (.i2l, 1) := dk_133 (dk_at dksX8_stumbled_1 1 rfl rfl)
theorem dX8_stumbled_26 : decode cX8_stumbled 26 = .ok (.lconst 0, 1) := dk_9 (dk_at dksX8_stumbled_1 2 rfl rfl)
theorem dX8_stumbled_27 : decode cX8_stumbled 27 = .ok (.ldc2_w 83, 3) := dk_20 0 83 (dk_at dksX8_stumbled_1 3 rfl rfl)
theorem dX8_stumbled_30 : decode cX8_stumbled 30 = .ok (.invokestatic 85, 3) := dk_184 0 85 (dk_at dksX8_stumbled_1 6 rfl rfl)
theorem dX8_stumbled_33 : decode cX8_stumbled 33 = .ok (.ifCond .eq 16, 3) := dk_153 0 16 (dk_at dksX8_stumbled_1 9 rfl rfl)
theorem dX8_stumbled_36 : decode cX8_stumbled 36 = .ok (.aload_n 0, 1) := dk_42 (dk_at dksX8_stumbled_1 12 rfl rfl)
theorem dX8_stumbled_37 : decode cX8_stumbled 37 = .ok (.getfield 43, 3) := dk_180 0 43 (dk_at dksX8_stumbled_1 13 rfl rfl)
theorem dX8_stumbled_40 : decode cX8_stumbled 40 = .ok (.iconst 4, 1) := dk_7 (dk_at dksX8_stumbled_1 16 rfl rfl)
theorem dX8_stumbled_41 : decode cX8_stumbled 41 = .ok (.iload_n 1, 1) := dk_27 (dk_at dksX8_stumbled_1 17 rfl rfl)
theorem dX8_stumbled_42 : decode cX8_stumbled 42 = .ok (.imul, 1) := dk_104 (dk_at dksX8_stumbled_1 18 rfl rfl)
theorem dX8_stumbled_43 : decode cX8_stumbled 43 = .ok (.iload_n 2, 1) := dk_28 (dk_at dksX8_stumbled_1 19 rfl rfl)
theorem dX8_stumbled_44 : decode cX8_stumbled 44 = .ok (.iadd, 1) := dk_96 (dk_at dksX8_stumbled_1 20 rfl rfl)
theorem dX8_stumbled_45 : decode cX8_stumbled 45 = .ok (.iaload, 1) := dk_46 (dk_at dksX8_stumbled_1 21 rfl rfl)
theorem dX8_stumbled_46 : decode cX8_stumbled 46 = .ok (.goto 5, 3) := dk_167 0 5 (dk_at dksX8_stumbled_2 0 rfl rfl)
theorem dX8_stumbled_49 : decode cX8_stumbled 49 = .ok (.bipush (-2), 2) := dk_16 254 (dk_at dksX8_stumbled_2 3 rfl rfl)
theorem dX8_stumbled_51 : decode cX8_stumbled 51 = .ok (.ireturn, 1) := dk_172 (dk_at dksX8_stumbled_2 5 rfl rfl)
abbrev cX8_muddy : ByteArray := prog_13_method_50_code
def yX8_muddy : MethodName := ⟨RX8, "muddy", "(I)I"⟩
def dkwX8_muddy_1 : List UInt8 := [27, 51, 153, 0, 7, 4, 167, 0, 9, 3, 167, 0, 5, 16, 254, 172]
abbrev dktX8_muddy_1 : List UInt8 := dkwX8_muddy_1 ++ []
def dkwX8_muddy_0 : List UInt8 := [42, 3, 181, 0, 80, 42, 182, 0, 254, 153, 0, 28, 27, 133, 184, 1, 14, 153, 0, 20, 42, 180, 0, 46]
abbrev dktX8_muddy_0 : List UInt8 := dkwX8_muddy_0 ++ dktX8_muddy_1
theorem dksX8_muddy_0 : cX8_muddy.data.toList.drop 0 = dktX8_muddy_0 := by decide +kernel
theorem dksX8_muddy_1 : cX8_muddy.data.toList.drop 24 = dktX8_muddy_1 := dk_seg dksX8_muddy_0 24 rfl rfl
theorem dX8_muddy_0 : decode cX8_muddy 0 = .ok (.aload_n 0, 1) := dk_42 (dk_at dksX8_muddy_0 0 rfl rfl)
theorem dX8_muddy_1 : decode cX8_muddy 1 = .ok (.iconst 0, 1) := dk_3 (dk_at dksX8_muddy_0 1 rfl rfl)
theorem dX8_muddy_2 : decode cX8_muddy 2 = .ok (.putfield 80, 3) := dk_181 0 80 (dk_at dksX8_muddy_0 2 rfl rfl)
theorem dX8_muddy_5 : decode cX8_muddy 5 = .ok (.aload_n 0, 1) := dk_42 (dk_at dksX8_muddy_0 5 rfl rfl)
theorem dX8_muddy_6 : decode cX8_muddy 6 = .ok (.invokevirtual 254, 3) := dk_182 0 254 (dk_at dksX8_muddy_0 6 rfl rfl)
theorem dX8_muddy_9 : decode cX8_muddy 9 = .ok (.ifCond .eq 28, 3) := dk_153 0 28 (dk_at dksX8_muddy_0 9 rfl rfl)
theorem dX8_muddy_12 : decode cX8_muddy 12 = .ok (.iload_n 1, 1) := dk_27 (dk_at dksX8_muddy_0 12 rfl rfl)
theorem dX8_muddy_13 : decode cX8_muddy 13 = .ok (.i2l, 1) := dk_133 (dk_at dksX8_muddy_0 13 rfl rfl)
theorem dX8_muddy_14 : decode cX8_muddy 14 = .ok (.invokestatic 270, 3) := dk_184 1 14 (dk_at dksX8_muddy_0 14 rfl rfl)
theorem dX8_muddy_17 : decode cX8_muddy 17 = .ok (.ifCond .eq 20, 3) := dk_153 0 20 (dk_at dksX8_muddy_0 17 rfl rfl)
theorem dX8_muddy_20 : decode cX8_muddy 20 = .ok (.aload_n 0, 1) := dk_42 (dk_at dksX8_muddy_0 20 rfl rfl)
theorem dX8_muddy_21 : decode cX8_muddy 21 = .ok (.getfield 46, 3) := dk_180 0 46 (dk_at dksX8_muddy_0 21 rfl rfl)
theorem dX8_muddy_24 : decode cX8_muddy 24 = .ok (.iload_n 1, 1) := dk_27 (dk_at dksX8_muddy_1 0 rfl rfl)
theorem dX8_muddy_25 : decode cX8_muddy 25 = .ok (.baload, 1) := dk_51 (dk_at dksX8_muddy_1 1 rfl rfl)
theorem dX8_muddy_26 : decode cX8_muddy 26 = .ok (.ifCond .eq 7, 3) := dk_153 0 7 (dk_at dksX8_muddy_1 2 rfl rfl)
theorem dX8_muddy_29 : decode cX8_muddy 29 = .ok (.iconst 1, 1) := dk_4 (dk_at dksX8_muddy_1 5 rfl rfl)
theorem dX8_muddy_30 : decode cX8_muddy 30 = .ok (.goto 9, 3) := dk_167 0 9 (dk_at dksX8_muddy_1 6 rfl rfl)
theorem dX8_muddy_33 : decode cX8_muddy 33 = .ok (.iconst 0, 1) := dk_3 (dk_at dksX8_muddy_1 9 rfl rfl)
theorem dX8_muddy_34 : decode cX8_muddy 34 = .ok (.goto 5, 3) := dk_167 0 5 (dk_at dksX8_muddy_1 10 rfl rfl)
theorem dX8_muddy_37 : decode cX8_muddy 37 = .ok (.bipush (-2), 2) := dk_16 254 (dk_at dksX8_muddy_1 13 rfl rfl)
theorem dX8_muddy_39 : decode cX8_muddy 39 = .ok (.ireturn, 1) := dk_172 (dk_at dksX8_muddy_1 15 rfl rfl)
abbrev cX8_isBeat : ByteArray := prog_13_method_41_code
def yX8_isBeat : MethodName := ⟨RX8, "isBeat", "(J)Z"⟩
def dkwX8_isBeat_0 : List UInt8 := [30, 9, 20, 1, 1, 184, 0, 85, 172]
abbrev dktX8_isBeat_0 : List UInt8 := dkwX8_isBeat_0 ++ []
theorem dksX8_isBeat_0 : cX8_isBeat.data.toList.drop 0 = dktX8_isBeat_0 := by decide +kernel
theorem dX8_isBeat_0 : decode cX8_isBeat 0 = .ok (.lload_n 0, 1) := dk_30 (dk_at dksX8_isBeat_0 0 rfl rfl)
theorem dX8_isBeat_1 : decode cX8_isBeat 1 = .ok (.lconst 0, 1) := dk_9 (dk_at dksX8_isBeat_0 1 rfl rfl)
theorem dX8_isBeat_2 : decode cX8_isBeat 2 = .ok (.ldc2_w 257, 3) := dk_20 1 1 (dk_at dksX8_isBeat_0 2 rfl rfl)
theorem dX8_isBeat_5 : decode cX8_isBeat 5 = .ok (.invokestatic 85, 3) := dk_184 0 85 (dk_at dksX8_isBeat_0 5 rfl rfl)
theorem dX8_isBeat_8 : decode cX8_isBeat 8 = .ok (.ireturn, 1) := dk_172 (dk_at dksX8_isBeat_0 8 rfl rfl)
abbrev cX8_place : ByteArray := prog_13_method_57_code
def yX8_place : MethodName := ⟨RX8, "place", "(II)I"⟩
def dkwX8_place_1 : List UInt8 := [42, 182, 1, 34, 42, 180, 0, 65, 17, 0, 201, 27, 104, 28, 96, 46, 172]
abbrev dktX8_place_1 : List UInt8 := dkwX8_place_1 ++ []
def dkwX8_place_0 : List UInt8 := [42, 3, 181, 0, 80, 42, 27, 182, 1, 5, 153, 0, 11, 28, 133, 184, 1, 14, 154, 0, 6, 16, 254, 172]
abbrev dktX8_place_0 : List UInt8 := dkwX8_place_0 ++ dktX8_place_1
theorem dksX8_place_0 : cX8_place.data.toList.drop 0 = dktX8_place_0 := by decide +kernel
theorem dksX8_place_1 : cX8_place.data.toList.drop 24 = dktX8_place_1 := dk_seg dksX8_place_0 24 rfl rfl
theorem dX8_place_0 : decode cX8_place 0 = .ok (.aload_n 0, 1) := dk_42 (dk_at dksX8_place_0 0 rfl rfl)
theorem dX8_place_1 : decode cX8_place 1 = .ok (.iconst 0, 1) := dk_3 (dk_at dksX8_place_0 1 rfl rfl)
theorem dX8_place_2 : decode cX8_place 2 = .ok (.putfield 80, 3) := dk_181 0 80 (dk_at dksX8_place_0 2 rfl rfl)
theorem dX8_place_5 : decode cX8_place 5 = .ok (.aload_n 0, 1) := dk_42 (dk_at dksX8_place_0 5 rfl rfl)
theorem dX8_place_6 : decode cX8_place 6 = .ok (.iload_n 1, 1) := dk_27 (dk_at dksX8_place_0 6 rfl rfl)
theorem dX8_place_7 : decode cX8_place 7 = .ok (.invokevirtual 261, 3) := dk_182 1 5 (dk_at dksX8_place_0 7 rfl rfl)
theorem dX8_place_10 : decode cX8_place 10 = .ok (.ifCond .eq 11, 3) := dk_153 0 11 (dk_at dksX8_place_0 10 rfl rfl)
theorem dX8_place_13 : decode cX8_place 13 = .ok (.iload_n 2, 1) := dk_28 (dk_at dksX8_place_0 13 rfl rfl)
theorem dX8_place_14 : decode cX8_place 14 = .ok (.i2l, 1) := dk_133 (dk_at dksX8_place_0 14 rfl rfl)
theorem dX8_place_15 : decode cX8_place 15 = .ok (.invokestatic 270, 3) := dk_184 1 14 (dk_at dksX8_place_0 15 rfl rfl)
theorem dX8_place_18 : decode cX8_place 18 = .ok (.ifCond .ne 6, 3) := dk_154 0 6 (dk_at dksX8_place_0 18 rfl rfl)
theorem dX8_place_21 : decode cX8_place 21 = .ok (.bipush (-2), 2) := dk_16 254 (dk_at dksX8_place_0 21 rfl rfl)
theorem dX8_place_23 : decode cX8_place 23 = .ok (.ireturn, 1) := dk_172 (dk_at dksX8_place_0 23 rfl rfl)
theorem dX8_place_24 : decode cX8_place 24 = .ok (.aload_n 0, 1) := dk_42 (dk_at dksX8_place_1 0 rfl rfl)
theorem dX8_place_25 : decode cX8_place 25 = .ok (.invokevirtual 290, 3) := dk_182 1 34 (dk_at dksX8_place_1 1 rfl rfl)
theorem dX8_place_28 : decode cX8_place 28 = .ok (.aload_n 0, 1) := dk_42 (dk_at dksX8_place_1 4 rfl rfl)
theorem dX8_place_29 : decode cX8_place 29 = .ok (.getfield 65, 3) := dk_180 0 65 (dk_at dksX8_place_1 5 rfl rfl)
theorem dX8_place_32 : decode cX8_place 32 = .ok (.sipush 201, 3) := dk_17 0 201 (dk_at dksX8_place_1 8 rfl rfl)
theorem dX8_place_35 : decode cX8_place 35 = .ok (.iload_n 1, 1) := dk_27 (dk_at dksX8_place_1 11 rfl rfl)
theorem dX8_place_36 : decode cX8_place 36 = .ok (.imul, 1) := dk_104 (dk_at dksX8_place_1 12 rfl rfl)
theorem dX8_place_37 : decode cX8_place 37 = .ok (.iload_n 2, 1) := dk_28 (dk_at dksX8_place_1 13 rfl rfl)
theorem dX8_place_38 : decode cX8_place 38 = .ok (.iadd, 1) := dk_96 (dk_at dksX8_place_1 14 rfl rfl)
theorem dX8_place_39 : decode cX8_place 39 = .ok (.iaload, 1) := dk_46 (dk_at dksX8_place_1 15 rfl rfl)
theorem dX8_place_40 : decode cX8_place 40 = .ok (.ireturn, 1) := dk_172 (dk_at dksX8_place_1 16 rfl rfl)
abbrev cX8_lays : ByteArray := prog_13_method_53_code
def yX8_lays : MethodName := ⟨RX8, "lays", "()V"⟩
def dkwX8_lays_0 : List UInt8 := [42, 2, 182, 1, 21, 177]
abbrev dktX8_lays_0 : List UInt8 := dkwX8_lays_0 ++ []
theorem dksX8_lays_0 : cX8_lays.data.toList.drop 0 = dktX8_lays_0 := by decide +kernel
theorem dX8_lays_0 : decode cX8_lays 0 = .ok (.aload_n 0, 1) := dk_42 (dk_at dksX8_lays_0 0 rfl rfl)
theorem dX8_lays_1 : decode cX8_lays 1 = .ok (.iconst (-1), 1) := dk_2 (dk_at dksX8_lays_0 1 rfl rfl)
theorem dX8_lays_2 : decode cX8_lays 2 = .ok (.invokevirtual 277, 3) := dk_182 1 21 (dk_at dksX8_lays_0 2 rfl rfl)
theorem dX8_lays_5 : decode cX8_lays 5 = .ok (.return_, 1) := dk_177 (dk_at dksX8_lays_0 5 rfl rfl)
abbrev cX8_laysBut : ByteArray := prog_13_method_52_code
def yX8_laysBut : MethodName := ⟨RX8, "laysBut", "(I)V"⟩
def dkwX8_laysBut_0 : List UInt8 := [42, 3, 27, 2, 3, 3, 182, 1, 17, 42, 4, 27, 2, 3, 3, 182, 1, 17, 177]
abbrev dktX8_laysBut_0 : List UInt8 := dkwX8_laysBut_0 ++ []
theorem dksX8_laysBut_0 : cX8_laysBut.data.toList.drop 0 = dktX8_laysBut_0 := by decide +kernel
theorem dX8_laysBut_0 : decode cX8_laysBut 0 = .ok (.aload_n 0, 1) := dk_42 (dk_at dksX8_laysBut_0 0 rfl rfl)
theorem dX8_laysBut_1 : decode cX8_laysBut 1 = .ok (.iconst 0, 1) := dk_3 (dk_at dksX8_laysBut_0 1 rfl rfl)
theorem dX8_laysBut_2 : decode cX8_laysBut 2 = .ok (.iload_n 1, 1) := dk_27 (dk_at dksX8_laysBut_0 2 rfl rfl)
theorem dX8_laysBut_3 : decode cX8_laysBut 3 = .ok (.iconst (-1), 1) := dk_2 (dk_at dksX8_laysBut_0 3 rfl rfl)
theorem dX8_laysBut_4 : decode cX8_laysBut 4 = .ok (.iconst 0, 1) := dk_3 (dk_at dksX8_laysBut_0 4 rfl rfl)
theorem dX8_laysBut_5 : decode cX8_laysBut 5 = .ok (.iconst 0, 1) := dk_3 (dk_at dksX8_laysBut_0 5 rfl rfl)
theorem dX8_laysBut_6 : decode cX8_laysBut 6 = .ok (.invokevirtual 273, 3) := dk_182 1 17 (dk_at dksX8_laysBut_0 6 rfl rfl)
theorem dX8_laysBut_9 : decode cX8_laysBut 9 = .ok (.aload_n 0, 1) := dk_42 (dk_at dksX8_laysBut_0 9 rfl rfl)
theorem dX8_laysBut_10 : decode cX8_laysBut 10 = .ok (.iconst 1, 1) := dk_4 (dk_at dksX8_laysBut_0 10 rfl rfl)
theorem dX8_laysBut_11 : decode cX8_laysBut 11 = .ok (.iload_n 1, 1) := dk_27 (dk_at dksX8_laysBut_0 11 rfl rfl)
theorem dX8_laysBut_12 : decode cX8_laysBut 12 = .ok (.iconst (-1), 1) := dk_2 (dk_at dksX8_laysBut_0 12 rfl rfl)
theorem dX8_laysBut_13 : decode cX8_laysBut 13 = .ok (.iconst 0, 1) := dk_3 (dk_at dksX8_laysBut_0 13 rfl rfl)
theorem dX8_laysBut_14 : decode cX8_laysBut 14 = .ok (.iconst 0, 1) := dk_3 (dk_at dksX8_laysBut_0 14 rfl rfl)
theorem dX8_laysBut_15 : decode cX8_laysBut 15 = .ok (.invokevirtual 273, 3) := dk_182 1 17 (dk_at dksX8_laysBut_0 15 rfl rfl)
theorem dX8_laysBut_18 : decode cX8_laysBut 18 = .ok (.return_, 1) := dk_177 (dk_at dksX8_laysBut_0 18 rfl rfl)
abbrev cX8_dances : ByteArray := prog_13_method_51_code
def yX8_dances : MethodName := ⟨RX8, "dances", "(IIIII)V"⟩
def dkwX8_dances_10 : List UInt8 := [54, 7, 132, 8, 1, 167, 255, 36, 177]
abbrev dktX8_dances_10 : List UInt8 := dkwX8_dances_10 ++ []
def dkwX8_dances_9 : List UInt8 := [180, 0, 68, 21, 9, 21, 10, 79, 21, 7, 4, 96, 21, 11, 100, 21, 6, 112, 21, 6, 96, 21, 6, 112]
abbrev dktX8_dances_9 : List UInt8 := dkwX8_dances_9 ++ dktX8_dances_10
def dkwX8_dances_8 : List UInt8 := [46, 54, 10, 42, 180, 0, 43, 7, 21, 12, 104, 6, 96, 46, 54, 11, 132, 12, 1, 167, 255, 171, 42]
abbrev dktX8_dances_8 : List UInt8 := dkwX8_dances_8 ++ dktX8_dances_9
def dkwX8_dances_7 : List UInt8 := [21, 12, 104, 4, 96, 46, 21, 8, 159, 0, 6, 167, 0, 29, 42, 180, 0, 43, 7, 21, 12, 104, 5, 96]
abbrev dktX8_dances_7 : List UInt8 := dkwX8_dances_7 ++ dktX8_dances_8
def dkwX8_dances_6 : List UInt8 := [21, 12, 28, 159, 0, 61, 42, 180, 0, 43, 7, 21, 12, 104, 46, 27, 160, 0, 48, 42, 180, 0, 43, 7]
abbrev dktX8_dances_6 : List UInt8 := dkwX8_dances_6 ++ dktX8_dances_7
def dkwX8_dances_5 : List UInt8 := [54, 11, 3, 54, 12, 21, 12, 42, 180, 0, 34, 16, 7, 46, 162, 0, 79, 28, 16, 99, 159, 0, 73]
abbrev dktX8_dances_5 : List UInt8 := dkwX8_dances_5 ++ dktX8_dances_6
def dkwX8_dances_4 : List UInt8 := [27, 104, 21, 7, 96, 46, 54, 10, 3, 54, 11, 21, 8, 29, 160, 0, 11, 21, 4, 54, 10, 21, 5]
abbrev dktX8_dances_4 : List UInt8 := dkwX8_dances_4 ++ dktX8_dances_5
def dkwX8_dances_3 : List UInt8 := [21, 6, 153, 0, 165, 42, 180, 0, 46, 21, 8, 51, 153, 0, 6, 167, 0, 152, 42, 180, 0, 37, 16, 12]
abbrev dktX8_dances_3 : List UInt8 := dkwX8_dances_3 ++ dktX8_dances_4
def dkwX8_dances_2 : List UInt8 := [104, 21, 8, 96, 21, 6, 154, 0, 7, 2, 167, 0, 5, 21, 7, 79, 42, 180, 0, 68, 21, 9, 2, 79]
abbrev dktX8_dances_2 : List UInt8 := dkwX8_dances_2 ++ dktX8_dances_3
def dkwX8_dances_1 : List UInt8 := [17, 0, 200, 162, 0, 218, 17, 0, 200, 27, 104, 21, 8, 96, 54, 9, 42, 180, 0, 65, 17, 0, 201, 27]
abbrev dktX8_dances_1 : List UInt8 := dkwX8_dances_1 ++ dktX8_dances_2
def dkwX8_dances_0 : List UInt8 := [42, 27, 182, 1, 8, 54, 6, 42, 180, 0, 34, 8, 27, 96, 46, 54, 7, 3, 54, 8, 21, 8]
abbrev dktX8_dances_0 : List UInt8 := dkwX8_dances_0 ++ dktX8_dances_1
theorem dksX8_dances_0 : cX8_dances.data.toList.drop 0 = dktX8_dances_0 := by decide +kernel
theorem dksX8_dances_1 : cX8_dances.data.toList.drop 22 = dktX8_dances_1 := dk_seg dksX8_dances_0 22 rfl rfl
theorem dksX8_dances_2 : cX8_dances.data.toList.drop 46 = dktX8_dances_2 := dk_seg dksX8_dances_1 24 rfl rfl
theorem dksX8_dances_3 : cX8_dances.data.toList.drop 70 = dktX8_dances_3 := dk_seg dksX8_dances_2 24 rfl rfl
theorem dksX8_dances_4 : cX8_dances.data.toList.drop 94 = dktX8_dances_4 := dk_seg dksX8_dances_3 24 rfl rfl
theorem dksX8_dances_5 : cX8_dances.data.toList.drop 117 = dktX8_dances_5 := dk_seg dksX8_dances_4 23 rfl rfl
theorem dksX8_dances_6 : cX8_dances.data.toList.drop 140 = dktX8_dances_6 := dk_seg dksX8_dances_5 23 rfl rfl
theorem dksX8_dances_7 : cX8_dances.data.toList.drop 164 = dktX8_dances_7 := dk_seg dksX8_dances_6 24 rfl rfl
theorem dksX8_dances_8 : cX8_dances.data.toList.drop 188 = dktX8_dances_8 := dk_seg dksX8_dances_7 24 rfl rfl
theorem dksX8_dances_9 : cX8_dances.data.toList.drop 211 = dktX8_dances_9 := dk_seg dksX8_dances_8 23 rfl rfl
theorem dksX8_dances_10 : cX8_dances.data.toList.drop 235 = dktX8_dances_10 := dk_seg dksX8_dances_9 24 rfl rfl
theorem dX8_dances_0 : decode cX8_dances 0 = .ok (.aload_n 0, 1) := dk_42 (dk_at dksX8_dances_0 0 rfl rfl)
theorem dX8_dances_1 : decode cX8_dances 1 = .ok (.iload_n 1, 1) := dk_27 (dk_at dksX8_dances_0 1 rfl rfl)
theorem dX8_dances_2 : decode cX8_dances 2 = .ok (.invokevirtual 264, 3) := dk_182 1 8 (dk_at dksX8_dances_0 2 rfl rfl)
theorem dX8_dances_5 : decode cX8_dances 5 = .ok (.istore 6, 2) := dk_54 6 (dk_at dksX8_dances_0 5 rfl rfl)
theorem dX8_dances_7 : decode cX8_dances 7 = .ok (.aload_n 0, 1) := dk_42 (dk_at dksX8_dances_0 7 rfl rfl)
theorem dX8_dances_8 : decode cX8_dances 8 = .ok (.getfield 34, 3) := dk_180 0 34 (dk_at dksX8_dances_0 8 rfl rfl)
theorem dX8_dances_11 : decode cX8_dances 11 = .ok (.iconst 5, 1) := dk_8 (dk_at dksX8_dances_0 11 rfl rfl)
theorem dX8_dances_12 : decode cX8_dances 12 = .ok (.iload_n 1, 1) := dk_27 (dk_at dksX8_dances_0 12 rfl rfl)
theorem dX8_dances_13 : decode cX8_dances 13 = .ok (.iadd, 1) := dk_96 (dk_at dksX8_dances_0 13 rfl rfl)
theorem dX8_dances_14 : decode cX8_dances 14 = .ok (.iaload, 1) := dk_46 (dk_at dksX8_dances_0 14 rfl rfl)
theorem dX8_dances_15 : decode cX8_dances 15 = .ok (.istore 7, 2) := dk_54 7 (dk_at dksX8_dances_0 15 rfl rfl)
theorem dX8_dances_17 : decode cX8_dances 17 = .ok (.iconst 0, 1) := dk_3 (dk_at dksX8_dances_0 17 rfl rfl)
theorem dX8_dances_18 : decode cX8_dances 18 = .ok (.istore 8, 2) := dk_54 8 (dk_at dksX8_dances_0 18 rfl rfl)
theorem dX8_dances_20 : decode cX8_dances 20 = .ok (.iload 8, 2) := dk_21 8 (dk_at dksX8_dances_0 20 rfl rfl)
theorem dX8_dances_22 : decode cX8_dances 22 = .ok (.sipush 200, 3) := dk_17 0 200 (dk_at dksX8_dances_1 0 rfl rfl)
theorem dX8_dances_25 : decode cX8_dances 25 = .ok (.if_icmp .ge 218, 3) := dk_162 0 218 (dk_at dksX8_dances_1 3 rfl rfl)
theorem dX8_dances_28 : decode cX8_dances 28 = .ok (.sipush 200, 3) := dk_17 0 200 (dk_at dksX8_dances_1 6 rfl rfl)
theorem dX8_dances_31 : decode cX8_dances 31 = .ok (.iload_n 1, 1) := dk_27 (dk_at dksX8_dances_1 9 rfl rfl)
theorem dX8_dances_32 : decode cX8_dances 32 = .ok (.imul, 1) := dk_104 (dk_at dksX8_dances_1 10 rfl rfl)
theorem dX8_dances_33 : decode cX8_dances 33 = .ok (.iload 8, 2) := dk_21 8 (dk_at dksX8_dances_1 11 rfl rfl)
theorem dX8_dances_35 : decode cX8_dances 35 = .ok (.iadd, 1) := dk_96 (dk_at dksX8_dances_1 13 rfl rfl)
theorem dX8_dances_36 : decode cX8_dances 36 = .ok (.istore 9, 2) := dk_54 9 (dk_at dksX8_dances_1 14 rfl rfl)
theorem dX8_dances_38 : decode cX8_dances 38 = .ok (.aload_n 0, 1) := dk_42 (dk_at dksX8_dances_1 16 rfl rfl)
theorem dX8_dances_39 : decode cX8_dances 39 = .ok (.getfield 65, 3) := dk_180 0 65 (dk_at dksX8_dances_1 17 rfl rfl)
theorem dX8_dances_42 : decode cX8_dances 42 = .ok (.sipush 201, 3) := dk_17 0 201 (dk_at dksX8_dances_1 20 rfl rfl)
theorem dX8_dances_45 : decode cX8_dances 45 = .ok (.iload_n 1, 1) := dk_27 (dk_at dksX8_dances_1 23 rfl rfl)
theorem dX8_dances_46 : decode cX8_dances 46 = .ok (.imul, 1) := dk_104 (dk_at dksX8_dances_2 0 rfl rfl)
theorem dX8_dances_47 : decode cX8_dances 47 = .ok (.iload 8, 2) := dk_21 8 (dk_at dksX8_dances_2 1 rfl rfl)
theorem dX8_dances_49 : decode cX8_dances 49 = .ok (.iadd, 1) := dk_96 (dk_at dksX8_dances_2 3 rfl rfl)
theorem dX8_dances_50 : decode cX8_dances 50 = .ok (.iload 6, 2) := dk_21 6 (dk_at dksX8_dances_2 4 rfl rfl)
theorem dX8_dances_52 : decode cX8_dances 52 = .ok (.ifCond .ne 7, 3) := dk_154 0 7 (dk_at dksX8_dances_2 6 rfl rfl)
theorem dX8_dances_55 : decode cX8_dances 55 = .ok (.iconst (-1), 1) := dk_2 (dk_at dksX8_dances_2 9 rfl rfl)
theorem dX8_dances_56 : decode cX8_dances 56 = .ok (.goto 5, 3) := dk_167 0 5 (dk_at dksX8_dances_2 10 rfl rfl)
theorem dX8_dances_59 : decode cX8_dances 59 = .ok (.iload 7, 2) := dk_21 7 (dk_at dksX8_dances_2 13 rfl rfl)
theorem dX8_dances_61 : decode cX8_dances 61 = .ok (.iastore, 1) := dk_79 (dk_at dksX8_dances_2 15 rfl rfl)
theorem dX8_dances_62 : decode cX8_dances 62 = .ok (.aload_n 0, 1) := dk_42 (dk_at dksX8_dances_2 16 rfl rfl)
theorem dX8_dances_63 : decode cX8_dances 63 = .ok (.getfield 68, 3) := dk_180 0 68 (dk_at dksX8_dances_2 17 rfl rfl)
theorem dX8_dances_66 : decode cX8_dances 66 = .ok (.iload 9, 2) := dk_21 9 (dk_at dksX8_dances_2 20 rfl rfl)
theorem dX8_dances_68 : decode cX8_dances 68 = .ok (.iconst (-1), 1) := dk_2 (dk_at dksX8_dances_2 22 rfl rfl)
theorem dX8_dances_69 : decode cX8_dances 69 = .ok (.iastore, 1) := dk_79 (dk_at dksX8_dances_2 23 rfl rfl)
theorem dX8_dances_70 : decode cX8_dances 70 = .ok (.iload 6, 2) := dk_21 6 (dk_at dksX8_dances_3 0 rfl rfl)
theorem dX8_dances_72 : decode cX8_dances 72 = .ok (.ifCond .eq 165, 3) := dk_153 0 165 (dk_at dksX8_dances_3 2 rfl rfl)
theorem dX8_dances_75 : decode cX8_dances 75 = .ok (.aload_n 0, 1) := dk_42 (dk_at dksX8_dances_3 5 rfl rfl)
theorem dX8_dances_76 : decode cX8_dances 76 = .ok (.getfield 46, 3) := dk_180 0 46 (dk_at dksX8_dances_3 6 rfl rfl)
theorem dX8_dances_79 : decode cX8_dances 79 = .ok (.iload 8, 2) := dk_21 8 (dk_at dksX8_dances_3 9 rfl rfl)
theorem dX8_dances_81 : decode cX8_dances 81 = .ok (.baload, 1) := dk_51 (dk_at dksX8_dances_3 11 rfl rfl)
theorem dX8_dances_82 : decode cX8_dances 82 = .ok (.ifCond .eq 6, 3) := dk_153 0 6 (dk_at dksX8_dances_3 12 rfl rfl)
theorem dX8_dances_85 : decode cX8_dances 85 = .ok (.goto 152, 3) := dk_167 0 152 (dk_at dksX8_dances_3 15 rfl rfl)
theorem dX8_dances_88 : decode cX8_dances 88 = .ok (.aload_n 0, 1) := dk_42 (dk_at dksX8_dances_3 18 rfl rfl)
theorem dX8_dances_89 : decode cX8_dances 89 = .ok (.getfield 37, 3) := dk_180 0 37 (dk_at dksX8_dances_3 19 rfl rfl)
theorem dX8_dances_92 : decode cX8_dances 92 = .ok (.bipush 12, 2) := dk_16 12 (dk_at dksX8_dances_3 22 rfl rfl)
theorem dX8_dances_94 : decode cX8_dances 94 = .ok (.iload_n 1, 1) := dk_27 (dk_at dksX8_dances_4 0 rfl rfl)
theorem dX8_dances_95 : decode cX8_dances 95 = .ok (.imul, 1) := dk_104 (dk_at dksX8_dances_4 1 rfl rfl)
theorem dX8_dances_96 : decode cX8_dances 96 = .ok (.iload 7, 2) := dk_21 7 (dk_at dksX8_dances_4 2 rfl rfl)
theorem dX8_dances_98 : decode cX8_dances 98 = .ok (.iadd, 1) := dk_96 (dk_at dksX8_dances_4 4 rfl rfl)
theorem dX8_dances_99 : decode cX8_dances 99 = .ok (.iaload, 1) := dk_46 (dk_at dksX8_dances_4 5 rfl rfl)
theorem dX8_dances_100 : decode cX8_dances 100 = .ok (.istore 10, 2) := dk_54 10 (dk_at dksX8_dances_4 6 rfl rfl)
theorem dX8_dances_102 : decode cX8_dances 102 = .ok (.iconst 0, 1) := dk_3 (dk_at dksX8_dances_4 8 rfl rfl)
theorem dX8_dances_103 : decode cX8_dances 103 = .ok (.istore 11, 2) := dk_54 11 (dk_at dksX8_dances_4 9 rfl rfl)
theorem dX8_dances_105 : decode cX8_dances 105 = .ok (.iload 8, 2) := dk_21 8 (dk_at dksX8_dances_4 11 rfl rfl)
theorem dX8_dances_107 : decode cX8_dances 107 = .ok (.iload_n 3, 1) := dk_29 (dk_at dksX8_dances_4 13 rfl rfl)
theorem dX8_dances_108 : decode cX8_dances 108 = .ok (.if_icmp .ne 11, 3) := dk_160 0 11 (dk_at dksX8_dances_4 14 rfl rfl)
theorem dX8_dances_111 : decode cX8_dances 111 = .ok (.iload 4, 2) := dk_21 4 (dk_at dksX8_dances_4 17 rfl rfl)
theorem dX8_dances_113 : decode cX8_dances 113 = .ok (.istore 10, 2) := dk_54 10 (dk_at dksX8_dances_4 19 rfl rfl)
theorem dX8_dances_115 : decode cX8_dances 115 = .ok (.iload 5, 2) := dk_21 5 (dk_at dksX8_dances_4 21 rfl rfl)
theorem dX8_dances_117 : decode cX8_dances 117 = .ok (.istore 11, 2) := dk_54 11 (dk_at dksX8_dances_5 0 rfl rfl)
theorem dX8_dances_119 : decode cX8_dances 119 = .ok (.iconst 0, 1) := dk_3 (dk_at dksX8_dances_5 2 rfl rfl)
theorem dX8_dances_120 : decode cX8_dances 120 = .ok (.istore 12, 2) := dk_54 12 (dk_at dksX8_dances_5 3 rfl rfl)
theorem dX8_dances_122 : decode cX8_dances 122 = .ok (.iload 12, 2) := dk_21 12 (dk_at dksX8_dances_5 5 rfl rfl)
theorem dX8_dances_124 : decode cX8_dances 124 = .ok (.aload_n 0, 1) := dk_42 (dk_at dksX8_dances_5 7 rfl rfl)
theorem dX8_dances_125 : decode cX8_dances 125 = .ok (.getfield 34, 3) := dk_180 0 34 (dk_at dksX8_dances_5 8 rfl rfl)
theorem dX8_dances_128 : decode cX8_dances 128 = .ok (.bipush 7, 2) := dk_16 7 (dk_at dksX8_dances_5 11 rfl rfl)
theorem dX8_dances_130 : decode cX8_dances 130 = .ok (.iaload, 1) := dk_46 (dk_at dksX8_dances_5 13 rfl rfl)
theorem dX8_dances_131 : decode cX8_dances 131 = .ok (.if_icmp .ge 79, 3) := dk_162 0 79 (dk_at dksX8_dances_5 14 rfl rfl)
theorem dX8_dances_134 : decode cX8_dances 134 = .ok (.iload_n 2, 1) := dk_28 (dk_at dksX8_dances_5 17 rfl rfl)
theorem dX8_dances_135 : decode cX8_dances 135 = .ok (.bipush 99, 2) := dk_16 99 (dk_at dksX8_dances_5 18 rfl rfl)
theorem dX8_dances_137 : decode cX8_dances 137 = .ok (.if_icmp .eq 73, 3) := dk_159 0 73 (dk_at dksX8_dances_5 20 rfl rfl)
theorem dX8_dances_140 : decode cX8_dances 140 = .ok (.iload 12, 2) := dk_21 12 (dk_at dksX8_dances_6 0 rfl rfl)
theorem dX8_dances_142 : decode cX8_dances 142 = .ok (.iload_n 2, 1) := dk_28 (dk_at dksX8_dances_6 2 rfl rfl)
theorem dX8_dances_143 : decode cX8_dances 143 = .ok (.if_icmp .eq 61, 3) := dk_159 0 61 (dk_at dksX8_dances_6 3 rfl rfl)
theorem dX8_dances_146 : decode cX8_dances 146 = .ok (.aload_n 0, 1) := dk_42 (dk_at dksX8_dances_6 6 rfl rfl)
theorem dX8_dances_147 : decode cX8_dances 147 = .ok (.getfield 43, 3) := dk_180 0 43 (dk_at dksX8_dances_6 7 rfl rfl)
theorem dX8_dances_150 : decode cX8_dances 150 = .ok (.iconst 4, 1) := dk_7 (dk_at dksX8_dances_6 10 rfl rfl)
theorem dX8_dances_151 : decode cX8_dances 151 = .ok (.iload 12, 2) := dk_21 12 (dk_at dksX8_dances_6 11 rfl rfl)
theorem dX8_dances_153 : decode cX8_dances 153 = .ok (.imul, 1) := dk_104 (dk_at dksX8_dances_6 13 rfl rfl)
theorem dX8_dances_154 : decode cX8_dances 154 = .ok (.iaload, 1) := dk_46 (dk_at dksX8_dances_6 14 rfl rfl)
theorem dX8_dances_155 : decode cX8_dances 155 = .ok (.iload_n 1, 1) := dk_27 (dk_at dksX8_dances_6 15 rfl rfl)
theorem dX8_dances_156 : decode cX8_dances 156 = .ok (.if_icmp .ne 48, 3) := dk_160 0 48 (dk_at dksX8_dances_6 16 rfl rfl)
theorem dX8_dances_159 : decode cX8_dances 159 = .ok (.aload_n 0, 1) := dk_42 (dk_at dksX8_dances_6 19 rfl rfl)
theorem dX8_dances_160 : decode cX8_dances 160 = .ok (.getfield 43, 3) := dk_180 0 43 (dk_at dksX8_dances_6 20 rfl rfl)
theorem dX8_dances_163 : decode cX8_dances 163 = .ok (.iconst 4, 1) := dk_7 (dk_at dksX8_dances_6 23 rfl rfl)
theorem dX8_dances_164 : decode cX8_dances 164 = .ok (.iload 12, 2) := dk_21 12 (dk_at dksX8_dances_7 0 rfl rfl)
theorem dX8_dances_166 : decode cX8_dances 166 = .ok (.imul, 1) := dk_104 (dk_at dksX8_dances_7 2 rfl rfl)
theorem dX8_dances_167 : decode cX8_dances 167 = .ok (.iconst 1, 1) := dk_4 (dk_at dksX8_dances_7 3 rfl rfl)
theorem dX8_dances_168 : decode cX8_dances 168 = .ok (.iadd, 1) := dk_96 (dk_at dksX8_dances_7 4 rfl rfl)
theorem dX8_dances_169 : decode cX8_dances 169 = .ok (.iaload, 1) := dk_46 (dk_at dksX8_dances_7 5 rfl rfl)
theorem dX8_dances_170 : decode cX8_dances 170 = .ok (.iload 8, 2) := dk_21 8 (dk_at dksX8_dances_7 6 rfl rfl)
theorem dX8_dances_172 : decode cX8_dances 172 = .ok (.if_icmp .eq 6, 3) := dk_159 0 6 (dk_at dksX8_dances_7 8 rfl rfl)
theorem dX8_dances_175 : decode cX8_dances 175 = .ok (.goto 29, 3) := dk_167 0 29 (dk_at dksX8_dances_7 11 rfl rfl)
theorem dX8_dances_178 : decode cX8_dances 178 = .ok (.aload_n 0, 1) := dk_42 (dk_at dksX8_dances_7 14 rfl rfl)
theorem dX8_dances_179 : decode cX8_dances 179 = .ok (.getfield 43, 3) := dk_180 0 43 (dk_at dksX8_dances_7 15 rfl rfl)
theorem dX8_dances_182 : decode cX8_dances 182 = .ok (.iconst 4, 1) := dk_7 (dk_at dksX8_dances_7 18 rfl rfl)
theorem dX8_dances_183 : decode cX8_dances 183 = .ok (.iload 12, 2) := dk_21 12 (dk_at dksX8_dances_7 19 rfl rfl)
theorem dX8_dances_185 : decode cX8_dances 185 = .ok (.imul, 1) := dk_104 (dk_at dksX8_dances_7 21 rfl rfl)
theorem dX8_dances_186 : decode cX8_dances 186 = .ok (.iconst 2, 1) := dk_5 (dk_at dksX8_dances_7 22 rfl rfl)
theorem dX8_dances_187 : decode cX8_dances 187 = .ok (.iadd, 1) := dk_96 (dk_at dksX8_dances_7 23 rfl rfl)
theorem dX8_dances_188 : decode cX8_dances 188 = .ok (.iaload, 1) := dk_46 (dk_at dksX8_dances_8 0 rfl rfl)
theorem dX8_dances_189 : decode cX8_dances 189 = .ok (.istore 10, 2) := dk_54 10 (dk_at dksX8_dances_8 1 rfl rfl)
theorem dX8_dances_191 : decode cX8_dances 191 = .ok (.aload_n 0, 1) := dk_42 (dk_at dksX8_dances_8 3 rfl rfl)
theorem dX8_dances_192 : decode cX8_dances 192 = .ok (.getfield 43, 3) := dk_180 0 43 (dk_at dksX8_dances_8 4 rfl rfl)
theorem dX8_dances_195 : decode cX8_dances 195 = .ok (.iconst 4, 1) := dk_7 (dk_at dksX8_dances_8 7 rfl rfl)
theorem dX8_dances_196 : decode cX8_dances 196 = .ok (.iload 12, 2) := dk_21 12 (dk_at dksX8_dances_8 8 rfl rfl)
theorem dX8_dances_198 : decode cX8_dances 198 = .ok (.imul, 1) := dk_104 (dk_at dksX8_dances_8 10 rfl rfl)
theorem dX8_dances_199 : decode cX8_dances 199 = .ok (.iconst 3, 1) := dk_6 (dk_at dksX8_dances_8 11 rfl rfl)
theorem dX8_dances_200 : decode cX8_dances 200 = .ok (.iadd, 1) := dk_96 (dk_at dksX8_dances_8 12 rfl rfl)
theorem dX8_dances_201 : decode cX8_dances 201 = .ok (.iaload, 1) := dk_46 (dk_at dksX8_dances_8 13 rfl rfl)
theorem dX8_dances_202 : decode cX8_dances 202 = .ok (.istore 11, 2) := dk_54 11 (dk_at dksX8_dances_8 14 rfl rfl)
theorem dX8_dances_204 : decode cX8_dances 204 = .ok (.iinc 12 1, 3) := dk_132 12 1 (dk_at dksX8_dances_8 16 rfl rfl)
theorem dX8_dances_207 : decode cX8_dances 207 = .ok (.goto (-85), 3) := dk_167 255 171 (dk_at dksX8_dances_8 19 rfl rfl)
theorem dX8_dances_210 : decode cX8_dances 210 = .ok (.aload_n 0, 1) := dk_42 (dk_at dksX8_dances_8 22 rfl rfl)
theorem dX8_dances_211 : decode cX8_dances 211 = .ok (.getfield 68, 3) := dk_180 0 68 (dk_at dksX8_dances_9 0 rfl rfl)
theorem dX8_dances_214 : decode cX8_dances 214 = .ok (.iload 9, 2) := dk_21 9 (dk_at dksX8_dances_9 3 rfl rfl)
theorem dX8_dances_216 : decode cX8_dances 216 = .ok (.iload 10, 2) := dk_21 10 (dk_at dksX8_dances_9 5 rfl rfl)
theorem dX8_dances_218 : decode cX8_dances 218 = .ok (.iastore, 1) := dk_79 (dk_at dksX8_dances_9 7 rfl rfl)
theorem dX8_dances_219 : decode cX8_dances 219 = .ok (.iload 7, 2) := dk_21 7 (dk_at dksX8_dances_9 8 rfl rfl)
theorem dX8_dances_221 : decode cX8_dances 221 = .ok (.iconst 1, 1) := dk_4 (dk_at dksX8_dances_9 10 rfl rfl)
theorem dX8_dances_222 : decode cX8_dances 222 = .ok (.iadd, 1) := dk_96 (dk_at dksX8_dances_9 11 rfl rfl)
theorem dX8_dances_223 : decode cX8_dances 223 = .ok (.iload 11, 2) := dk_21 11 (dk_at dksX8_dances_9 12 rfl rfl)
theorem dX8_dances_225 : decode cX8_dances 225 = .ok (.isub, 1) := dk_100 (dk_at dksX8_dances_9 14 rfl rfl)
theorem dX8_dances_226 : decode cX8_dances 226 = .ok (.iload 6, 2) := dk_21 6 (dk_at dksX8_dances_9 15 rfl rfl)
theorem dX8_dances_228 : decode cX8_dances 228 = .ok (.irem, 1) := dk_112 (dk_at dksX8_dances_9 17 rfl rfl)
theorem dX8_dances_229 : decode cX8_dances 229 = .ok (.iload 6, 2) := dk_21 6 (dk_at dksX8_dances_9 18 rfl rfl)
theorem dX8_dances_231 : decode cX8_dances 231 = .ok (.iadd, 1) := dk_96 (dk_at dksX8_dances_9 20 rfl rfl)
theorem dX8_dances_232 : decode cX8_dances 232 = .ok (.iload 6, 2) := dk_21 6 (dk_at dksX8_dances_9 21 rfl rfl)
theorem dX8_dances_234 : decode cX8_dances 234 = .ok (.irem, 1) := dk_112 (dk_at dksX8_dances_9 23 rfl rfl)
theorem dX8_dances_235 : decode cX8_dances 235 = .ok (.istore 7, 2) := dk_54 7 (dk_at dksX8_dances_10 0 rfl rfl)
theorem dX8_dances_237 : decode cX8_dances 237 = .ok (.iinc 8 1, 3) := dk_132 8 1 (dk_at dksX8_dances_10 2 rfl rfl)
theorem dX8_dances_240 : decode cX8_dances 240 = .ok (.goto (-220), 3) := dk_167 255 36 (dk_at dksX8_dances_10 5 rfl rfl)
theorem dX8_dances_243 : decode cX8_dances 243 = .ok (.return_, 1) := dk_177 (dk_at dksX8_dances_10 8 rfl rfl)
abbrev cX8_danced : ByteArray := prog_13_method_58_code
def yX8_danced : MethodName := ⟨RX8, "danced", "(II)I"⟩
def dkwX8_danced_1 : List UInt8 := [42, 182, 1, 34, 42, 180, 0, 68, 17, 0, 200, 27, 104, 28, 96, 46, 172]
abbrev dktX8_danced_1 : List UInt8 := dkwX8_danced_1 ++ []
def dkwX8_danced_0 : List UInt8 := [42, 3, 181, 0, 80, 42, 27, 182, 1, 5, 153, 0, 11, 28, 133, 184, 1, 14, 154, 0, 6, 16, 254, 172]
abbrev dktX8_danced_0 : List UInt8 := dkwX8_danced_0 ++ dktX8_danced_1
theorem dksX8_danced_0 : cX8_danced.data.toList.drop 0 = dktX8_danced_0 := by decide +kernel
theorem dksX8_danced_1 : cX8_danced.data.toList.drop 24 = dktX8_danced_1 := dk_seg dksX8_danced_0 24 rfl rfl
theorem dX8_danced_0 : decode cX8_danced 0 = .ok (.aload_n 0, 1) := dk_42 (dk_at dksX8_danced_0 0 rfl rfl)
theorem dX8_danced_1 : decode cX8_danced 1 = .ok (.iconst 0, 1) := dk_3 (dk_at dksX8_danced_0 1 rfl rfl)
theorem dX8_danced_2 : decode cX8_danced 2 = .ok (.putfield 80, 3) := dk_181 0 80 (dk_at dksX8_danced_0 2 rfl rfl)
theorem dX8_danced_5 : decode cX8_danced 5 = .ok (.aload_n 0, 1) := dk_42 (dk_at dksX8_danced_0 5 rfl rfl)
theorem dX8_danced_6 : decode cX8_danced 6 = .ok (.iload_n 1, 1) := dk_27 (dk_at dksX8_danced_0 6 rfl rfl)
theorem dX8_danced_7 : decode cX8_danced 7 = .ok (.invokevirtual 261, 3) := dk_182 1 5 (dk_at dksX8_danced_0 7 rfl rfl)
theorem dX8_danced_10 : decode cX8_danced 10 = .ok (.ifCond .eq 11, 3) := dk_153 0 11 (dk_at dksX8_danced_0 10 rfl rfl)
theorem dX8_danced_13 : decode cX8_danced 13 = .ok (.iload_n 2, 1) := dk_28 (dk_at dksX8_danced_0 13 rfl rfl)
theorem dX8_danced_14 : decode cX8_danced 14 = .ok (.i2l, 1) := dk_133 (dk_at dksX8_danced_0 14 rfl rfl)
theorem dX8_danced_15 : decode cX8_danced 15 = .ok (.invokestatic 270, 3) := dk_184 1 14 (dk_at dksX8_danced_0 15 rfl rfl)
theorem dX8_danced_18 : decode cX8_danced 18 = .ok (.ifCond .ne 6, 3) := dk_154 0 6 (dk_at dksX8_danced_0 18 rfl rfl)
theorem dX8_danced_21 : decode cX8_danced 21 = .ok (.bipush (-2), 2) := dk_16 254 (dk_at dksX8_danced_0 21 rfl rfl)
theorem dX8_danced_23 : decode cX8_danced 23 = .ok (.ireturn, 1) := dk_172 (dk_at dksX8_danced_0 23 rfl rfl)
theorem dX8_danced_24 : decode cX8_danced 24 = .ok (.aload_n 0, 1) := dk_42 (dk_at dksX8_danced_1 0 rfl rfl)
theorem dX8_danced_25 : decode cX8_danced 25 = .ok (.invokevirtual 290, 3) := dk_182 1 34 (dk_at dksX8_danced_1 1 rfl rfl)
theorem dX8_danced_28 : decode cX8_danced 28 = .ok (.aload_n 0, 1) := dk_42 (dk_at dksX8_danced_1 4 rfl rfl)
theorem dX8_danced_29 : decode cX8_danced 29 = .ok (.getfield 68, 3) := dk_180 0 68 (dk_at dksX8_danced_1 5 rfl rfl)
theorem dX8_danced_32 : decode cX8_danced 32 = .ok (.sipush 200, 3) := dk_17 0 200 (dk_at dksX8_danced_1 8 rfl rfl)
theorem dX8_danced_35 : decode cX8_danced 35 = .ok (.iload_n 1, 1) := dk_27 (dk_at dksX8_danced_1 11 rfl rfl)
theorem dX8_danced_36 : decode cX8_danced 36 = .ok (.imul, 1) := dk_104 (dk_at dksX8_danced_1 12 rfl rfl)
theorem dX8_danced_37 : decode cX8_danced 37 = .ok (.iload_n 2, 1) := dk_28 (dk_at dksX8_danced_1 13 rfl rfl)
theorem dX8_danced_38 : decode cX8_danced 38 = .ok (.iadd, 1) := dk_96 (dk_at dksX8_danced_1 14 rfl rfl)
theorem dX8_danced_39 : decode cX8_danced 39 = .ok (.iaload, 1) := dk_46 (dk_at dksX8_danced_1 15 rfl rfl)
theorem dX8_danced_40 : decode cX8_danced 40 = .ok (.ireturn, 1) := dk_172 (dk_at dksX8_danced_1 16 rfl rfl)
abbrev cX8_hears : ByteArray := prog_13_method_59_code
def yX8_hears : MethodName := ⟨RX8, "hears", "(II)I"⟩
def dkwX8_hears_1 : List UInt8 := [42, 182, 1, 34, 42, 27, 28, 182, 1, 28, 172]
abbrev dktX8_hears_1 : List UInt8 := dkwX8_hears_1 ++ []
def dkwX8_hears_0 : List UInt8 := [42, 3, 181, 0, 80, 42, 27, 182, 1, 5, 153, 0, 11, 28, 133, 184, 1, 14, 154, 0, 6, 16, 254, 172]
abbrev dktX8_hears_0 : List UInt8 := dkwX8_hears_0 ++ dktX8_hears_1
theorem dksX8_hears_0 : cX8_hears.data.toList.drop 0 = dktX8_hears_0 := by decide +kernel
theorem dksX8_hears_1 : cX8_hears.data.toList.drop 24 = dktX8_hears_1 := dk_seg dksX8_hears_0 24 rfl rfl
theorem dX8_hears_0 : decode cX8_hears 0 = .ok (.aload_n 0, 1) := dk_42 (dk_at dksX8_hears_0 0 rfl rfl)
theorem dX8_hears_1 : decode cX8_hears 1 = .ok (.iconst 0, 1) := dk_3 (dk_at dksX8_hears_0 1 rfl rfl)
theorem dX8_hears_2 : decode cX8_hears 2 = .ok (.putfield 80, 3) := dk_181 0 80 (dk_at dksX8_hears_0 2 rfl rfl)
theorem dX8_hears_5 : decode cX8_hears 5 = .ok (.aload_n 0, 1) := dk_42 (dk_at dksX8_hears_0 5 rfl rfl)
theorem dX8_hears_6 : decode cX8_hears 6 = .ok (.iload_n 1, 1) := dk_27 (dk_at dksX8_hears_0 6 rfl rfl)
theorem dX8_hears_7 : decode cX8_hears 7 = .ok (.invokevirtual 261, 3) := dk_182 1 5 (dk_at dksX8_hears_0 7 rfl rfl)
theorem dX8_hears_10 : decode cX8_hears 10 = .ok (.ifCond .eq 11, 3) := dk_153 0 11 (dk_at dksX8_hears_0 10 rfl rfl)
theorem dX8_hears_13 : decode cX8_hears 13 = .ok (.iload_n 2, 1) := dk_28 (dk_at dksX8_hears_0 13 rfl rfl)
theorem dX8_hears_14 : decode cX8_hears 14 = .ok (.i2l, 1) := dk_133 (dk_at dksX8_hears_0 14 rfl rfl)
theorem dX8_hears_15 : decode cX8_hears 15 = .ok (.invokestatic 270, 3) := dk_184 1 14 (dk_at dksX8_hears_0 15 rfl rfl)
theorem dX8_hears_18 : decode cX8_hears 18 = .ok (.ifCond .ne 6, 3) := dk_154 0 6 (dk_at dksX8_hears_0 18 rfl rfl)
theorem dX8_hears_21 : decode cX8_hears 21 = .ok (.bipush (-2), 2) := dk_16 254 (dk_at dksX8_hears_0 21 rfl rfl)
theorem dX8_hears_23 : decode cX8_hears 23 = .ok (.ireturn, 1) := dk_172 (dk_at dksX8_hears_0 23 rfl rfl)
theorem dX8_hears_24 : decode cX8_hears 24 = .ok (.aload_n 0, 1) := dk_42 (dk_at dksX8_hears_1 0 rfl rfl)
theorem dX8_hears_25 : decode cX8_hears 25 = .ok (.invokevirtual 290, 3) := dk_182 1 34 (dk_at dksX8_hears_1 1 rfl rfl)
theorem dX8_hears_28 : decode cX8_hears 28 = .ok (.aload_n 0, 1) := dk_42 (dk_at dksX8_hears_1 4 rfl rfl)
theorem dX8_hears_29 : decode cX8_hears 29 = .ok (.iload_n 1, 1) := dk_27 (dk_at dksX8_hears_1 5 rfl rfl)
theorem dX8_hears_30 : decode cX8_hears 30 = .ok (.iload_n 2, 1) := dk_28 (dk_at dksX8_hears_1 6 rfl rfl)
theorem dX8_hears_31 : decode cX8_hears 31 = .ok (.invokevirtual 284, 3) := dk_182 1 28 (dk_at dksX8_hears_1 7 rfl rfl)
theorem dX8_hears_34 : decode cX8_hears 34 = .ok (.ireturn, 1) := dk_172 (dk_at dksX8_hears_1 10 rfl rfl)
abbrev cX8_hearsAt : ByteArray := prog_13_method_54_code
def yX8_hearsAt : MethodName := ⟨RX8, "hearsAt", "(II)I"⟩
def dkwX8_hearsAt_1 : List UInt8 := [104, 28, 96, 42, 180, 0, 34, 3, 46, 100, 46, 172]
abbrev dktX8_hearsAt_1 : List UInt8 := dkwX8_hearsAt_1 ++ []
def dkwX8_hearsAt_0 : List UInt8 := [28, 42, 180, 0, 34, 3, 46, 162, 0, 7, 2, 167, 0, 24, 42, 180, 0, 68, 17, 0, 200, 4, 27, 100]
abbrev dktX8_hearsAt_0 : List UInt8 := dkwX8_hearsAt_0 ++ dktX8_hearsAt_1
theorem dksX8_hearsAt_0 : cX8_hearsAt.data.toList.drop 0 = dktX8_hearsAt_0 := by decide +kernel
theorem dksX8_hearsAt_1 : cX8_hearsAt.data.toList.drop 24 = dktX8_hearsAt_1 := dk_seg dksX8_hearsAt_0 24 rfl rfl
theorem dX8_hearsAt_0 : decode cX8_hearsAt 0 = .ok (.iload_n 2, 1) := dk_28 (dk_at dksX8_hearsAt_0 0 rfl rfl)
theorem dX8_hearsAt_1 : decode cX8_hearsAt 1 = .ok (.aload_n 0, 1) := dk_42 (dk_at dksX8_hearsAt_0 1 rfl rfl)
theorem dX8_hearsAt_2 : decode cX8_hearsAt 2 = .ok (.getfield 34, 3) := dk_180 0 34 (dk_at dksX8_hearsAt_0 2 rfl rfl)
theorem dX8_hearsAt_5 : decode cX8_hearsAt 5 = .ok (.iconst 0, 1) := dk_3 (dk_at dksX8_hearsAt_0 5 rfl rfl)
theorem dX8_hearsAt_6 : decode cX8_hearsAt 6 = .ok (.iaload, 1) := dk_46 (dk_at dksX8_hearsAt_0 6 rfl rfl)
theorem dX8_hearsAt_7 : decode cX8_hearsAt 7 = .ok (.if_icmp .ge 7, 3) := dk_162 0 7 (dk_at dksX8_hearsAt_0 7 rfl rfl)
theorem dX8_hearsAt_10 : decode cX8_hearsAt 10 = .ok (.iconst (-1), 1) := dk_2 (dk_at dksX8_hearsAt_0 10 rfl rfl)
theorem dX8_hearsAt_11 : decode cX8_hearsAt 11 = .ok (.goto 24, 3) := dk_167 0 24 (dk_at dksX8_hearsAt_0 11 rfl rfl)
theorem dX8_hearsAt_14 : decode cX8_hearsAt 14 = .ok (.aload_n 0, 1) := dk_42 (dk_at dksX8_hearsAt_0 14 rfl rfl)
theorem dX8_hearsAt_15 : decode cX8_hearsAt 15 = .ok (.getfield 68, 3) := dk_180 0 68 (dk_at dksX8_hearsAt_0 15 rfl rfl)
theorem dX8_hearsAt_18 : decode cX8_hearsAt 18 = .ok (.sipush 200, 3) := dk_17 0 200 (dk_at dksX8_hearsAt_0 18 rfl rfl)
theorem dX8_hearsAt_21 : decode cX8_hearsAt 21 = .ok (.iconst 1, 1) := dk_4 (dk_at dksX8_hearsAt_0 21 rfl rfl)
theorem dX8_hearsAt_22 : decode cX8_hearsAt 22 = .ok (.iload_n 1, 1) := dk_27 (dk_at dksX8_hearsAt_0 22 rfl rfl)
theorem dX8_hearsAt_23 : decode cX8_hearsAt 23 = .ok (.isub, 1) := dk_100 (dk_at dksX8_hearsAt_0 23 rfl rfl)
theorem dX8_hearsAt_24 : decode cX8_hearsAt 24 = .ok (.imul, 1) := dk_104 (dk_at dksX8_hearsAt_1 0 rfl rfl)
theorem dX8_hearsAt_25 : decode cX8_hearsAt 25 = .ok (.iload_n 2, 1) := dk_28 (dk_at dksX8_hearsAt_1 1 rfl rfl)
theorem dX8_hearsAt_26 : decode cX8_hearsAt 26 = .ok (.iadd, 1) := dk_96 (dk_at dksX8_hearsAt_1 2 rfl rfl)
theorem dX8_hearsAt_27 : decode cX8_hearsAt 27 = .ok (.aload_n 0, 1) := dk_42 (dk_at dksX8_hearsAt_1 3 rfl rfl)
theorem dX8_hearsAt_28 : decode cX8_hearsAt 28 = .ok (.getfield 34, 3) := dk_180 0 34 (dk_at dksX8_hearsAt_1 4 rfl rfl)
theorem dX8_hearsAt_31 : decode cX8_hearsAt 31 = .ok (.iconst 0, 1) := dk_3 (dk_at dksX8_hearsAt_1 7 rfl rfl)
theorem dX8_hearsAt_32 : decode cX8_hearsAt 32 = .ok (.iaload, 1) := dk_46 (dk_at dksX8_hearsAt_1 8 rfl rfl)
theorem dX8_hearsAt_33 : decode cX8_hearsAt 33 = .ok (.isub, 1) := dk_100 (dk_at dksX8_hearsAt_1 9 rfl rfl)
theorem dX8_hearsAt_34 : decode cX8_hearsAt 34 = .ok (.iaload, 1) := dk_46 (dk_at dksX8_hearsAt_1 10 rfl rfl)
theorem dX8_hearsAt_35 : decode cX8_hearsAt 35 = .ok (.ireturn, 1) := dk_172 (dk_at dksX8_hearsAt_1 11 rfl rfl)
abbrev cX8_late : ByteArray := prog_13_method_60_code
def yX8_late : MethodName := ⟨RX8, "late", "(II)I"⟩
def dkwX8_late_2 : List UInt8 := [28, 96, 42, 180, 0, 65, 17, 0, 201, 27, 104, 28, 96, 46, 100, 29, 112, 29, 96, 29, 112, 172]
abbrev dktX8_late_2 : List UInt8 := dkwX8_late_2 ++ []
def dkwX8_late_1 : List UInt8 := [42, 27, 182, 1, 8, 62, 29, 154, 0, 5, 2, 172, 42, 182, 1, 34, 42, 180, 0, 34, 8, 27, 96, 46]
abbrev dktX8_late_1 : List UInt8 := dkwX8_late_1 ++ dktX8_late_2
def dkwX8_late_0 : List UInt8 := [42, 3, 181, 0, 80, 42, 27, 182, 1, 5, 153, 0, 11, 28, 133, 184, 1, 14, 154, 0, 6, 16, 254, 172]
abbrev dktX8_late_0 : List UInt8 := dkwX8_late_0 ++ dktX8_late_1
theorem dksX8_late_0 : cX8_late.data.toList.drop 0 = dktX8_late_0 := by decide +kernel
theorem dksX8_late_1 : cX8_late.data.toList.drop 24 = dktX8_late_1 := dk_seg dksX8_late_0 24 rfl rfl
theorem dksX8_late_2 : cX8_late.data.toList.drop 48 = dktX8_late_2 := dk_seg dksX8_late_1 24 rfl rfl
theorem dX8_late_0 : decode cX8_late 0 = .ok (.aload_n 0, 1) := dk_42 (dk_at dksX8_late_0 0 rfl rfl)
theorem dX8_late_1 : decode cX8_late 1 = .ok (.iconst 0, 1) := dk_3 (dk_at dksX8_late_0 1 rfl rfl)
theorem dX8_late_2 : decode cX8_late 2 = .ok (.putfield 80, 3) := dk_181 0 80 (dk_at dksX8_late_0 2 rfl rfl)
theorem dX8_late_5 : decode cX8_late 5 = .ok (.aload_n 0, 1) := dk_42 (dk_at dksX8_late_0 5 rfl rfl)
theorem dX8_late_6 : decode cX8_late 6 = .ok (.iload_n 1, 1) := dk_27 (dk_at dksX8_late_0 6 rfl rfl)
theorem dX8_late_7 : decode cX8_late 7 = .ok (.invokevirtual 261, 3) := dk_182 1 5 (dk_at dksX8_late_0 7 rfl rfl)
theorem dX8_late_10 : decode cX8_late 10 = .ok (.ifCond .eq 11, 3) := dk_153 0 11 (dk_at dksX8_late_0 10 rfl rfl)
theorem dX8_late_13 : decode cX8_late 13 = .ok (.iload_n 2, 1) := dk_28 (dk_at dksX8_late_0 13 rfl rfl)
theorem dX8_late_14 : decode cX8_late 14 = .ok (.i2l, 1) := dk_133 (dk_at dksX8_late_0 14 rfl rfl)
theorem dX8_late_15 : decode cX8_late 15 = .ok (.invokestatic 270, 3) := dk_184 1 14 (dk_at dksX8_late_0 15 rfl rfl)
theorem dX8_late_18 : decode cX8_late 18 = .ok (.ifCond .ne 6, 3) := dk_154 0 6 (dk_at dksX8_late_0 18 rfl rfl)
theorem dX8_late_21 : decode cX8_late 21 = .ok (.bipush (-2), 2) := dk_16 254 (dk_at dksX8_late_0 21 rfl rfl)
theorem dX8_late_23 : decode cX8_late 23 = .ok (.ireturn, 1) := dk_172 (dk_at dksX8_late_0 23 rfl rfl)
theorem dX8_late_24 : decode cX8_late 24 = .ok (.aload_n 0, 1) := dk_42 (dk_at dksX8_late_1 0 rfl rfl)
theorem dX8_late_25 : decode cX8_late 25 = .ok (.iload_n 1, 1) := dk_27 (dk_at dksX8_late_1 1 rfl rfl)
theorem dX8_late_26 : decode cX8_late 26 = .ok (.invokevirtual 264, 3) := dk_182 1 8 (dk_at dksX8_late_1 2 rfl rfl)
theorem dX8_late_29 : decode cX8_late 29 = .ok (.istore_n 3, 1) := dk_62 (dk_at dksX8_late_1 5 rfl rfl)
theorem dX8_late_30 : decode cX8_late 30 = .ok (.iload_n 3, 1) := dk_29 (dk_at dksX8_late_1 6 rfl rfl)
theorem dX8_late_31 : decode cX8_late 31 = .ok (.ifCond .ne 5, 3) := dk_154 0 5 (dk_at dksX8_late_1 7 rfl rfl)
theorem dX8_late_34 : decode cX8_late 34 = .ok (.iconst (-1), 1) := dk_2 (dk_at dksX8_late_1 10 rfl rfl)
theorem dX8_late_35 : decode cX8_late 35 = .ok (.ireturn, 1) := dk_172 (dk_at dksX8_late_1 11 rfl rfl)
theorem dX8_late_36 : decode cX8_late 36 = .ok (.aload_n 0, 1) := dk_42 (dk_at dksX8_late_1 12 rfl rfl)
theorem dX8_late_37 : decode cX8_late 37 = .ok (.invokevirtual 290, 3) := dk_182 1 34 (dk_at dksX8_late_1 13 rfl rfl)
theorem dX8_late_40 : decode cX8_late 40 = .ok (.aload_n 0, 1) := dk_42 (dk_at dksX8_late_1 16 rfl rfl)
theorem dX8_late_41 : decode cX8_late 41 = .ok (.getfield 34, 3) := dk_180 0 34 (dk_at dksX8_late_1 17 rfl rfl)
theorem dX8_late_44 : decode cX8_late 44 = .ok (.iconst 5, 1) := dk_8 (dk_at dksX8_late_1 20 rfl rfl)
theorem dX8_late_45 : decode cX8_late 45 = .ok (.iload_n 1, 1) := dk_27 (dk_at dksX8_late_1 21 rfl rfl)
theorem dX8_late_46 : decode cX8_late 46 = .ok (.iadd, 1) := dk_96 (dk_at dksX8_late_1 22 rfl rfl)
theorem dX8_late_47 : decode cX8_late 47 = .ok (.iaload, 1) := dk_46 (dk_at dksX8_late_1 23 rfl rfl)
theorem dX8_late_48 : decode cX8_late 48 = .ok (.iload_n 2, 1) := dk_28 (dk_at dksX8_late_2 0 rfl rfl)
theorem dX8_late_49 : decode cX8_late 49 = .ok (.iadd, 1) := dk_96 (dk_at dksX8_late_2 1 rfl rfl)
theorem dX8_late_50 : decode cX8_late 50 = .ok (.aload_n 0, 1) := dk_42 (dk_at dksX8_late_2 2 rfl rfl)
theorem dX8_late_51 : decode cX8_late 51 = .ok (.getfield 65, 3) := dk_180 0 65 (dk_at dksX8_late_2 3 rfl rfl)
theorem dX8_late_54 : decode cX8_late 54 = .ok (.sipush 201, 3) := dk_17 0 201 (dk_at dksX8_late_2 6 rfl rfl)
theorem dX8_late_57 : decode cX8_late 57 = .ok (.iload_n 1, 1) := dk_27 (dk_at dksX8_late_2 9 rfl rfl)
theorem dX8_late_58 : decode cX8_late 58 = .ok (.imul, 1) := dk_104 (dk_at dksX8_late_2 10 rfl rfl)
theorem dX8_late_59 : decode cX8_late 59 = .ok (.iload_n 2, 1) := dk_28 (dk_at dksX8_late_2 11 rfl rfl)
theorem dX8_late_60 : decode cX8_late 60 = .ok (.iadd, 1) := dk_96 (dk_at dksX8_late_2 12 rfl rfl)
theorem dX8_late_61 : decode cX8_late 61 = .ok (.iaload, 1) := dk_46 (dk_at dksX8_late_2 13 rfl rfl)
theorem dX8_late_62 : decode cX8_late 62 = .ok (.isub, 1) := dk_100 (dk_at dksX8_late_2 14 rfl rfl)
theorem dX8_late_63 : decode cX8_late 63 = .ok (.iload_n 3, 1) := dk_29 (dk_at dksX8_late_2 15 rfl rfl)
theorem dX8_late_64 : decode cX8_late 64 = .ok (.irem, 1) := dk_112 (dk_at dksX8_late_2 16 rfl rfl)
theorem dX8_late_65 : decode cX8_late 65 = .ok (.iload_n 3, 1) := dk_29 (dk_at dksX8_late_2 17 rfl rfl)
theorem dX8_late_66 : decode cX8_late 66 = .ok (.iadd, 1) := dk_96 (dk_at dksX8_late_2 18 rfl rfl)
theorem dX8_late_67 : decode cX8_late 67 = .ok (.iload_n 3, 1) := dk_29 (dk_at dksX8_late_2 19 rfl rfl)
theorem dX8_late_68 : decode cX8_late 68 = .ok (.irem, 1) := dk_112 (dk_at dksX8_late_2 20 rfl rfl)
theorem dX8_late_69 : decode cX8_late 69 = .ok (.ireturn, 1) := dk_172 (dk_at dksX8_late_2 21 rfl rfl)
abbrev cX8_hole : ByteArray := prog_13_method_61_code
def yX8_hole : MethodName := ⟨RX8, "hole", "(II)I"⟩
def dkwX8_hole_1 : List UInt8 := [42, 182, 1, 34, 42, 27, 28, 182, 1, 37, 153, 0, 7, 4, 167, 0, 4, 3, 172]
abbrev dktX8_hole_1 : List UInt8 := dkwX8_hole_1 ++ []
def dkwX8_hole_0 : List UInt8 := [42, 3, 181, 0, 80, 42, 27, 182, 1, 5, 153, 0, 11, 28, 133, 184, 1, 14, 154, 0, 6, 16, 254, 172]
abbrev dktX8_hole_0 : List UInt8 := dkwX8_hole_0 ++ dktX8_hole_1
theorem dksX8_hole_0 : cX8_hole.data.toList.drop 0 = dktX8_hole_0 := by decide +kernel
theorem dksX8_hole_1 : cX8_hole.data.toList.drop 24 = dktX8_hole_1 := dk_seg dksX8_hole_0 24 rfl rfl
theorem dX8_hole_0 : decode cX8_hole 0 = .ok (.aload_n 0, 1) := dk_42 (dk_at dksX8_hole_0 0 rfl rfl)
theorem dX8_hole_1 : decode cX8_hole 1 = .ok (.iconst 0, 1) := dk_3 (dk_at dksX8_hole_0 1 rfl rfl)
theorem dX8_hole_2 : decode cX8_hole 2 = .ok (.putfield 80, 3) := dk_181 0 80 (dk_at dksX8_hole_0 2 rfl rfl)
theorem dX8_hole_5 : decode cX8_hole 5 = .ok (.aload_n 0, 1) := dk_42 (dk_at dksX8_hole_0 5 rfl rfl)
theorem dX8_hole_6 : decode cX8_hole 6 = .ok (.iload_n 1, 1) := dk_27 (dk_at dksX8_hole_0 6 rfl rfl)
theorem dX8_hole_7 : decode cX8_hole 7 = .ok (.invokevirtual 261, 3) := dk_182 1 5 (dk_at dksX8_hole_0 7 rfl rfl)
theorem dX8_hole_10 : decode cX8_hole 10 = .ok (.ifCond .eq 11, 3) := dk_153 0 11 (dk_at dksX8_hole_0 10 rfl rfl)
theorem dX8_hole_13 : decode cX8_hole 13 = .ok (.iload_n 2, 1) := dk_28 (dk_at dksX8_hole_0 13 rfl rfl)
theorem dX8_hole_14 : decode cX8_hole 14 = .ok (.i2l, 1) := dk_133 (dk_at dksX8_hole_0 14 rfl rfl)
theorem dX8_hole_15 : decode cX8_hole 15 = .ok (.invokestatic 270, 3) := dk_184 1 14 (dk_at dksX8_hole_0 15 rfl rfl)
theorem dX8_hole_18 : decode cX8_hole 18 = .ok (.ifCond .ne 6, 3) := dk_154 0 6 (dk_at dksX8_hole_0 18 rfl rfl)
theorem dX8_hole_21 : decode cX8_hole 21 = .ok (.bipush (-2), 2) := dk_16 254 (dk_at dksX8_hole_0 21 rfl rfl)
theorem dX8_hole_23 : decode cX8_hole 23 = .ok (.ireturn, 1) := dk_172 (dk_at dksX8_hole_0 23 rfl rfl)
theorem dX8_hole_24 : decode cX8_hole 24 = .ok (.aload_n 0, 1) := dk_42 (dk_at dksX8_hole_1 0 rfl rfl)
theorem dX8_hole_25 : decode cX8_hole 25 = .ok (.invokevirtual 290, 3) := dk_182 1 34 (dk_at dksX8_hole_1 1 rfl rfl)
theorem dX8_hole_28 : decode cX8_hole 28 = .ok (.aload_n 0, 1) := dk_42 (dk_at dksX8_hole_1 4 rfl rfl)
theorem dX8_hole_29 : decode cX8_hole 29 = .ok (.iload_n 1, 1) := dk_27 (dk_at dksX8_hole_1 5 rfl rfl)
theorem dX8_hole_30 : decode cX8_hole 30 = .ok (.iload_n 2, 1) := dk_28 (dk_at dksX8_hole_1 6 rfl rfl)
theorem dX8_hole_31 : decode cX8_hole 31 = .ok (.invokevirtual 293, 3) := dk_182 1 37 (dk_at dksX8_hole_1 7 rfl rfl)
theorem dX8_hole_34 : decode cX8_hole 34 = .ok (.ifCond .eq 7, 3) := dk_153 0 7 (dk_at dksX8_hole_1 10 rfl rfl)
theorem dX8_hole_37 : decode cX8_hole 37 = .ok (.iconst 1, 1) := dk_4 (dk_at dksX8_hole_1 13 rfl rfl)
theorem dX8_hole_38 : decode cX8_hole 38 = .ok (.goto 4, 3) := dk_167 0 4 (dk_at dksX8_hole_1 14 rfl rfl)
theorem dX8_hole_41 : decode cX8_hole 41 = .ok (.iconst 0, 1) := dk_3 (dk_at dksX8_hole_1 17 rfl rfl)
theorem dX8_hole_42 : decode cX8_hole 42 = .ok (.ireturn, 1) := dk_172 (dk_at dksX8_hole_1 18 rfl rfl)
abbrev cX8_isHole : ByteArray := prog_13_method_56_code
def yX8_isHole : MethodName := ⟨RX8, "isHole", "(II)Z"⟩
def dkwX8_isHole_0 : List UInt8 := [42, 42, 180, 0, 68, 17, 0, 200, 27, 104, 28, 96, 46, 42, 27, 28, 182, 1, 28, 182, 1, 31, 172]
abbrev dktX8_isHole_0 : List UInt8 := dkwX8_isHole_0 ++ []
theorem dksX8_isHole_0 : cX8_isHole.data.toList.drop 0 = dktX8_isHole_0 := by decide +kernel
theorem dX8_isHole_0 : decode cX8_isHole 0 = .ok (.aload_n 0, 1) := dk_42 (dk_at dksX8_isHole_0 0 rfl rfl)
theorem dX8_isHole_1 : decode cX8_isHole 1 = .ok (.aload_n 0, 1) := dk_42 (dk_at dksX8_isHole_0 1 rfl rfl)
theorem dX8_isHole_2 : decode cX8_isHole 2 = .ok (.getfield 68, 3) := dk_180 0 68 (dk_at dksX8_isHole_0 2 rfl rfl)
theorem dX8_isHole_5 : decode cX8_isHole 5 = .ok (.sipush 200, 3) := dk_17 0 200 (dk_at dksX8_isHole_0 5 rfl rfl)
theorem dX8_isHole_8 : decode cX8_isHole 8 = .ok (.iload_n 1, 1) := dk_27 (dk_at dksX8_isHole_0 8 rfl rfl)
theorem dX8_isHole_9 : decode cX8_isHole 9 = .ok (.imul, 1) := dk_104 (dk_at dksX8_isHole_0 9 rfl rfl)
theorem dX8_isHole_10 : decode cX8_isHole 10 = .ok (.iload_n 2, 1) := dk_28 (dk_at dksX8_isHole_0 10 rfl rfl)
theorem dX8_isHole_11 : decode cX8_isHole 11 = .ok (.iadd, 1) := dk_96 (dk_at dksX8_isHole_0 11 rfl rfl)
theorem dX8_isHole_12 : decode cX8_isHole 12 = .ok (.iaload, 1) := dk_46 (dk_at dksX8_isHole_0 12 rfl rfl)
theorem dX8_isHole_13 : decode cX8_isHole 13 = .ok (.aload_n 0, 1) := dk_42 (dk_at dksX8_isHole_0 13 rfl rfl)
theorem dX8_isHole_14 : decode cX8_isHole 14 = .ok (.iload_n 1, 1) := dk_27 (dk_at dksX8_isHole_0 14 rfl rfl)
theorem dX8_isHole_15 : decode cX8_isHole 15 = .ok (.iload_n 2, 1) := dk_28 (dk_at dksX8_isHole_0 15 rfl rfl)
theorem dX8_isHole_16 : decode cX8_isHole 16 = .ok (.invokevirtual 284, 3) := dk_182 1 28 (dk_at dksX8_isHole_0 16 rfl rfl)
theorem dX8_isHole_19 : decode cX8_isHole 19 = .ok (.invokevirtual 287, 3) := dk_182 1 31 (dk_at dksX8_isHole_0 19 rfl rfl)
theorem dX8_isHole_22 : decode cX8_isHole 22 = .ok (.ireturn, 1) := dk_172 (dk_at dksX8_isHole_0 22 rfl rfl)
abbrev cX8_clashes : ByteArray := prog_13_method_55_code
def yX8_clashes : MethodName := ⟨RX8, "clashes", "(II)Z"⟩
def dkwX8_clashes_1 : List UInt8 := [167, 0, 4, 3, 172]
abbrev dktX8_clashes_1 : List UInt8 := dkwX8_clashes_1 ++ []
def dkwX8_clashes_0 : List UInt8 := [27, 2, 159, 0, 25, 28, 2, 159, 0, 20, 42, 180, 0, 40, 27, 46, 28, 184, 1, 24, 154, 0, 7, 4]
abbrev dktX8_clashes_0 : List UInt8 := dkwX8_clashes_0 ++ dktX8_clashes_1
theorem dksX8_clashes_0 : cX8_clashes.data.toList.drop 0 = dktX8_clashes_0 := by decide +kernel
theorem dksX8_clashes_1 : cX8_clashes.data.toList.drop 24 = dktX8_clashes_1 := dk_seg dksX8_clashes_0 24 rfl rfl
theorem dX8_clashes_0 : decode cX8_clashes 0 = .ok (.iload_n 1, 1) := dk_27 (dk_at dksX8_clashes_0 0 rfl rfl)
theorem dX8_clashes_1 : decode cX8_clashes 1 = .ok (.iconst (-1), 1) := dk_2 (dk_at dksX8_clashes_0 1 rfl rfl)
theorem dX8_clashes_2 : decode cX8_clashes 2 = .ok (.if_icmp .eq 25, 3) := dk_159 0 25 (dk_at dksX8_clashes_0 2 rfl rfl)
theorem dX8_clashes_5 : decode cX8_clashes 5 = .ok (.iload_n 2, 1) := dk_28 (dk_at dksX8_clashes_0 5 rfl rfl)
theorem dX8_clashes_6 : decode cX8_clashes 6 = .ok (.iconst (-1), 1) := dk_2 (dk_at dksX8_clashes_0 6 rfl rfl)
theorem dX8_clashes_7 : decode cX8_clashes 7 = .ok (.if_icmp .eq 20, 3) := dk_159 0 20 (dk_at dksX8_clashes_0 7 rfl rfl)
theorem dX8_clashes_10 : decode cX8_clashes 10 = .ok (.aload_n 0, 1) := dk_42 (dk_at dksX8_clashes_0 10 rfl rfl)
theorem dX8_clashes_11 : decode cX8_clashes 11 = .ok (.getfield 40, 3) := dk_180 0 40 (dk_at dksX8_clashes_0 11 rfl rfl)
theorem dX8_clashes_14 : decode cX8_clashes 14 = .ok (.iload_n 1, 1) := dk_27 (dk_at dksX8_clashes_0 14 rfl rfl)
theorem dX8_clashes_15 : decode cX8_clashes 15 = .ok (.iaload, 1) := dk_46 (dk_at dksX8_clashes_0 15 rfl rfl)
theorem dX8_clashes_16 : decode cX8_clashes 16 = .ok (.iload_n 2, 1) := dk_28 (dk_at dksX8_clashes_0 16 rfl rfl)
theorem dX8_clashes_17 : decode cX8_clashes 17 = .ok (.invokestatic 280, 3) := dk_184 1 24 (dk_at dksX8_clashes_0 17 rfl rfl)
theorem dX8_clashes_20 : decode cX8_clashes 20 = .ok (.ifCond .ne 7, 3) := dk_154 0 7 (dk_at dksX8_clashes_0 20 rfl rfl)
theorem dX8_clashes_23 : decode cX8_clashes 23 = .ok (.iconst 1, 1) := dk_4 (dk_at dksX8_clashes_0 23 rfl rfl)
theorem dX8_clashes_24 : decode cX8_clashes 24 = .ok (.goto 4, 3) := dk_167 0 4 (dk_at dksX8_clashes_1 0 rfl rfl)
theorem dX8_clashes_27 : decode cX8_clashes 27 = .ok (.iconst 0, 1) := dk_3 (dk_at dksX8_clashes_1 3 rfl rfl)
theorem dX8_clashes_28 : decode cX8_clashes 28 = .ok (.ireturn, 1) := dk_172 (dk_at dksX8_clashes_1 4 rfl rfl)
abbrev cX8_isBit : ByteArray := prog_13_method_45_code
def yX8_isBit : MethodName := ⟨RX8, "isBit", "(II)Z"⟩
def dkwX8_isBit_0 : List UInt8 := [26, 27, 122, 4, 126, 4, 160, 0, 7, 4, 167, 0, 4, 3, 172]
abbrev dktX8_isBit_0 : List UInt8 := dkwX8_isBit_0 ++ []
theorem dksX8_isBit_0 : cX8_isBit.data.toList.drop 0 = dktX8_isBit_0 := by decide +kernel
theorem dX8_isBit_0 : decode cX8_isBit 0 = .ok (.iload_n 0, 1) := dk_26 (dk_at dksX8_isBit_0 0 rfl rfl)
theorem dX8_isBit_1 : decode cX8_isBit 1 = .ok (.iload_n 1, 1) := dk_27 (dk_at dksX8_isBit_0 1 rfl rfl)
theorem dX8_isBit_2 : decode cX8_isBit 2 = .ok (.ishr, 1) := dk_122 (dk_at dksX8_isBit_0 2 rfl rfl)
theorem dX8_isBit_3 : decode cX8_isBit 3 = .ok (.iconst 1, 1) := dk_4 (dk_at dksX8_isBit_0 3 rfl rfl)
theorem dX8_isBit_4 : decode cX8_isBit 4 = .ok (.iand, 1) := dk_126 (dk_at dksX8_isBit_0 4 rfl rfl)
theorem dX8_isBit_5 : decode cX8_isBit 5 = .ok (.iconst 1, 1) := dk_4 (dk_at dksX8_isBit_0 5 rfl rfl)
theorem dX8_isBit_6 : decode cX8_isBit 6 = .ok (.if_icmp .ne 7, 3) := dk_160 0 7 (dk_at dksX8_isBit_0 6 rfl rfl)
theorem dX8_isBit_9 : decode cX8_isBit 9 = .ok (.iconst 1, 1) := dk_4 (dk_at dksX8_isBit_0 9 rfl rfl)
theorem dX8_isBit_10 : decode cX8_isBit 10 = .ok (.goto 4, 3) := dk_167 0 4 (dk_at dksX8_isBit_0 10 rfl rfl)
theorem dX8_isBit_13 : decode cX8_isBit 13 = .ok (.iconst 0, 1) := dk_3 (dk_at dksX8_isBit_0 13 rfl rfl)
theorem dX8_isBit_14 : decode cX8_isBit 14 = .ok (.ireturn, 1) := dk_172 (dk_at dksX8_isBit_0 14 rfl rfl)
abbrev cX8_next_2 : ByteArray := prog_13_method_62_code
def yX8_next_2 : MethodName := ⟨RX8, "next", "(II)I"⟩
def dkwX8_next_2_2 : List UInt8 := [132, 3, 1, 167, 255, 235, 2, 172]
abbrev dktX8_next_2_2 : List UInt8 := dkwX8_next_2_2 ++ []
def dkwX8_next_2_1 : List UInt8 := [42, 182, 1, 34, 28, 62, 29, 17, 0, 200, 162, 0, 20, 42, 27, 29, 182, 1, 37, 153, 0, 5, 29, 172]
abbrev dktX8_next_2_1 : List UInt8 := dkwX8_next_2_1 ++ dktX8_next_2_2
def dkwX8_next_2_0 : List UInt8 := [42, 3, 181, 0, 80, 42, 27, 182, 1, 5, 153, 0, 11, 28, 133, 184, 1, 14, 154, 0, 6, 16, 254, 172]
abbrev dktX8_next_2_0 : List UInt8 := dkwX8_next_2_0 ++ dktX8_next_2_1
theorem dksX8_next_2_0 : cX8_next_2.data.toList.drop 0 = dktX8_next_2_0 := by decide +kernel
theorem dksX8_next_2_1 : cX8_next_2.data.toList.drop 24 = dktX8_next_2_1 := dk_seg dksX8_next_2_0 24 rfl rfl
theorem dksX8_next_2_2 : cX8_next_2.data.toList.drop 48 = dktX8_next_2_2 := dk_seg dksX8_next_2_1 24 rfl rfl
theorem dX8_next_2_0 : decode cX8_next_2 0 = .ok (.aload_n 0, 1) := dk_42 (dk_at dksX8_next_2_0 0 rfl rfl)
theorem dX8_next_2_1 : decode cX8_next_2 1 = .ok (.iconst 0, 1) := dk_3 (dk_at dksX8_next_2_0 1 rfl rfl)
theorem dX8_next_2_2 : decode cX8_next_2 2 = .ok (.putfield 80, 3) := dk_181 0 80 (dk_at dksX8_next_2_0 2 rfl rfl)
theorem dX8_next_2_5 : decode cX8_next_2 5 = .ok (.aload_n 0, 1) := dk_42 (dk_at dksX8_next_2_0 5 rfl rfl)
theorem dX8_next_2_6 : decode cX8_next_2 6 = .ok (.iload_n 1, 1) := dk_27 (dk_at dksX8_next_2_0 6 rfl rfl)
theorem dX8_next_2_7 : decode cX8_next_2 7 = .ok (.invokevirtual 261, 3) := dk_182 1 5 (dk_at dksX8_next_2_0 7 rfl rfl)
theorem dX8_next_2_10 : decode cX8_next_2 10 = .ok (.ifCond .eq 11, 3) := dk_153 0 11 (dk_at dksX8_next_2_0 10 rfl rfl)
theorem dX8_next_2_13 : decode cX8_next_2 13 = .ok (.iload_n 2, 1) := dk_28 (dk_at dksX8_next_2_0 13 rfl rfl)
theorem dX8_next_2_14 : decode cX8_next_2 14 = .ok (.i2l, 1) := dk_133 (dk_at dksX8_next_2_0 14 rfl rfl)
theorem dX8_next_2_15 : decode cX8_next_2 15 = .ok (.invokestatic 270, 3) := dk_184 1 14 (dk_at dksX8_next_2_0 15 rfl rfl)
theorem dX8_next_2_18 : decode cX8_next_2 18 = .ok (.ifCond .ne 6, 3) := dk_154 0 6 (dk_at dksX8_next_2_0 18 rfl rfl)
theorem dX8_next_2_21 : decode cX8_next_2 21 = .ok (.bipush (-2), 2) := dk_16 254 (dk_at dksX8_next_2_0 21 rfl rfl)
theorem dX8_next_2_23 : decode cX8_next_2 23 = .ok (.ireturn, 1) := dk_172 (dk_at dksX8_next_2_0 23 rfl rfl)
theorem dX8_next_2_24 : decode cX8_next_2 24 = .ok (.aload_n 0, 1) := dk_42 (dk_at dksX8_next_2_1 0 rfl rfl)
theorem dX8_next_2_25 : decode cX8_next_2 25 = .ok (.invokevirtual 290, 3) := dk_182 1 34 (dk_at dksX8_next_2_1 1 rfl rfl)
theorem dX8_next_2_28 : decode cX8_next_2 28 = .ok (.iload_n 2, 1) := dk_28 (dk_at dksX8_next_2_1 4 rfl rfl)
theorem dX8_next_2_29 : decode cX8_next_2 29 = .ok (.istore_n 3, 1) := dk_62 (dk_at dksX8_next_2_1 5 rfl rfl)
theorem dX8_next_2_30 : decode cX8_next_2 30 = .ok (.iload_n 3, 1) := dk_29 (dk_at dksX8_next_2_1 6 rfl rfl)
theorem dX8_next_2_31 : decode cX8_next_2 31 = .ok (.sipush 200, 3) := dk_17 0 200 (dk_at dksX8_next_2_1 7 rfl rfl)
theorem dX8_next_2_34 : decode cX8_next_2 34 = .ok (.if_icmp .ge 20, 3) := dk_162 0 20 (dk_at dksX8_next_2_1 10 rfl rfl)
theorem dX8_next_2_37 : decode cX8_next_2 37 = .ok (.aload_n 0, 1) := dk_42 (dk_at dksX8_next_2_1 13 rfl rfl)
theorem dX8_next_2_38 : decode cX8_next_2 38 = .ok (.iload_n 1, 1) := dk_27 (dk_at dksX8_next_2_1 14 rfl rfl)
theorem dX8_next_2_39 : decode cX8_next_2 39 = .ok (.iload_n 3, 1) := dk_29 (dk_at dksX8_next_2_1 15 rfl rfl)
theorem dX8_next_2_40 : decode cX8_next_2 40 = .ok (.invokevirtual 293, 3) := dk_182 1 37 (dk_at dksX8_next_2_1 16 rfl rfl)
theorem dX8_next_2_43 : decode cX8_next_2 43 = .ok (.ifCond .eq 5, 3) := dk_153 0 5 (dk_at dksX8_next_2_1 19 rfl rfl)
theorem dX8_next_2_46 : decode cX8_next_2 46 = .ok (.iload_n 3, 1) := dk_29 (dk_at dksX8_next_2_1 22 rfl rfl)
theorem dX8_next_2_47 : decode cX8_next_2 47 = .ok (.ireturn, 1) := dk_172 (dk_at dksX8_next_2_1 23 rfl rfl)
theorem dX8_next_2_48 : decode cX8_next_2 48 = .ok (.iinc 3 1, 3) := dk_132 3 1 (dk_at dksX8_next_2_2 0 rfl rfl)
theorem dX8_next_2_51 : decode cX8_next_2 51 = .ok (.goto (-21), 3) := dk_167 255 235 (dk_at dksX8_next_2_2 3 rfl rfl)
theorem dX8_next_2_54 : decode cX8_next_2 54 = .ok (.iconst (-1), 1) := dk_2 (dk_at dksX8_next_2_2 6 rfl rfl)
theorem dX8_next_2_55 : decode cX8_next_2 55 = .ok (.ireturn, 1) := dk_172 (dk_at dksX8_next_2_2 7 rfl rfl)
abbrev cX8_holes : ByteArray := prog_13_method_65_code
def yX8_holes : MethodName := ⟨RX8, "holes", "(III)I"⟩
def dkwX8_holes_1 : List UInt8 := [172, 42, 182, 1, 34, 42, 27, 28, 29, 182, 1, 43, 172]
abbrev dktX8_holes_1 : List UInt8 := dkwX8_holes_1 ++ []
def dkwX8_holes_0 : List UInt8 := [42, 3, 181, 0, 80, 42, 27, 182, 1, 5, 153, 0, 12, 42, 28, 29, 182, 1, 40, 154, 0, 6, 16, 254]
abbrev dktX8_holes_0 : List UInt8 := dkwX8_holes_0 ++ dktX8_holes_1
theorem dksX8_holes_0 : cX8_holes.data.toList.drop 0 = dktX8_holes_0 := by decide +kernel
theorem dksX8_holes_1 : cX8_holes.data.toList.drop 24 = dktX8_holes_1 := dk_seg dksX8_holes_0 24 rfl rfl
theorem dX8_holes_0 : decode cX8_holes 0 = .ok (.aload_n 0, 1) := dk_42 (dk_at dksX8_holes_0 0 rfl rfl)
theorem dX8_holes_1 : decode cX8_holes 1 = .ok (.iconst 0, 1) := dk_3 (dk_at dksX8_holes_0 1 rfl rfl)
theorem dX8_holes_2 : decode cX8_holes 2 = .ok (.putfield 80, 3) := dk_181 0 80 (dk_at dksX8_holes_0 2 rfl rfl)
theorem dX8_holes_5 : decode cX8_holes 5 = .ok (.aload_n 0, 1) := dk_42 (dk_at dksX8_holes_0 5 rfl rfl)
theorem dX8_holes_6 : decode cX8_holes 6 = .ok (.iload_n 1, 1) := dk_27 (dk_at dksX8_holes_0 6 rfl rfl)
theorem dX8_holes_7 : decode cX8_holes 7 = .ok (.invokevirtual 261, 3) := dk_182 1 5 (dk_at dksX8_holes_0 7 rfl rfl)
theorem dX8_holes_10 : decode cX8_holes 10 = .ok (.ifCond .eq 12, 3) := dk_153 0 12 (dk_at dksX8_holes_0 10 rfl rfl)
theorem dX8_holes_13 : decode cX8_holes 13 = .ok (.aload_n 0, 1) := dk_42 (dk_at dksX8_holes_0 13 rfl rfl)
theorem dX8_holes_14 : decode cX8_holes 14 = .ok (.iload_n 2, 1) := dk_28 (dk_at dksX8_holes_0 14 rfl rfl)
theorem dX8_holes_15 : decode cX8_holes 15 = .ok (.iload_n 3, 1) := dk_29 (dk_at dksX8_holes_0 15 rfl rfl)
theorem dX8_holes_16 : decode cX8_holes 16 = .ok (.invokevirtual 296, 3) := dk_182 1 40 (dk_at dksX8_holes_0 16 rfl rfl)
theorem dX8_holes_19 : decode cX8_holes 19 = .ok (.ifCond .ne 6, 3) := dk_154 0 6 (dk_at dksX8_holes_0 19 rfl rfl)
theorem dX8_holes_22 : decode cX8_holes 22 = .ok (.bipush (-2), 2) := dk_16 254 (dk_at dksX8_holes_0 22 rfl rfl)
theorem dX8_holes_24 : decode cX8_holes 24 = .ok (.ireturn, 1) := dk_172 (dk_at dksX8_holes_1 0 rfl rfl)
theorem dX8_holes_25 : decode cX8_holes 25 = .ok (.aload_n 0, 1) := dk_42 (dk_at dksX8_holes_1 1 rfl rfl)
theorem dX8_holes_26 : decode cX8_holes 26 = .ok (.invokevirtual 290, 3) := dk_182 1 34 (dk_at dksX8_holes_1 2 rfl rfl)
theorem dX8_holes_29 : decode cX8_holes 29 = .ok (.aload_n 0, 1) := dk_42 (dk_at dksX8_holes_1 5 rfl rfl)
theorem dX8_holes_30 : decode cX8_holes 30 = .ok (.iload_n 1, 1) := dk_27 (dk_at dksX8_holes_1 6 rfl rfl)
theorem dX8_holes_31 : decode cX8_holes 31 = .ok (.iload_n 2, 1) := dk_28 (dk_at dksX8_holes_1 7 rfl rfl)
theorem dX8_holes_32 : decode cX8_holes 32 = .ok (.iload_n 3, 1) := dk_29 (dk_at dksX8_holes_1 8 rfl rfl)
theorem dX8_holes_33 : decode cX8_holes 33 = .ok (.invokevirtual 299, 3) := dk_182 1 43 (dk_at dksX8_holes_1 9 rfl rfl)
theorem dX8_holes_36 : decode cX8_holes 36 = .ok (.ireturn, 1) := dk_172 (dk_at dksX8_holes_1 12 rfl rfl)
abbrev cX8_isSpan : ByteArray := prog_13_method_64_code
def yX8_isSpan : MethodName := ⟨RX8, "isSpan", "(II)Z"⟩
def dkwX8_isSpan_1 : List UInt8 := [184, 0, 85, 153, 0, 7, 4, 167, 0, 4, 3, 172]
abbrev dktX8_isSpan_1 : List UInt8 := dkwX8_isSpan_1 ++ []
def dkwX8_isSpan_0 : List UInt8 := [42, 182, 0, 254, 153, 0, 28, 27, 133, 184, 1, 14, 153, 0, 20, 28, 133, 27, 133, 20, 1, 1]
abbrev dktX8_isSpan_0 : List UInt8 := dkwX8_isSpan_0 ++ dktX8_isSpan_1
theorem dksX8_isSpan_0 : cX8_isSpan.data.toList.drop 0 = dktX8_isSpan_0 := by decide +kernel
theorem dksX8_isSpan_1 : cX8_isSpan.data.toList.drop 22 = dktX8_isSpan_1 := dk_seg dksX8_isSpan_0 22 rfl rfl
theorem dX8_isSpan_0 : decode cX8_isSpan 0 = .ok (.aload_n 0, 1) := dk_42 (dk_at dksX8_isSpan_0 0 rfl rfl)
theorem dX8_isSpan_1 : decode cX8_isSpan 1 = .ok (.invokevirtual 254, 3) := dk_182 0 254 (dk_at dksX8_isSpan_0 1 rfl rfl)
theorem dX8_isSpan_4 : decode cX8_isSpan 4 = .ok (.ifCond .eq 28, 3) := dk_153 0 28 (dk_at dksX8_isSpan_0 4 rfl rfl)
theorem dX8_isSpan_7 : decode cX8_isSpan 7 = .ok (.iload_n 1, 1) := dk_27 (dk_at dksX8_isSpan_0 7 rfl rfl)
theorem dX8_isSpan_8 : decode cX8_isSpan 8 = .ok (.i2l, 1) := dk_133 (dk_at dksX8_isSpan_0 8 rfl rfl)
theorem dX8_isSpan_9 : decode cX8_isSpan 9 = .ok (.invokestatic 270, 3) := dk_184 1 14 (dk_at dksX8_isSpan_0 9 rfl rfl)
theorem dX8_isSpan_12 : decode cX8_isSpan 12 = .ok (.ifCond .eq 20, 3) := dk_153 0 20 (dk_at dksX8_isSpan_0 12 rfl rfl)
theorem dX8_isSpan_15 : decode cX8_isSpan 15 = .ok (.iload_n 2, 1) := dk_28 (dk_at dksX8_isSpan_0 15 rfl rfl)
theorem dX8_isSpan_16 : decode cX8_isSpan 16 = .ok (.i2l, 1) := dk_133 (dk_at dksX8_isSpan_0 16 rfl rfl)
theorem dX8_isSpan_17 : decode cX8_isSpan 17 = .ok (.iload_n 1, 1) := dk_27 (dk_at dksX8_isSpan_0 17 rfl rfl)
theorem dX8_isSpan_18 : decode cX8_isSpan 18 = .ok (.i2l, 1) := dk_133 (dk_at dksX8_isSpan_0 18 rfl rfl)
theorem dX8_isSpan_19 : decode cX8_isSpan 19 = .ok (.ldc2_w 257, 3) := dk_20 1 1 (dk_at dksX8_isSpan_0 19 rfl rfl)
theorem dX8_isSpan_22 : decode cX8_isSpan 22 = .ok (.invokestatic 85, 3) := dk_184 0 85 (dk_at dksX8_isSpan_1 0 rfl rfl)
theorem dX8_isSpan_25 : decode cX8_isSpan 25 = .ok (.ifCond .eq 7, 3) := dk_153 0 7 (dk_at dksX8_isSpan_1 3 rfl rfl)
theorem dX8_isSpan_28 : decode cX8_isSpan 28 = .ok (.iconst 1, 1) := dk_4 (dk_at dksX8_isSpan_1 6 rfl rfl)
theorem dX8_isSpan_29 : decode cX8_isSpan 29 = .ok (.goto 4, 3) := dk_167 0 4 (dk_at dksX8_isSpan_1 7 rfl rfl)
theorem dX8_isSpan_32 : decode cX8_isSpan 32 = .ok (.iconst 0, 1) := dk_3 (dk_at dksX8_isSpan_1 10 rfl rfl)
theorem dX8_isSpan_33 : decode cX8_isSpan 33 = .ok (.ireturn, 1) := dk_172 (dk_at dksX8_isSpan_1 11 rfl rfl)
abbrev cX8_holesOf : ByteArray := prog_13_method_63_code
def yX8_holesOf : MethodName := ⟨RX8, "holesOf", "(III)I"⟩
def dkwX8_holesOf_1 : List UInt8 := [4, 167, 0, 4, 3, 96, 54, 4, 132, 5, 1, 167, 255, 227, 21, 4, 172]
abbrev dktX8_holesOf_1 : List UInt8 := dkwX8_holesOf_1 ++ []
def dkwX8_holesOf_0 : List UInt8 := [3, 54, 4, 28, 54, 5, 21, 5, 29, 163, 0, 29, 21, 4, 42, 27, 21, 5, 182, 1, 37, 153, 0, 7]
abbrev dktX8_holesOf_0 : List UInt8 := dkwX8_holesOf_0 ++ dktX8_holesOf_1
theorem dksX8_holesOf_0 : cX8_holesOf.data.toList.drop 0 = dktX8_holesOf_0 := by decide +kernel
theorem dksX8_holesOf_1 : cX8_holesOf.data.toList.drop 24 = dktX8_holesOf_1 := dk_seg dksX8_holesOf_0 24 rfl rfl
theorem dX8_holesOf_0 : decode cX8_holesOf 0 = .ok (.iconst 0, 1) := dk_3 (dk_at dksX8_holesOf_0 0 rfl rfl)
theorem dX8_holesOf_1 : decode cX8_holesOf 1 = .ok (.istore 4, 2) := dk_54 4 (dk_at dksX8_holesOf_0 1 rfl rfl)
theorem dX8_holesOf_3 : decode cX8_holesOf 3 = .ok (.iload_n 2, 1) := dk_28 (dk_at dksX8_holesOf_0 3 rfl rfl)
theorem dX8_holesOf_4 : decode cX8_holesOf 4 = .ok (.istore 5, 2) := dk_54 5 (dk_at dksX8_holesOf_0 4 rfl rfl)
theorem dX8_holesOf_6 : decode cX8_holesOf 6 = .ok (.iload 5, 2) := dk_21 5 (dk_at dksX8_holesOf_0 6 rfl rfl)
theorem dX8_holesOf_8 : decode cX8_holesOf 8 = .ok (.iload_n 3, 1) := dk_29 (dk_at dksX8_holesOf_0 8 rfl rfl)
theorem dX8_holesOf_9 : decode cX8_holesOf 9 = .ok (.if_icmp .gt 29, 3) := dk_163 0 29 (dk_at dksX8_holesOf_0 9 rfl rfl)
theorem dX8_holesOf_12 : decode cX8_holesOf 12 = .ok (.iload 4, 2) := dk_21 4 (dk_at dksX8_holesOf_0 12 rfl rfl)
theorem dX8_holesOf_14 : decode cX8_holesOf 14 = .ok (.aload_n 0, 1) := dk_42 (dk_at dksX8_holesOf_0 14 rfl rfl)
theorem dX8_holesOf_15 : decode cX8_holesOf 15 = .ok (.iload_n 1, 1) := dk_27 (dk_at dksX8_holesOf_0 15 rfl rfl)
theorem dX8_holesOf_16 : decode cX8_holesOf 16 = .ok (.iload 5, 2) := dk_21 5 (dk_at dksX8_holesOf_0 16 rfl rfl)
theorem dX8_holesOf_18 : decode cX8_holesOf 18 = .ok (.invokevirtual 293, 3) := dk_182 1 37 (dk_at dksX8_holesOf_0 18 rfl rfl)
theorem dX8_holesOf_21 : decode cX8_holesOf 21 = .ok (.ifCond .eq 7, 3) := dk_153 0 7 (dk_at dksX8_holesOf_0 21 rfl rfl)
theorem dX8_holesOf_24 : decode cX8_holesOf 24 = .ok (.iconst 1, 1) := dk_4 (dk_at dksX8_holesOf_1 0 rfl rfl)
theorem dX8_holesOf_25 : decode cX8_holesOf 25 = .ok (.goto 4, 3) := dk_167 0 4 (dk_at dksX8_holesOf_1 1 rfl rfl)
theorem dX8_holesOf_28 : decode cX8_holesOf 28 = .ok (.iconst 0, 1) := dk_3 (dk_at dksX8_holesOf_1 4 rfl rfl)
theorem dX8_holesOf_29 : decode cX8_holesOf 29 = .ok (.iadd, 1) := dk_96 (dk_at dksX8_holesOf_1 5 rfl rfl)
theorem dX8_holesOf_30 : decode cX8_holesOf 30 = .ok (.istore 4, 2) := dk_54 4 (dk_at dksX8_holesOf_1 6 rfl rfl)
theorem dX8_holesOf_32 : decode cX8_holesOf 32 = .ok (.iinc 5 1, 3) := dk_132 5 1 (dk_at dksX8_holesOf_1 8 rfl rfl)
theorem dX8_holesOf_35 : decode cX8_holesOf 35 = .ok (.goto (-29), 3) := dk_167 255 227 (dk_at dksX8_holesOf_1 11 rfl rfl)
theorem dX8_holesOf_38 : decode cX8_holesOf 38 = .ok (.iload 4, 2) := dk_21 4 (dk_at dksX8_holesOf_1 14 rfl rfl)
theorem dX8_holesOf_40 : decode cX8_holesOf 40 = .ok (.ireturn, 1) := dk_172 (dk_at dksX8_holesOf_1 16 rfl rfl)
abbrev cX8_run : ByteArray := prog_13_method_67_code
def yX8_run : MethodName := ⟨RX8, "run", "(II)I"⟩
def dkwX8_run_1 : List UInt8 := [180, 1, 47, 172]
abbrev dktX8_run_1 : List UInt8 := dkwX8_run_1 ++ []
def dkwX8_run_0 : List UInt8 := [42, 3, 181, 0, 80, 42, 27, 28, 182, 1, 40, 154, 0, 6, 16, 254, 172, 42, 27, 28, 182, 1, 53, 42]
abbrev dktX8_run_0 : List UInt8 := dkwX8_run_0 ++ dktX8_run_1
theorem dksX8_run_0 : cX8_run.data.toList.drop 0 = dktX8_run_0 := by decide +kernel
theorem dksX8_run_1 : cX8_run.data.toList.drop 24 = dktX8_run_1 := dk_seg dksX8_run_0 24 rfl rfl
theorem dX8_run_0 : decode cX8_run 0 = .ok (.aload_n 0, 1) := dk_42 (dk_at dksX8_run_0 0 rfl rfl)
theorem dX8_run_1 : decode cX8_run 1 = .ok (.iconst 0, 1) := dk_3 (dk_at dksX8_run_0 1 rfl rfl)
theorem dX8_run_2 : decode cX8_run 2 = .ok (.putfield 80, 3) := dk_181 0 80 (dk_at dksX8_run_0 2 rfl rfl)
theorem dX8_run_5 : decode cX8_run 5 = .ok (.aload_n 0, 1) := dk_42 (dk_at dksX8_run_0 5 rfl rfl)
theorem dX8_run_6 : decode cX8_run 6 = .ok (.iload_n 1, 1) := dk_27 (dk_at dksX8_run_0 6 rfl rfl)
theorem dX8_run_7 : decode cX8_run 7 = .ok (.iload_n 2, 1) := dk_28 (dk_at dksX8_run_0 7 rfl rfl)
theorem dX8_run_8 : decode cX8_run 8 = .ok (.invokevirtual 296, 3) := dk_182 1 40 (dk_at dksX8_run_0 8 rfl rfl)
theorem dX8_run_11 : decode cX8_run 11 = .ok (.ifCond .ne 6, 3) := dk_154 0 6 (dk_at dksX8_run_0 11 rfl rfl)
theorem dX8_run_14 : decode cX8_run 14 = .ok (.bipush (-2), 2) := dk_16 254 (dk_at dksX8_run_0 14 rfl rfl)
theorem dX8_run_16 : decode cX8_run 16 = .ok (.ireturn, 1) := dk_172 (dk_at dksX8_run_0 16 rfl rfl)
theorem dX8_run_17 : decode cX8_run 17 = .ok (.aload_n 0, 1) := dk_42 (dk_at dksX8_run_0 17 rfl rfl)
theorem dX8_run_18 : decode cX8_run 18 = .ok (.iload_n 1, 1) := dk_27 (dk_at dksX8_run_0 18 rfl rfl)
theorem dX8_run_19 : decode cX8_run 19 = .ok (.iload_n 2, 1) := dk_28 (dk_at dksX8_run_0 19 rfl rfl)
theorem dX8_run_20 : decode cX8_run 20 = .ok (.invokevirtual 309, 3) := dk_182 1 53 (dk_at dksX8_run_0 20 rfl rfl)
theorem dX8_run_23 : decode cX8_run 23 = .ok (.aload_n 0, 1) := dk_42 (dk_at dksX8_run_0 23 rfl rfl)
theorem dX8_run_24 : decode cX8_run 24 = .ok (.getfield 303, 3) := dk_180 1 47 (dk_at dksX8_run_1 0 rfl rfl)
theorem dX8_run_27 : decode cX8_run 27 = .ok (.ireturn, 1) := dk_172 (dk_at dksX8_run_1 3 rfl rfl)
abbrev cX8_laysRun : ByteArray := prog_13_method_66_code
def yX8_laysRun : MethodName := ⟨RX8, "laysRun", "(II)V"⟩
def dkwX8_laysRun_3 : List UInt8 := [21, 4, 29, 100, 4, 96, 181, 1, 50, 132, 4, 1, 167, 255, 193, 177]
abbrev dktX8_laysRun_3 : List UInt8 := dkwX8_laysRun_3 ++ []
def dkwX8_laysRun_2 : List UInt8 := [167, 0, 6, 29, 4, 96, 62, 29, 42, 180, 1, 47, 163, 0, 6, 167, 0, 18, 42, 29, 181, 1, 47, 42]
abbrev dktX8_laysRun_2 : List UInt8 := dkwX8_laysRun_2 ++ dktX8_laysRun_3
def dkwX8_laysRun_1 : List UInt8 := [163, 0, 63, 42, 3, 21, 4, 182, 1, 37, 154, 0, 13, 42, 4, 21, 4, 182, 1, 37, 153, 0, 7, 3]
abbrev dktX8_laysRun_1 : List UInt8 := dkwX8_laysRun_1 ++ dktX8_laysRun_2
def dkwX8_laysRun_0 : List UInt8 := [42, 182, 1, 34, 42, 3, 181, 1, 47, 42, 2, 181, 1, 50, 3, 62, 27, 54, 4, 21, 4, 28]
abbrev dktX8_laysRun_0 : List UInt8 := dkwX8_laysRun_0 ++ dktX8_laysRun_1
theorem dksX8_laysRun_0 : cX8_laysRun.data.toList.drop 0 = dktX8_laysRun_0 := by decide +kernel
theorem dksX8_laysRun_1 : cX8_laysRun.data.toList.drop 22 = dktX8_laysRun_1 := dk_seg dksX8_laysRun_0 22 rfl rfl
theorem dksX8_laysRun_2 : cX8_laysRun.data.toList.drop 46 = dktX8_laysRun_2 := dk_seg dksX8_laysRun_1 24 rfl rfl
theorem dksX8_laysRun_3 : cX8_laysRun.data.toList.drop 70 = dktX8_laysRun_3 := dk_seg dksX8_laysRun_2 24 rfl rfl
theorem dX8_laysRun_0 : decode cX8_laysRun 0 = .ok (.aload_n 0, 1) := dk_42 (dk_at dksX8_laysRun_0 0 rfl rfl)
theorem dX8_laysRun_1 : decode cX8_laysRun 1 = .ok (.invokevirtual 290, 3) := dk_182 1 34 (dk_at dksX8_laysRun_0 1 rfl rfl)
theorem dX8_laysRun_4 : decode cX8_laysRun 4 = .ok (.aload_n 0, 1) := dk_42 (dk_at dksX8_laysRun_0 4 rfl rfl)
theorem dX8_laysRun_5 : decode cX8_laysRun 5 = .ok (.iconst 0, 1) := dk_3 (dk_at dksX8_laysRun_0 5 rfl rfl)
theorem dX8_laysRun_6 : decode cX8_laysRun 6 = .ok (.putfield 303, 3) := dk_181 1 47 (dk_at dksX8_laysRun_0 6 rfl rfl)
theorem dX8_laysRun_9 : decode cX8_laysRun 9 = .ok (.aload_n 0, 1) := dk_42 (dk_at dksX8_laysRun_0 9 rfl rfl)
theorem dX8_laysRun_10 : decode cX8_laysRun 10 = .ok (.iconst (-1), 1) := dk_2 (dk_at dksX8_laysRun_0 10 rfl rfl)
theorem dX8_laysRun_11 : decode cX8_laysRun 11 = .ok (.putfield 306, 3) := dk_181 1 50 (dk_at dksX8_laysRun_0 11 rfl rfl)
theorem dX8_laysRun_14 : decode cX8_laysRun 14 = .ok (.iconst 0, 1) := dk_3 (dk_at dksX8_laysRun_0 14 rfl rfl)
theorem dX8_laysRun_15 : decode cX8_laysRun 15 = .ok (.istore_n 3, 1) := dk_62 (dk_at dksX8_laysRun_0 15 rfl rfl)
theorem dX8_laysRun_16 : decode cX8_laysRun 16 = .ok (.iload_n 1, 1) := dk_27 (dk_at dksX8_laysRun_0 16 rfl rfl)
theorem dX8_laysRun_17 : decode cX8_laysRun 17 = .ok (.istore 4, 2) := dk_54 4 (dk_at dksX8_laysRun_0 17 rfl rfl)
theorem dX8_laysRun_19 : decode cX8_laysRun 19 = .ok (.iload 4, 2) := dk_21 4 (dk_at dksX8_laysRun_0 19 rfl rfl)
theorem dX8_laysRun_21 : decode cX8_laysRun 21 = .ok (.iload_n 2, 1) := dk_28 (dk_at dksX8_laysRun_0 21 rfl rfl)
theorem dX8_laysRun_22 : decode cX8_laysRun 22 = .ok (.if_icmp .gt 63, 3) := dk_163 0 63 (dk_at dksX8_laysRun_1 0 rfl rfl)
theorem dX8_laysRun_25 : decode cX8_laysRun 25 = .ok (.aload_n 0, 1) := dk_42 (dk_at dksX8_laysRun_1 3 rfl rfl)
theorem dX8_laysRun_26 : decode cX8_laysRun 26 = .ok (.iconst 0, 1) := dk_3 (dk_at dksX8_laysRun_1 4 rfl rfl)
theorem dX8_laysRun_27 : decode cX8_laysRun 27 = .ok (.iload 4, 2) := dk_21 4 (dk_at dksX8_laysRun_1 5 rfl rfl)
theorem dX8_laysRun_29 : decode cX8_laysRun 29 = .ok (.invokevirtual 293, 3) := dk_182 1 37 (dk_at dksX8_laysRun_1 7 rfl rfl)
theorem dX8_laysRun_32 : decode cX8_laysRun 32 = .ok (.ifCond .ne 13, 3) := dk_154 0 13 (dk_at dksX8_laysRun_1 10 rfl rfl)
theorem dX8_laysRun_35 : decode cX8_laysRun 35 = .ok (.aload_n 0, 1) := dk_42 (dk_at dksX8_laysRun_1 13 rfl rfl)
theorem dX8_laysRun_36 : decode cX8_laysRun 36 = .ok (.iconst 1, 1) := dk_4 (dk_at dksX8_laysRun_1 14 rfl rfl)
theorem dX8_laysRun_37 : decode cX8_laysRun 37 = .ok (.iload 4, 2) := dk_21 4 (dk_at dksX8_laysRun_1 15 rfl rfl)
theorem dX8_laysRun_39 : decode cX8_laysRun 39 = .ok (.invokevirtual 293, 3) := dk_182 1 37 (dk_at dksX8_laysRun_1 17 rfl rfl)
theorem dX8_laysRun_42 : decode cX8_laysRun 42 = .ok (.ifCond .eq 7, 3) := dk_153 0 7 (dk_at dksX8_laysRun_1 20 rfl rfl)
theorem dX8_laysRun_45 : decode cX8_laysRun 45 = .ok (.iconst 0, 1) := dk_3 (dk_at dksX8_laysRun_1 23 rfl rfl)
theorem dX8_laysRun_46 : decode cX8_laysRun 46 = .ok (.goto 6, 3) := dk_167 0 6 (dk_at dksX8_laysRun_2 0 rfl rfl)
theorem dX8_laysRun_49 : decode cX8_laysRun 49 = .ok (.iload_n 3, 1) := dk_29 (dk_at dksX8_laysRun_2 3 rfl rfl)
theorem dX8_laysRun_50 : decode cX8_laysRun 50 = .ok (.iconst 1, 1) := dk_4 (dk_at dksX8_laysRun_2 4 rfl rfl)
theorem dX8_laysRun_51 : decode cX8_laysRun 51 = .ok (.iadd, 1) := dk_96 (dk_at dksX8_laysRun_2 5 rfl rfl)
theorem dX8_laysRun_52 : decode cX8_laysRun 52 = .ok (.istore_n 3, 1) := dk_62 (dk_at dksX8_laysRun_2 6 rfl rfl)
theorem dX8_laysRun_53 : decode cX8_laysRun 53 = .ok (.iload_n 3, 1) := dk_29 (dk_at dksX8_laysRun_2 7 rfl rfl)
theorem dX8_laysRun_54 : decode cX8_laysRun 54 = .ok (.aload_n 0, 1) := dk_42 (dk_at dksX8_laysRun_2 8 rfl rfl)
theorem dX8_laysRun_55 : decode cX8_laysRun 55 = .ok (.getfield 303, 3) := dk_180 1 47 (dk_at dksX8_laysRun_2 9 rfl rfl)
theorem dX8_laysRun_58 : decode cX8_laysRun 58 = .ok (.if_icmp .gt 6, 3) := dk_163 0 6 (dk_at dksX8_laysRun_2 12 rfl rfl)
theorem dX8_laysRun_61 : decode cX8_laysRun 61 = .ok (.goto 18, 3) := dk_167 0 18 (dk_at dksX8_laysRun_2 15 rfl rfl)
theorem dX8_laysRun_64 : decode cX8_laysRun 64 = .ok (.aload_n 0, 1) := dk_42 (dk_at dksX8_laysRun_2 18 rfl rfl)
theorem dX8_laysRun_65 : decode cX8_laysRun 65 = .ok (.iload_n 3, 1) := dk_29 (dk_at dksX8_laysRun_2 19 rfl rfl)
theorem dX8_laysRun_66 : decode cX8_laysRun 66 = .ok (.putfield 303, 3) := dk_181 1 47 (dk_at dksX8_laysRun_2 20 rfl rfl)
theorem dX8_laysRun_69 : decode cX8_laysRun 69 = .ok (.aload_n 0, 1) := dk_42 (dk_at dksX8_laysRun_2 23 rfl rfl)
theorem dX8_laysRun_70 : decode cX8_laysRun 70 = .ok (.iload 4, 2) := dk_21 4 (dk_at dksX8_laysRun_3 0 rfl rfl)
theorem dX8_laysRun_72 : decode cX8_laysRun 72 = .ok (.iload_n 3, 1) := dk_29 (dk_at dksX8_laysRun_3 2 rfl rfl)
theorem dX8_laysRun_73 : decode cX8_laysRun 73 = .ok (.isub, 1) := dk_100 (dk_at dksX8_laysRun_3 3 rfl rfl)
theorem dX8_laysRun_74 : decode cX8_laysRun 74 = .ok (.iconst 1, 1) := dk_4 (dk_at dksX8_laysRun_3 4 rfl rfl)
theorem dX8_laysRun_75 : decode cX8_laysRun 75 = .ok (.iadd, 1) := dk_96 (dk_at dksX8_laysRun_3 5 rfl rfl)
theorem dX8_laysRun_76 : decode cX8_laysRun 76 = .ok (.putfield 306, 3) := dk_181 1 50 (dk_at dksX8_laysRun_3 6 rfl rfl)
theorem dX8_laysRun_79 : decode cX8_laysRun 79 = .ok (.iinc 4 1, 3) := dk_132 4 1 (dk_at dksX8_laysRun_3 9 rfl rfl)
theorem dX8_laysRun_82 : decode cX8_laysRun 82 = .ok (.goto (-63), 3) := dk_167 255 193 (dk_at dksX8_laysRun_3 12 rfl rfl)
theorem dX8_laysRun_85 : decode cX8_laysRun 85 = .ok (.return_, 1) := dk_177 (dk_at dksX8_laysRun_3 15 rfl rfl)
abbrev cX8_begins_2 : ByteArray := prog_13_method_68_code
def yX8_begins_2 : MethodName := ⟨RX8, "begins", "(II)I"⟩
def dkwX8_begins_2_1 : List UInt8 := [180, 1, 50, 172]
abbrev dktX8_begins_2_1 : List UInt8 := dkwX8_begins_2_1 ++ []
def dkwX8_begins_2_0 : List UInt8 := [42, 3, 181, 0, 80, 42, 27, 28, 182, 1, 40, 154, 0, 6, 16, 254, 172, 42, 27, 28, 182, 1, 53, 42]
abbrev dktX8_begins_2_0 : List UInt8 := dkwX8_begins_2_0 ++ dktX8_begins_2_1
theorem dksX8_begins_2_0 : cX8_begins_2.data.toList.drop 0 = dktX8_begins_2_0 := by decide +kernel
theorem dksX8_begins_2_1 : cX8_begins_2.data.toList.drop 24 = dktX8_begins_2_1 := dk_seg dksX8_begins_2_0 24 rfl rfl
theorem dX8_begins_2_0 : decode cX8_begins_2 0 = .ok (.aload_n 0, 1) := dk_42 (dk_at dksX8_begins_2_0 0 rfl rfl)
theorem dX8_begins_2_1 : decode cX8_begins_2 1 = .ok (.iconst 0, 1) := dk_3 (dk_at dksX8_begins_2_0 1 rfl rfl)
theorem dX8_begins_2_2 : decode cX8_begins_2 2 = .ok (.putfield 80, 3) := dk_181 0 80 (dk_at dksX8_begins_2_0 2 rfl rfl)
theorem dX8_begins_2_5 : decode cX8_begins_2 5 = .ok (.aload_n 0, 1) := dk_42 (dk_at dksX8_begins_2_0 5 rfl rfl)
theorem dX8_begins_2_6 : decode cX8_begins_2 6 = .ok (.iload_n 1, 1) := dk_27 (dk_at dksX8_begins_2_0 6 rfl rfl)
theorem dX8_begins_2_7 : decode cX8_begins_2 7 = .ok (.iload_n 2, 1) := dk_28 (dk_at dksX8_begins_2_0 7 rfl rfl)
theorem dX8_begins_2_8 : decode cX8_begins_2 8 = .ok (.invokevirtual 296, 3) := dk_182 1 40 (dk_at dksX8_begins_2_0 8 rfl rfl)
theorem dX8_begins_2_11 : decode cX8_begins_2 11 = .ok (.ifCond .ne 6, 3) := dk_154 0 6 (dk_at dksX8_begins_2_0 11 rfl rfl)
theorem dX8_begins_2_14 : decode cX8_begins_2 14 = .ok (.bipush (-2), 2) := dk_16 254 (dk_at dksX8_begins_2_0 14 rfl rfl)
theorem dX8_begins_2_16 : decode cX8_begins_2 16 = .ok (.ireturn, 1) := dk_172 (dk_at dksX8_begins_2_0 16 rfl rfl)
theorem dX8_begins_2_17 : decode cX8_begins_2 17 = .ok (.aload_n 0, 1) := dk_42 (dk_at dksX8_begins_2_0 17 rfl rfl)
theorem dX8_begins_2_18 : decode cX8_begins_2 18 = .ok (.iload_n 1, 1) := dk_27 (dk_at dksX8_begins_2_0 18 rfl rfl)
theorem dX8_begins_2_19 : decode cX8_begins_2 19 = .ok (.iload_n 2, 1) := dk_28 (dk_at dksX8_begins_2_0 19 rfl rfl)
theorem dX8_begins_2_20 : decode cX8_begins_2 20 = .ok (.invokevirtual 309, 3) := dk_182 1 53 (dk_at dksX8_begins_2_0 20 rfl rfl)
theorem dX8_begins_2_23 : decode cX8_begins_2 23 = .ok (.aload_n 0, 1) := dk_42 (dk_at dksX8_begins_2_0 23 rfl rfl)
theorem dX8_begins_2_24 : decode cX8_begins_2 24 = .ok (.getfield 306, 3) := dk_180 1 50 (dk_at dksX8_begins_2_1 0 rfl rfl)
theorem dX8_begins_2_27 : decode cX8_begins_2 27 = .ok (.ireturn, 1) := dk_172 (dk_at dksX8_begins_2_1 3 rfl rfl)
abbrev cX8_undoes : ByteArray := prog_13_method_70_code
def yX8_undoes : MethodName := ⟨RX8, "undoes", "(I)I"⟩
def dkwX8_undoes_2 : List UInt8 := [172]
abbrev dktX8_undoes_2 : List UInt8 := dkwX8_undoes_2 ++ []
def dkwX8_undoes_1 : List UInt8 := [17, 252, 24, 172, 42, 182, 1, 34, 42, 182, 1, 56, 61, 42, 27, 182, 1, 21, 28, 42, 182, 1, 56, 100]
abbrev dktX8_undoes_1 : List UInt8 := dkwX8_undoes_1 ++ dktX8_undoes_2
def dkwX8_undoes_0 : List UInt8 := [42, 3, 181, 0, 80, 27, 133, 9, 42, 180, 0, 34, 16, 7, 46, 4, 100, 133, 184, 0, 85, 154, 0, 7]
abbrev dktX8_undoes_0 : List UInt8 := dkwX8_undoes_0 ++ dktX8_undoes_1
theorem dksX8_undoes_0 : cX8_undoes.data.toList.drop 0 = dktX8_undoes_0 := by decide +kernel
theorem dksX8_undoes_1 : cX8_undoes.data.toList.drop 24 = dktX8_undoes_1 := dk_seg dksX8_undoes_0 24 rfl rfl
theorem dksX8_undoes_2 : cX8_undoes.data.toList.drop 48 = dktX8_undoes_2 := dk_seg dksX8_undoes_1 24 rfl rfl
theorem dX8_undoes_0 : decode cX8_undoes 0 = .ok (.aload_n 0, 1) := dk_42 (dk_at dksX8_undoes_0 0 rfl rfl)
theorem dX8_undoes_1 : decode cX8_undoes 1 = .ok (.iconst 0, 1) := dk_3 (dk_at dksX8_undoes_0 1 rfl rfl)
theorem dX8_undoes_2 : decode cX8_undoes 2 = .ok (.putfield 80, 3) := dk_181 0 80 (dk_at dksX8_undoes_0 2 rfl rfl)
theorem dX8_undoes_5 : decode cX8_undoes 5 = .ok (.iload_n 1, 1) := dk_27 (dk_at dksX8_undoes_0 5 rfl rfl)
theorem dX8_undoes_6 : decode cX8_undoes 6 = .ok (.i2l, 1) := dk_133 (dk_at dksX8_undoes_0 6 rfl rfl)
theorem dX8_undoes_7 : decode cX8_undoes 7 = .ok (.lconst 0, 1) := dk_9 (dk_at dksX8_undoes_0 7 rfl rfl)
theorem dX8_undoes_8 : decode cX8_undoes 8 = .ok (.aload_n 0, 1) := dk_42 (dk_at dksX8_undoes_0 8 rfl rfl)
theorem dX8_undoes_9 : decode cX8_undoes 9 = .ok (.getfield 34, 3) := dk_180 0 34 (dk_at dksX8_undoes_0 9 rfl rfl)
theorem dX8_undoes_12 : decode cX8_undoes 12 = .ok (.bipush 7, 2) := dk_16 7 (dk_at dksX8_undoes_0 12 rfl rfl)
theorem dX8_undoes_14 : decode cX8_undoes 14 = .ok (.iaload, 1) := dk_46 (dk_at dksX8_undoes_0 14 rfl rfl)
theorem dX8_undoes_15 : decode cX8_undoes 15 = .ok (.iconst 1, 1) := dk_4 (dk_at dksX8_undoes_0 15 rfl rfl)
theorem dX8_undoes_16 : decode cX8_undoes 16 = .ok (.isub, 1) := dk_100 (dk_at dksX8_undoes_0 16 rfl rfl)
theorem dX8_undoes_17 : decode cX8_undoes 17 = .ok (.i2l, 1) := dk_133 (dk_at dksX8_undoes_0 17 rfl rfl)
theorem dX8_undoes_18 : decode cX8_undoes 18 = .ok (.invokestatic 85, 3) := dk_184 0 85 (dk_at dksX8_undoes_0 18 rfl rfl)
theorem dX8_undoes_21 : decode cX8_undoes 21 = .ok (.ifCond .ne 7, 3) := dk_154 0 7 (dk_at dksX8_undoes_0 21 rfl rfl)
theorem dX8_undoes_24 : decode cX8_undoes 24 = .ok (.sipush (-1000), 3) := dk_17 252 24 (dk_at dksX8_undoes_1 0 rfl rfl)
theorem dX8_undoes_27 : decode cX8_undoes 27 = .ok (.ireturn, 1) := dk_172 (dk_at dksX8_undoes_1 3 rfl rfl)
theorem dX8_undoes_28 : decode cX8_undoes 28 = .ok (.aload_n 0, 1) := dk_42 (dk_at dksX8_undoes_1 4 rfl rfl)
theorem dX8_undoes_29 : decode cX8_undoes 29 = .ok (.invokevirtual 290, 3) := dk_182 1 34 (dk_at dksX8_undoes_1 5 rfl rfl)
theorem dX8_undoes_32 : decode cX8_undoes 32 = .ok (.aload_n 0, 1) := dk_42 (dk_at dksX8_undoes_1 8 rfl rfl)
theorem dX8_undoes_33 : decode cX8_undoes 33 = .ok (.invokevirtual 312, 3) := dk_182 1 56 (dk_at dksX8_undoes_1 9 rfl rfl)
theorem dX8_undoes_36 : decode cX8_undoes 36 = .ok (.istore_n 2, 1) := dk_61 (dk_at dksX8_undoes_1 12 rfl rfl)
theorem dX8_undoes_37 : decode cX8_undoes 37 = .ok (.aload_n 0, 1) := dk_42 (dk_at dksX8_undoes_1 13 rfl rfl)
theorem dX8_undoes_38 : decode cX8_undoes 38 = .ok (.iload_n 1, 1) := dk_27 (dk_at dksX8_undoes_1 14 rfl rfl)
theorem dX8_undoes_39 : decode cX8_undoes 39 = .ok (.invokevirtual 277, 3) := dk_182 1 21 (dk_at dksX8_undoes_1 15 rfl rfl)
theorem dX8_undoes_42 : decode cX8_undoes 42 = .ok (.iload_n 2, 1) := dk_28 (dk_at dksX8_undoes_1 18 rfl rfl)
theorem dX8_undoes_43 : decode cX8_undoes 43 = .ok (.aload_n 0, 1) := dk_42 (dk_at dksX8_undoes_1 19 rfl rfl)
theorem dX8_undoes_44 : decode cX8_undoes 44 = .ok (.invokevirtual 312, 3) := dk_182 1 56 (dk_at dksX8_undoes_1 20 rfl rfl)
theorem dX8_undoes_47 : decode cX8_undoes 47 = .ok (.isub, 1) := dk_100 (dk_at dksX8_undoes_1 23 rfl rfl)
theorem dX8_undoes_48 : decode cX8_undoes 48 = .ok (.ireturn, 1) := dk_172 (dk_at dksX8_undoes_2 0 rfl rfl)
abbrev cX8_allHoles : ByteArray := prog_13_method_69_code
def yX8_allHoles : MethodName := ⟨RX8, "allHoles", "()I"⟩
def dkwX8_allHoles_0 : List UInt8 := [42, 3, 3, 17, 0, 199, 182, 1, 43, 42, 4, 3, 17, 0, 199, 182, 1, 43, 96, 172]
abbrev dktX8_allHoles_0 : List UInt8 := dkwX8_allHoles_0 ++ []
theorem dksX8_allHoles_0 : cX8_allHoles.data.toList.drop 0 = dktX8_allHoles_0 := by decide +kernel
theorem dX8_allHoles_0 : decode cX8_allHoles 0 = .ok (.aload_n 0, 1) := dk_42 (dk_at dksX8_allHoles_0 0 rfl rfl)
theorem dX8_allHoles_1 : decode cX8_allHoles 1 = .ok (.iconst 0, 1) := dk_3 (dk_at dksX8_allHoles_0 1 rfl rfl)
theorem dX8_allHoles_2 : decode cX8_allHoles 2 = .ok (.iconst 0, 1) := dk_3 (dk_at dksX8_allHoles_0 2 rfl rfl)
theorem dX8_allHoles_3 : decode cX8_allHoles 3 = .ok (.sipush 199, 3) := dk_17 0 199 (dk_at dksX8_allHoles_0 3 rfl rfl)
theorem dX8_allHoles_6 : decode cX8_allHoles 6 = .ok (.invokevirtual 299, 3) := dk_182 1 43 (dk_at dksX8_allHoles_0 6 rfl rfl)
theorem dX8_allHoles_9 : decode cX8_allHoles 9 = .ok (.aload_n 0, 1) := dk_42 (dk_at dksX8_allHoles_0 9 rfl rfl)
theorem dX8_allHoles_10 : decode cX8_allHoles 10 = .ok (.iconst 1, 1) := dk_4 (dk_at dksX8_allHoles_0 10 rfl rfl)
theorem dX8_allHoles_11 : decode cX8_allHoles 11 = .ok (.iconst 0, 1) := dk_3 (dk_at dksX8_allHoles_0 11 rfl rfl)
theorem dX8_allHoles_12 : decode cX8_allHoles 12 = .ok (.sipush 199, 3) := dk_17 0 199 (dk_at dksX8_allHoles_0 12 rfl rfl)
theorem dX8_allHoles_15 : decode cX8_allHoles 15 = .ok (.invokevirtual 299, 3) := dk_182 1 43 (dk_at dksX8_allHoles_0 15 rfl rfl)
theorem dX8_allHoles_18 : decode cX8_allHoles 18 = .ok (.iadd, 1) := dk_96 (dk_at dksX8_allHoles_0 18 rfl rfl)
theorem dX8_allHoles_19 : decode cX8_allHoles 19 = .ok (.ireturn, 1) := dk_172 (dk_at dksX8_allHoles_0 19 rfl rfl)
abbrev cX8_causes : ByteArray := prog_13_method_71_code
def yX8_causes : MethodName := ⟨RX8, "causes", "(II)I"⟩
def dkwX8_causes_3 : List UInt8 := [153, 0, 7, 3, 167, 0, 7, 4, 21, 4, 120, 128, 62, 132, 4, 1, 167, 255, 215, 29, 172]
abbrev dktX8_causes_3 : List UInt8 := dkwX8_causes_3 ++ []
def dkwX8_causes_2 : List UInt8 := [180, 0, 34, 16, 7, 46, 162, 0, 35, 42, 21, 4, 182, 1, 21, 29, 42, 27, 28, 182, 1, 37]
abbrev dktX8_causes_2 : List UInt8 := dkwX8_causes_2 ++ dktX8_causes_3
def dkwX8_causes_1 : List UInt8 := [42, 182, 1, 34, 42, 27, 28, 182, 1, 37, 154, 0, 5, 3, 172, 3, 62, 3, 54, 4, 21, 4, 42]
abbrev dktX8_causes_1 : List UInt8 := dkwX8_causes_1 ++ dktX8_causes_2
def dkwX8_causes_0 : List UInt8 := [42, 3, 181, 0, 80, 42, 27, 182, 1, 5, 153, 0, 11, 28, 133, 184, 1, 14, 154, 0, 6, 16, 254, 172]
abbrev dktX8_causes_0 : List UInt8 := dkwX8_causes_0 ++ dktX8_causes_1
theorem dksX8_causes_0 : cX8_causes.data.toList.drop 0 = dktX8_causes_0 := by decide +kernel
theorem dksX8_causes_1 : cX8_causes.data.toList.drop 24 = dktX8_causes_1 := dk_seg dksX8_causes_0 24 rfl rfl
theorem dksX8_causes_2 : cX8_causes.data.toList.drop 47 = dktX8_causes_2 := dk_seg dksX8_causes_1 23 rfl rfl
theorem dksX8_causes_3 : cX8_causes.data.toList.drop 69 = dktX8_causes_3 := dk_seg dksX8_causes_2 22 rfl rfl
theorem dX8_causes_0 : decode cX8_causes 0 = .ok (.aload_n 0, 1) := dk_42 (dk_at dksX8_causes_0 0 rfl rfl)
theorem dX8_causes_1 : decode cX8_causes 1 = .ok (.iconst 0, 1) := dk_3 (dk_at dksX8_causes_0 1 rfl rfl)
theorem dX8_causes_2 : decode cX8_causes 2 = .ok (.putfield 80, 3) := dk_181 0 80 (dk_at dksX8_causes_0 2 rfl rfl)
theorem dX8_causes_5 : decode cX8_causes 5 = .ok (.aload_n 0, 1) := dk_42 (dk_at dksX8_causes_0 5 rfl rfl)
theorem dX8_causes_6 : decode cX8_causes 6 = .ok (.iload_n 1, 1) := dk_27 (dk_at dksX8_causes_0 6 rfl rfl)
theorem dX8_causes_7 : decode cX8_causes 7 = .ok (.invokevirtual 261, 3) := dk_182 1 5 (dk_at dksX8_causes_0 7 rfl rfl)
theorem dX8_causes_10 : decode cX8_causes 10 = .ok (.ifCond .eq 11, 3) := dk_153 0 11 (dk_at dksX8_causes_0 10 rfl rfl)
theorem dX8_causes_13 : decode cX8_causes 13 = .ok (.iload_n 2, 1) := dk_28 (dk_at dksX8_causes_0 13 rfl rfl)
theorem dX8_causes_14 : decode cX8_causes 14 = .ok (.i2l, 1) := dk_133 (dk_at dksX8_causes_0 14 rfl rfl)
theorem dX8_causes_15 : decode cX8_causes 15 = .ok (.invokestatic 270, 3) := dk_184 1 14 (dk_at dksX8_causes_0 15 rfl rfl)
theorem dX8_causes_18 : decode cX8_causes 18 = .ok (.ifCond .ne 6, 3) := dk_154 0 6 (dk_at dksX8_causes_0 18 rfl rfl)
theorem dX8_causes_21 : decode cX8_causes 21 = .ok (.bipush (-2), 2) := dk_16 254 (dk_at dksX8_causes_0 21 rfl rfl)
theorem dX8_causes_23 : decode cX8_causes 23 = .ok (.ireturn, 1) := dk_172 (dk_at dksX8_causes_0 23 rfl rfl)
theorem dX8_causes_24 : decode cX8_causes 24 = .ok (.aload_n 0, 1) := dk_42 (dk_at dksX8_causes_1 0 rfl rfl)
theorem dX8_causes_25 : decode cX8_causes 25 = .ok (.invokevirtual 290, 3) := dk_182 1 34 (dk_at dksX8_causes_1 1 rfl rfl)
theorem dX8_causes_28 : decode cX8_causes 28 = .ok (.aload_n 0, 1) := dk_42 (dk_at dksX8_causes_1 4 rfl rfl)
theorem dX8_causes_29 : decode cX8_causes 29 = .ok (.iload_n 1, 1) := dk_27 (dk_at dksX8_causes_1 5 rfl rfl)
theorem dX8_causes_30 : decode cX8_causes 30 = .ok (.iload_n 2, 1) := dk_28 (dk_at dksX8_causes_1 6 rfl rfl)
theorem dX8_causes_31 : decode cX8_causes 31 = .ok (.invokevirtual 293, 3) := dk_182 1 37 (dk_at dksX8_causes_1 7 rfl rfl)
theorem dX8_causes_34 : decode cX8_causes 34 = .ok (.ifCond .ne 5, 3) := dk_154 0 5 (dk_at dksX8_causes_1 10 rfl rfl)
theorem dX8_causes_37 : decode cX8_causes 37 = .ok (.iconst 0, 1) := dk_3 (dk_at dksX8_causes_1 13 rfl rfl)
theorem dX8_causes_38 : decode cX8_causes 38 = .ok (.ireturn, 1) := dk_172 (dk_at dksX8_causes_1 14 rfl rfl)
theorem dX8_causes_39 : decode cX8_causes 39 = .ok (.iconst 0, 1) := dk_3 (dk_at dksX8_causes_1 15 rfl rfl)
theorem dX8_causes_40 : decode cX8_causes 40 = .ok (.istore_n 3, 1) := dk_62 (dk_at dksX8_causes_1 16 rfl rfl)
theorem dX8_causes_41 : decode cX8_causes 41 = .ok (.iconst 0, 1) := dk_3 (dk_at dksX8_causes_1 17 rfl rfl)
theorem dX8_causes_42 : decode cX8_causes 42 = .ok (.istore 4, 2) := dk_54 4 (dk_at dksX8_causes_1 18 rfl rfl)
theorem dX8_causes_44 : decode cX8_causes 44 = .ok (.iload 4, 2) := dk_21 4 (dk_at dksX8_causes_1 20 rfl rfl)
theorem dX8_causes_46 : decode cX8_causes 46 = .ok (.aload_n 0, 1) := dk_42 (dk_at dksX8_causes_1 22 rfl rfl)
theorem dX8_causes_47 : decode cX8_causes 47 = .ok (.getfield 34, 3) := dk_180 0 34 (dk_at dksX8_causes_2 0 rfl rfl)
theorem dX8_causes_50 : decode cX8_causes 50 = .ok (.bipush 7, 2) := dk_16 7 (dk_at dksX8_causes_2 3 rfl rfl)
theorem dX8_causes_52 : decode cX8_causes 52 = .ok (.iaload, 1) := dk_46 (dk_at dksX8_causes_2 5 rfl rfl)
theorem dX8_causes_53 : decode cX8_causes 53 = .ok (.if_icmp .ge 35, 3) := dk_162 0 35 (dk_at dksX8_causes_2 6 rfl rfl)
theorem dX8_causes_56 : decode cX8_causes 56 = .ok (.aload_n 0, 1) := dk_42 (dk_at dksX8_causes_2 9 rfl rfl)
theorem dX8_causes_57 : decode cX8_causes 57 = .ok (.iload 4, 2) := dk_21 4 (dk_at dksX8_causes_2 10 rfl rfl)
theorem dX8_causes_59 : decode cX8_causes 59 = .ok (.invokevirtual 277, 3) := dk_182 1 21 (dk_at dksX8_causes_2 12 rfl rfl)
theorem dX8_causes_62 : decode cX8_causes 62 = .ok (.iload_n 3, 1) := dk_29 (dk_at dksX8_causes_2 15 rfl rfl)
theorem dX8_causes_63 : decode cX8_causes 63 = .ok (.aload_n 0, 1) := dk_42 (dk_at dksX8_causes_2 16 rfl rfl)
theorem dX8_causes_64 : decode cX8_causes 64 = .ok (.iload_n 1, 1) := dk_27 (dk_at dksX8_causes_2 17 rfl rfl)
theorem dX8_causes_65 : decode cX8_causes 65 = .ok (.iload_n 2, 1) := dk_28 (dk_at dksX8_causes_2 18 rfl rfl)
theorem dX8_causes_66 : decode cX8_causes 66 = .ok (.invokevirtual 293, 3) := dk_182 1 37 (dk_at dksX8_causes_2 19 rfl rfl)
theorem dX8_causes_69 : decode cX8_causes 69 = .ok (.ifCond .eq 7, 3) := dk_153 0 7 (dk_at dksX8_causes_3 0 rfl rfl)
theorem dX8_causes_72 : decode cX8_causes 72 = .ok (.iconst 0, 1) := dk_3 (dk_at dksX8_causes_3 3 rfl rfl)
theorem dX8_causes_73 : decode cX8_causes 73 = .ok (.goto 7, 3) := dk_167 0 7 (dk_at dksX8_causes_3 4 rfl rfl)
theorem dX8_causes_76 : decode cX8_causes 76 = .ok (.iconst 1, 1) := dk_4 (dk_at dksX8_causes_3 7 rfl rfl)
theorem dX8_causes_77 : decode cX8_causes 77 = .ok (.iload 4, 2) := dk_21 4 (dk_at dksX8_causes_3 8 rfl rfl)
theorem dX8_causes_79 : decode cX8_causes 79 = .ok (.ishl, 1) := dk_120 (dk_at dksX8_causes_3 10 rfl rfl)
theorem dX8_causes_80 : decode cX8_causes 80 = .ok (.ior, 1) := dk_128 (dk_at dksX8_causes_3 11 rfl rfl)
theorem dX8_causes_81 : decode cX8_causes 81 = .ok (.istore_n 3, 1) := dk_62 (dk_at dksX8_causes_3 12 rfl rfl)
theorem dX8_causes_82 : decode cX8_causes 82 = .ok (.iinc 4 1, 3) := dk_132 4 1 (dk_at dksX8_causes_3 13 rfl rfl)
theorem dX8_causes_85 : decode cX8_causes 85 = .ok (.goto (-41), 3) := dk_167 255 215 (dk_at dksX8_causes_3 16 rfl rfl)
theorem dX8_causes_88 : decode cX8_causes 88 = .ok (.iload_n 3, 1) := dk_29 (dk_at dksX8_causes_3 19 rfl rfl)
theorem dX8_causes_89 : decode cX8_causes 89 = .ok (.ireturn, 1) := dk_172 (dk_at dksX8_causes_3 20 rfl rfl)
abbrev cX8_period : ByteArray := prog_13_method_75_code
def yX8_period : MethodName := ⟨RX8, "period", "()I"⟩
def dkwX8_period_1 : List UInt8 := [42, 182, 1, 69, 167, 0, 4, 2, 172]
abbrev dktX8_period_1 : List UInt8 := dkwX8_period_1 ++ []
def dkwX8_period_0 : List UInt8 := [42, 3, 181, 0, 80, 42, 182, 0, 254, 154, 0, 8, 16, 254, 167, 0, 18, 42, 182, 1, 66, 153, 0, 10]
abbrev dktX8_period_0 : List UInt8 := dkwX8_period_0 ++ dktX8_period_1
theorem dksX8_period_0 : cX8_period.data.toList.drop 0 = dktX8_period_0 := by decide +kernel
theorem dksX8_period_1 : cX8_period.data.toList.drop 24 = dktX8_period_1 := dk_seg dksX8_period_0 24 rfl rfl
theorem dX8_period_0 : decode cX8_period 0 = .ok (.aload_n 0, 1) := dk_42 (dk_at dksX8_period_0 0 rfl rfl)
theorem dX8_period_1 : decode cX8_period 1 = .ok (.iconst 0, 1) := dk_3 (dk_at dksX8_period_0 1 rfl rfl)
theorem dX8_period_2 : decode cX8_period 2 = .ok (.putfield 80, 3) := dk_181 0 80 (dk_at dksX8_period_0 2 rfl rfl)
theorem dX8_period_5 : decode cX8_period 5 = .ok (.aload_n 0, 1) := dk_42 (dk_at dksX8_period_0 5 rfl rfl)
theorem dX8_period_6 : decode cX8_period 6 = .ok (.invokevirtual 254, 3) := dk_182 0 254 (dk_at dksX8_period_0 6 rfl rfl)
theorem dX8_period_9 : decode cX8_period 9 = .ok (.ifCond .ne 8, 3) := dk_154 0 8 (dk_at dksX8_period_0 9 rfl rfl)
theorem dX8_period_12 : decode cX8_period 12 = .ok (.bipush (-2), 2) := dk_16 254 (dk_at dksX8_period_0 12 rfl rfl)
theorem dX8_period_14 : decode cX8_period 14 = .ok (.goto 18, 3) := dk_167 0 18 (dk_at dksX8_period_0 14 rfl rfl)
theorem dX8_period_17 : decode cX8_period 17 = .ok (.aload_n 0, 1) := dk_42 (dk_at dksX8_period_0 17 rfl rfl)
theorem dX8_period_18 : decode cX8_period 18 = .ok (.invokevirtual 322, 3) := dk_182 1 66 (dk_at dksX8_period_0 18 rfl rfl)
theorem dX8_period_21 : decode cX8_period 21 = .ok (.ifCond .eq 10, 3) := dk_153 0 10 (dk_at dksX8_period_0 21 rfl rfl)
theorem dX8_period_24 : decode cX8_period 24 = .ok (.aload_n 0, 1) := dk_42 (dk_at dksX8_period_1 0 rfl rfl)
theorem dX8_period_25 : decode cX8_period 25 = .ok (.invokevirtual 325, 3) := dk_182 1 69 (dk_at dksX8_period_1 1 rfl rfl)
theorem dX8_period_28 : decode cX8_period 28 = .ok (.goto 4, 3) := dk_167 0 4 (dk_at dksX8_period_1 4 rfl rfl)
theorem dX8_period_31 : decode cX8_period 31 = .ok (.iconst (-1), 1) := dk_2 (dk_at dksX8_period_1 7 rfl rfl)
theorem dX8_period_32 : decode cX8_period 32 = .ok (.ireturn, 1) := dk_172 (dk_at dksX8_period_1 8 rfl rfl)
abbrev cX8_areRounds : ByteArray := prog_13_method_43_code
def yX8_areRounds : MethodName := ⟨RX8, "areRounds", "()Z"⟩
def dkwX8_areRounds_0 : List UInt8 := [42, 180, 0, 34, 6, 46, 158, 0, 16, 42, 180, 0, 34, 7, 46, 158, 0, 7, 4, 167, 0, 4, 3, 172]
abbrev dktX8_areRounds_0 : List UInt8 := dkwX8_areRounds_0 ++ []
theorem dksX8_areRounds_0 : cX8_areRounds.data.toList.drop 0 = dktX8_areRounds_0 := by decide +kernel
theorem dX8_areRounds_0 : decode cX8_areRounds 0 = .ok (.aload_n 0, 1) := dk_42 (dk_at dksX8_areRounds_0 0 rfl rfl)
theorem dX8_areRounds_1 : decode cX8_areRounds 1 = .ok (.getfield 34, 3) := dk_180 0 34 (dk_at dksX8_areRounds_0 1 rfl rfl)
theorem dX8_areRounds_4 : decode cX8_areRounds 4 = .ok (.iconst 3, 1) := dk_6 (dk_at dksX8_areRounds_0 4 rfl rfl)
theorem dX8_areRounds_5 : decode cX8_areRounds 5 = .ok (.iaload, 1) := dk_46 (dk_at dksX8_areRounds_0 5 rfl rfl)
theorem dX8_areRounds_6 : decode cX8_areRounds 6 = .ok (.ifCond .le 16, 3) := dk_158 0 16 (dk_at dksX8_areRounds_0 6 rfl rfl)
theorem dX8_areRounds_9 : decode cX8_areRounds 9 = .ok (.aload_n 0, 1) := dk_42 (dk_at dksX8_areRounds_0 9 rfl rfl)
theorem dX8_areRounds_10 : decode cX8_areRounds 10 = .ok (.getfield 34, 3) := dk_180 0 34 (dk_at dksX8_areRounds_0 10 rfl rfl)
theorem dX8_areRounds_13 : decode cX8_areRounds 13 = .ok (.iconst 4, 1) := dk_7 (dk_at dksX8_areRounds_0 13 rfl rfl)
theorem dX8_areRounds_14 : decode cX8_areRounds 14 = .ok (.iaload, 1) := dk_46 (dk_at dksX8_areRounds_0 14 rfl rfl)
theorem dX8_areRounds_15 : decode cX8_areRounds 15 = .ok (.ifCond .le 7, 3) := dk_158 0 7 (dk_at dksX8_areRounds_0 15 rfl rfl)
theorem dX8_areRounds_18 : decode cX8_areRounds 18 = .ok (.iconst 1, 1) := dk_4 (dk_at dksX8_areRounds_0 18 rfl rfl)
theorem dX8_areRounds_19 : decode cX8_areRounds 19 = .ok (.goto 4, 3) := dk_167 0 4 (dk_at dksX8_areRounds_0 19 rfl rfl)
theorem dX8_areRounds_22 : decode cX8_areRounds 22 = .ok (.iconst 0, 1) := dk_3 (dk_at dksX8_areRounds_0 22 rfl rfl)
theorem dX8_areRounds_23 : decode cX8_areRounds 23 = .ok (.ireturn, 1) := dk_172 (dk_at dksX8_areRounds_0 23 rfl rfl)
abbrev cX8_periodOf : ByteArray := prog_13_method_74_code
def yX8_periodOf : MethodName := ⟨RX8, "periodOf", "()I"⟩
def dkwX8_periodOf_1 : List UInt8 := [104, 172]
abbrev dktX8_periodOf_1 : List UInt8 := dkwX8_periodOf_1 ++ []
def dkwX8_periodOf_0 : List UInt8 := [42, 3, 182, 1, 8, 42, 3, 182, 1, 8, 42, 4, 182, 1, 8, 184, 1, 59, 108, 42, 4, 182, 1, 8]
abbrev dktX8_periodOf_0 : List UInt8 := dkwX8_periodOf_0 ++ dktX8_periodOf_1
theorem dksX8_periodOf_0 : cX8_periodOf.data.toList.drop 0 = dktX8_periodOf_0 := by decide +kernel
theorem dksX8_periodOf_1 : cX8_periodOf.data.toList.drop 24 = dktX8_periodOf_1 := dk_seg dksX8_periodOf_0 24 rfl rfl
theorem dX8_periodOf_0 : decode cX8_periodOf 0 = .ok (.aload_n 0, 1) := dk_42 (dk_at dksX8_periodOf_0 0 rfl rfl)
theorem dX8_periodOf_1 : decode cX8_periodOf 1 = .ok (.iconst 0, 1) := dk_3 (dk_at dksX8_periodOf_0 1 rfl rfl)
theorem dX8_periodOf_2 : decode cX8_periodOf 2 = .ok (.invokevirtual 264, 3) := dk_182 1 8 (dk_at dksX8_periodOf_0 2 rfl rfl)
theorem dX8_periodOf_5 : decode cX8_periodOf 5 = .ok (.aload_n 0, 1) := dk_42 (dk_at dksX8_periodOf_0 5 rfl rfl)
theorem dX8_periodOf_6 : decode cX8_periodOf 6 = .ok (.iconst 0, 1) := dk_3 (dk_at dksX8_periodOf_0 6 rfl rfl)
theorem dX8_periodOf_7 : decode cX8_periodOf 7 = .ok (.invokevirtual 264, 3) := dk_182 1 8 (dk_at dksX8_periodOf_0 7 rfl rfl)
theorem dX8_periodOf_10 : decode cX8_periodOf 10 = .ok (.aload_n 0, 1) := dk_42 (dk_at dksX8_periodOf_0 10 rfl rfl)
theorem dX8_periodOf_11 : decode cX8_periodOf 11 = .ok (.iconst 1, 1) := dk_4 (dk_at dksX8_periodOf_0 11 rfl rfl)
theorem dX8_periodOf_12 : decode cX8_periodOf 12 = .ok (.invokevirtual 264, 3) := dk_182 1 8 (dk_at dksX8_periodOf_0 12 rfl rfl)
theorem dX8_periodOf_15 : decode cX8_periodOf 15 = .ok (.invokestatic 315, 3) := dk_184 1 59 (dk_at dksX8_periodOf_0 15 rfl rfl)
theorem dX8_periodOf_18 : decode cX8_periodOf 18 = .ok (.idiv, 1) := dk_108 (dk_at dksX8_periodOf_0 18 rfl rfl)
theorem dX8_periodOf_19 : decode cX8_periodOf 19 = .ok (.aload_n 0, 1) := dk_42 (dk_at dksX8_periodOf_0 19 rfl rfl)
theorem dX8_periodOf_20 : decode cX8_periodOf 20 = .ok (.iconst 1, 1) := dk_4 (dk_at dksX8_periodOf_0 20 rfl rfl)
theorem dX8_periodOf_21 : decode cX8_periodOf 21 = .ok (.invokevirtual 264, 3) := dk_182 1 8 (dk_at dksX8_periodOf_0 21 rfl rfl)
theorem dX8_periodOf_24 : decode cX8_periodOf 24 = .ok (.imul, 1) := dk_104 (dk_at dksX8_periodOf_1 0 rfl rfl)
theorem dX8_periodOf_25 : decode cX8_periodOf 25 = .ok (.ireturn, 1) := dk_172 (dk_at dksX8_periodOf_1 1 rfl rfl)
abbrev cX8_common : ByteArray := prog_13_method_72_code
def yX8_common : MethodName := ⟨RX8, "common", "(II)I"⟩
def dkwX8_common_0 : List UInt8 := [27, 154, 0, 7, 26, 167, 0, 10, 27, 26, 27, 112, 184, 1, 59, 172]
abbrev dktX8_common_0 : List UInt8 := dkwX8_common_0 ++ []
theorem dksX8_common_0 : cX8_common.data.toList.drop 0 = dktX8_common_0 := by decide +kernel
theorem dX8_common_0 : decode cX8_common 0 = .ok (.iload_n 1, 1) := dk_27 (dk_at dksX8_common_0 0 rfl rfl)
theorem dX8_common_1 : decode cX8_common 1 = .ok (.ifCond .ne 7, 3) := dk_154 0 7 (dk_at dksX8_common_0 1 rfl rfl)
theorem dX8_common_4 : decode cX8_common 4 = .ok (.iload_n 0, 1) := dk_26 (dk_at dksX8_common_0 4 rfl rfl)
theorem dX8_common_5 : decode cX8_common 5 = .ok (.goto 10, 3) := dk_167 0 10 (dk_at dksX8_common_0 5 rfl rfl)
theorem dX8_common_8 : decode cX8_common 8 = .ok (.iload_n 1, 1) := dk_27 (dk_at dksX8_common_0 8 rfl rfl)
theorem dX8_common_9 : decode cX8_common 9 = .ok (.iload_n 0, 1) := dk_26 (dk_at dksX8_common_0 9 rfl rfl)
theorem dX8_common_10 : decode cX8_common 10 = .ok (.iload_n 1, 1) := dk_27 (dk_at dksX8_common_0 10 rfl rfl)
theorem dX8_common_11 : decode cX8_common 11 = .ok (.irem, 1) := dk_112 (dk_at dksX8_common_0 11 rfl rfl)
theorem dX8_common_12 : decode cX8_common 12 = .ok (.invokestatic 315, 3) := dk_184 1 59 (dk_at dksX8_common_0 12 rfl rfl)
theorem dX8_common_15 : decode cX8_common 15 = .ok (.ireturn, 1) := dk_172 (dk_at dksX8_common_0 15 rfl rfl)
abbrev cX8_meets : ByteArray := prog_13_method_77_code
def yX8_meets : MethodName := ⟨RX8, "meets", "(III)I"⟩
def dkwX8_meets_5 : List UInt8 := [167, 255, 200, 2, 172]
abbrev dktX8_meets_5 : List UInt8 := dkwX8_meets_5 ++ []
def dkwX8_meets_4 : List UInt8 := [16, 6, 46, 21, 4, 96, 42, 4, 182, 1, 8, 112, 28, 160, 0, 6, 21, 4, 172, 132, 4, 1]
abbrev dktX8_meets_4 : List UInt8 := dkwX8_meets_4 ++ dktX8_meets_5
def dkwX8_meets_3 : List UInt8 := [42, 180, 0, 34, 8, 46, 21, 4, 96, 42, 3, 182, 1, 8, 112, 27, 160, 0, 26, 42, 180, 0, 34]
abbrev dktX8_meets_3 : List UInt8 := dkwX8_meets_3 ++ dktX8_meets_4
def dkwX8_meets_2 : List UInt8 := [133, 184, 1, 14, 154, 0, 6, 16, 254, 172, 29, 54, 4, 21, 4, 29, 42, 182, 1, 69, 96, 162, 0, 51]
abbrev dktX8_meets_2 : List UInt8 := dkwX8_meets_2 ++ dktX8_meets_3
def dkwX8_meets_1 : List UInt8 := [184, 0, 85, 153, 0, 28, 28, 133, 9, 42, 4, 182, 1, 8, 4, 100, 133, 184, 0, 85, 153, 0, 11, 29]
abbrev dktX8_meets_1 : List UInt8 := dkwX8_meets_1 ++ dktX8_meets_2
def dkwX8_meets_0 : List UInt8 := [42, 3, 181, 0, 80, 42, 182, 0, 254, 153, 0, 45, 27, 133, 9, 42, 3, 182, 1, 8, 4, 100, 133]
abbrev dktX8_meets_0 : List UInt8 := dkwX8_meets_0 ++ dktX8_meets_1
theorem dksX8_meets_0 : cX8_meets.data.toList.drop 0 = dktX8_meets_0 := by decide +kernel
theorem dksX8_meets_1 : cX8_meets.data.toList.drop 23 = dktX8_meets_1 := dk_seg dksX8_meets_0 23 rfl rfl
theorem dksX8_meets_2 : cX8_meets.data.toList.drop 47 = dktX8_meets_2 := dk_seg dksX8_meets_1 24 rfl rfl
theorem dksX8_meets_3 : cX8_meets.data.toList.drop 71 = dktX8_meets_3 := dk_seg dksX8_meets_2 24 rfl rfl
theorem dksX8_meets_4 : cX8_meets.data.toList.drop 94 = dktX8_meets_4 := dk_seg dksX8_meets_3 23 rfl rfl
theorem dksX8_meets_5 : cX8_meets.data.toList.drop 116 = dktX8_meets_5 := dk_seg dksX8_meets_4 22 rfl rfl
theorem dX8_meets_0 : decode cX8_meets 0 = .ok (.aload_n 0, 1) := dk_42 (dk_at dksX8_meets_0 0 rfl rfl)
theorem dX8_meets_1 : decode cX8_meets 1 = .ok (.iconst 0, 1) := dk_3 (dk_at dksX8_meets_0 1 rfl rfl)
theorem dX8_meets_2 : decode cX8_meets 2 = .ok (.putfield 80, 3) := dk_181 0 80 (dk_at dksX8_meets_0 2 rfl rfl)
theorem dX8_meets_5 : decode cX8_meets 5 = .ok (.aload_n 0, 1) := dk_42 (dk_at dksX8_meets_0 5 rfl rfl)
theorem dX8_meets_6 : decode cX8_meets 6 = .ok (.invokevirtual 254, 3) := dk_182 0 254 (dk_at dksX8_meets_0 6 rfl rfl)
theorem dX8_meets_9 : decode cX8_meets 9 = .ok (.ifCond .eq 45, 3) := dk_153 0 45 (dk_at dksX8_meets_0 9 rfl rfl)
theorem dX8_meets_12 : decode cX8_meets 12 = .ok (.iload_n 1, 1) := dk_27 (dk_at dksX8_meets_0 12 rfl rfl)
theorem dX8_meets_13 : decode cX8_meets 13 = .ok (.i2l, 1) := dk_133 (dk_at dksX8_meets_0 13 rfl rfl)
theorem dX8_meets_14 : decode cX8_meets 14 = .ok (.lconst 0, 1) := dk_9 (dk_at dksX8_meets_0 14 rfl rfl)
theorem dX8_meets_15 : decode cX8_meets 15 = .ok (.aload_n 0, 1) := dk_42 (dk_at dksX8_meets_0 15 rfl rfl)
theorem dX8_meets_16 : decode cX8_meets 16 = .ok (.iconst 0, 1) := dk_3 (dk_at dksX8_meets_0 16 rfl rfl)
theorem dX8_meets_17 : decode cX8_meets 17 = .ok (.invokevirtual 264, 3) := dk_182 1 8 (dk_at dksX8_meets_0 17 rfl rfl)
theorem dX8_meets_20 : decode cX8_meets 20 = .ok (.iconst 1, 1) := dk_4 (dk_at dksX8_meets_0 20 rfl rfl)
theorem dX8_meets_21 : decode cX8_meets 21 = .ok (.isub, 1) := dk_100 (dk_at dksX8_meets_0 21 rfl rfl)
theorem dX8_meets_22 : decode cX8_meets 22 = .ok (.i2l, 1) := dk_133 (dk_at dksX8_meets_0 22 rfl rfl)
theorem dX8_meets_23 : decode cX8_meets 23 = .ok (.invokestatic 85, 3) := dk_184 0 85 (dk_at dksX8_meets_1 0 rfl rfl)
theorem dX8_meets_26 : decode cX8_meets 26 = .ok (.ifCond .eq 28, 3) := dk_153 0 28 (dk_at dksX8_meets_1 3 rfl rfl)
theorem dX8_meets_29 : decode cX8_meets 29 = .ok (.iload_n 2, 1) := dk_28 (dk_at dksX8_meets_1 6 rfl rfl)
theorem dX8_meets_30 : decode cX8_meets 30 = .ok (.i2l, 1) := dk_133 (dk_at dksX8_meets_1 7 rfl rfl)
theorem dX8_meets_31 : decode cX8_meets 31 = .ok (.lconst 0, 1) := dk_9 (dk_at dksX8_meets_1 8 rfl rfl)
theorem dX8_meets_32 : decode cX8_meets 32 = .ok (.aload_n 0, 1) := dk_42 (dk_at dksX8_meets_1 9 rfl rfl)
theorem dX8_meets_33 : decode cX8_meets 33 = .ok (.iconst 1, 1) := dk_4 (dk_at dksX8_meets_1 10 rfl rfl)
theorem dX8_meets_34 : decode cX8_meets 34 = .ok (.invokevirtual 264, 3) := dk_182 1 8 (dk_at dksX8_meets_1 11 rfl rfl)
theorem dX8_meets_37 : decode cX8_meets 37 = .ok (.iconst 1, 1) := dk_4 (dk_at dksX8_meets_1 14 rfl rfl)
theorem dX8_meets_38 : decode cX8_meets 38 = .ok (.isub, 1) := dk_100 (dk_at dksX8_meets_1 15 rfl rfl)
theorem dX8_meets_39 : decode cX8_meets 39 = .ok (.i2l, 1) := dk_133 (dk_at dksX8_meets_1 16 rfl rfl)
theorem dX8_meets_40 : decode cX8_meets 40 = .ok (.invokestatic 85, 3) := dk_184 0 85 (dk_at dksX8_meets_1 17 rfl rfl)
theorem dX8_meets_43 : decode cX8_meets 43 = .ok (.ifCond .eq 11, 3) := dk_153 0 11 (dk_at dksX8_meets_1 20 rfl rfl)
theorem dX8_meets_46 : decode cX8_meets 46 = .ok (.iload_n 3, 1) := dk_29 (dk_at dksX8_meets_1 23 rfl rfl)
theorem dX8_meets_47 : decode cX8_meets 47 = .ok (.i2l, 1) := dk_133 (dk_at dksX8_meets_2 0 rfl rfl)
theorem dX8_meets_48 : decode cX8_meets 48 = .ok (.invokestatic 270, 3) := dk_184 1 14 (dk_at dksX8_meets_2 1 rfl rfl)
theorem dX8_meets_51 : decode cX8_meets 51 = .ok (.ifCond .ne 6, 3) := dk_154 0 6 (dk_at dksX8_meets_2 4 rfl rfl)
theorem dX8_meets_54 : decode cX8_meets 54 = .ok (.bipush (-2), 2) := dk_16 254 (dk_at dksX8_meets_2 7 rfl rfl)
theorem dX8_meets_56 : decode cX8_meets 56 = .ok (.ireturn, 1) := dk_172 (dk_at dksX8_meets_2 9 rfl rfl)
theorem dX8_meets_57 : decode cX8_meets 57 = .ok (.iload_n 3, 1) := dk_29 (dk_at dksX8_meets_2 10 rfl rfl)
theorem dX8_meets_58 : decode cX8_meets 58 = .ok (.istore 4, 2) := dk_54 4 (dk_at dksX8_meets_2 11 rfl rfl)
theorem dX8_meets_60 : decode cX8_meets 60 = .ok (.iload 4, 2) := dk_21 4 (dk_at dksX8_meets_2 13 rfl rfl)
theorem dX8_meets_62 : decode cX8_meets 62 = .ok (.iload_n 3, 1) := dk_29 (dk_at dksX8_meets_2 15 rfl rfl)
theorem dX8_meets_63 : decode cX8_meets 63 = .ok (.aload_n 0, 1) := dk_42 (dk_at dksX8_meets_2 16 rfl rfl)
theorem dX8_meets_64 : decode cX8_meets 64 = .ok (.invokevirtual 325, 3) := dk_182 1 69 (dk_at dksX8_meets_2 17 rfl rfl)
theorem dX8_meets_67 : decode cX8_meets 67 = .ok (.iadd, 1) := dk_96 (dk_at dksX8_meets_2 20 rfl rfl)
theorem dX8_meets_68 : decode cX8_meets 68 = .ok (.if_icmp .ge 51, 3) := dk_162 0 51 (dk_at dksX8_meets_2 21 rfl rfl)
theorem dX8_meets_71 : decode cX8_meets 71 = .ok (.aload_n 0, 1) := dk_42 (dk_at dksX8_meets_3 0 rfl rfl)
theorem dX8_meets_72 : decode cX8_meets 72 = .ok (.getfield 34, 3) := dk_180 0 34 (dk_at dksX8_meets_3 1 rfl rfl)
theorem dX8_meets_75 : decode cX8_meets 75 = .ok (.iconst 5, 1) := dk_8 (dk_at dksX8_meets_3 4 rfl rfl)
theorem dX8_meets_76 : decode cX8_meets 76 = .ok (.iaload, 1) := dk_46 (dk_at dksX8_meets_3 5 rfl rfl)
theorem dX8_meets_77 : decode cX8_meets 77 = .ok (.iload 4, 2) := dk_21 4 (dk_at dksX8_meets_3 6 rfl rfl)
theorem dX8_meets_79 : decode cX8_meets 79 = .ok (.iadd, 1) := dk_96 (dk_at dksX8_meets_3 8 rfl rfl)
theorem dX8_meets_80 : decode cX8_meets 80 = .ok (.aload_n 0, 1) := dk_42 (dk_at dksX8_meets_3 9 rfl rfl)
theorem dX8_meets_81 : decode cX8_meets 81 = .ok (.iconst 0, 1) := dk_3 (dk_at dksX8_meets_3 10 rfl rfl)
theorem dX8_meets_82 : decode cX8_meets 82 = .ok (.invokevirtual 264, 3) := dk_182 1 8 (dk_at dksX8_meets_3 11 rfl rfl)
theorem dX8_meets_85 : decode cX8_meets 85 = .ok (.irem, 1) := dk_112 (dk_at dksX8_meets_3 14 rfl rfl)
theorem dX8_meets_86 : decode cX8_meets 86 = .ok (.iload_n 1, 1) := dk_27 (dk_at dksX8_meets_3 15 rfl rfl)
theorem dX8_meets_87 : decode cX8_meets 87 = .ok (.if_icmp .ne 26, 3) := dk_160 0 26 (dk_at dksX8_meets_3 16 rfl rfl)
theorem dX8_meets_90 : decode cX8_meets 90 = .ok (.aload_n 0, 1) := dk_42 (dk_at dksX8_meets_3 19 rfl rfl)
theorem dX8_meets_91 : decode cX8_meets 91 = .ok (.getfield 34, 3) := dk_180 0 34 (dk_at dksX8_meets_3 20 rfl rfl)
theorem dX8_meets_94 : decode cX8_meets 94 = .ok (.bipush 6, 2) := dk_16 6 (dk_at dksX8_meets_4 0 rfl rfl)
theorem dX8_meets_96 : decode cX8_meets 96 = .ok (.iaload, 1) := dk_46 (dk_at dksX8_meets_4 2 rfl rfl)
theorem dX8_meets_97 : decode cX8_meets 97 = .ok (.iload 4, 2) := dk_21 4 (dk_at dksX8_meets_4 3 rfl rfl)
theorem dX8_meets_99 : decode cX8_meets 99 = .ok (.iadd, 1) := dk_96 (dk_at dksX8_meets_4 5 rfl rfl)
theorem dX8_meets_100 : decode cX8_meets 100 = .ok (.aload_n 0, 1) := dk_42 (dk_at dksX8_meets_4 6 rfl rfl)
theorem dX8_meets_101 : decode cX8_meets 101 = .ok (.iconst 1, 1) := dk_4 (dk_at dksX8_meets_4 7 rfl rfl)
theorem dX8_meets_102 : decode cX8_meets 102 = .ok (.invokevirtual 264, 3) := dk_182 1 8 (dk_at dksX8_meets_4 8 rfl rfl)
theorem dX8_meets_105 : decode cX8_meets 105 = .ok (.irem, 1) := dk_112 (dk_at dksX8_meets_4 11 rfl rfl)
theorem dX8_meets_106 : decode cX8_meets 106 = .ok (.iload_n 2, 1) := dk_28 (dk_at dksX8_meets_4 12 rfl rfl)
theorem dX8_meets_107 : decode cX8_meets 107 = .ok (.if_icmp .ne 6, 3) := dk_160 0 6 (dk_at dksX8_meets_4 13 rfl rfl)
theorem dX8_meets_110 : decode cX8_meets 110 = .ok (.iload 4, 2) := dk_21 4 (dk_at dksX8_meets_4 16 rfl rfl)
theorem dX8_meets_112 : decode cX8_meets 112 = .ok (.ireturn, 1) := dk_172 (dk_at dksX8_meets_4 18 rfl rfl)
theorem dX8_meets_113 : decode cX8_meets 113 = .ok (.iinc 4 1, 3) := dk_132 4 1 (dk_at dksX8_meets_4 19 rfl rfl)
theorem dX8_meets_116 : decode cX8_meets 116 = .ok (.goto (-56), 3) := dk_167 255 200 (dk_at dksX8_meets_5 0 rfl rfl)
theorem dX8_meets_119 : decode cX8_meets 119 = .ok (.iconst (-1), 1) := dk_2 (dk_at dksX8_meets_5 3 rfl rfl)
theorem dX8_meets_120 : decode cX8_meets 120 = .ok (.ireturn, 1) := dk_172 (dk_at dksX8_meets_5 4 rfl rfl)
abbrev cX8_shifted : ByteArray := prog_13_method_79_code
def yX8_shifted : MethodName := ⟨RX8, "shifted", "(I)I"⟩
def dkwX8_shifted_1 : List UInt8 := [182, 1, 8, 4, 100, 133, 184, 0, 85, 153, 0, 11, 42, 27, 182, 1, 75, 167, 0, 5, 16, 254, 172]
abbrev dktX8_shifted_1 : List UInt8 := dkwX8_shifted_1 ++ []
def dkwX8_shifted_0 : List UInt8 := [42, 3, 181, 0, 80, 42, 182, 0, 254, 153, 0, 35, 42, 182, 1, 66, 153, 0, 28, 27, 133, 9, 42, 4]
abbrev dktX8_shifted_0 : List UInt8 := dkwX8_shifted_0 ++ dktX8_shifted_1
theorem dksX8_shifted_0 : cX8_shifted.data.toList.drop 0 = dktX8_shifted_0 := by decide +kernel
theorem dksX8_shifted_1 : cX8_shifted.data.toList.drop 24 = dktX8_shifted_1 := dk_seg dksX8_shifted_0 24 rfl rfl
theorem dX8_shifted_0 : decode cX8_shifted 0 = .ok (.aload_n 0, 1) := dk_42 (dk_at dksX8_shifted_0 0 rfl rfl)
theorem dX8_shifted_1 : decode cX8_shifted 1 = .ok (.iconst 0, 1) := dk_3 (dk_at dksX8_shifted_0 1 rfl rfl)
theorem dX8_shifted_2 : decode cX8_shifted 2 = .ok (.putfield 80, 3) := dk_181 0 80 (dk_at dksX8_shifted_0 2 rfl rfl)
theorem dX8_shifted_5 : decode cX8_shifted 5 = .ok (.aload_n 0, 1) := dk_42 (dk_at dksX8_shifted_0 5 rfl rfl)
theorem dX8_shifted_6 : decode cX8_shifted 6 = .ok (.invokevirtual 254, 3) := dk_182 0 254 (dk_at dksX8_shifted_0 6 rfl rfl)
theorem dX8_shifted_9 : decode cX8_shifted 9 = .ok (.ifCond .eq 35, 3) := dk_153 0 35 (dk_at dksX8_shifted_0 9 rfl rfl)
theorem dX8_shifted_12 : decode cX8_shifted 12 = .ok (.aload_n 0, 1) := dk_42 (dk_at dksX8_shifted_0 12 rfl rfl)
theorem dX8_shifted_13 : decode cX8_shifted 13 = .ok (.invokevirtual 322, 3) := dk_182 1 66 (dk_at dksX8_shifted_0 13 rfl rfl)
theorem dX8_shifted_16 : decode cX8_shifted 16 = .ok (.ifCond .eq 28, 3) := dk_153 0 28 (dk_at dksX8_shifted_0 16 rfl rfl)
theorem dX8_shifted_19 : decode cX8_shifted 19 = .ok (.iload_n 1, 1) := dk_27 (dk_at dksX8_shifted_0 19 rfl rfl)
theorem dX8_shifted_20 : decode cX8_shifted 20 = .ok (.i2l, 1) := dk_133 (dk_at dksX8_shifted_0 20 rfl rfl)
theorem dX8_shifted_21 : decode cX8_shifted 21 = .ok (.lconst 0, 1) := dk_9 (dk_at dksX8_shifted_0 21 rfl rfl)
theorem dX8_shifted_22 : decode cX8_shifted 22 = .ok (.aload_n 0, 1) := dk_42 (dk_at dksX8_shifted_0 22 rfl rfl)
theorem dX8_shifted_23 : decode cX8_shifted 23 = .ok (.iconst 1, 1) := dk_4 (dk_at dksX8_shifted_0 23 rfl rfl)
theorem dX8_shifted_24 : decode cX8_shifted 24 = .ok (.invokevirtual 264, 3) := dk_182 1 8 (dk_at dksX8_shifted_1 0 rfl rfl)
theorem dX8_shifted_27 : decode cX8_shifted 27 = .ok (.iconst 1, 1) := dk_4 (dk_at dksX8_shifted_1 3 rfl rfl)
theorem dX8_shifted_28 : decode cX8_shifted 28 = .ok (.isub, 1) := dk_100 (dk_at dksX8_shifted_1 4 rfl rfl)
theorem dX8_shifted_29 : decode cX8_shifted 29 = .ok (.i2l, 1) := dk_133 (dk_at dksX8_shifted_1 5 rfl rfl)
theorem dX8_shifted_30 : decode cX8_shifted 30 = .ok (.invokestatic 85, 3) := dk_184 0 85 (dk_at dksX8_shifted_1 6 rfl rfl)
theorem dX8_shifted_33 : decode cX8_shifted 33 = .ok (.ifCond .eq 11, 3) := dk_153 0 11 (dk_at dksX8_shifted_1 9 rfl rfl)
theorem dX8_shifted_36 : decode cX8_shifted 36 = .ok (.aload_n 0, 1) := dk_42 (dk_at dksX8_shifted_1 12 rfl rfl)
theorem dX8_shifted_37 : decode cX8_shifted 37 = .ok (.iload_n 1, 1) := dk_27 (dk_at dksX8_shifted_1 13 rfl rfl)
theorem dX8_shifted_38 : decode cX8_shifted 38 = .ok (.invokevirtual 331, 3) := dk_182 1 75 (dk_at dksX8_shifted_1 14 rfl rfl)
theorem dX8_shifted_41 : decode cX8_shifted 41 = .ok (.goto 5, 3) := dk_167 0 5 (dk_at dksX8_shifted_1 17 rfl rfl)
theorem dX8_shifted_44 : decode cX8_shifted 44 = .ok (.bipush (-2), 2) := dk_16 254 (dk_at dksX8_shifted_1 20 rfl rfl)
theorem dX8_shifted_46 : decode cX8_shifted 46 = .ok (.ireturn, 1) := dk_172 (dk_at dksX8_shifted_1 22 rfl rfl)
abbrev cX8_shiftedOf : ByteArray := prog_13_method_78_code
def yX8_shiftedOf : MethodName := ⟨RX8, "shiftedOf", "(I)I"⟩
def dkwX8_shiftedOf_4 : List UInt8 := [167, 255, 176, 28, 172]
abbrev dktX8_shiftedOf_4 : List UInt8 := dkwX8_shiftedOf_4 ++ []
def dkwX8_shiftedOf_3 : List UInt8 := [29, 100, 3, 182, 1, 72, 182, 1, 31, 153, 0, 7, 4, 167, 0, 4, 3, 96, 61, 132, 4, 1]
abbrev dktX8_shiftedOf_3 : List UInt8 := dkwX8_shiftedOf_3 ++ dktX8_shiftedOf_4
def dkwX8_shiftedOf_2 : List UInt8 := [153, 0, 7, 4, 167, 0, 4, 3, 96, 61, 28, 42, 42, 4, 21, 4, 27, 182, 1, 72, 42, 3, 21, 4]
abbrev dktX8_shiftedOf_2 : List UInt8 := dkwX8_shiftedOf_2 ++ dktX8_shiftedOf_3
def dkwX8_shiftedOf_1 : List UInt8 := [42, 42, 3, 21, 4, 3, 182, 1, 72, 42, 4, 21, 4, 29, 100, 27, 182, 1, 72, 182, 1, 31]
abbrev dktX8_shiftedOf_1 : List UInt8 := dkwX8_shiftedOf_1 ++ dktX8_shiftedOf_2
def dkwX8_shiftedOf_0 : List UInt8 := [3, 61, 42, 180, 0, 34, 3, 46, 62, 29, 54, 4, 21, 4, 29, 42, 182, 1, 69, 96, 162, 0, 75, 28]
abbrev dktX8_shiftedOf_0 : List UInt8 := dkwX8_shiftedOf_0 ++ dktX8_shiftedOf_1
theorem dksX8_shiftedOf_0 : cX8_shiftedOf.data.toList.drop 0 = dktX8_shiftedOf_0 := by decide +kernel
theorem dksX8_shiftedOf_1 : cX8_shiftedOf.data.toList.drop 24 = dktX8_shiftedOf_1 := dk_seg dksX8_shiftedOf_0 24 rfl rfl
theorem dksX8_shiftedOf_2 : cX8_shiftedOf.data.toList.drop 46 = dktX8_shiftedOf_2 := dk_seg dksX8_shiftedOf_1 22 rfl rfl
theorem dksX8_shiftedOf_3 : cX8_shiftedOf.data.toList.drop 70 = dktX8_shiftedOf_3 := dk_seg dksX8_shiftedOf_2 24 rfl rfl
theorem dksX8_shiftedOf_4 : cX8_shiftedOf.data.toList.drop 92 = dktX8_shiftedOf_4 := dk_seg dksX8_shiftedOf_3 22 rfl rfl
theorem dX8_shiftedOf_0 : decode cX8_shiftedOf 0 = .ok (.iconst 0, 1) := dk_3 (dk_at dksX8_shiftedOf_0 0 rfl rfl)
theorem dX8_shiftedOf_1 : decode cX8_shiftedOf 1 = .ok (.istore_n 2, 1) := dk_61 (dk_at dksX8_shiftedOf_0 1 rfl rfl)
theorem dX8_shiftedOf_2 : decode cX8_shiftedOf 2 = .ok (.aload_n 0, 1) := dk_42 (dk_at dksX8_shiftedOf_0 2 rfl rfl)
theorem dX8_shiftedOf_3 : decode cX8_shiftedOf 3 = .ok (.getfield 34, 3) := dk_180 0 34 (dk_at dksX8_shiftedOf_0 3 rfl rfl)
theorem dX8_shiftedOf_6 : decode cX8_shiftedOf 6 = .ok (.iconst 0, 1) := dk_3 (dk_at dksX8_shiftedOf_0 6 rfl rfl)
theorem dX8_shiftedOf_7 : decode cX8_shiftedOf 7 = .ok (.iaload, 1) := dk_46 (dk_at dksX8_shiftedOf_0 7 rfl rfl)
theorem dX8_shiftedOf_8 : decode cX8_shiftedOf 8 = .ok (.istore_n 3, 1) := dk_62 (dk_at dksX8_shiftedOf_0 8 rfl rfl)
theorem dX8_shiftedOf_9 : decode cX8_shiftedOf 9 = .ok (.iload_n 3, 1) := dk_29 (dk_at dksX8_shiftedOf_0 9 rfl rfl)
theorem dX8_shiftedOf_10 : decode cX8_shiftedOf 10 = .ok (.istore 4, 2) := dk_54 4 (dk_at dksX8_shiftedOf_0 10 rfl rfl)
theorem dX8_shiftedOf_12 : decode cX8_shiftedOf 12 = .ok (.iload 4, 2) := dk_21 4 (dk_at dksX8_shiftedOf_0 12 rfl rfl)
theorem dX8_shiftedOf_14 : decode cX8_shiftedOf 14 = .ok (.iload_n 3, 1) := dk_29 (dk_at dksX8_shiftedOf_0 14 rfl rfl)
theorem dX8_shiftedOf_15 : decode cX8_shiftedOf 15 = .ok (.aload_n 0, 1) := dk_42 (dk_at dksX8_shiftedOf_0 15 rfl rfl)
theorem dX8_shiftedOf_16 : decode cX8_shiftedOf 16 = .ok (.invokevirtual 325, 3) := dk_182 1 69 (dk_at dksX8_shiftedOf_0 16 rfl rfl)
theorem dX8_shiftedOf_19 : decode cX8_shiftedOf 19 = .ok (.iadd, 1) := dk_96 (dk_at dksX8_shiftedOf_0 19 rfl rfl)
theorem dX8_shiftedOf_20 : decode cX8_shiftedOf 20 = .ok (.if_icmp .ge 75, 3) := dk_162 0 75 (dk_at dksX8_shiftedOf_0 20 rfl rfl)
theorem dX8_shiftedOf_23 : decode cX8_shiftedOf 23 = .ok (.iload_n 2, 1) := dk_28 (dk_at dksX8_shiftedOf_0 23 rfl rfl)
theorem dX8_shiftedOf_24 : decode cX8_shiftedOf 24 = .ok (.aload_n 0, 1) := dk_42 (dk_at dksX8_shiftedOf_1 0 rfl rfl)
theorem dX8_shiftedOf_25 : decode cX8_shiftedOf 25 = .ok (.aload_n 0, 1) := dk_42 (dk_at dksX8_shiftedOf_1 1 rfl rfl)
theorem dX8_shiftedOf_26 : decode cX8_shiftedOf 26 = .ok (.iconst 0, 1) := dk_3 (dk_at dksX8_shiftedOf_1 2 rfl rfl)
theorem dX8_shiftedOf_27 : decode cX8_shiftedOf 27 = .ok (.iload 4, 2) := dk_21 4 (dk_at dksX8_shiftedOf_1 3 rfl rfl)
theorem dX8_shiftedOf_29 : decode cX8_shiftedOf 29 = .ok (.iconst 0, 1) := dk_3 (dk_at dksX8_shiftedOf_1 5 rfl rfl)
theorem dX8_shiftedOf_30 : decode cX8_shiftedOf 30 = .ok (.invokevirtual 328, 3) := dk_182 1 72 (dk_at dksX8_shiftedOf_1 6 rfl rfl)
theorem dX8_shiftedOf_33 : decode cX8_shiftedOf 33 = .ok (.aload_n 0, 1) := dk_42 (dk_at dksX8_shiftedOf_1 9 rfl rfl)
theorem dX8_shiftedOf_34 : decode cX8_shiftedOf 34 = .ok (.iconst 1, 1) := dk_4 (dk_at dksX8_shiftedOf_1 10 rfl rfl)
theorem dX8_shiftedOf_35 : decode cX8_shiftedOf 35 = .ok (.iload 4, 2) := dk_21 4 (dk_at dksX8_shiftedOf_1 11 rfl rfl)
theorem dX8_shiftedOf_37 : decode cX8_shiftedOf 37 = .ok (.iload_n 3, 1) := dk_29 (dk_at dksX8_shiftedOf_1 13 rfl rfl)
theorem dX8_shiftedOf_38 : decode cX8_shiftedOf 38 = .ok (.isub, 1) := dk_100 (dk_at dksX8_shiftedOf_1 14 rfl rfl)
theorem dX8_shiftedOf_39 : decode cX8_shiftedOf 39 = .ok (.iload_n 1, 1) := dk_27 (dk_at dksX8_shiftedOf_1 15 rfl rfl)
theorem dX8_shiftedOf_40 : decode cX8_shiftedOf 40 = .ok (.invokevirtual 328, 3) := dk_182 1 72 (dk_at dksX8_shiftedOf_1 16 rfl rfl)
theorem dX8_shiftedOf_43 : decode cX8_shiftedOf 43 = .ok (.invokevirtual 287, 3) := dk_182 1 31 (dk_at dksX8_shiftedOf_1 19 rfl rfl)
theorem dX8_shiftedOf_46 : decode cX8_shiftedOf 46 = .ok (.ifCond .eq 7, 3) := dk_153 0 7 (dk_at dksX8_shiftedOf_2 0 rfl rfl)
theorem dX8_shiftedOf_49 : decode cX8_shiftedOf 49 = .ok (.iconst 1, 1) := dk_4 (dk_at dksX8_shiftedOf_2 3 rfl rfl)
theorem dX8_shiftedOf_50 : decode cX8_shiftedOf 50 = .ok (.goto 4, 3) := dk_167 0 4 (dk_at dksX8_shiftedOf_2 4 rfl rfl)
theorem dX8_shiftedOf_53 : decode cX8_shiftedOf 53 = .ok (.iconst 0, 1) := dk_3 (dk_at dksX8_shiftedOf_2 7 rfl rfl)
theorem dX8_shiftedOf_54 : decode cX8_shiftedOf 54 = .ok (.iadd, 1) := dk_96 (dk_at dksX8_shiftedOf_2 8 rfl rfl)
theorem dX8_shiftedOf_55 : decode cX8_shiftedOf 55 = .ok (.istore_n 2, 1) := dk_61 (dk_at dksX8_shiftedOf_2 9 rfl rfl)
theorem dX8_shiftedOf_56 : decode cX8_shiftedOf 56 = .ok (.iload_n 2, 1) := dk_28 (dk_at dksX8_shiftedOf_2 10 rfl rfl)
theorem dX8_shiftedOf_57 : decode cX8_shiftedOf 57 = .ok (.aload_n 0, 1) := dk_42 (dk_at dksX8_shiftedOf_2 11 rfl rfl)
theorem dX8_shiftedOf_58 : decode cX8_shiftedOf 58 = .ok (.aload_n 0, 1) := dk_42 (dk_at dksX8_shiftedOf_2 12 rfl rfl)
theorem dX8_shiftedOf_59 : decode cX8_shiftedOf 59 = .ok (.iconst 1, 1) := dk_4 (dk_at dksX8_shiftedOf_2 13 rfl rfl)
theorem dX8_shiftedOf_60 : decode cX8_shiftedOf 60 = .ok (.iload 4, 2) := dk_21 4 (dk_at dksX8_shiftedOf_2 14 rfl rfl)
theorem dX8_shiftedOf_62 : decode cX8_shiftedOf 62 = .ok (.iload_n 1, 1) := dk_27 (dk_at dksX8_shiftedOf_2 16 rfl rfl)
theorem dX8_shiftedOf_63 : decode cX8_shiftedOf 63 = .ok (.invokevirtual 328, 3) := dk_182 1 72 (dk_at dksX8_shiftedOf_2 17 rfl rfl)
theorem dX8_shiftedOf_66 : decode cX8_shiftedOf 66 = .ok (.aload_n 0, 1) := dk_42 (dk_at dksX8_shiftedOf_2 20 rfl rfl)
theorem dX8_shiftedOf_67 : decode cX8_shiftedOf 67 = .ok (.iconst 0, 1) := dk_3 (dk_at dksX8_shiftedOf_2 21 rfl rfl)
theorem dX8_shiftedOf_68 : decode cX8_shiftedOf 68 = .ok (.iload 4, 2) := dk_21 4 (dk_at dksX8_shiftedOf_2 22 rfl rfl)
theorem dX8_shiftedOf_70 : decode cX8_shiftedOf 70 = .ok (.iload_n 3, 1) := dk_29 (dk_at dksX8_shiftedOf_3 0 rfl rfl)
theorem dX8_shiftedOf_71 : decode cX8_shiftedOf 71 = .ok (.isub, 1) := dk_100 (dk_at dksX8_shiftedOf_3 1 rfl rfl)
theorem dX8_shiftedOf_72 : decode cX8_shiftedOf 72 = .ok (.iconst 0, 1) := dk_3 (dk_at dksX8_shiftedOf_3 2 rfl rfl)
theorem dX8_shiftedOf_73 : decode cX8_shiftedOf 73 = .ok (.invokevirtual 328, 3) := dk_182 1 72 (dk_at dksX8_shiftedOf_3 3 rfl rfl)
theorem dX8_shiftedOf_76 : decode cX8_shiftedOf 76 = .ok (.invokevirtual 287, 3) := dk_182 1 31 (dk_at dksX8_shiftedOf_3 6 rfl rfl)
theorem dX8_shiftedOf_79 : decode cX8_shiftedOf 79 = .ok (.ifCond .eq 7, 3) := dk_153 0 7 (dk_at dksX8_shiftedOf_3 9 rfl rfl)
theorem dX8_shiftedOf_82 : decode cX8_shiftedOf 82 = .ok (.iconst 1, 1) := dk_4 (dk_at dksX8_shiftedOf_3 12 rfl rfl)
theorem dX8_shiftedOf_83 : decode cX8_shiftedOf 83 = .ok (.goto 4, 3) := dk_167 0 4 (dk_at dksX8_shiftedOf_3 13 rfl rfl)
theorem dX8_shiftedOf_86 : decode cX8_shiftedOf 86 = .ok (.iconst 0, 1) := dk_3 (dk_at dksX8_shiftedOf_3 16 rfl rfl)
theorem dX8_shiftedOf_87 : decode cX8_shiftedOf 87 = .ok (.iadd, 1) := dk_96 (dk_at dksX8_shiftedOf_3 17 rfl rfl)
theorem dX8_shiftedOf_88 : decode cX8_shiftedOf 88 = .ok (.istore_n 2, 1) := dk_61 (dk_at dksX8_shiftedOf_3 18 rfl rfl)
theorem dX8_shiftedOf_89 : decode cX8_shiftedOf 89 = .ok (.iinc 4 1, 3) := dk_132 4 1 (dk_at dksX8_shiftedOf_3 19 rfl rfl)
theorem dX8_shiftedOf_92 : decode cX8_shiftedOf 92 = .ok (.goto (-80), 3) := dk_167 255 176 (dk_at dksX8_shiftedOf_4 0 rfl rfl)
theorem dX8_shiftedOf_95 : decode cX8_shiftedOf 95 = .ok (.iload_n 2, 1) := dk_28 (dk_at dksX8_shiftedOf_4 3 rfl rfl)
theorem dX8_shiftedOf_96 : decode cX8_shiftedOf 96 = .ok (.ireturn, 1) := dk_172 (dk_at dksX8_shiftedOf_4 4 rfl rfl)
abbrev cX8_plain : ByteArray := prog_13_method_76_code
def yX8_plain : MethodName := ⟨RX8, "plain", "(III)I"⟩
def dkwX8_plain_1 : List UInt8 := [182, 1, 8, 112, 96, 46, 172]
abbrev dktX8_plain_1 : List UInt8 := dkwX8_plain_1 ++ []
def dkwX8_plain_0 : List UInt8 := [42, 180, 0, 37, 16, 12, 27, 104, 42, 180, 0, 34, 8, 27, 96, 46, 28, 96, 29, 96, 42, 27]
abbrev dktX8_plain_0 : List UInt8 := dkwX8_plain_0 ++ dktX8_plain_1
theorem dksX8_plain_0 : cX8_plain.data.toList.drop 0 = dktX8_plain_0 := by decide +kernel
theorem dksX8_plain_1 : cX8_plain.data.toList.drop 22 = dktX8_plain_1 := dk_seg dksX8_plain_0 22 rfl rfl
theorem dX8_plain_0 : decode cX8_plain 0 = .ok (.aload_n 0, 1) := dk_42 (dk_at dksX8_plain_0 0 rfl rfl)
theorem dX8_plain_1 : decode cX8_plain 1 = .ok (.getfield 37, 3) := dk_180 0 37 (dk_at dksX8_plain_0 1 rfl rfl)
theorem dX8_plain_4 : decode cX8_plain 4 = .ok (.bipush 12, 2) := dk_16 12 (dk_at dksX8_plain_0 4 rfl rfl)
theorem dX8_plain_6 : decode cX8_plain 6 = .ok (.iload_n 1, 1) := dk_27 (dk_at dksX8_plain_0 6 rfl rfl)
theorem dX8_plain_7 : decode cX8_plain 7 = .ok (.imul, 1) := dk_104 (dk_at dksX8_plain_0 7 rfl rfl)
theorem dX8_plain_8 : decode cX8_plain 8 = .ok (.aload_n 0, 1) := dk_42 (dk_at dksX8_plain_0 8 rfl rfl)
theorem dX8_plain_9 : decode cX8_plain 9 = .ok (.getfield 34, 3) := dk_180 0 34 (dk_at dksX8_plain_0 9 rfl rfl)
theorem dX8_plain_12 : decode cX8_plain 12 = .ok (.iconst 5, 1) := dk_8 (dk_at dksX8_plain_0 12 rfl rfl)
theorem dX8_plain_13 : decode cX8_plain 13 = .ok (.iload_n 1, 1) := dk_27 (dk_at dksX8_plain_0 13 rfl rfl)
theorem dX8_plain_14 : decode cX8_plain 14 = .ok (.iadd, 1) := dk_96 (dk_at dksX8_plain_0 14 rfl rfl)
theorem dX8_plain_15 : decode cX8_plain 15 = .ok (.iaload, 1) := dk_46 (dk_at dksX8_plain_0 15 rfl rfl)
theorem dX8_plain_16 : decode cX8_plain 16 = .ok (.iload_n 2, 1) := dk_28 (dk_at dksX8_plain_0 16 rfl rfl)
theorem dX8_plain_17 : decode cX8_plain 17 = .ok (.iadd, 1) := dk_96 (dk_at dksX8_plain_0 17 rfl rfl)
theorem dX8_plain_18 : decode cX8_plain 18 = .ok (.iload_n 3, 1) := dk_29 (dk_at dksX8_plain_0 18 rfl rfl)
theorem dX8_plain_19 : decode cX8_plain 19 = .ok (.iadd, 1) := dk_96 (dk_at dksX8_plain_0 19 rfl rfl)
theorem dX8_plain_20 : decode cX8_plain 20 = .ok (.aload_n 0, 1) := dk_42 (dk_at dksX8_plain_0 20 rfl rfl)
theorem dX8_plain_21 : decode cX8_plain 21 = .ok (.iload_n 1, 1) := dk_27 (dk_at dksX8_plain_0 21 rfl rfl)
theorem dX8_plain_22 : decode cX8_plain 22 = .ok (.invokevirtual 264, 3) := dk_182 1 8 (dk_at dksX8_plain_1 0 rfl rfl)
theorem dX8_plain_25 : decode cX8_plain 25 = .ok (.irem, 1) := dk_112 (dk_at dksX8_plain_1 3 rfl rfl)
theorem dX8_plain_26 : decode cX8_plain 26 = .ok (.iadd, 1) := dk_96 (dk_at dksX8_plain_1 4 rfl rfl)
theorem dX8_plain_27 : decode cX8_plain 27 = .ok (.iaload, 1) := dk_46 (dk_at dksX8_plain_1 5 rfl rfl)
theorem dX8_plain_28 : decode cX8_plain 28 = .ok (.ireturn, 1) := dk_172 (dk_at dksX8_plain_1 6 rfl rfl)
abbrev cX8_shift : ByteArray := prog_13_method_80_code
def yX8_shift : MethodName := ⟨RX8, "shift", "()I"⟩
def dkwX8_shift_2 : List UInt8 := [167, 255, 234, 2, 172]
abbrev dktX8_shift_2 : List UInt8 := dkwX8_shift_2 ++ []
def dkwX8_shift_1 : List UInt8 := [27, 42, 4, 182, 1, 8, 162, 0, 19, 42, 27, 182, 1, 75, 154, 0, 5, 27, 172, 132, 1, 1]
abbrev dktX8_shift_1 : List UInt8 := dkwX8_shift_1 ++ dktX8_shift_2
def dkwX8_shift_0 : List UInt8 := [42, 3, 181, 0, 80, 42, 182, 0, 254, 153, 0, 10, 42, 182, 1, 66, 154, 0, 6, 16, 254, 172, 3, 60]
abbrev dktX8_shift_0 : List UInt8 := dkwX8_shift_0 ++ dktX8_shift_1
theorem dksX8_shift_0 : cX8_shift.data.toList.drop 0 = dktX8_shift_0 := by decide +kernel
theorem dksX8_shift_1 : cX8_shift.data.toList.drop 24 = dktX8_shift_1 := dk_seg dksX8_shift_0 24 rfl rfl
theorem dksX8_shift_2 : cX8_shift.data.toList.drop 46 = dktX8_shift_2 := dk_seg dksX8_shift_1 22 rfl rfl
theorem dX8_shift_0 : decode cX8_shift 0 = .ok (.aload_n 0, 1) := dk_42 (dk_at dksX8_shift_0 0 rfl rfl)
theorem dX8_shift_1 : decode cX8_shift 1 = .ok (.iconst 0, 1) := dk_3 (dk_at dksX8_shift_0 1 rfl rfl)
theorem dX8_shift_2 : decode cX8_shift 2 = .ok (.putfield 80, 3) := dk_181 0 80 (dk_at dksX8_shift_0 2 rfl rfl)
theorem dX8_shift_5 : decode cX8_shift 5 = .ok (.aload_n 0, 1) := dk_42 (dk_at dksX8_shift_0 5 rfl rfl)
theorem dX8_shift_6 : decode cX8_shift 6 = .ok (.invokevirtual 254, 3) := dk_182 0 254 (dk_at dksX8_shift_0 6 rfl rfl)
theorem dX8_shift_9 : decode cX8_shift 9 = .ok (.ifCond .eq 10, 3) := dk_153 0 10 (dk_at dksX8_shift_0 9 rfl rfl)
theorem dX8_shift_12 : decode cX8_shift 12 = .ok (.aload_n 0, 1) := dk_42 (dk_at dksX8_shift_0 12 rfl rfl)
theorem dX8_shift_13 : decode cX8_shift 13 = .ok (.invokevirtual 322, 3) := dk_182 1 66 (dk_at dksX8_shift_0 13 rfl rfl)
theorem dX8_shift_16 : decode cX8_shift 16 = .ok (.ifCond .ne 6, 3) := dk_154 0 6 (dk_at dksX8_shift_0 16 rfl rfl)
theorem dX8_shift_19 : decode cX8_shift 19 = .ok (.bipush (-2), 2) := dk_16 254 (dk_at dksX8_shift_0 19 rfl rfl)
theorem dX8_shift_21 : decode cX8_shift 21 = .ok (.ireturn, 1) := dk_172 (dk_at dksX8_shift_0 21 rfl rfl)
theorem dX8_shift_22 : decode cX8_shift 22 = .ok (.iconst 0, 1) := dk_3 (dk_at dksX8_shift_0 22 rfl rfl)
theorem dX8_shift_23 : decode cX8_shift 23 = .ok (.istore_n 1, 1) := dk_60 (dk_at dksX8_shift_0 23 rfl rfl)
theorem dX8_shift_24 : decode cX8_shift 24 = .ok (.iload_n 1, 1) := dk_27 (dk_at dksX8_shift_1 0 rfl rfl)
theorem dX8_shift_25 : decode cX8_shift 25 = .ok (.aload_n 0, 1) := dk_42 (dk_at dksX8_shift_1 1 rfl rfl)
theorem dX8_shift_26 : decode cX8_shift 26 = .ok (.iconst 1, 1) := dk_4 (dk_at dksX8_shift_1 2 rfl rfl)
theorem dX8_shift_27 : decode cX8_shift 27 = .ok (.invokevirtual 264, 3) := dk_182 1 8 (dk_at dksX8_shift_1 3 rfl rfl)
theorem dX8_shift_30 : decode cX8_shift 30 = .ok (.if_icmp .ge 19, 3) := dk_162 0 19 (dk_at dksX8_shift_1 6 rfl rfl)
theorem dX8_shift_33 : decode cX8_shift 33 = .ok (.aload_n 0, 1) := dk_42 (dk_at dksX8_shift_1 9 rfl rfl)
theorem dX8_shift_34 : decode cX8_shift 34 = .ok (.iload_n 1, 1) := dk_27 (dk_at dksX8_shift_1 10 rfl rfl)
theorem dX8_shift_35 : decode cX8_shift 35 = .ok (.invokevirtual 331, 3) := dk_182 1 75 (dk_at dksX8_shift_1 11 rfl rfl)
theorem dX8_shift_38 : decode cX8_shift 38 = .ok (.ifCond .ne 5, 3) := dk_154 0 5 (dk_at dksX8_shift_1 14 rfl rfl)
theorem dX8_shift_41 : decode cX8_shift 41 = .ok (.iload_n 1, 1) := dk_27 (dk_at dksX8_shift_1 17 rfl rfl)
theorem dX8_shift_42 : decode cX8_shift 42 = .ok (.ireturn, 1) := dk_172 (dk_at dksX8_shift_1 18 rfl rfl)
theorem dX8_shift_43 : decode cX8_shift 43 = .ok (.iinc 1 1, 3) := dk_132 1 1 (dk_at dksX8_shift_1 19 rfl rfl)
theorem dX8_shift_46 : decode cX8_shift 46 = .ok (.goto (-22), 3) := dk_167 255 234 (dk_at dksX8_shift_2 0 rfl rfl)
theorem dX8_shift_49 : decode cX8_shift 49 = .ok (.iconst (-1), 1) := dk_2 (dk_at dksX8_shift_2 3 rfl rfl)
theorem dX8_shift_50 : decode cX8_shift 50 = .ok (.ireturn, 1) := dk_172 (dk_at dksX8_shift_2 4 rfl rfl)
abbrev cX8_least : ByteArray := prog_13_method_81_code
def yX8_least : MethodName := ⟨RX8, "least", "()I"⟩
def dkwX8_least_2 : List UInt8 := [28, 60, 132, 2, 1, 167, 255, 229, 27, 172]
abbrev dktX8_least_2 : List UInt8 := dkwX8_least_2 ++ []
def dkwX8_least_1 : List UInt8 := [4, 61, 28, 42, 4, 182, 1, 8, 162, 0, 24, 42, 28, 182, 1, 75, 42, 27, 182, 1, 75, 162, 0, 5]
abbrev dktX8_least_1 : List UInt8 := dkwX8_least_1 ++ dktX8_least_2
def dkwX8_least_0 : List UInt8 := [42, 3, 181, 0, 80, 42, 182, 0, 254, 153, 0, 10, 42, 182, 1, 66, 154, 0, 6, 16, 254, 172, 3, 60]
abbrev dktX8_least_0 : List UInt8 := dkwX8_least_0 ++ dktX8_least_1
theorem dksX8_least_0 : cX8_least.data.toList.drop 0 = dktX8_least_0 := by decide +kernel
theorem dksX8_least_1 : cX8_least.data.toList.drop 24 = dktX8_least_1 := dk_seg dksX8_least_0 24 rfl rfl
theorem dksX8_least_2 : cX8_least.data.toList.drop 48 = dktX8_least_2 := dk_seg dksX8_least_1 24 rfl rfl
theorem dX8_least_0 : decode cX8_least 0 = .ok (.aload_n 0, 1) := dk_42 (dk_at dksX8_least_0 0 rfl rfl)
theorem dX8_least_1 : decode cX8_least 1 = .ok (.iconst 0, 1) := dk_3 (dk_at dksX8_least_0 1 rfl rfl)
theorem dX8_least_2 : decode cX8_least 2 = .ok (.putfield 80, 3) := dk_181 0 80 (dk_at dksX8_least_0 2 rfl rfl)
theorem dX8_least_5 : decode cX8_least 5 = .ok (.aload_n 0, 1) := dk_42 (dk_at dksX8_least_0 5 rfl rfl)
theorem dX8_least_6 : decode cX8_least 6 = .ok (.invokevirtual 254, 3) := dk_182 0 254 (dk_at dksX8_least_0 6 rfl rfl)
theorem dX8_least_9 : decode cX8_least 9 = .ok (.ifCond .eq 10, 3) := dk_153 0 10 (dk_at dksX8_least_0 9 rfl rfl)
theorem dX8_least_12 : decode cX8_least 12 = .ok (.aload_n 0, 1) := dk_42 (dk_at dksX8_least_0 12 rfl rfl)
theorem dX8_least_13 : decode cX8_least 13 = .ok (.invokevirtual 322, 3) := dk_182 1 66 (dk_at dksX8_least_0 13 rfl rfl)
theorem dX8_least_16 : decode cX8_least 16 = .ok (.ifCond .ne 6, 3) := dk_154 0 6 (dk_at dksX8_least_0 16 rfl rfl)
theorem dX8_least_19 : decode cX8_least 19 = .ok (.bipush (-2), 2) := dk_16 254 (dk_at dksX8_least_0 19 rfl rfl)
theorem dX8_least_21 : decode cX8_least 21 = .ok (.ireturn, 1) := dk_172 (dk_at dksX8_least_0 21 rfl rfl)
theorem dX8_least_22 : decode cX8_least 22 = .ok (.iconst 0, 1) := dk_3 (dk_at dksX8_least_0 22 rfl rfl)
theorem dX8_least_23 : decode cX8_least 23 = .ok (.istore_n 1, 1) := dk_60 (dk_at dksX8_least_0 23 rfl rfl)
theorem dX8_least_24 : decode cX8_least 24 = .ok (.iconst 1, 1) := dk_4 (dk_at dksX8_least_1 0 rfl rfl)
theorem dX8_least_25 : decode cX8_least 25 = .ok (.istore_n 2, 1) := dk_61 (dk_at dksX8_least_1 1 rfl rfl)
theorem dX8_least_26 : decode cX8_least 26 = .ok (.iload_n 2, 1) := dk_28 (dk_at dksX8_least_1 2 rfl rfl)
theorem dX8_least_27 : decode cX8_least 27 = .ok (.aload_n 0, 1) := dk_42 (dk_at dksX8_least_1 3 rfl rfl)
theorem dX8_least_28 : decode cX8_least 28 = .ok (.iconst 1, 1) := dk_4 (dk_at dksX8_least_1 4 rfl rfl)
theorem dX8_least_29 : decode cX8_least 29 = .ok (.invokevirtual 264, 3) := dk_182 1 8 (dk_at dksX8_least_1 5 rfl rfl)
theorem dX8_least_32 : decode cX8_least 32 = .ok (.if_icmp .ge 24, 3) := dk_162 0 24 (dk_at dksX8_least_1 8 rfl rfl)
theorem dX8_least_35 : decode cX8_least 35 = .ok (.aload_n 0, 1) := dk_42 (dk_at dksX8_least_1 11 rfl rfl)
theorem dX8_least_36 : decode cX8_least 36 = .ok (.iload_n 2, 1) := dk_28 (dk_at dksX8_least_1 12 rfl rfl)
theorem dX8_least_37 : decode cX8_least 37 = .ok (.invokevirtual 331, 3) := dk_182 1 75 (dk_at dksX8_least_1 13 rfl rfl)
theorem dX8_least_40 : decode cX8_least 40 = .ok (.aload_n 0, 1) := dk_42 (dk_at dksX8_least_1 16 rfl rfl)
theorem dX8_least_41 : decode cX8_least 41 = .ok (.iload_n 1, 1) := dk_27 (dk_at dksX8_least_1 17 rfl rfl)
theorem dX8_least_42 : decode cX8_least 42 = .ok (.invokevirtual 331, 3) := dk_182 1 75 (dk_at dksX8_least_1 18 rfl rfl)
theorem dX8_least_45 : decode cX8_least 45 = .ok (.if_icmp .ge 5, 3) := dk_162 0 5 (dk_at dksX8_least_1 21 rfl rfl)
theorem dX8_least_48 : decode cX8_least 48 = .ok (.iload_n 2, 1) := dk_28 (dk_at dksX8_least_2 0 rfl rfl)
theorem dX8_least_49 : decode cX8_least 49 = .ok (.istore_n 1, 1) := dk_60 (dk_at dksX8_least_2 1 rfl rfl)
theorem dX8_least_50 : decode cX8_least 50 = .ok (.iinc 2 1, 3) := dk_132 2 1 (dk_at dksX8_least_2 2 rfl rfl)
theorem dX8_least_53 : decode cX8_least 53 = .ok (.goto (-27), 3) := dk_167 255 229 (dk_at dksX8_least_2 5 rfl rfl)
theorem dX8_least_56 : decode cX8_least 56 = .ok (.iload_n 1, 1) := dk_27 (dk_at dksX8_least_2 8 rfl rfl)
theorem dX8_least_57 : decode cX8_least 57 = .ok (.ireturn, 1) := dk_172 (dk_at dksX8_least_2 9 rfl rfl)
abbrev cX8_mend : ByteArray := prog_13_method_85_code
def yX8_mend : MethodName := ⟨RX8, "mend", "(I)I"⟩
def dkwX8_mend_3 : List UInt8 := [3, 96, 61, 132, 3, 1, 167, 255, 216, 28, 172]
abbrev dktX8_mend_3 : List UInt8 := dkwX8_mend_3 ++ []
def dkwX8_mend_2 : List UInt8 := [42, 27, 29, 182, 1, 81, 42, 180, 0, 37, 16, 12, 27, 104, 29, 96, 46, 159, 0, 7, 4, 167, 0, 4]
abbrev dktX8_mend_2 : List UInt8 := dkwX8_mend_2 ++ dktX8_mend_3
def dkwX8_mend_1 : List UInt8 := [27, 182, 1, 84, 2, 159, 0, 5, 2, 172, 3, 61, 3, 62, 29, 42, 27, 182, 1, 8, 162, 0, 37, 28]
abbrev dktX8_mend_1 : List UInt8 := dkwX8_mend_1 ++ dktX8_mend_2
def dkwX8_mend_0 : List UInt8 := [42, 3, 181, 0, 80, 42, 27, 182, 1, 5, 153, 0, 10, 42, 182, 1, 66, 154, 0, 6, 16, 254, 172, 42]
abbrev dktX8_mend_0 : List UInt8 := dkwX8_mend_0 ++ dktX8_mend_1
theorem dksX8_mend_0 : cX8_mend.data.toList.drop 0 = dktX8_mend_0 := by decide +kernel
theorem dksX8_mend_1 : cX8_mend.data.toList.drop 24 = dktX8_mend_1 := dk_seg dksX8_mend_0 24 rfl rfl
theorem dksX8_mend_2 : cX8_mend.data.toList.drop 48 = dktX8_mend_2 := dk_seg dksX8_mend_1 24 rfl rfl
theorem dksX8_mend_3 : cX8_mend.data.toList.drop 72 = dktX8_mend_3 := dk_seg dksX8_mend_2 24 rfl rfl
theorem dX8_mend_0 : decode cX8_mend 0 = .ok (.aload_n 0, 1) := dk_42 (dk_at dksX8_mend_0 0 rfl rfl)
theorem dX8_mend_1 : decode cX8_mend 1 = .ok (.iconst 0, 1) := dk_3 (dk_at dksX8_mend_0 1 rfl rfl)
theorem dX8_mend_2 : decode cX8_mend 2 = .ok (.putfield 80, 3) := dk_181 0 80 (dk_at dksX8_mend_0 2 rfl rfl)
theorem dX8_mend_5 : decode cX8_mend 5 = .ok (.aload_n 0, 1) := dk_42 (dk_at dksX8_mend_0 5 rfl rfl)
theorem dX8_mend_6 : decode cX8_mend 6 = .ok (.iload_n 1, 1) := dk_27 (dk_at dksX8_mend_0 6 rfl rfl)
theorem dX8_mend_7 : decode cX8_mend 7 = .ok (.invokevirtual 261, 3) := dk_182 1 5 (dk_at dksX8_mend_0 7 rfl rfl)
theorem dX8_mend_10 : decode cX8_mend 10 = .ok (.ifCond .eq 10, 3) := dk_153 0 10 (dk_at dksX8_mend_0 10 rfl rfl)
theorem dX8_mend_13 : decode cX8_mend 13 = .ok (.aload_n 0, 1) := dk_42 (dk_at dksX8_mend_0 13 rfl rfl)
theorem dX8_mend_14 : decode cX8_mend 14 = .ok (.invokevirtual 322, 3) := dk_182 1 66 (dk_at dksX8_mend_0 14 rfl rfl)
theorem dX8_mend_17 : decode cX8_mend 17 = .ok (.ifCond .ne 6, 3) := dk_154 0 6 (dk_at dksX8_mend_0 17 rfl rfl)
theorem dX8_mend_20 : decode cX8_mend 20 = .ok (.bipush (-2), 2) := dk_16 254 (dk_at dksX8_mend_0 20 rfl rfl)
theorem dX8_mend_22 : decode cX8_mend 22 = .ok (.ireturn, 1) := dk_172 (dk_at dksX8_mend_0 22 rfl rfl)
theorem dX8_mend_23 : decode cX8_mend 23 = .ok (.aload_n 0, 1) := dk_42 (dk_at dksX8_mend_0 23 rfl rfl)
theorem dX8_mend_24 : decode cX8_mend 24 = .ok (.iload_n 1, 1) := dk_27 (dk_at dksX8_mend_1 0 rfl rfl)
theorem dX8_mend_25 : decode cX8_mend 25 = .ok (.invokevirtual 340, 3) := dk_182 1 84 (dk_at dksX8_mend_1 1 rfl rfl)
theorem dX8_mend_28 : decode cX8_mend 28 = .ok (.iconst (-1), 1) := dk_2 (dk_at dksX8_mend_1 4 rfl rfl)
theorem dX8_mend_29 : decode cX8_mend 29 = .ok (.if_icmp .eq 5, 3) := dk_159 0 5 (dk_at dksX8_mend_1 5 rfl rfl)
theorem dX8_mend_32 : decode cX8_mend 32 = .ok (.iconst (-1), 1) := dk_2 (dk_at dksX8_mend_1 8 rfl rfl)
theorem dX8_mend_33 : decode cX8_mend 33 = .ok (.ireturn, 1) := dk_172 (dk_at dksX8_mend_1 9 rfl rfl)
theorem dX8_mend_34 : decode cX8_mend 34 = .ok (.iconst 0, 1) := dk_3 (dk_at dksX8_mend_1 10 rfl rfl)
theorem dX8_mend_35 : decode cX8_mend 35 = .ok (.istore_n 2, 1) := dk_61 (dk_at dksX8_mend_1 11 rfl rfl)
theorem dX8_mend_36 : decode cX8_mend 36 = .ok (.iconst 0, 1) := dk_3 (dk_at dksX8_mend_1 12 rfl rfl)
theorem dX8_mend_37 : decode cX8_mend 37 = .ok (.istore_n 3, 1) := dk_62 (dk_at dksX8_mend_1 13 rfl rfl)
theorem dX8_mend_38 : decode cX8_mend 38 = .ok (.iload_n 3, 1) := dk_29 (dk_at dksX8_mend_1 14 rfl rfl)
theorem dX8_mend_39 : decode cX8_mend 39 = .ok (.aload_n 0, 1) := dk_42 (dk_at dksX8_mend_1 15 rfl rfl)
theorem dX8_mend_40 : decode cX8_mend 40 = .ok (.iload_n 1, 1) := dk_27 (dk_at dksX8_mend_1 16 rfl rfl)
theorem dX8_mend_41 : decode cX8_mend 41 = .ok (.invokevirtual 264, 3) := dk_182 1 8 (dk_at dksX8_mend_1 17 rfl rfl)
theorem dX8_mend_44 : decode cX8_mend 44 = .ok (.if_icmp .ge 37, 3) := dk_162 0 37 (dk_at dksX8_mend_1 20 rfl rfl)
theorem dX8_mend_47 : decode cX8_mend 47 = .ok (.iload_n 2, 1) := dk_28 (dk_at dksX8_mend_1 23 rfl rfl)
theorem dX8_mend_48 : decode cX8_mend 48 = .ok (.aload_n 0, 1) := dk_42 (dk_at dksX8_mend_2 0 rfl rfl)
theorem dX8_mend_49 : decode cX8_mend 49 = .ok (.iload_n 1, 1) := dk_27 (dk_at dksX8_mend_2 1 rfl rfl)
theorem dX8_mend_50 : decode cX8_mend 50 = .ok (.iload_n 3, 1) := dk_29 (dk_at dksX8_mend_2 2 rfl rfl)
theorem dX8_mend_51 : decode cX8_mend 51 = .ok (.invokevirtual 337, 3) := dk_182 1 81 (dk_at dksX8_mend_2 3 rfl rfl)
theorem dX8_mend_54 : decode cX8_mend 54 = .ok (.aload_n 0, 1) := dk_42 (dk_at dksX8_mend_2 6 rfl rfl)
theorem dX8_mend_55 : decode cX8_mend 55 = .ok (.getfield 37, 3) := dk_180 0 37 (dk_at dksX8_mend_2 7 rfl rfl)
theorem dX8_mend_58 : decode cX8_mend 58 = .ok (.bipush 12, 2) := dk_16 12 (dk_at dksX8_mend_2 10 rfl rfl)
theorem dX8_mend_60 : decode cX8_mend 60 = .ok (.iload_n 1, 1) := dk_27 (dk_at dksX8_mend_2 12 rfl rfl)
theorem dX8_mend_61 : decode cX8_mend 61 = .ok (.imul, 1) := dk_104 (dk_at dksX8_mend_2 13 rfl rfl)
theorem dX8_mend_62 : decode cX8_mend 62 = .ok (.iload_n 3, 1) := dk_29 (dk_at dksX8_mend_2 14 rfl rfl)
theorem dX8_mend_63 : decode cX8_mend 63 = .ok (.iadd, 1) := dk_96 (dk_at dksX8_mend_2 15 rfl rfl)
theorem dX8_mend_64 : decode cX8_mend 64 = .ok (.iaload, 1) := dk_46 (dk_at dksX8_mend_2 16 rfl rfl)
theorem dX8_mend_65 : decode cX8_mend 65 = .ok (.if_icmp .eq 7, 3) := dk_159 0 7 (dk_at dksX8_mend_2 17 rfl rfl)
theorem dX8_mend_68 : decode cX8_mend 68 = .ok (.iconst 1, 1) := dk_4 (dk_at dksX8_mend_2 20 rfl rfl)
theorem dX8_mend_69 : decode cX8_mend 69 = .ok (.goto 4, 3) := dk_167 0 4 (dk_at dksX8_mend_2 21 rfl rfl)
theorem dX8_mend_72 : decode cX8_mend 72 = .ok (.iconst 0, 1) := dk_3 (dk_at dksX8_mend_3 0 rfl rfl)
theorem dX8_mend_73 : decode cX8_mend 73 = .ok (.iadd, 1) := dk_96 (dk_at dksX8_mend_3 1 rfl rfl)
theorem dX8_mend_74 : decode cX8_mend 74 = .ok (.istore_n 2, 1) := dk_61 (dk_at dksX8_mend_3 2 rfl rfl)
theorem dX8_mend_75 : decode cX8_mend 75 = .ok (.iinc 3 1, 3) := dk_132 3 1 (dk_at dksX8_mend_3 3 rfl rfl)
theorem dX8_mend_78 : decode cX8_mend 78 = .ok (.goto (-40), 3) := dk_167 255 216 (dk_at dksX8_mend_3 6 rfl rfl)
theorem dX8_mend_81 : decode cX8_mend 81 = .ok (.iload_n 2, 1) := dk_28 (dk_at dksX8_mend_3 9 rfl rfl)
theorem dX8_mend_82 : decode cX8_mend 82 = .ok (.ireturn, 1) := dk_172 (dk_at dksX8_mend_3 10 rfl rfl)
abbrev cX8_stuckOf : ByteArray := prog_13_method_84_code
def yX8_stuckOf : MethodName := ⟨RX8, "stuckOf", "(I)I"⟩
def dkwX8_stuckOf_1 : List UInt8 := [132, 2, 1, 167, 255, 232, 2, 172]
abbrev dktX8_stuckOf_1 : List UInt8 := dkwX8_stuckOf_1 ++ []
def dkwX8_stuckOf_0 : List UInt8 := [3, 61, 28, 42, 27, 182, 1, 8, 162, 0, 21, 42, 27, 28, 182, 1, 81, 2, 160, 0, 5, 28, 172]
abbrev dktX8_stuckOf_0 : List UInt8 := dkwX8_stuckOf_0 ++ dktX8_stuckOf_1
theorem dksX8_stuckOf_0 : cX8_stuckOf.data.toList.drop 0 = dktX8_stuckOf_0 := by decide +kernel
theorem dksX8_stuckOf_1 : cX8_stuckOf.data.toList.drop 23 = dktX8_stuckOf_1 := dk_seg dksX8_stuckOf_0 23 rfl rfl
theorem dX8_stuckOf_0 : decode cX8_stuckOf 0 = .ok (.iconst 0, 1) := dk_3 (dk_at dksX8_stuckOf_0 0 rfl rfl)
theorem dX8_stuckOf_1 : decode cX8_stuckOf 1 = .ok (.istore_n 2, 1) := dk_61 (dk_at dksX8_stuckOf_0 1 rfl rfl)
theorem dX8_stuckOf_2 : decode cX8_stuckOf 2 = .ok (.iload_n 2, 1) := dk_28 (dk_at dksX8_stuckOf_0 2 rfl rfl)
theorem dX8_stuckOf_3 : decode cX8_stuckOf 3 = .ok (.aload_n 0, 1) := dk_42 (dk_at dksX8_stuckOf_0 3 rfl rfl)
theorem dX8_stuckOf_4 : decode cX8_stuckOf 4 = .ok (.iload_n 1, 1) := dk_27 (dk_at dksX8_stuckOf_0 4 rfl rfl)
theorem dX8_stuckOf_5 : decode cX8_stuckOf 5 = .ok (.invokevirtual 264, 3) := dk_182 1 8 (dk_at dksX8_stuckOf_0 5 rfl rfl)
theorem dX8_stuckOf_8 : decode cX8_stuckOf 8 = .ok (.if_icmp .ge 21, 3) := dk_162 0 21 (dk_at dksX8_stuckOf_0 8 rfl rfl)
theorem dX8_stuckOf_11 : decode cX8_stuckOf 11 = .ok (.aload_n 0, 1) := dk_42 (dk_at dksX8_stuckOf_0 11 rfl rfl)
theorem dX8_stuckOf_12 : decode cX8_stuckOf 12 = .ok (.iload_n 1, 1) := dk_27 (dk_at dksX8_stuckOf_0 12 rfl rfl)
theorem dX8_stuckOf_13 : decode cX8_stuckOf 13 = .ok (.iload_n 2, 1) := dk_28 (dk_at dksX8_stuckOf_0 13 rfl rfl)
theorem dX8_stuckOf_14 : decode cX8_stuckOf 14 = .ok (.invokevirtual 337, 3) := dk_182 1 81 (dk_at dksX8_stuckOf_0 14 rfl rfl)
theorem dX8_stuckOf_17 : decode cX8_stuckOf 17 = .ok (.iconst (-1), 1) := dk_2 (dk_at dksX8_stuckOf_0 17 rfl rfl)
theorem dX8_stuckOf_18 : decode cX8_stuckOf 18 = .ok (.if_icmp .ne 5, 3) := dk_160 0 5 (dk_at dksX8_stuckOf_0 18 rfl rfl)
theorem dX8_stuckOf_21 : decode cX8_stuckOf 21 = .ok (.iload_n 2, 1) := dk_28 (dk_at dksX8_stuckOf_0 21 rfl rfl)
theorem dX8_stuckOf_22 : decode cX8_stuckOf 22 = .ok (.ireturn, 1) := dk_172 (dk_at dksX8_stuckOf_0 22 rfl rfl)
theorem dX8_stuckOf_23 : decode cX8_stuckOf 23 = .ok (.iinc 2 1, 3) := dk_132 2 1 (dk_at dksX8_stuckOf_1 0 rfl rfl)
theorem dX8_stuckOf_26 : decode cX8_stuckOf 26 = .ok (.goto (-24), 3) := dk_167 255 232 (dk_at dksX8_stuckOf_1 3 rfl rfl)
theorem dX8_stuckOf_29 : decode cX8_stuckOf 29 = .ok (.iconst (-1), 1) := dk_2 (dk_at dksX8_stuckOf_1 6 rfl rfl)
theorem dX8_stuckOf_30 : decode cX8_stuckOf 30 = .ok (.ireturn, 1) := dk_172 (dk_at dksX8_stuckOf_1 7 rfl rfl)
abbrev cX8_mendedOf : ByteArray := prog_13_method_83_code
def yX8_mendedOf : MethodName := ⟨RX8, "mendedOf", "(II)I"⟩
def dkwX8_mendedOf_2 : List UInt8 := [21, 5, 184, 1, 24, 154, 0, 9, 132, 5, 1, 167, 255, 244, 21, 5, 172]
abbrev dktX8_mendedOf_2 : List UInt8 := dkwX8_mendedOf_2 ++ []
def dkwX8_mendedOf_1 : List UInt8 := [29, 21, 4, 184, 1, 24, 153, 0, 14, 29, 154, 0, 7, 2, 167, 0, 5, 21, 4, 172, 3, 54, 5, 29]
abbrev dktX8_mendedOf_1 : List UInt8 := dkwX8_mendedOf_1 ++ dktX8_mendedOf_2
def dkwX8_mendedOf_0 : List UInt8 := [42, 27, 28, 182, 1, 78, 62, 42, 180, 0, 37, 16, 12, 27, 104, 28, 96, 46, 54, 4, 29, 153, 0, 12]
abbrev dktX8_mendedOf_0 : List UInt8 := dkwX8_mendedOf_0 ++ dktX8_mendedOf_1
theorem dksX8_mendedOf_0 : cX8_mendedOf.data.toList.drop 0 = dktX8_mendedOf_0 := by decide +kernel
theorem dksX8_mendedOf_1 : cX8_mendedOf.data.toList.drop 24 = dktX8_mendedOf_1 := dk_seg dksX8_mendedOf_0 24 rfl rfl
theorem dksX8_mendedOf_2 : cX8_mendedOf.data.toList.drop 48 = dktX8_mendedOf_2 := dk_seg dksX8_mendedOf_1 24 rfl rfl
theorem dX8_mendedOf_0 : decode cX8_mendedOf 0 = .ok (.aload_n 0, 1) := dk_42 (dk_at dksX8_mendedOf_0 0 rfl rfl)
theorem dX8_mendedOf_1 : decode cX8_mendedOf 1 = .ok (.iload_n 1, 1) := dk_27 (dk_at dksX8_mendedOf_0 1 rfl rfl)
theorem dX8_mendedOf_2 : decode cX8_mendedOf 2 = .ok (.iload_n 2, 1) := dk_28 (dk_at dksX8_mendedOf_0 2 rfl rfl)
theorem dX8_mendedOf_3 : decode cX8_mendedOf 3 = .ok (.invokevirtual 334, 3) := dk_182 1 78 (dk_at dksX8_mendedOf_0 3 rfl rfl)
theorem dX8_mendedOf_6 : decode cX8_mendedOf 6 = .ok (.istore_n 3, 1) := dk_62 (dk_at dksX8_mendedOf_0 6 rfl rfl)
theorem dX8_mendedOf_7 : decode cX8_mendedOf 7 = .ok (.aload_n 0, 1) := dk_42 (dk_at dksX8_mendedOf_0 7 rfl rfl)
theorem dX8_mendedOf_8 : decode cX8_mendedOf 8 = .ok (.getfield 37, 3) := dk_180 0 37 (dk_at dksX8_mendedOf_0 8 rfl rfl)
theorem dX8_mendedOf_11 : decode cX8_mendedOf 11 = .ok (.bipush 12, 2) := dk_16 12 (dk_at dksX8_mendedOf_0 11 rfl rfl)
theorem dX8_mendedOf_13 : decode cX8_mendedOf 13 = .ok (.iload_n 1, 1) := dk_27 (dk_at dksX8_mendedOf_0 13 rfl rfl)
theorem dX8_mendedOf_14 : decode cX8_mendedOf 14 = .ok (.imul, 1) := dk_104 (dk_at dksX8_mendedOf_0 14 rfl rfl)
theorem dX8_mendedOf_15 : decode cX8_mendedOf 15 = .ok (.iload_n 2, 1) := dk_28 (dk_at dksX8_mendedOf_0 15 rfl rfl)
theorem dX8_mendedOf_16 : decode cX8_mendedOf 16 = .ok (.iadd, 1) := dk_96 (dk_at dksX8_mendedOf_0 16 rfl rfl)
theorem dX8_mendedOf_17 : decode cX8_mendedOf 17 = .ok (.iaload, 1) := dk_46 (dk_at dksX8_mendedOf_0 17 rfl rfl)
theorem dX8_mendedOf_18 : decode cX8_mendedOf 18 = .ok (.istore 4, 2) := dk_54 4 (dk_at dksX8_mendedOf_0 18 rfl rfl)
theorem dX8_mendedOf_20 : decode cX8_mendedOf 20 = .ok (.iload_n 3, 1) := dk_29 (dk_at dksX8_mendedOf_0 20 rfl rfl)
theorem dX8_mendedOf_21 : decode cX8_mendedOf 21 = .ok (.ifCond .eq 12, 3) := dk_153 0 12 (dk_at dksX8_mendedOf_0 21 rfl rfl)
theorem dX8_mendedOf_24 : decode cX8_mendedOf 24 = .ok (.iload_n 3, 1) := dk_29 (dk_at dksX8_mendedOf_1 0 rfl rfl)
theorem dX8_mendedOf_25 : decode cX8_mendedOf 25 = .ok (.iload 4, 2) := dk_21 4 (dk_at dksX8_mendedOf_1 1 rfl rfl)
theorem dX8_mendedOf_27 : decode cX8_mendedOf 27 = .ok (.invokestatic 280, 3) := dk_184 1 24 (dk_at dksX8_mendedOf_1 3 rfl rfl)
theorem dX8_mendedOf_30 : decode cX8_mendedOf 30 = .ok (.ifCond .eq 14, 3) := dk_153 0 14 (dk_at dksX8_mendedOf_1 6 rfl rfl)
theorem dX8_mendedOf_33 : decode cX8_mendedOf 33 = .ok (.iload_n 3, 1) := dk_29 (dk_at dksX8_mendedOf_1 9 rfl rfl)
theorem dX8_mendedOf_34 : decode cX8_mendedOf 34 = .ok (.ifCond .ne 7, 3) := dk_154 0 7 (dk_at dksX8_mendedOf_1 10 rfl rfl)
theorem dX8_mendedOf_37 : decode cX8_mendedOf 37 = .ok (.iconst (-1), 1) := dk_2 (dk_at dksX8_mendedOf_1 13 rfl rfl)
theorem dX8_mendedOf_38 : decode cX8_mendedOf 38 = .ok (.goto 5, 3) := dk_167 0 5 (dk_at dksX8_mendedOf_1 14 rfl rfl)
theorem dX8_mendedOf_41 : decode cX8_mendedOf 41 = .ok (.iload 4, 2) := dk_21 4 (dk_at dksX8_mendedOf_1 17 rfl rfl)
theorem dX8_mendedOf_43 : decode cX8_mendedOf 43 = .ok (.ireturn, 1) := dk_172 (dk_at dksX8_mendedOf_1 19 rfl rfl)
theorem dX8_mendedOf_44 : decode cX8_mendedOf 44 = .ok (.iconst 0, 1) := dk_3 (dk_at dksX8_mendedOf_1 20 rfl rfl)
theorem dX8_mendedOf_45 : decode cX8_mendedOf 45 = .ok (.istore 5, 2) := dk_54 5 (dk_at dksX8_mendedOf_1 21 rfl rfl)
theorem dX8_mendedOf_47 : decode cX8_mendedOf 47 = .ok (.iload_n 3, 1) := dk_29 (dk_at dksX8_mendedOf_1 23 rfl rfl)
theorem dX8_mendedOf_48 : decode cX8_mendedOf 48 = .ok (.iload 5, 2) := dk_21 5 (dk_at dksX8_mendedOf_2 0 rfl rfl)
theorem dX8_mendedOf_50 : decode cX8_mendedOf 50 = .ok (.invokestatic 280, 3) := dk_184 1 24 (dk_at dksX8_mendedOf_2 2 rfl rfl)
theorem dX8_mendedOf_53 : decode cX8_mendedOf 53 = .ok (.ifCond .ne 9, 3) := dk_154 0 9 (dk_at dksX8_mendedOf_2 5 rfl rfl)
theorem dX8_mendedOf_56 : decode cX8_mendedOf 56 = .ok (.iinc 5 1, 3) := dk_132 5 1 (dk_at dksX8_mendedOf_2 8 rfl rfl)
theorem dX8_mendedOf_59 : decode cX8_mendedOf 59 = .ok (.goto (-12), 3) := dk_167 255 244 (dk_at dksX8_mendedOf_2 11 rfl rfl)
theorem dX8_mendedOf_62 : decode cX8_mendedOf 62 = .ok (.iload 5, 2) := dk_21 5 (dk_at dksX8_mendedOf_2 14 rfl rfl)
theorem dX8_mendedOf_64 : decode cX8_mendedOf 64 = .ok (.ireturn, 1) := dk_172 (dk_at dksX8_mendedOf_2 16 rfl rfl)
abbrev cX8_mayBe : ByteArray := prog_13_method_82_code
def yX8_mayBe : MethodName := ⟨RX8, "mayBe", "(II)I"⟩
def dkwX8_mayBe_7 : List UInt8 := [4, 21, 8, 120, 2, 130, 126, 62, 132, 8, 1, 167, 255, 169, 132, 5, 1, 167, 255, 89, 29, 172]
abbrev dktX8_mayBe_7 : List UInt8 := dkwX8_mayBe_7 ++ []
def dkwX8_mayBe_6 : List UInt8 := [42, 180, 0, 40, 42, 4, 27, 100, 21, 5, 3, 182, 1, 72, 46, 21, 8, 184, 1, 24, 154, 0, 12, 29]
abbrev dktX8_mayBe_6 : List UInt8 := dkwX8_mayBe_6 ++ dktX8_mayBe_7
def dkwX8_mayBe_5 : List UInt8 := [3, 182, 1, 72, 184, 1, 24, 154, 0, 12, 29, 4, 21, 8, 120, 2, 130, 126, 62, 21, 7, 153, 0, 35]
abbrev dktX8_mayBe_5 : List UInt8 := dkwX8_mayBe_5 ++ dktX8_mayBe_6
def dkwX8_mayBe_4 : List UInt8 := [162, 0, 86, 21, 6, 153, 0, 38, 42, 180, 0, 40, 21, 8, 46, 42, 4, 27, 100, 21, 5, 21, 4, 100]
abbrev dktX8_mayBe_4 : List UInt8 := dkwX8_mayBe_4 ++ dktX8_mayBe_5
def dkwX8_mayBe_3 : List UInt8 := [182, 1, 8, 112, 28, 160, 0, 7, 4, 167, 0, 4, 3, 54, 7, 3, 54, 8, 21, 8, 16, 6]
abbrev dktX8_mayBe_3 : List UInt8 := dkwX8_mayBe_3 ++ dktX8_mayBe_4
def dkwX8_mayBe_2 : List UInt8 := [4, 167, 0, 4, 3, 54, 6, 42, 180, 0, 34, 8, 27, 96, 46, 21, 5, 96, 21, 4, 100, 42, 27]
abbrev dktX8_mayBe_2 : List UInt8 := dkwX8_mayBe_2 ++ dktX8_mayBe_3
def dkwX8_mayBe_1 : List UInt8 := [162, 0, 161, 42, 180, 0, 34, 8, 27, 96, 46, 21, 5, 96, 42, 27, 182, 1, 8, 112, 28, 160, 0, 7]
abbrev dktX8_mayBe_1 : List UInt8 := dkwX8_mayBe_1 ++ dktX8_mayBe_2
def dkwX8_mayBe_0 : List UInt8 := [16, 63, 62, 42, 180, 0, 34, 3, 46, 54, 4, 21, 4, 54, 5, 21, 5, 21, 4, 42, 182, 1, 69, 96]
abbrev dktX8_mayBe_0 : List UInt8 := dkwX8_mayBe_0 ++ dktX8_mayBe_1
theorem dksX8_mayBe_0 : cX8_mayBe.data.toList.drop 0 = dktX8_mayBe_0 := by decide +kernel
theorem dksX8_mayBe_1 : cX8_mayBe.data.toList.drop 24 = dktX8_mayBe_1 := dk_seg dksX8_mayBe_0 24 rfl rfl
theorem dksX8_mayBe_2 : cX8_mayBe.data.toList.drop 48 = dktX8_mayBe_2 := dk_seg dksX8_mayBe_1 24 rfl rfl
theorem dksX8_mayBe_3 : cX8_mayBe.data.toList.drop 71 = dktX8_mayBe_3 := dk_seg dksX8_mayBe_2 23 rfl rfl
theorem dksX8_mayBe_4 : cX8_mayBe.data.toList.drop 93 = dktX8_mayBe_4 := dk_seg dksX8_mayBe_3 22 rfl rfl
theorem dksX8_mayBe_5 : cX8_mayBe.data.toList.drop 117 = dktX8_mayBe_5 := dk_seg dksX8_mayBe_4 24 rfl rfl
theorem dksX8_mayBe_6 : cX8_mayBe.data.toList.drop 141 = dktX8_mayBe_6 := dk_seg dksX8_mayBe_5 24 rfl rfl
theorem dksX8_mayBe_7 : cX8_mayBe.data.toList.drop 165 = dktX8_mayBe_7 := dk_seg dksX8_mayBe_6 24 rfl rfl
theorem dX8_mayBe_0 : decode cX8_mayBe 0 = .ok (.bipush 63, 2) := dk_16 63 (dk_at dksX8_mayBe_0 0 rfl rfl)
theorem dX8_mayBe_2 : decode cX8_mayBe 2 = .ok (.istore_n 3, 1) := dk_62 (dk_at dksX8_mayBe_0 2 rfl rfl)
theorem dX8_mayBe_3 : decode cX8_mayBe 3 = .ok (.aload_n 0, 1) := dk_42 (dk_at dksX8_mayBe_0 3 rfl rfl)
theorem dX8_mayBe_4 : decode cX8_mayBe 4 = .ok (.getfield 34, 3) := dk_180 0 34 (dk_at dksX8_mayBe_0 4 rfl rfl)
theorem dX8_mayBe_7 : decode cX8_mayBe 7 = .ok (.iconst 0, 1) := dk_3 (dk_at dksX8_mayBe_0 7 rfl rfl)
theorem dX8_mayBe_8 : decode cX8_mayBe 8 = .ok (.iaload, 1) := dk_46 (dk_at dksX8_mayBe_0 8 rfl rfl)
theorem dX8_mayBe_9 : decode cX8_mayBe 9 = .ok (.istore 4, 2) := dk_54 4 (dk_at dksX8_mayBe_0 9 rfl rfl)
theorem dX8_mayBe_11 : decode cX8_mayBe 11 = .ok (.iload 4, 2) := dk_21 4 (dk_at dksX8_mayBe_0 11 rfl rfl)
theorem dX8_mayBe_13 : decode cX8_mayBe 13 = .ok (.istore 5, 2) := dk_54 5 (dk_at dksX8_mayBe_0 13 rfl rfl)
theorem dX8_mayBe_15 : decode cX8_mayBe 15 = .ok (.iload 5, 2) := dk_21 5 (dk_at dksX8_mayBe_0 15 rfl rfl)
theorem dX8_mayBe_17 : decode cX8_mayBe 17 = .ok (.iload 4, 2) := dk_21 4 (dk_at dksX8_mayBe_0 17 rfl rfl)
theorem dX8_mayBe_19 : decode cX8_mayBe 19 = .ok (.aload_n 0, 1) := dk_42 (dk_at dksX8_mayBe_0 19 rfl rfl)
theorem dX8_mayBe_20 : decode cX8_mayBe 20 = .ok (.invokevirtual 325, 3) := dk_182 1 69 (dk_at dksX8_mayBe_0 20 rfl rfl)
theorem dX8_mayBe_23 : decode cX8_mayBe 23 = .ok (.iadd, 1) := dk_96 (dk_at dksX8_mayBe_0 23 rfl rfl)
theorem dX8_mayBe_24 : decode cX8_mayBe 24 = .ok (.if_icmp .ge 161, 3) := dk_162 0 161 (dk_at dksX8_mayBe_1 0 rfl rfl)
theorem dX8_mayBe_27 : decode cX8_mayBe 27 = .ok (.aload_n 0, 1) := dk_42 (dk_at dksX8_mayBe_1 3 rfl rfl)
theorem dX8_mayBe_28 : decode cX8_mayBe 28 = .ok (.getfield 34, 3) := dk_180 0 34 (dk_at dksX8_mayBe_1 4 rfl rfl)
theorem dX8_mayBe_31 : decode cX8_mayBe 31 = .ok (.iconst 5, 1) := dk_8 (dk_at dksX8_mayBe_1 7 rfl rfl)
theorem dX8_mayBe_32 : decode cX8_mayBe 32 = .ok (.iload_n 1, 1) := dk_27 (dk_at dksX8_mayBe_1 8 rfl rfl)
theorem dX8_mayBe_33 : decode cX8_mayBe 33 = .ok (.iadd, 1) := dk_96 (dk_at dksX8_mayBe_1 9 rfl rfl)
theorem dX8_mayBe_34 : decode cX8_mayBe 34 = .ok (.iaload, 1) := dk_46 (dk_at dksX8_mayBe_1 10 rfl rfl)
theorem dX8_mayBe_35 : decode cX8_mayBe 35 = .ok (.iload 5, 2) := dk_21 5 (dk_at dksX8_mayBe_1 11 rfl rfl)
theorem dX8_mayBe_37 : decode cX8_mayBe 37 = .ok (.iadd, 1) := dk_96 (dk_at dksX8_mayBe_1 13 rfl rfl)
theorem dX8_mayBe_38 : decode cX8_mayBe 38 = .ok (.aload_n 0, 1) := dk_42 (dk_at dksX8_mayBe_1 14 rfl rfl)
theorem dX8_mayBe_39 : decode cX8_mayBe 39 = .ok (.iload_n 1, 1) := dk_27 (dk_at dksX8_mayBe_1 15 rfl rfl)
theorem dX8_mayBe_40 : decode cX8_mayBe 40 = .ok (.invokevirtual 264, 3) := dk_182 1 8 (dk_at dksX8_mayBe_1 16 rfl rfl)
theorem dX8_mayBe_43 : decode cX8_mayBe 43 = .ok (.irem, 1) := dk_112 (dk_at dksX8_mayBe_1 19 rfl rfl)
theorem dX8_mayBe_44 : decode cX8_mayBe 44 = .ok (.iload_n 2, 1) := dk_28 (dk_at dksX8_mayBe_1 20 rfl rfl)
theorem dX8_mayBe_45 : decode cX8_mayBe 45 = .ok (.if_icmp .ne 7, 3) := dk_160 0 7 (dk_at dksX8_mayBe_1 21 rfl rfl)
theorem dX8_mayBe_48 : decode cX8_mayBe 48 = .ok (.iconst 1, 1) := dk_4 (dk_at dksX8_mayBe_2 0 rfl rfl)
theorem dX8_mayBe_49 : decode cX8_mayBe 49 = .ok (.goto 4, 3) := dk_167 0 4 (dk_at dksX8_mayBe_2 1 rfl rfl)
theorem dX8_mayBe_52 : decode cX8_mayBe 52 = .ok (.iconst 0, 1) := dk_3 (dk_at dksX8_mayBe_2 4 rfl rfl)
theorem dX8_mayBe_53 : decode cX8_mayBe 53 = .ok (.istore 6, 2) := dk_54 6 (dk_at dksX8_mayBe_2 5 rfl rfl)
theorem dX8_mayBe_55 : decode cX8_mayBe 55 = .ok (.aload_n 0, 1) := dk_42 (dk_at dksX8_mayBe_2 7 rfl rfl)
theorem dX8_mayBe_56 : decode cX8_mayBe 56 = .ok (.getfield 34, 3) := dk_180 0 34 (dk_at dksX8_mayBe_2 8 rfl rfl)
theorem dX8_mayBe_59 : decode cX8_mayBe 59 = .ok (.iconst 5, 1) := dk_8 (dk_at dksX8_mayBe_2 11 rfl rfl)
theorem dX8_mayBe_60 : decode cX8_mayBe 60 = .ok (.iload_n 1, 1) := dk_27 (dk_at dksX8_mayBe_2 12 rfl rfl)
theorem dX8_mayBe_61 : decode cX8_mayBe 61 = .ok (.iadd, 1) := dk_96 (dk_at dksX8_mayBe_2 13 rfl rfl)
theorem dX8_mayBe_62 : decode cX8_mayBe 62 = .ok (.iaload, 1) := dk_46 (dk_at dksX8_mayBe_2 14 rfl rfl)
theorem dX8_mayBe_63 : decode cX8_mayBe 63 = .ok (.iload 5, 2) := dk_21 5 (dk_at dksX8_mayBe_2 15 rfl rfl)
theorem dX8_mayBe_65 : decode cX8_mayBe 65 = .ok (.iadd, 1) := dk_96 (dk_at dksX8_mayBe_2 17 rfl rfl)
theorem dX8_mayBe_66 : decode cX8_mayBe 66 = .ok (.iload 4, 2) := dk_21 4 (dk_at dksX8_mayBe_2 18 rfl rfl)
theorem dX8_mayBe_68 : decode cX8_mayBe 68 = .ok (.isub, 1) := dk_100 (dk_at dksX8_mayBe_2 20 rfl rfl)
theorem dX8_mayBe_69 : decode cX8_mayBe 69 = .ok (.aload_n 0, 1) := dk_42 (dk_at dksX8_mayBe_2 21 rfl rfl)
theorem dX8_mayBe_70 : decode cX8_mayBe 70 = .ok (.iload_n 1, 1) := dk_27 (dk_at dksX8_mayBe_2 22 rfl rfl)
theorem dX8_mayBe_71 : decode cX8_mayBe 71 = .ok (.invokevirtual 264, 3) := dk_182 1 8 (dk_at dksX8_mayBe_3 0 rfl rfl)
theorem dX8_mayBe_74 : decode cX8_mayBe 74 = .ok (.irem, 1) := dk_112 (dk_at dksX8_mayBe_3 3 rfl rfl)
theorem dX8_mayBe_75 : decode cX8_mayBe 75 = .ok (.iload_n 2, 1) := dk_28 (dk_at dksX8_mayBe_3 4 rfl rfl)
theorem dX8_mayBe_76 : decode cX8_mayBe 76 = .ok (.if_icmp .ne 7, 3) := dk_160 0 7 (dk_at dksX8_mayBe_3 5 rfl rfl)
theorem dX8_mayBe_79 : decode cX8_mayBe 79 = .ok (.iconst 1, 1) := dk_4 (dk_at dksX8_mayBe_3 8 rfl rfl)
theorem dX8_mayBe_80 : decode cX8_mayBe 80 = .ok (.goto 4, 3) := dk_167 0 4 (dk_at dksX8_mayBe_3 9 rfl rfl)
theorem dX8_mayBe_83 : decode cX8_mayBe 83 = .ok (.iconst 0, 1) := dk_3 (dk_at dksX8_mayBe_3 12 rfl rfl)
theorem dX8_mayBe_84 : decode cX8_mayBe 84 = .ok (.istore 7, 2) := dk_54 7 (dk_at dksX8_mayBe_3 13 rfl rfl)
theorem dX8_mayBe_86 : decode cX8_mayBe 86 = .ok (.iconst 0, 1) := dk_3 (dk_at dksX8_mayBe_3 15 rfl rfl)
theorem dX8_mayBe_87 : decode cX8_mayBe 87 = .ok (.istore 8, 2) := dk_54 8 (dk_at dksX8_mayBe_3 16 rfl rfl)
theorem dX8_mayBe_89 : decode cX8_mayBe 89 = .ok (.iload 8, 2) := dk_21 8 (dk_at dksX8_mayBe_3 18 rfl rfl)
theorem dX8_mayBe_91 : decode cX8_mayBe 91 = .ok (.bipush 6, 2) := dk_16 6 (dk_at dksX8_mayBe_3 20 rfl rfl)
theorem dX8_mayBe_93 : decode cX8_mayBe 93 = .ok (.if_icmp .ge 86, 3) := dk_162 0 86 (dk_at dksX8_mayBe_4 0 rfl rfl)
theorem dX8_mayBe_96 : decode cX8_mayBe 96 = .ok (.iload 6, 2) := dk_21 6 (dk_at dksX8_mayBe_4 3 rfl rfl)
theorem dX8_mayBe_98 : decode cX8_mayBe 98 = .ok (.ifCond .eq 38, 3) := dk_153 0 38 (dk_at dksX8_mayBe_4 5 rfl rfl)
theorem dX8_mayBe_101 : decode cX8_mayBe 101 = .ok (.aload_n 0, 1) := dk_42 (dk_at dksX8_mayBe_4 8 rfl rfl)
theorem dX8_mayBe_102 : decode cX8_mayBe 102 = .ok (.getfield 40, 3) := dk_180 0 40 (dk_at dksX8_mayBe_4 9 rfl rfl)
theorem dX8_mayBe_105 : decode cX8_mayBe 105 = .ok (.iload 8, 2) := dk_21 8 (dk_at dksX8_mayBe_4 12 rfl rfl)
theorem dX8_mayBe_107 : decode cX8_mayBe 107 = .ok (.iaload, 1) := dk_46 (dk_at dksX8_mayBe_4 14 rfl rfl)
theorem dX8_mayBe_108 : decode cX8_mayBe 108 = .ok (.aload_n 0, 1) := dk_42 (dk_at dksX8_mayBe_4 15 rfl rfl)
theorem dX8_mayBe_109 : decode cX8_mayBe 109 = .ok (.iconst 1, 1) := dk_4 (dk_at dksX8_mayBe_4 16 rfl rfl)
theorem dX8_mayBe_110 : decode cX8_mayBe 110 = .ok (.iload_n 1, 1) := dk_27 (dk_at dksX8_mayBe_4 17 rfl rfl)
theorem dX8_mayBe_111 : decode cX8_mayBe 111 = .ok (.isub, 1) := dk_100 (dk_at dksX8_mayBe_4 18 rfl rfl)
theorem dX8_mayBe_112 : decode cX8_mayBe 112 = .ok (.iload 5, 2) := dk_21 5 (dk_at dksX8_mayBe_4 19 rfl rfl)
theorem dX8_mayBe_114 : decode cX8_mayBe 114 = .ok (.iload 4, 2) := dk_21 4 (dk_at dksX8_mayBe_4 21 rfl rfl)
theorem dX8_mayBe_116 : decode cX8_mayBe 116 = .ok (.isub, 1) := dk_100 (dk_at dksX8_mayBe_4 23 rfl rfl)
theorem dX8_mayBe_117 : decode cX8_mayBe 117 = .ok (.iconst 0, 1) := dk_3 (dk_at dksX8_mayBe_5 0 rfl rfl)
theorem dX8_mayBe_118 : decode cX8_mayBe 118 = .ok (.invokevirtual 328, 3) := dk_182 1 72 (dk_at dksX8_mayBe_5 1 rfl rfl)
theorem dX8_mayBe_121 : decode cX8_mayBe 121 = .ok (.invokestatic 280, 3) := dk_184 1 24 (dk_at dksX8_mayBe_5 4 rfl rfl)
theorem dX8_mayBe_124 : decode cX8_mayBe 124 = .ok (.ifCond .ne 12, 3) := dk_154 0 12 (dk_at dksX8_mayBe_5 7 rfl rfl)
theorem dX8_mayBe_127 : decode cX8_mayBe 127 = .ok (.iload_n 3, 1) := dk_29 (dk_at dksX8_mayBe_5 10 rfl rfl)
theorem dX8_mayBe_128 : decode cX8_mayBe 128 = .ok (.iconst 1, 1) := dk_4 (dk_at dksX8_mayBe_5 11 rfl rfl)
theorem dX8_mayBe_129 : decode cX8_mayBe 129 = .ok (.iload 8, 2) := dk_21 8 (dk_at dksX8_mayBe_5 12 rfl rfl)
theorem dX8_mayBe_131 : decode cX8_mayBe 131 = .ok (.ishl, 1) := dk_120 (dk_at dksX8_mayBe_5 14 rfl rfl)
theorem dX8_mayBe_132 : decode cX8_mayBe 132 = .ok (.iconst (-1), 1) := dk_2 (dk_at dksX8_mayBe_5 15 rfl rfl)
theorem dX8_mayBe_133 : decode cX8_mayBe 133 = .ok (.ixor, 1) := dk_130 (dk_at dksX8_mayBe_5 16 rfl rfl)
theorem dX8_mayBe_134 : decode cX8_mayBe 134 = .ok (.iand, 1) := dk_126 (dk_at dksX8_mayBe_5 17 rfl rfl)
theorem dX8_mayBe_135 : decode cX8_mayBe 135 = .ok (.istore_n 3, 1) := dk_62 (dk_at dksX8_mayBe_5 18 rfl rfl)
theorem dX8_mayBe_136 : decode cX8_mayBe 136 = .ok (.iload 7, 2) := dk_21 7 (dk_at dksX8_mayBe_5 19 rfl rfl)
theorem dX8_mayBe_138 : decode cX8_mayBe 138 = .ok (.ifCond .eq 35, 3) := dk_153 0 35 (dk_at dksX8_mayBe_5 21 rfl rfl)
theorem dX8_mayBe_141 : decode cX8_mayBe 141 = .ok (.aload_n 0, 1) := dk_42 (dk_at dksX8_mayBe_6 0 rfl rfl)
theorem dX8_mayBe_142 : decode cX8_mayBe 142 = .ok (.getfield 40, 3) := dk_180 0 40 (dk_at dksX8_mayBe_6 1 rfl rfl)
theorem dX8_mayBe_145 : decode cX8_mayBe 145 = .ok (.aload_n 0, 1) := dk_42 (dk_at dksX8_mayBe_6 4 rfl rfl)
theorem dX8_mayBe_146 : decode cX8_mayBe 146 = .ok (.iconst 1, 1) := dk_4 (dk_at dksX8_mayBe_6 5 rfl rfl)
theorem dX8_mayBe_147 : decode cX8_mayBe 147 = .ok (.iload_n 1, 1) := dk_27 (dk_at dksX8_mayBe_6 6 rfl rfl)
theorem dX8_mayBe_148 : decode cX8_mayBe 148 = .ok (.isub, 1) := dk_100 (dk_at dksX8_mayBe_6 7 rfl rfl)
theorem dX8_mayBe_149 : decode cX8_mayBe 149 = .ok (.iload 5, 2) := dk_21 5 (dk_at dksX8_mayBe_6 8 rfl rfl)
theorem dX8_mayBe_151 : decode cX8_mayBe 151 = .ok (.iconst 0, 1) := dk_3 (dk_at dksX8_mayBe_6 10 rfl rfl)
theorem dX8_mayBe_152 : decode cX8_mayBe 152 = .ok (.invokevirtual 328, 3) := dk_182 1 72 (dk_at dksX8_mayBe_6 11 rfl rfl)
theorem dX8_mayBe_155 : decode cX8_mayBe 155 = .ok (.iaload, 1) := dk_46 (dk_at dksX8_mayBe_6 14 rfl rfl)
theorem dX8_mayBe_156 : decode cX8_mayBe 156 = .ok (.iload 8, 2) := dk_21 8 (dk_at dksX8_mayBe_6 15 rfl rfl)
theorem dX8_mayBe_158 : decode cX8_mayBe 158 = .ok (.invokestatic 280, 3) := dk_184 1 24 (dk_at dksX8_mayBe_6 17 rfl rfl)
theorem dX8_mayBe_161 : decode cX8_mayBe 161 = .ok (.ifCond .ne 12, 3) := dk_154 0 12 (dk_at dksX8_mayBe_6 20 rfl rfl)
theorem dX8_mayBe_164 : decode cX8_mayBe 164 = .ok (.iload_n 3, 1) := dk_29 (dk_at dksX8_mayBe_6 23 rfl rfl)
theorem dX8_mayBe_165 : decode cX8_mayBe 165 = .ok (.iconst 1, 1) := dk_4 (dk_at dksX8_mayBe_7 0 rfl rfl)
theorem dX8_mayBe_166 : decode cX8_mayBe 166 = .ok (.iload 8, 2) := dk_21 8 (dk_at dksX8_mayBe_7 1 rfl rfl)
theorem dX8_mayBe_168 : decode cX8_mayBe 168 = .ok (.ishl, 1) := dk_120 (dk_at dksX8_mayBe_7 3 rfl rfl)
theorem dX8_mayBe_169 : decode cX8_mayBe 169 = .ok (.iconst (-1), 1) := dk_2 (dk_at dksX8_mayBe_7 4 rfl rfl)
theorem dX8_mayBe_170 : decode cX8_mayBe 170 = .ok (.ixor, 1) := dk_130 (dk_at dksX8_mayBe_7 5 rfl rfl)
theorem dX8_mayBe_171 : decode cX8_mayBe 171 = .ok (.iand, 1) := dk_126 (dk_at dksX8_mayBe_7 6 rfl rfl)
theorem dX8_mayBe_172 : decode cX8_mayBe 172 = .ok (.istore_n 3, 1) := dk_62 (dk_at dksX8_mayBe_7 7 rfl rfl)
theorem dX8_mayBe_173 : decode cX8_mayBe 173 = .ok (.iinc 8 1, 3) := dk_132 8 1 (dk_at dksX8_mayBe_7 8 rfl rfl)
theorem dX8_mayBe_176 : decode cX8_mayBe 176 = .ok (.goto (-87), 3) := dk_167 255 169 (dk_at dksX8_mayBe_7 11 rfl rfl)
theorem dX8_mayBe_179 : decode cX8_mayBe 179 = .ok (.iinc 5 1, 3) := dk_132 5 1 (dk_at dksX8_mayBe_7 14 rfl rfl)
theorem dX8_mayBe_182 : decode cX8_mayBe 182 = .ok (.goto (-167), 3) := dk_167 255 89 (dk_at dksX8_mayBe_7 17 rfl rfl)
theorem dX8_mayBe_185 : decode cX8_mayBe 185 = .ok (.iload_n 3, 1) := dk_29 (dk_at dksX8_mayBe_7 20 rfl rfl)
theorem dX8_mayBe_186 : decode cX8_mayBe 186 = .ok (.ireturn, 1) := dk_172 (dk_at dksX8_mayBe_7 21 rfl rfl)
abbrev cX8_mended : ByteArray := prog_13_method_86_code
def yX8_mended : MethodName := ⟨RX8, "mended", "(II)I"⟩
def dkwX8_mended_2 : List UInt8 := [159, 0, 7, 2, 167, 0, 9, 42, 27, 28, 182, 1, 81, 172]
abbrev dktX8_mended_2 : List UInt8 := dkwX8_mended_2 ++ []
def dkwX8_mended_1 : List UInt8 := [27, 182, 1, 8, 4, 100, 133, 184, 0, 85, 154, 0, 6, 16, 254, 172, 42, 27, 182, 1, 84, 2]
abbrev dktX8_mended_1 : List UInt8 := dkwX8_mended_1 ++ dktX8_mended_2
def dkwX8_mended_0 : List UInt8 := [42, 3, 181, 0, 80, 42, 27, 182, 1, 5, 153, 0, 27, 42, 182, 1, 66, 153, 0, 20, 28, 133, 9, 42]
abbrev dktX8_mended_0 : List UInt8 := dkwX8_mended_0 ++ dktX8_mended_1
theorem dksX8_mended_0 : cX8_mended.data.toList.drop 0 = dktX8_mended_0 := by decide +kernel
theorem dksX8_mended_1 : cX8_mended.data.toList.drop 24 = dktX8_mended_1 := dk_seg dksX8_mended_0 24 rfl rfl
theorem dksX8_mended_2 : cX8_mended.data.toList.drop 46 = dktX8_mended_2 := dk_seg dksX8_mended_1 22 rfl rfl
theorem dX8_mended_0 : decode cX8_mended 0 = .ok (.aload_n 0, 1) := dk_42 (dk_at dksX8_mended_0 0 rfl rfl)
theorem dX8_mended_1 : decode cX8_mended 1 = .ok (.iconst 0, 1) := dk_3 (dk_at dksX8_mended_0 1 rfl rfl)
theorem dX8_mended_2 : decode cX8_mended 2 = .ok (.putfield 80, 3) := dk_181 0 80 (dk_at dksX8_mended_0 2 rfl rfl)
theorem dX8_mended_5 : decode cX8_mended 5 = .ok (.aload_n 0, 1) := dk_42 (dk_at dksX8_mended_0 5 rfl rfl)
theorem dX8_mended_6 : decode cX8_mended 6 = .ok (.iload_n 1, 1) := dk_27 (dk_at dksX8_mended_0 6 rfl rfl)
theorem dX8_mended_7 : decode cX8_mended 7 = .ok (.invokevirtual 261, 3) := dk_182 1 5 (dk_at dksX8_mended_0 7 rfl rfl)
theorem dX8_mended_10 : decode cX8_mended 10 = .ok (.ifCond .eq 27, 3) := dk_153 0 27 (dk_at dksX8_mended_0 10 rfl rfl)
theorem dX8_mended_13 : decode cX8_mended 13 = .ok (.aload_n 0, 1) := dk_42 (dk_at dksX8_mended_0 13 rfl rfl)
theorem dX8_mended_14 : decode cX8_mended 14 = .ok (.invokevirtual 322, 3) := dk_182 1 66 (dk_at dksX8_mended_0 14 rfl rfl)
theorem dX8_mended_17 : decode cX8_mended 17 = .ok (.ifCond .eq 20, 3) := dk_153 0 20 (dk_at dksX8_mended_0 17 rfl rfl)
theorem dX8_mended_20 : decode cX8_mended 20 = .ok (.iload_n 2, 1) := dk_28 (dk_at dksX8_mended_0 20 rfl rfl)
theorem dX8_mended_21 : decode cX8_mended 21 = .ok (.i2l, 1) := dk_133 (dk_at dksX8_mended_0 21 rfl rfl)
theorem dX8_mended_22 : decode cX8_mended 22 = .ok (.lconst 0, 1) := dk_9 (dk_at dksX8_mended_0 22 rfl rfl)
theorem dX8_mended_23 : decode cX8_mended 23 = .ok (.aload_n 0, 1) := dk_42 (dk_at dksX8_mended_0 23 rfl rfl)
theorem dX8_mended_24 : decode cX8_mended 24 = .ok (.iload_n 1, 1) := dk_27 (dk_at dksX8_mended_1 0 rfl rfl)
theorem dX8_mended_25 : decode cX8_mended 25 = .ok (.invokevirtual 264, 3) := dk_182 1 8 (dk_at dksX8_mended_1 1 rfl rfl)
theorem dX8_mended_28 : decode cX8_mended 28 = .ok (.iconst 1, 1) := dk_4 (dk_at dksX8_mended_1 4 rfl rfl)
theorem dX8_mended_29 : decode cX8_mended 29 = .ok (.isub, 1) := dk_100 (dk_at dksX8_mended_1 5 rfl rfl)
theorem dX8_mended_30 : decode cX8_mended 30 = .ok (.i2l, 1) := dk_133 (dk_at dksX8_mended_1 6 rfl rfl)
theorem dX8_mended_31 : decode cX8_mended 31 = .ok (.invokestatic 85, 3) := dk_184 0 85 (dk_at dksX8_mended_1 7 rfl rfl)
theorem dX8_mended_34 : decode cX8_mended 34 = .ok (.ifCond .ne 6, 3) := dk_154 0 6 (dk_at dksX8_mended_1 10 rfl rfl)
theorem dX8_mended_37 : decode cX8_mended 37 = .ok (.bipush (-2), 2) := dk_16 254 (dk_at dksX8_mended_1 13 rfl rfl)
theorem dX8_mended_39 : decode cX8_mended 39 = .ok (.ireturn, 1) := dk_172 (dk_at dksX8_mended_1 15 rfl rfl)
theorem dX8_mended_40 : decode cX8_mended 40 = .ok (.aload_n 0, 1) := dk_42 (dk_at dksX8_mended_1 16 rfl rfl)
theorem dX8_mended_41 : decode cX8_mended 41 = .ok (.iload_n 1, 1) := dk_27 (dk_at dksX8_mended_1 17 rfl rfl)
theorem dX8_mended_42 : decode cX8_mended 42 = .ok (.invokevirtual 340, 3) := dk_182 1 84 (dk_at dksX8_mended_1 18 rfl rfl)
theorem dX8_mended_45 : decode cX8_mended 45 = .ok (.iconst (-1), 1) := dk_2 (dk_at dksX8_mended_1 21 rfl rfl)
theorem dX8_mended_46 : decode cX8_mended 46 = .ok (.if_icmp .eq 7, 3) := dk_159 0 7 (dk_at dksX8_mended_2 0 rfl rfl)
theorem dX8_mended_49 : decode cX8_mended 49 = .ok (.iconst (-1), 1) := dk_2 (dk_at dksX8_mended_2 3 rfl rfl)
theorem dX8_mended_50 : decode cX8_mended 50 = .ok (.goto 9, 3) := dk_167 0 9 (dk_at dksX8_mended_2 4 rfl rfl)
theorem dX8_mended_53 : decode cX8_mended 53 = .ok (.aload_n 0, 1) := dk_42 (dk_at dksX8_mended_2 7 rfl rfl)
theorem dX8_mended_54 : decode cX8_mended 54 = .ok (.iload_n 1, 1) := dk_27 (dk_at dksX8_mended_2 8 rfl rfl)
theorem dX8_mended_55 : decode cX8_mended 55 = .ok (.iload_n 2, 1) := dk_28 (dk_at dksX8_mended_2 9 rfl rfl)
theorem dX8_mended_56 : decode cX8_mended 56 = .ok (.invokevirtual 337, 3) := dk_182 1 81 (dk_at dksX8_mended_2 10 rfl rfl)
theorem dX8_mended_59 : decode cX8_mended 59 = .ok (.ireturn, 1) := dk_172 (dk_at dksX8_mended_2 13 rfl rfl)
abbrev cX8_stuck : ByteArray := prog_13_method_87_code
def yX8_stuck : MethodName := ⟨RX8, "stuck", "(I)I"⟩
def dkwX8_stuck_1 : List UInt8 := [182, 1, 84, 167, 0, 5, 16, 254, 172]
abbrev dktX8_stuck_1 : List UInt8 := dkwX8_stuck_1 ++ []
def dkwX8_stuck_0 : List UInt8 := [42, 3, 181, 0, 80, 42, 27, 182, 1, 5, 153, 0, 18, 42, 182, 1, 66, 153, 0, 11, 42, 27]
abbrev dktX8_stuck_0 : List UInt8 := dkwX8_stuck_0 ++ dktX8_stuck_1
theorem dksX8_stuck_0 : cX8_stuck.data.toList.drop 0 = dktX8_stuck_0 := by decide +kernel
theorem dksX8_stuck_1 : cX8_stuck.data.toList.drop 22 = dktX8_stuck_1 := dk_seg dksX8_stuck_0 22 rfl rfl
theorem dX8_stuck_0 : decode cX8_stuck 0 = .ok (.aload_n 0, 1) := dk_42 (dk_at dksX8_stuck_0 0 rfl rfl)
theorem dX8_stuck_1 : decode cX8_stuck 1 = .ok (.iconst 0, 1) := dk_3 (dk_at dksX8_stuck_0 1 rfl rfl)
theorem dX8_stuck_2 : decode cX8_stuck 2 = .ok (.putfield 80, 3) := dk_181 0 80 (dk_at dksX8_stuck_0 2 rfl rfl)
theorem dX8_stuck_5 : decode cX8_stuck 5 = .ok (.aload_n 0, 1) := dk_42 (dk_at dksX8_stuck_0 5 rfl rfl)
theorem dX8_stuck_6 : decode cX8_stuck 6 = .ok (.iload_n 1, 1) := dk_27 (dk_at dksX8_stuck_0 6 rfl rfl)
theorem dX8_stuck_7 : decode cX8_stuck 7 = .ok (.invokevirtual 261, 3) := dk_182 1 5 (dk_at dksX8_stuck_0 7 rfl rfl)
theorem dX8_stuck_10 : decode cX8_stuck 10 = .ok (.ifCond .eq 18, 3) := dk_153 0 18 (dk_at dksX8_stuck_0 10 rfl rfl)
theorem dX8_stuck_13 : decode cX8_stuck 13 = .ok (.aload_n 0, 1) := dk_42 (dk_at dksX8_stuck_0 13 rfl rfl)
theorem dX8_stuck_14 : decode cX8_stuck 14 = .ok (.invokevirtual 322, 3) := dk_182 1 66 (dk_at dksX8_stuck_0 14 rfl rfl)
theorem dX8_stuck_17 : decode cX8_stuck 17 = .ok (.ifCond .eq 11, 3) := dk_153 0 11 (dk_at dksX8_stuck_0 17 rfl rfl)
theorem dX8_stuck_20 : decode cX8_stuck 20 = .ok (.aload_n 0, 1) := dk_42 (dk_at dksX8_stuck_0 20 rfl rfl)
theorem dX8_stuck_21 : decode cX8_stuck 21 = .ok (.iload_n 1, 1) := dk_27 (dk_at dksX8_stuck_0 21 rfl rfl)
theorem dX8_stuck_22 : decode cX8_stuck 22 = .ok (.invokevirtual 340, 3) := dk_182 1 84 (dk_at dksX8_stuck_1 0 rfl rfl)
theorem dX8_stuck_25 : decode cX8_stuck 25 = .ok (.goto 5, 3) := dk_167 0 5 (dk_at dksX8_stuck_1 3 rfl rfl)
theorem dX8_stuck_28 : decode cX8_stuck 28 = .ok (.bipush (-2), 2) := dk_16 254 (dk_at dksX8_stuck_1 6 rfl rfl)
theorem dX8_stuck_30 : decode cX8_stuck 30 = .ok (.ireturn, 1) := dk_172 (dk_at dksX8_stuck_1 8 rfl rfl)
abbrev cX8_heard : ByteArray := prog_13_method_91_code
def yX8_heard : MethodName := ⟨RX8, "heard", "(II)I"⟩
def dkwX8_heard_1 : List UInt8 := [42, 180, 1, 87, 172]
abbrev dktX8_heard_1 : List UInt8 := dkwX8_heard_1 ++ []
def dkwX8_heard_0 : List UInt8 := [42, 3, 181, 0, 80, 42, 27, 28, 182, 1, 99, 62, 29, 153, 0, 5, 29, 172, 42, 27, 28, 182, 1, 102]
abbrev dktX8_heard_0 : List UInt8 := dkwX8_heard_0 ++ dktX8_heard_1
theorem dksX8_heard_0 : cX8_heard.data.toList.drop 0 = dktX8_heard_0 := by decide +kernel
theorem dksX8_heard_1 : cX8_heard.data.toList.drop 24 = dktX8_heard_1 := dk_seg dksX8_heard_0 24 rfl rfl
theorem dX8_heard_0 : decode cX8_heard 0 = .ok (.aload_n 0, 1) := dk_42 (dk_at dksX8_heard_0 0 rfl rfl)
theorem dX8_heard_1 : decode cX8_heard 1 = .ok (.iconst 0, 1) := dk_3 (dk_at dksX8_heard_0 1 rfl rfl)
theorem dX8_heard_2 : decode cX8_heard 2 = .ok (.putfield 80, 3) := dk_181 0 80 (dk_at dksX8_heard_0 2 rfl rfl)
theorem dX8_heard_5 : decode cX8_heard 5 = .ok (.aload_n 0, 1) := dk_42 (dk_at dksX8_heard_0 5 rfl rfl)
theorem dX8_heard_6 : decode cX8_heard 6 = .ok (.iload_n 1, 1) := dk_27 (dk_at dksX8_heard_0 6 rfl rfl)
theorem dX8_heard_7 : decode cX8_heard 7 = .ok (.iload_n 2, 1) := dk_28 (dk_at dksX8_heard_0 7 rfl rfl)
theorem dX8_heard_8 : decode cX8_heard 8 = .ok (.invokevirtual 355, 3) := dk_182 1 99 (dk_at dksX8_heard_0 8 rfl rfl)
theorem dX8_heard_11 : decode cX8_heard 11 = .ok (.istore_n 3, 1) := dk_62 (dk_at dksX8_heard_0 11 rfl rfl)
theorem dX8_heard_12 : decode cX8_heard 12 = .ok (.iload_n 3, 1) := dk_29 (dk_at dksX8_heard_0 12 rfl rfl)
theorem dX8_heard_13 : decode cX8_heard 13 = .ok (.ifCond .eq 5, 3) := dk_153 0 5 (dk_at dksX8_heard_0 13 rfl rfl)
theorem dX8_heard_16 : decode cX8_heard 16 = .ok (.iload_n 3, 1) := dk_29 (dk_at dksX8_heard_0 16 rfl rfl)
theorem dX8_heard_17 : decode cX8_heard 17 = .ok (.ireturn, 1) := dk_172 (dk_at dksX8_heard_0 17 rfl rfl)
theorem dX8_heard_18 : decode cX8_heard 18 = .ok (.aload_n 0, 1) := dk_42 (dk_at dksX8_heard_0 18 rfl rfl)
theorem dX8_heard_19 : decode cX8_heard 19 = .ok (.iload_n 1, 1) := dk_27 (dk_at dksX8_heard_0 19 rfl rfl)
theorem dX8_heard_20 : decode cX8_heard 20 = .ok (.iload_n 2, 1) := dk_28 (dk_at dksX8_heard_0 20 rfl rfl)
theorem dX8_heard_21 : decode cX8_heard 21 = .ok (.invokevirtual 358, 3) := dk_182 1 102 (dk_at dksX8_heard_0 21 rfl rfl)
theorem dX8_heard_24 : decode cX8_heard 24 = .ok (.aload_n 0, 1) := dk_42 (dk_at dksX8_heard_1 0 rfl rfl)
theorem dX8_heard_25 : decode cX8_heard 25 = .ok (.getfield 343, 3) := dk_180 1 87 (dk_at dksX8_heard_1 1 rfl rfl)
theorem dX8_heard_28 : decode cX8_heard 28 = .ok (.ireturn, 1) := dk_172 (dk_at dksX8_heard_1 4 rfl rfl)
abbrev cX8_whyNot : ByteArray := prog_13_method_88_code
def yX8_whyNot : MethodName := ⟨RX8, "whyNot", "(II)I"⟩
def dkwX8_whyNot_4 : List UInt8 := [184, 0, 85, 154, 0, 6, 16, 254, 172, 132, 3, 2, 167, 255, 198, 3, 172]
abbrev dktX8_whyNot_4 : List UInt8 := dkwX8_whyNot_4 ++ []
def dkwX8_whyNot_3 : List UInt8 := [153, 0, 28, 42, 180, 0, 16, 16, 60, 27, 104, 29, 96, 4, 96, 47, 20, 0, 124, 20, 1, 3]
abbrev dktX8_whyNot_3 : List UInt8 := dkwX8_whyNot_3 ++ dktX8_whyNot_4
def dkwX8_whyNot_2 : List UInt8 := [42, 180, 0, 13, 27, 46, 162, 0, 54, 42, 180, 0, 16, 16, 60, 27, 104, 29, 96, 47, 184, 1, 14]
abbrev dktX8_whyNot_2 : List UInt8 := dkwX8_whyNot_2 ++ dktX8_whyNot_3
def dkwX8_whyNot_1 : List UInt8 := [2, 160, 0, 6, 16, 250, 172, 42, 180, 0, 13, 27, 46, 5, 112, 153, 0, 6, 16, 254, 172, 3, 62, 29]
abbrev dktX8_whyNot_1 : List UInt8 := dkwX8_whyNot_1 ++ dktX8_whyNot_2
def dkwX8_whyNot_0 : List UInt8 := [27, 184, 0, 89, 153, 0, 11, 42, 28, 182, 1, 5, 154, 0, 6, 16, 254, 172, 42, 180, 0, 7, 27, 46]
abbrev dktX8_whyNot_0 : List UInt8 := dkwX8_whyNot_0 ++ dktX8_whyNot_1
theorem dksX8_whyNot_0 : cX8_whyNot.data.toList.drop 0 = dktX8_whyNot_0 := by decide +kernel
theorem dksX8_whyNot_1 : cX8_whyNot.data.toList.drop 24 = dktX8_whyNot_1 := dk_seg dksX8_whyNot_0 24 rfl rfl
theorem dksX8_whyNot_2 : cX8_whyNot.data.toList.drop 48 = dktX8_whyNot_2 := dk_seg dksX8_whyNot_1 24 rfl rfl
theorem dksX8_whyNot_3 : cX8_whyNot.data.toList.drop 71 = dktX8_whyNot_3 := dk_seg dksX8_whyNot_2 23 rfl rfl
theorem dksX8_whyNot_4 : cX8_whyNot.data.toList.drop 93 = dktX8_whyNot_4 := dk_seg dksX8_whyNot_3 22 rfl rfl
theorem dX8_whyNot_0 : decode cX8_whyNot 0 = .ok (.iload_n 1, 1) := dk_27 (dk_at dksX8_whyNot_0 0 rfl rfl)
theorem dX8_whyNot_1 : decode cX8_whyNot 1 = .ok (.invokestatic 89, 3) := dk_184 0 89 (dk_at dksX8_whyNot_0 1 rfl rfl)
theorem dX8_whyNot_4 : decode cX8_whyNot 4 = .ok (.ifCond .eq 11, 3) := dk_153 0 11 (dk_at dksX8_whyNot_0 4 rfl rfl)
theorem dX8_whyNot_7 : decode cX8_whyNot 7 = .ok (.aload_n 0, 1) := dk_42 (dk_at dksX8_whyNot_0 7 rfl rfl)
theorem dX8_whyNot_8 : decode cX8_whyNot 8 = .ok (.iload_n 2, 1) := dk_28 (dk_at dksX8_whyNot_0 8 rfl rfl)
theorem dX8_whyNot_9 : decode cX8_whyNot 9 = .ok (.invokevirtual 261, 3) := dk_182 1 5 (dk_at dksX8_whyNot_0 9 rfl rfl)
theorem dX8_whyNot_12 : decode cX8_whyNot 12 = .ok (.ifCond .ne 6, 3) := dk_154 0 6 (dk_at dksX8_whyNot_0 12 rfl rfl)
theorem dX8_whyNot_15 : decode cX8_whyNot 15 = .ok (.bipush (-2), 2) := dk_16 254 (dk_at dksX8_whyNot_0 15 rfl rfl)
theorem dX8_whyNot_17 : decode cX8_whyNot 17 = .ok (.ireturn, 1) := dk_172 (dk_at dksX8_whyNot_0 17 rfl rfl)
theorem dX8_whyNot_18 : decode cX8_whyNot 18 = .ok (.aload_n 0, 1) := dk_42 (dk_at dksX8_whyNot_0 18 rfl rfl)
theorem dX8_whyNot_19 : decode cX8_whyNot 19 = .ok (.getfield 7, 3) := dk_180 0 7 (dk_at dksX8_whyNot_0 19 rfl rfl)
theorem dX8_whyNot_22 : decode cX8_whyNot 22 = .ok (.iload_n 1, 1) := dk_27 (dk_at dksX8_whyNot_0 22 rfl rfl)
theorem dX8_whyNot_23 : decode cX8_whyNot 23 = .ok (.iaload, 1) := dk_46 (dk_at dksX8_whyNot_0 23 rfl rfl)
theorem dX8_whyNot_24 : decode cX8_whyNot 24 = .ok (.iconst (-1), 1) := dk_2 (dk_at dksX8_whyNot_1 0 rfl rfl)
theorem dX8_whyNot_25 : decode cX8_whyNot 25 = .ok (.if_icmp .ne 6, 3) := dk_160 0 6 (dk_at dksX8_whyNot_1 1 rfl rfl)
theorem dX8_whyNot_28 : decode cX8_whyNot 28 = .ok (.bipush (-6), 2) := dk_16 250 (dk_at dksX8_whyNot_1 4 rfl rfl)
theorem dX8_whyNot_30 : decode cX8_whyNot 30 = .ok (.ireturn, 1) := dk_172 (dk_at dksX8_whyNot_1 6 rfl rfl)
theorem dX8_whyNot_31 : decode cX8_whyNot 31 = .ok (.aload_n 0, 1) := dk_42 (dk_at dksX8_whyNot_1 7 rfl rfl)
theorem dX8_whyNot_32 : decode cX8_whyNot 32 = .ok (.getfield 13, 3) := dk_180 0 13 (dk_at dksX8_whyNot_1 8 rfl rfl)
theorem dX8_whyNot_35 : decode cX8_whyNot 35 = .ok (.iload_n 1, 1) := dk_27 (dk_at dksX8_whyNot_1 11 rfl rfl)
theorem dX8_whyNot_36 : decode cX8_whyNot 36 = .ok (.iaload, 1) := dk_46 (dk_at dksX8_whyNot_1 12 rfl rfl)
theorem dX8_whyNot_37 : decode cX8_whyNot 37 = .ok (.iconst 2, 1) := dk_5 (dk_at dksX8_whyNot_1 13 rfl rfl)
theorem dX8_whyNot_38 : decode cX8_whyNot 38 = .ok (.irem, 1) := dk_112 (dk_at dksX8_whyNot_1 14 rfl rfl)
theorem dX8_whyNot_39 : decode cX8_whyNot 39 = .ok (.ifCond .eq 6, 3) := dk_153 0 6 (dk_at dksX8_whyNot_1 15 rfl rfl)
theorem dX8_whyNot_42 : decode cX8_whyNot 42 = .ok (.bipush (-2), 2) := dk_16 254 (dk_at dksX8_whyNot_1 18 rfl rfl)
theorem dX8_whyNot_44 : decode cX8_whyNot 44 = .ok (.ireturn, 1) := dk_172 (dk_at dksX8_whyNot_1 20 rfl rfl)
theorem dX8_whyNot_45 : decode cX8_whyNot 45 = .ok (.iconst 0, 1) := dk_3 (dk_at dksX8_whyNot_1 21 rfl rfl)
theorem dX8_whyNot_46 : decode cX8_whyNot 46 = .ok (.istore_n 3, 1) := dk_62 (dk_at dksX8_whyNot_1 22 rfl rfl)
theorem dX8_whyNot_47 : decode cX8_whyNot 47 = .ok (.iload_n 3, 1) := dk_29 (dk_at dksX8_whyNot_1 23 rfl rfl)
theorem dX8_whyNot_48 : decode cX8_whyNot 48 = .ok (.aload_n 0, 1) := dk_42 (dk_at dksX8_whyNot_2 0 rfl rfl)
theorem dX8_whyNot_49 : decode cX8_whyNot 49 = .ok (.getfield 13, 3) := dk_180 0 13 (dk_at dksX8_whyNot_2 1 rfl rfl)
theorem dX8_whyNot_52 : decode cX8_whyNot 52 = .ok (.iload_n 1, 1) := dk_27 (dk_at dksX8_whyNot_2 4 rfl rfl)
theorem dX8_whyNot_53 : decode cX8_whyNot 53 = .ok (.iaload, 1) := dk_46 (dk_at dksX8_whyNot_2 5 rfl rfl)
theorem dX8_whyNot_54 : decode cX8_whyNot 54 = .ok (.if_icmp .ge 54, 3) := dk_162 0 54 (dk_at dksX8_whyNot_2 6 rfl rfl)
theorem dX8_whyNot_57 : decode cX8_whyNot 57 = .ok (.aload_n 0, 1) := dk_42 (dk_at dksX8_whyNot_2 9 rfl rfl)
theorem dX8_whyNot_58 : decode cX8_whyNot 58 = .ok (.getfield 16, 3) := dk_180 0 16 (dk_at dksX8_whyNot_2 10 rfl rfl)
theorem dX8_whyNot_61 : decode cX8_whyNot 61 = .ok (.bipush 60, 2) := dk_16 60 (dk_at dksX8_whyNot_2 13 rfl rfl)
theorem dX8_whyNot_63 : decode cX8_whyNot 63 = .ok (.iload_n 1, 1) := dk_27 (dk_at dksX8_whyNot_2 15 rfl rfl)
theorem dX8_whyNot_64 : decode cX8_whyNot 64 = .ok (.imul, 1) := dk_104 (dk_at dksX8_whyNot_2 16 rfl rfl)
theorem dX8_whyNot_65 : decode cX8_whyNot 65 = .ok (.iload_n 3, 1) := dk_29 (dk_at dksX8_whyNot_2 17 rfl rfl)
theorem dX8_whyNot_66 : decode cX8_whyNot 66 = .ok (.iadd, 1) := dk_96 (dk_at dksX8_whyNot_2 18 rfl rfl)
theorem dX8_whyNot_67 : decode cX8_whyNot 67 = .ok (.laload, 1) := dk_47 (dk_at dksX8_whyNot_2 19 rfl rfl)
theorem dX8_whyNot_68 : decode cX8_whyNot 68 = .ok (.invokestatic 270, 3) := dk_184 1 14 (dk_at dksX8_whyNot_2 20 rfl rfl)
theorem dX8_whyNot_71 : decode cX8_whyNot 71 = .ok (.ifCond .eq 28, 3) := dk_153 0 28 (dk_at dksX8_whyNot_3 0 rfl rfl)
theorem dX8_whyNot_74 : decode cX8_whyNot 74 = .ok (.aload_n 0, 1) := dk_42 (dk_at dksX8_whyNot_3 3 rfl rfl)
theorem dX8_whyNot_75 : decode cX8_whyNot 75 = .ok (.getfield 16, 3) := dk_180 0 16 (dk_at dksX8_whyNot_3 4 rfl rfl)
theorem dX8_whyNot_78 : decode cX8_whyNot 78 = .ok (.bipush 60, 2) := dk_16 60 (dk_at dksX8_whyNot_3 7 rfl rfl)
theorem dX8_whyNot_80 : decode cX8_whyNot 80 = .ok (.iload_n 1, 1) := dk_27 (dk_at dksX8_whyNot_3 9 rfl rfl)
theorem dX8_whyNot_81 : decode cX8_whyNot 81 = .ok (.imul, 1) := dk_104 (dk_at dksX8_whyNot_3 10 rfl rfl)
theorem dX8_whyNot_82 : decode cX8_whyNot 82 = .ok (.iload_n 3, 1) := dk_29 (dk_at dksX8_whyNot_3 11 rfl rfl)
theorem dX8_whyNot_83 : decode cX8_whyNot 83 = .ok (.iadd, 1) := dk_96 (dk_at dksX8_whyNot_3 12 rfl rfl)
theorem dX8_whyNot_84 : decode cX8_whyNot 84 = .ok (.iconst 1, 1) := dk_4 (dk_at dksX8_whyNot_3 13 rfl rfl)
theorem dX8_whyNot_85 : decode cX8_whyNot 85 = .ok (.iadd, 1) := dk_96 (dk_at dksX8_whyNot_3 14 rfl rfl)
theorem dX8_whyNot_86 : decode cX8_whyNot 86 = .ok (.laload, 1) := dk_47 (dk_at dksX8_whyNot_3 15 rfl rfl)
theorem dX8_whyNot_87 : decode cX8_whyNot 87 = .ok (.ldc2_w 124, 3) := dk_20 0 124 (dk_at dksX8_whyNot_3 16 rfl rfl)
theorem dX8_whyNot_90 : decode cX8_whyNot 90 = .ok (.ldc2_w 259, 3) := dk_20 1 3 (dk_at dksX8_whyNot_3 19 rfl rfl)
theorem dX8_whyNot_93 : decode cX8_whyNot 93 = .ok (.invokestatic 85, 3) := dk_184 0 85 (dk_at dksX8_whyNot_4 0 rfl rfl)
theorem dX8_whyNot_96 : decode cX8_whyNot 96 = .ok (.ifCond .ne 6, 3) := dk_154 0 6 (dk_at dksX8_whyNot_4 3 rfl rfl)
theorem dX8_whyNot_99 : decode cX8_whyNot 99 = .ok (.bipush (-2), 2) := dk_16 254 (dk_at dksX8_whyNot_4 6 rfl rfl)
theorem dX8_whyNot_101 : decode cX8_whyNot 101 = .ok (.ireturn, 1) := dk_172 (dk_at dksX8_whyNot_4 8 rfl rfl)
theorem dX8_whyNot_102 : decode cX8_whyNot 102 = .ok (.iinc 3 2, 3) := dk_132 3 2 (dk_at dksX8_whyNot_4 9 rfl rfl)
theorem dX8_whyNot_105 : decode cX8_whyNot 105 = .ok (.goto (-58), 3) := dk_167 255 198 (dk_at dksX8_whyNot_4 12 rfl rfl)
theorem dX8_whyNot_108 : decode cX8_whyNot 108 = .ok (.iconst 0, 1) := dk_3 (dk_at dksX8_whyNot_4 15 rfl rfl)
theorem dX8_whyNot_109 : decode cX8_whyNot 109 = .ok (.ireturn, 1) := dk_172 (dk_at dksX8_whyNot_4 16 rfl rfl)
abbrev cX8_laysFits : ByteArray := prog_13_method_90_code
def yX8_laysFits : MethodName := ⟨RX8, "laysFits", "(II)V"⟩
def dkwX8_laysFits_8 : List UInt8 := [4, 96, 79, 132, 5, 1, 167, 255, 222, 132, 3, 1, 167, 255, 96, 177]
abbrev dktX8_laysFits_8 : List UInt8 := dkwX8_laysFits_8 ++ []
def dkwX8_laysFits_7 : List UInt8 := [162, 0, 33, 42, 180, 0, 71, 16, 7, 21, 5, 104, 42, 28, 21, 5, 182, 1, 28, 96, 4, 96, 92, 46]
abbrev dktX8_laysFits_7 : List UInt8 := dkwX8_laysFits_7 ++ dktX8_laysFits_8
def dkwX8_laysFits_6 : List UInt8 := [158, 0, 16, 42, 89, 180, 1, 93, 10, 21, 4, 121, 129, 181, 1, 93, 3, 54, 5, 21, 5, 16, 80]
abbrev dktX8_laysFits_6 : List UInt8 := dkwX8_laysFits_6 ++ dktX8_laysFits_7
def dkwX8_laysFits_5 : List UInt8 := [180, 1, 87, 4, 96, 181, 1, 87, 42, 180, 1, 90, 2, 160, 0, 8, 42, 29, 181, 1, 90, 29]
abbrev dktX8_laysFits_5 : List UInt8 := dkwX8_laysFits_5 ++ dktX8_laysFits_6
def dkwX8_laysFits_4 : List UInt8 := [29, 4, 100, 16, 10, 112, 182, 1, 17, 42, 27, 28, 182, 1, 96, 154, 0, 6, 167, 0, 83, 42, 89]
abbrev dktX8_laysFits_4 : List UInt8 := dkwX8_laysFits_4 ++ dktX8_laysFits_5
def dkwX8_laysFits_3 : List UInt8 := [154, 0, 7, 3, 167, 0, 12, 29, 4, 100, 16, 10, 108, 16, 6, 112, 29, 154, 0, 7, 3, 167, 0, 9]
abbrev dktX8_laysFits_3 : List UInt8 := dkwX8_laysFits_3 ++ dktX8_laysFits_4
def dkwX8_laysFits_2 : List UInt8 := [154, 0, 7, 2, 167, 0, 9, 29, 4, 100, 16, 60, 108, 54, 4, 42, 4, 28, 100, 16, 99, 21, 4, 29]
abbrev dktX8_laysFits_2 : List UInt8 := dkwX8_laysFits_2 ++ dktX8_laysFits_3
def dkwX8_laysFits_1 : List UInt8 := [42, 180, 0, 71, 29, 3, 79, 132, 3, 1, 167, 255, 239, 3, 62, 29, 17, 14, 17, 162, 0, 159, 29]
abbrev dktX8_laysFits_1 : List UInt8 := dkwX8_laysFits_1 ++ dktX8_laysFits_2
def dkwX8_laysFits_0 : List UInt8 := [42, 3, 181, 1, 87, 42, 2, 181, 1, 90, 42, 9, 181, 1, 93, 3, 62, 29, 17, 2, 48, 162, 0, 16]
abbrev dktX8_laysFits_0 : List UInt8 := dkwX8_laysFits_0 ++ dktX8_laysFits_1
theorem dksX8_laysFits_0 : cX8_laysFits.data.toList.drop 0 = dktX8_laysFits_0 := by decide +kernel
theorem dksX8_laysFits_1 : cX8_laysFits.data.toList.drop 24 = dktX8_laysFits_1 := dk_seg dksX8_laysFits_0 24 rfl rfl
theorem dksX8_laysFits_2 : cX8_laysFits.data.toList.drop 47 = dktX8_laysFits_2 := dk_seg dksX8_laysFits_1 23 rfl rfl
theorem dksX8_laysFits_3 : cX8_laysFits.data.toList.drop 71 = dktX8_laysFits_3 := dk_seg dksX8_laysFits_2 24 rfl rfl
theorem dksX8_laysFits_4 : cX8_laysFits.data.toList.drop 95 = dktX8_laysFits_4 := dk_seg dksX8_laysFits_3 24 rfl rfl
theorem dksX8_laysFits_5 : cX8_laysFits.data.toList.drop 118 = dktX8_laysFits_5 := dk_seg dksX8_laysFits_4 23 rfl rfl
theorem dksX8_laysFits_6 : cX8_laysFits.data.toList.drop 140 = dktX8_laysFits_6 := dk_seg dksX8_laysFits_5 22 rfl rfl
theorem dksX8_laysFits_7 : cX8_laysFits.data.toList.drop 163 = dktX8_laysFits_7 := dk_seg dksX8_laysFits_6 23 rfl rfl
theorem dksX8_laysFits_8 : cX8_laysFits.data.toList.drop 187 = dktX8_laysFits_8 := dk_seg dksX8_laysFits_7 24 rfl rfl
theorem dX8_laysFits_0 : decode cX8_laysFits 0 = .ok (.aload_n 0, 1) := dk_42 (dk_at dksX8_laysFits_0 0 rfl rfl)
theorem dX8_laysFits_1 : decode cX8_laysFits 1 = .ok (.iconst 0, 1) := dk_3 (dk_at dksX8_laysFits_0 1 rfl rfl)
theorem dX8_laysFits_2 : decode cX8_laysFits 2 = .ok (.putfield 343, 3) := dk_181 1 87 (dk_at dksX8_laysFits_0 2 rfl rfl)
theorem dX8_laysFits_5 : decode cX8_laysFits 5 = .ok (.aload_n 0, 1) := dk_42 (dk_at dksX8_laysFits_0 5 rfl rfl)
theorem dX8_laysFits_6 : decode cX8_laysFits 6 = .ok (.iconst (-1), 1) := dk_2 (dk_at dksX8_laysFits_0 6 rfl rfl)
theorem dX8_laysFits_7 : decode cX8_laysFits 7 = .ok (.putfield 346, 3) := dk_181 1 90 (dk_at dksX8_laysFits_0 7 rfl rfl)
theorem dX8_laysFits_10 : decode cX8_laysFits 10 = .ok (.aload_n 0, 1) := dk_42 (dk_at dksX8_laysFits_0 10 rfl rfl)
theorem dX8_laysFits_11 : decode cX8_laysFits 11 = .ok (.lconst 0, 1) := dk_9 (dk_at dksX8_laysFits_0 11 rfl rfl)
theorem dX8_laysFits_12 : decode cX8_laysFits 12 = .ok (.putfield 349, 3) := dk_181 1 93 (dk_at dksX8_laysFits_0 12 rfl rfl)
theorem dX8_laysFits_15 : decode cX8_laysFits 15 = .ok (.iconst 0, 1) := dk_3 (dk_at dksX8_laysFits_0 15 rfl rfl)
theorem dX8_laysFits_16 : decode cX8_laysFits 16 = .ok (.istore_n 3, 1) := dk_62 (dk_at dksX8_laysFits_0 16 rfl rfl)
theorem dX8_laysFits_17 : decode cX8_laysFits 17 = .ok (.iload_n 3, 1) := dk_29 (dk_at dksX8_laysFits_0 17 rfl rfl)
theorem dX8_laysFits_18 : decode cX8_laysFits 18 = .ok (.sipush 560, 3) := dk_17 2 48 (dk_at dksX8_laysFits_0 18 rfl rfl)
theorem dX8_laysFits_21 : decode cX8_laysFits 21 = .ok (.if_icmp .ge 16, 3) := dk_162 0 16 (dk_at dksX8_laysFits_0 21 rfl rfl)
theorem dX8_laysFits_24 : decode cX8_laysFits 24 = .ok (.aload_n 0, 1) := dk_42 (dk_at dksX8_laysFits_1 0 rfl rfl)
theorem dX8_laysFits_25 : decode cX8_laysFits 25 = .ok (.getfield 71, 3) := dk_180 0 71 (dk_at dksX8_laysFits_1 1 rfl rfl)
theorem dX8_laysFits_28 : decode cX8_laysFits 28 = .ok (.iload_n 3, 1) := dk_29 (dk_at dksX8_laysFits_1 4 rfl rfl)
theorem dX8_laysFits_29 : decode cX8_laysFits 29 = .ok (.iconst 0, 1) := dk_3 (dk_at dksX8_laysFits_1 5 rfl rfl)
theorem dX8_laysFits_30 : decode cX8_laysFits 30 = .ok (.iastore, 1) := dk_79 (dk_at dksX8_laysFits_1 6 rfl rfl)
theorem dX8_laysFits_31 : decode cX8_laysFits 31 = .ok (.iinc 3 1, 3) := dk_132 3 1 (dk_at dksX8_laysFits_1 7 rfl rfl)
theorem dX8_laysFits_34 : decode cX8_laysFits 34 = .ok (.goto (-17), 3) := dk_167 255 239 (dk_at dksX8_laysFits_1 10 rfl rfl)
theorem dX8_laysFits_37 : decode cX8_laysFits 37 = .ok (.iconst 0, 1) := dk_3 (dk_at dksX8_laysFits_1 13 rfl rfl)
theorem dX8_laysFits_38 : decode cX8_laysFits 38 = .ok (.istore_n 3, 1) := dk_62 (dk_at dksX8_laysFits_1 14 rfl rfl)
theorem dX8_laysFits_39 : decode cX8_laysFits 39 = .ok (.iload_n 3, 1) := dk_29 (dk_at dksX8_laysFits_1 15 rfl rfl)
theorem dX8_laysFits_40 : decode cX8_laysFits 40 = .ok (.sipush 3601, 3) := dk_17 14 17 (dk_at dksX8_laysFits_1 16 rfl rfl)
theorem dX8_laysFits_43 : decode cX8_laysFits 43 = .ok (.if_icmp .ge 159, 3) := dk_162 0 159 (dk_at dksX8_laysFits_1 19 rfl rfl)
theorem dX8_laysFits_46 : decode cX8_laysFits 46 = .ok (.iload_n 3, 1) := dk_29 (dk_at dksX8_laysFits_1 22 rfl rfl)
theorem dX8_laysFits_47 : decode cX8_laysFits 47 = .ok (.ifCond .ne 7, 3) := dk_154 0 7 (dk_at dksX8_laysFits_2 0 rfl rfl)
theorem dX8_laysFits_50 : decode cX8_laysFits 50 = .ok (.iconst (-1), 1) := dk_2 (dk_at dksX8_laysFits_2 3 rfl rfl)
theorem dX8_laysFits_51 : decode cX8_laysFits 51 = .ok (.goto 9, 3) := dk_167 0 9 (dk_at dksX8_laysFits_2 4 rfl rfl)
theorem dX8_laysFits_54 : decode cX8_laysFits 54 = .ok (.iload_n 3, 1) := dk_29 (dk_at dksX8_laysFits_2 7 rfl rfl)
theorem dX8_laysFits_55 : decode cX8_laysFits 55 = .ok (.iconst 1, 1) := dk_4 (dk_at dksX8_laysFits_2 8 rfl rfl)
theorem dX8_laysFits_56 : decode cX8_laysFits 56 = .ok (.isub, 1) := dk_100 (dk_at dksX8_laysFits_2 9 rfl rfl)
theorem dX8_laysFits_57 : decode cX8_laysFits 57 = .ok (.bipush 60, 2) := dk_16 60 (dk_at dksX8_laysFits_2 10 rfl rfl)
theorem dX8_laysFits_59 : decode cX8_laysFits 59 = .ok (.idiv, 1) := dk_108 (dk_at dksX8_laysFits_2 12 rfl rfl)
theorem dX8_laysFits_60 : decode cX8_laysFits 60 = .ok (.istore 4, 2) := dk_54 4 (dk_at dksX8_laysFits_2 13 rfl rfl)
theorem dX8_laysFits_62 : decode cX8_laysFits 62 = .ok (.aload_n 0, 1) := dk_42 (dk_at dksX8_laysFits_2 15 rfl rfl)
theorem dX8_laysFits_63 : decode cX8_laysFits 63 = .ok (.iconst 1, 1) := dk_4 (dk_at dksX8_laysFits_2 16 rfl rfl)
theorem dX8_laysFits_64 : decode cX8_laysFits 64 = .ok (.iload_n 2, 1) := dk_28 (dk_at dksX8_laysFits_2 17 rfl rfl)
theorem dX8_laysFits_65 : decode cX8_laysFits 65 = .ok (.isub, 1) := dk_100 (dk_at dksX8_laysFits_2 18 rfl rfl)
theorem dX8_laysFits_66 : decode cX8_laysFits 66 = .ok (.bipush 99, 2) := dk_16 99 (dk_at dksX8_laysFits_2 19 rfl rfl)
theorem dX8_laysFits_68 : decode cX8_laysFits 68 = .ok (.iload 4, 2) := dk_21 4 (dk_at dksX8_laysFits_2 21 rfl rfl)
theorem dX8_laysFits_70 : decode cX8_laysFits 70 = .ok (.iload_n 3, 1) := dk_29 (dk_at dksX8_laysFits_2 23 rfl rfl)
theorem dX8_laysFits_71 : decode cX8_laysFits 71 = .ok (.ifCond .ne 7, 3) := dk_154 0 7 (dk_at dksX8_laysFits_3 0 rfl rfl)
theorem dX8_laysFits_74 : decode cX8_laysFits 74 = .ok (.iconst 0, 1) := dk_3 (dk_at dksX8_laysFits_3 3 rfl rfl)
theorem dX8_laysFits_75 : decode cX8_laysFits 75 = .ok (.goto 12, 3) := dk_167 0 12 (dk_at dksX8_laysFits_3 4 rfl rfl)
theorem dX8_laysFits_78 : decode cX8_laysFits 78 = .ok (.iload_n 3, 1) := dk_29 (dk_at dksX8_laysFits_3 7 rfl rfl)
theorem dX8_laysFits_79 : decode cX8_laysFits 79 = .ok (.iconst 1, 1) := dk_4 (dk_at dksX8_laysFits_3 8 rfl rfl)
theorem dX8_laysFits_80 : decode cX8_laysFits 80 = .ok (.isub, 1) := dk_100 (dk_at dksX8_laysFits_3 9 rfl rfl)
theorem dX8_laysFits_81 : decode cX8_laysFits 81 = .ok (.bipush 10, 2) := dk_16 10 (dk_at dksX8_laysFits_3 10 rfl rfl)
theorem dX8_laysFits_83 : decode cX8_laysFits 83 = .ok (.idiv, 1) := dk_108 (dk_at dksX8_laysFits_3 12 rfl rfl)
theorem dX8_laysFits_84 : decode cX8_laysFits 84 = .ok (.bipush 6, 2) := dk_16 6 (dk_at dksX8_laysFits_3 13 rfl rfl)
theorem dX8_laysFits_86 : decode cX8_laysFits 86 = .ok (.irem, 1) := dk_112 (dk_at dksX8_laysFits_3 15 rfl rfl)
theorem dX8_laysFits_87 : decode cX8_laysFits 87 = .ok (.iload_n 3, 1) := dk_29 (dk_at dksX8_laysFits_3 16 rfl rfl)
theorem dX8_laysFits_88 : decode cX8_laysFits 88 = .ok (.ifCond .ne 7, 3) := dk_154 0 7 (dk_at dksX8_laysFits_3 17 rfl rfl)
theorem dX8_laysFits_91 : decode cX8_laysFits 91 = .ok (.iconst 0, 1) := dk_3 (dk_at dksX8_laysFits_3 20 rfl rfl)
theorem dX8_laysFits_92 : decode cX8_laysFits 92 = .ok (.goto 9, 3) := dk_167 0 9 (dk_at dksX8_laysFits_3 21 rfl rfl)
theorem dX8_laysFits_95 : decode cX8_laysFits 95 = .ok (.iload_n 3, 1) := dk_29 (dk_at dksX8_laysFits_4 0 rfl rfl)
theorem dX8_laysFits_96 : decode cX8_laysFits 96 = .ok (.iconst 1, 1) := dk_4 (dk_at dksX8_laysFits_4 1 rfl rfl)
theorem dX8_laysFits_97 : decode cX8_laysFits 97 = .ok (.isub, 1) := dk_100 (dk_at dksX8_laysFits_4 2 rfl rfl)
theorem dX8_laysFits_98 : decode cX8_laysFits 98 = .ok (.bipush 10, 2) := dk_16 10 (dk_at dksX8_laysFits_4 3 rfl rfl)
theorem dX8_laysFits_100 : decode cX8_laysFits 100 = .ok (.irem, 1) := dk_112 (dk_at dksX8_laysFits_4 5 rfl rfl)
theorem dX8_laysFits_101 : decode cX8_laysFits 101 = .ok (.invokevirtual 273, 3) := dk_182 1 17 (dk_at dksX8_laysFits_4 6 rfl rfl)
theorem dX8_laysFits_104 : decode cX8_laysFits 104 = .ok (.aload_n 0, 1) := dk_42 (dk_at dksX8_laysFits_4 9 rfl rfl)
theorem dX8_laysFits_105 : decode cX8_laysFits 105 = .ok (.iload_n 1, 1) := dk_27 (dk_at dksX8_laysFits_4 10 rfl rfl)
theorem dX8_laysFits_106 : decode cX8_laysFits 106 = .ok (.iload_n 2, 1) := dk_28 (dk_at dksX8_laysFits_4 11 rfl rfl)
theorem dX8_laysFits_107 : decode cX8_laysFits 107 = .ok (.invokevirtual 352, 3) := dk_182 1 96 (dk_at dksX8_laysFits_4 12 rfl rfl)
theorem dX8_laysFits_110 : decode cX8_laysFits 110 = .ok (.ifCond .ne 6, 3) := dk_154 0 6 (dk_at dksX8_laysFits_4 15 rfl rfl)
theorem dX8_laysFits_113 : decode cX8_laysFits 113 = .ok (.goto 83, 3) := dk_167 0 83 (dk_at dksX8_laysFits_4 18 rfl rfl)
theorem dX8_laysFits_116 : decode cX8_laysFits 116 = .ok (.aload_n 0, 1) := dk_42 (dk_at dksX8_laysFits_4 21 rfl rfl)
theorem dX8_laysFits_117 : decode cX8_laysFits 117 = .ok (.dup, 1) := dk_89 (dk_at dksX8_laysFits_4 22 rfl rfl)
theorem dX8_laysFits_118 : decode cX8_laysFits 118 = .ok (.getfield 343, 3) := dk_180 1 87 (dk_at dksX8_laysFits_5 0 rfl rfl)
theorem dX8_laysFits_121 : decode cX8_laysFits 121 = .ok (.iconst 1, 1) := dk_4 (dk_at dksX8_laysFits_5 3 rfl rfl)
theorem dX8_laysFits_122 : decode cX8_laysFits 122 = .ok (.iadd, 1) := dk_96 (dk_at dksX8_laysFits_5 4 rfl rfl)
theorem dX8_laysFits_123 : decode cX8_laysFits 123 = .ok (.putfield 343, 3) := dk_181 1 87 (dk_at dksX8_laysFits_5 5 rfl rfl)
theorem dX8_laysFits_126 : decode cX8_laysFits 126 = .ok (.aload_n 0, 1) := dk_42 (dk_at dksX8_laysFits_5 8 rfl rfl)
theorem dX8_laysFits_127 : decode cX8_laysFits 127 = .ok (.getfield 346, 3) := dk_180 1 90 (dk_at dksX8_laysFits_5 9 rfl rfl)
theorem dX8_laysFits_130 : decode cX8_laysFits 130 = .ok (.iconst (-1), 1) := dk_2 (dk_at dksX8_laysFits_5 12 rfl rfl)
theorem dX8_laysFits_131 : decode cX8_laysFits 131 = .ok (.if_icmp .ne 8, 3) := dk_160 0 8 (dk_at dksX8_laysFits_5 13 rfl rfl)
theorem dX8_laysFits_134 : decode cX8_laysFits 134 = .ok (.aload_n 0, 1) := dk_42 (dk_at dksX8_laysFits_5 16 rfl rfl)
theorem dX8_laysFits_135 : decode cX8_laysFits 135 = .ok (.iload_n 3, 1) := dk_29 (dk_at dksX8_laysFits_5 17 rfl rfl)
theorem dX8_laysFits_136 : decode cX8_laysFits 136 = .ok (.putfield 346, 3) := dk_181 1 90 (dk_at dksX8_laysFits_5 18 rfl rfl)
theorem dX8_laysFits_139 : decode cX8_laysFits 139 = .ok (.iload_n 3, 1) := dk_29 (dk_at dksX8_laysFits_5 21 rfl rfl)
theorem dX8_laysFits_140 : decode cX8_laysFits 140 = .ok (.ifCond .le 16, 3) := dk_158 0 16 (dk_at dksX8_laysFits_6 0 rfl rfl)
theorem dX8_laysFits_143 : decode cX8_laysFits 143 = .ok (.aload_n 0, 1) := dk_42 (dk_at dksX8_laysFits_6 3 rfl rfl)
theorem dX8_laysFits_144 : decode cX8_laysFits 144 = .ok (.dup, 1) := dk_89 (dk_at dksX8_laysFits_6 4 rfl rfl)
theorem dX8_laysFits_145 : decode cX8_laysFits 145 = .ok (.getfield 349, 3) := dk_180 1 93 (dk_at dksX8_laysFits_6 5 rfl rfl)
theorem dX8_laysFits_148 : decode cX8_laysFits 148 = .ok (.lconst 1, 1) := dk_10 (dk_at dksX8_laysFits_6 8 rfl rfl)
theorem dX8_laysFits_149 : decode cX8_laysFits 149 = .ok (.iload 4, 2) := dk_21 4 (dk_at dksX8_laysFits_6 9 rfl rfl)
theorem dX8_laysFits_151 : decode cX8_laysFits 151 = .ok (.lshl, 1) := dk_121 (dk_at dksX8_laysFits_6 11 rfl rfl)
theorem dX8_laysFits_152 : decode cX8_laysFits 152 = .ok (.lor, 1) := dk_129 (dk_at dksX8_laysFits_6 12 rfl rfl)
theorem dX8_laysFits_153 : decode cX8_laysFits 153 = .ok (.putfield 349, 3) := dk_181 1 93 (dk_at dksX8_laysFits_6 13 rfl rfl)
theorem dX8_laysFits_156 : decode cX8_laysFits 156 = .ok (.iconst 0, 1) := dk_3 (dk_at dksX8_laysFits_6 16 rfl rfl)
theorem dX8_laysFits_157 : decode cX8_laysFits 157 = .ok (.istore 5, 2) := dk_54 5 (dk_at dksX8_laysFits_6 17 rfl rfl)
theorem dX8_laysFits_159 : decode cX8_laysFits 159 = .ok (.iload 5, 2) := dk_21 5 (dk_at dksX8_laysFits_6 19 rfl rfl)
theorem dX8_laysFits_161 : decode cX8_laysFits 161 = .ok (.bipush 80, 2) := dk_16 80 (dk_at dksX8_laysFits_6 21 rfl rfl)
theorem dX8_laysFits_163 : decode cX8_laysFits 163 = .ok (.if_icmp .ge 33, 3) := dk_162 0 33 (dk_at dksX8_laysFits_7 0 rfl rfl)
theorem dX8_laysFits_166 : decode cX8_laysFits 166 = .ok (.aload_n 0, 1) := dk_42 (dk_at dksX8_laysFits_7 3 rfl rfl)
theorem dX8_laysFits_167 : decode cX8_laysFits 167 = .ok (.getfield 71, 3) := dk_180 0 71 (dk_at dksX8_laysFits_7 4 rfl rfl)
theorem dX8_laysFits_170 : decode cX8_laysFits 170 = .ok (.bipush 7, 2) := dk_16 7 (dk_at dksX8_laysFits_7 7 rfl rfl)
theorem dX8_laysFits_172 : decode cX8_laysFits 172 = .ok (.iload 5, 2) := dk_21 5 (dk_at dksX8_laysFits_7 9 rfl rfl)
theorem dX8_laysFits_174 : decode cX8_laysFits 174 = .ok (.imul, 1) := dk_104 (dk_at dksX8_laysFits_7 11 rfl rfl)
theorem dX8_laysFits_175 : decode cX8_laysFits 175 = .ok (.aload_n 0, 1) := dk_42 (dk_at dksX8_laysFits_7 12 rfl rfl)
theorem dX8_laysFits_176 : decode cX8_laysFits 176 = .ok (.iload_n 2, 1) := dk_28 (dk_at dksX8_laysFits_7 13 rfl rfl)
theorem dX8_laysFits_177 : decode cX8_laysFits 177 = .ok (.iload 5, 2) := dk_21 5 (dk_at dksX8_laysFits_7 14 rfl rfl)
theorem dX8_laysFits_179 : decode cX8_laysFits 179 = .ok (.invokevirtual 284, 3) := dk_182 1 28 (dk_at dksX8_laysFits_7 16 rfl rfl)
theorem dX8_laysFits_182 : decode cX8_laysFits 182 = .ok (.iadd, 1) := dk_96 (dk_at dksX8_laysFits_7 19 rfl rfl)
theorem dX8_laysFits_183 : decode cX8_laysFits 183 = .ok (.iconst 1, 1) := dk_4 (dk_at dksX8_laysFits_7 20 rfl rfl)
theorem dX8_laysFits_184 : decode cX8_laysFits 184 = .ok (.iadd, 1) := dk_96 (dk_at dksX8_laysFits_7 21 rfl rfl)
theorem dX8_laysFits_185 : decode cX8_laysFits 185 = .ok (.dup2, 1) := dk_92 (dk_at dksX8_laysFits_7 22 rfl rfl)
theorem dX8_laysFits_186 : decode cX8_laysFits 186 = .ok (.iaload, 1) := dk_46 (dk_at dksX8_laysFits_7 23 rfl rfl)
theorem dX8_laysFits_187 : decode cX8_laysFits 187 = .ok (.iconst 1, 1) := dk_4 (dk_at dksX8_laysFits_8 0 rfl rfl)
theorem dX8_laysFits_188 : decode cX8_laysFits 188 = .ok (.iadd, 1) := dk_96 (dk_at dksX8_laysFits_8 1 rfl rfl)
theorem dX8_laysFits_189 : decode cX8_laysFits 189 = .ok (.iastore, 1) := dk_79 (dk_at dksX8_laysFits_8 2 rfl rfl)
theorem dX8_laysFits_190 : decode cX8_laysFits 190 = .ok (.iinc 5 1, 3) := dk_132 5 1 (dk_at dksX8_laysFits_8 3 rfl rfl)
theorem dX8_laysFits_193 : decode cX8_laysFits 193 = .ok (.goto (-34), 3) := dk_167 255 222 (dk_at dksX8_laysFits_8 6 rfl rfl)
theorem dX8_laysFits_196 : decode cX8_laysFits 196 = .ok (.iinc 3 1, 3) := dk_132 3 1 (dk_at dksX8_laysFits_8 9 rfl rfl)
theorem dX8_laysFits_199 : decode cX8_laysFits 199 = .ok (.goto (-160), 3) := dk_167 255 96 (dk_at dksX8_laysFits_8 12 rfl rfl)
theorem dX8_laysFits_202 : decode cX8_laysFits 202 = .ok (.return_, 1) := dk_177 (dk_at dksX8_laysFits_8 15 rfl rfl)
abbrev cX8_isHeard : ByteArray := prog_13_method_89_code
def yX8_isHeard : MethodName := ⟨RX8, "isHeard", "(II)Z"⟩
def dkwX8_isHeard_2 : List UInt8 := [172, 132, 3, 2, 167, 255, 206, 4, 172]
abbrev dktX8_isHeard_2 : List UInt8 := dkwX8_isHeard_2 ++ []
def dkwX8_isHeard_1 : List UInt8 := [47, 136, 182, 1, 28, 133, 42, 180, 0, 16, 16, 60, 27, 104, 29, 96, 4, 96, 47, 148, 153, 0, 5, 3]
abbrev dktX8_isHeard_1 : List UInt8 := dkwX8_isHeard_1 ++ dktX8_isHeard_2
def dkwX8_isHeard_0 : List UInt8 := [3, 62, 29, 42, 180, 0, 13, 27, 46, 162, 0, 46, 42, 28, 42, 180, 0, 16, 16, 60, 27, 104, 29, 96]
abbrev dktX8_isHeard_0 : List UInt8 := dkwX8_isHeard_0 ++ dktX8_isHeard_1
theorem dksX8_isHeard_0 : cX8_isHeard.data.toList.drop 0 = dktX8_isHeard_0 := by decide +kernel
theorem dksX8_isHeard_1 : cX8_isHeard.data.toList.drop 24 = dktX8_isHeard_1 := dk_seg dksX8_isHeard_0 24 rfl rfl
theorem dksX8_isHeard_2 : cX8_isHeard.data.toList.drop 48 = dktX8_isHeard_2 := dk_seg dksX8_isHeard_1 24 rfl rfl
theorem dX8_isHeard_0 : decode cX8_isHeard 0 = .ok (.iconst 0, 1) := dk_3 (dk_at dksX8_isHeard_0 0 rfl rfl)
theorem dX8_isHeard_1 : decode cX8_isHeard 1 = .ok (.istore_n 3, 1) := dk_62 (dk_at dksX8_isHeard_0 1 rfl rfl)
theorem dX8_isHeard_2 : decode cX8_isHeard 2 = .ok (.iload_n 3, 1) := dk_29 (dk_at dksX8_isHeard_0 2 rfl rfl)
theorem dX8_isHeard_3 : decode cX8_isHeard 3 = .ok (.aload_n 0, 1) := dk_42 (dk_at dksX8_isHeard_0 3 rfl rfl)
theorem dX8_isHeard_4 : decode cX8_isHeard 4 = .ok (.getfield 13, 3) := dk_180 0 13 (dk_at dksX8_isHeard_0 4 rfl rfl)
theorem dX8_isHeard_7 : decode cX8_isHeard 7 = .ok (.iload_n 1, 1) := dk_27 (dk_at dksX8_isHeard_0 7 rfl rfl)
theorem dX8_isHeard_8 : decode cX8_isHeard 8 = .ok (.iaload, 1) := dk_46 (dk_at dksX8_isHeard_0 8 rfl rfl)
theorem dX8_isHeard_9 : decode cX8_isHeard 9 = .ok (.if_icmp .ge 46, 3) := dk_162 0 46 (dk_at dksX8_isHeard_0 9 rfl rfl)
theorem dX8_isHeard_12 : decode cX8_isHeard 12 = .ok (.aload_n 0, 1) := dk_42 (dk_at dksX8_isHeard_0 12 rfl rfl)
theorem dX8_isHeard_13 : decode cX8_isHeard 13 = .ok (.iload_n 2, 1) := dk_28 (dk_at dksX8_isHeard_0 13 rfl rfl)
theorem dX8_isHeard_14 : decode cX8_isHeard 14 = .ok (.aload_n 0, 1) := dk_42 (dk_at dksX8_isHeard_0 14 rfl rfl)
theorem dX8_isHeard_15 : decode cX8_isHeard 15 = .ok (.getfield 16, 3) := dk_180 0 16 (dk_at dksX8_isHeard_0 15 rfl rfl)
theorem dX8_isHeard_18 : decode cX8_isHeard 18 = .ok (.bipush 60, 2) := dk_16 60 (dk_at dksX8_isHeard_0 18 rfl rfl)
theorem dX8_isHeard_20 : decode cX8_isHeard 20 = .ok (.iload_n 1, 1) := dk_27 (dk_at dksX8_isHeard_0 20 rfl rfl)
theorem dX8_isHeard_21 : decode cX8_isHeard 21 = .ok (.imul, 1) := dk_104 (dk_at dksX8_isHeard_0 21 rfl rfl)
theorem dX8_isHeard_22 : decode cX8_isHeard 22 = .ok (.iload_n 3, 1) := dk_29 (dk_at dksX8_isHeard_0 22 rfl rfl)
theorem dX8_isHeard_23 : decode cX8_isHeard 23 = .ok (.iadd, 1) := dk_96 (dk_at dksX8_isHeard_0 23 rfl rfl)
theorem dX8_isHeard_24 : decode cX8_isHeard 24 = .ok (.laload, 1) := dk_47 (dk_at dksX8_isHeard_1 0 rfl rfl)
theorem dX8_isHeard_25 : decode cX8_isHeard 25 = .ok (.l2i, 1) := dk_136 (dk_at dksX8_isHeard_1 1 rfl rfl)
theorem dX8_isHeard_26 : decode cX8_isHeard 26 = .ok (.invokevirtual 284, 3) := dk_182 1 28 (dk_at dksX8_isHeard_1 2 rfl rfl)
theorem dX8_isHeard_29 : decode cX8_isHeard 29 = .ok (.i2l, 1) := dk_133 (dk_at dksX8_isHeard_1 5 rfl rfl)
theorem dX8_isHeard_30 : decode cX8_isHeard 30 = .ok (.aload_n 0, 1) := dk_42 (dk_at dksX8_isHeard_1 6 rfl rfl)
theorem dX8_isHeard_31 : decode cX8_isHeard 31 = .ok (.getfield 16, 3) := dk_180 0 16 (dk_at dksX8_isHeard_1 7 rfl rfl)
theorem dX8_isHeard_34 : decode cX8_isHeard 34 = .ok (.bipush 60, 2) := dk_16 60 (dk_at dksX8_isHeard_1 10 rfl rfl)
theorem dX8_isHeard_36 : decode cX8_isHeard 36 = .ok (.iload_n 1, 1) := dk_27 (dk_at dksX8_isHeard_1 12 rfl rfl)
theorem dX8_isHeard_37 : decode cX8_isHeard 37 = .ok (.imul, 1) := dk_104 (dk_at dksX8_isHeard_1 13 rfl rfl)
theorem dX8_isHeard_38 : decode cX8_isHeard 38 = .ok (.iload_n 3, 1) := dk_29 (dk_at dksX8_isHeard_1 14 rfl rfl)
theorem dX8_isHeard_39 : decode cX8_isHeard 39 = .ok (.iadd, 1) := dk_96 (dk_at dksX8_isHeard_1 15 rfl rfl)
theorem dX8_isHeard_40 : decode cX8_isHeard 40 = .ok (.iconst 1, 1) := dk_4 (dk_at dksX8_isHeard_1 16 rfl rfl)
theorem dX8_isHeard_41 : decode cX8_isHeard 41 = .ok (.iadd, 1) := dk_96 (dk_at dksX8_isHeard_1 17 rfl rfl)
theorem dX8_isHeard_42 : decode cX8_isHeard 42 = .ok (.laload, 1) := dk_47 (dk_at dksX8_isHeard_1 18 rfl rfl)
theorem dX8_isHeard_43 : decode cX8_isHeard 43 = .ok (.lcmp, 1) := dk_148 (dk_at dksX8_isHeard_1 19 rfl rfl)
theorem dX8_isHeard_44 : decode cX8_isHeard 44 = .ok (.ifCond .eq 5, 3) := dk_153 0 5 (dk_at dksX8_isHeard_1 20 rfl rfl)
theorem dX8_isHeard_47 : decode cX8_isHeard 47 = .ok (.iconst 0, 1) := dk_3 (dk_at dksX8_isHeard_1 23 rfl rfl)
theorem dX8_isHeard_48 : decode cX8_isHeard 48 = .ok (.ireturn, 1) := dk_172 (dk_at dksX8_isHeard_2 0 rfl rfl)
theorem dX8_isHeard_49 : decode cX8_isHeard 49 = .ok (.iinc 3 2, 3) := dk_132 3 2 (dk_at dksX8_isHeard_2 1 rfl rfl)
theorem dX8_isHeard_52 : decode cX8_isHeard 52 = .ok (.goto (-50), 3) := dk_167 255 206 (dk_at dksX8_isHeard_2 4 rfl rfl)
theorem dX8_isHeard_55 : decode cX8_isHeard 55 = .ok (.iconst 1, 1) := dk_4 (dk_at dksX8_isHeard_2 7 rfl rfl)
theorem dX8_isHeard_56 : decode cX8_isHeard 56 = .ok (.ireturn, 1) := dk_172 (dk_at dksX8_isHeard_2 8 rfl rfl)
abbrev cX8_first : ByteArray := prog_13_method_92_code
def yX8_first : MethodName := ⟨RX8, "first", "(II)I"⟩
def dkwX8_first_1 : List UInt8 := [42, 180, 1, 90, 172]
abbrev dktX8_first_1 : List UInt8 := dkwX8_first_1 ++ []
def dkwX8_first_0 : List UInt8 := [42, 3, 181, 0, 80, 42, 27, 28, 182, 1, 99, 62, 29, 153, 0, 5, 29, 172, 42, 27, 28, 182, 1, 102]
abbrev dktX8_first_0 : List UInt8 := dkwX8_first_0 ++ dktX8_first_1
theorem dksX8_first_0 : cX8_first.data.toList.drop 0 = dktX8_first_0 := by decide +kernel
theorem dksX8_first_1 : cX8_first.data.toList.drop 24 = dktX8_first_1 := dk_seg dksX8_first_0 24 rfl rfl
theorem dX8_first_0 : decode cX8_first 0 = .ok (.aload_n 0, 1) := dk_42 (dk_at dksX8_first_0 0 rfl rfl)
theorem dX8_first_1 : decode cX8_first 1 = .ok (.iconst 0, 1) := dk_3 (dk_at dksX8_first_0 1 rfl rfl)
theorem dX8_first_2 : decode cX8_first 2 = .ok (.putfield 80, 3) := dk_181 0 80 (dk_at dksX8_first_0 2 rfl rfl)
theorem dX8_first_5 : decode cX8_first 5 = .ok (.aload_n 0, 1) := dk_42 (dk_at dksX8_first_0 5 rfl rfl)
theorem dX8_first_6 : decode cX8_first 6 = .ok (.iload_n 1, 1) := dk_27 (dk_at dksX8_first_0 6 rfl rfl)
theorem dX8_first_7 : decode cX8_first 7 = .ok (.iload_n 2, 1) := dk_28 (dk_at dksX8_first_0 7 rfl rfl)
theorem dX8_first_8 : decode cX8_first 8 = .ok (.invokevirtual 355, 3) := dk_182 1 99 (dk_at dksX8_first_0 8 rfl rfl)
theorem dX8_first_11 : decode cX8_first 11 = .ok (.istore_n 3, 1) := dk_62 (dk_at dksX8_first_0 11 rfl rfl)
theorem dX8_first_12 : decode cX8_first 12 = .ok (.iload_n 3, 1) := dk_29 (dk_at dksX8_first_0 12 rfl rfl)
theorem dX8_first_13 : decode cX8_first 13 = .ok (.ifCond .eq 5, 3) := dk_153 0 5 (dk_at dksX8_first_0 13 rfl rfl)
theorem dX8_first_16 : decode cX8_first 16 = .ok (.iload_n 3, 1) := dk_29 (dk_at dksX8_first_0 16 rfl rfl)
theorem dX8_first_17 : decode cX8_first 17 = .ok (.ireturn, 1) := dk_172 (dk_at dksX8_first_0 17 rfl rfl)
theorem dX8_first_18 : decode cX8_first 18 = .ok (.aload_n 0, 1) := dk_42 (dk_at dksX8_first_0 18 rfl rfl)
theorem dX8_first_19 : decode cX8_first 19 = .ok (.iload_n 1, 1) := dk_27 (dk_at dksX8_first_0 19 rfl rfl)
theorem dX8_first_20 : decode cX8_first 20 = .ok (.iload_n 2, 1) := dk_28 (dk_at dksX8_first_0 20 rfl rfl)
theorem dX8_first_21 : decode cX8_first 21 = .ok (.invokevirtual 358, 3) := dk_182 1 102 (dk_at dksX8_first_0 21 rfl rfl)
theorem dX8_first_24 : decode cX8_first 24 = .ok (.aload_n 0, 1) := dk_42 (dk_at dksX8_first_1 0 rfl rfl)
theorem dX8_first_25 : decode cX8_first 25 = .ok (.getfield 346, 3) := dk_180 1 90 (dk_at dksX8_first_1 1 rfl rfl)
theorem dX8_first_28 : decode cX8_first 28 = .ok (.ireturn, 1) := dk_172 (dk_at dksX8_first_1 4 rfl rfl)
abbrev cX8_when : ByteArray := prog_13_method_93_code
def yX8_when : MethodName := ⟨RX8, "when", "(II)J"⟩
def dkwX8_when_1 : List UInt8 := [182, 1, 102, 42, 180, 1, 93, 173]
abbrev dktX8_when_1 : List UInt8 := dkwX8_when_1 ++ []
def dkwX8_when_0 : List UInt8 := [42, 3, 181, 0, 80, 42, 27, 28, 182, 1, 99, 62, 29, 153, 0, 6, 29, 133, 173, 42, 27, 28]
abbrev dktX8_when_0 : List UInt8 := dkwX8_when_0 ++ dktX8_when_1
theorem dksX8_when_0 : cX8_when.data.toList.drop 0 = dktX8_when_0 := by decide +kernel
theorem dksX8_when_1 : cX8_when.data.toList.drop 22 = dktX8_when_1 := dk_seg dksX8_when_0 22 rfl rfl
theorem dX8_when_0 : decode cX8_when 0 = .ok (.aload_n 0, 1) := dk_42 (dk_at dksX8_when_0 0 rfl rfl)
theorem dX8_when_1 : decode cX8_when 1 = .ok (.iconst 0, 1) := dk_3 (dk_at dksX8_when_0 1 rfl rfl)
theorem dX8_when_2 : decode cX8_when 2 = .ok (.putfield 80, 3) := dk_181 0 80 (dk_at dksX8_when_0 2 rfl rfl)
theorem dX8_when_5 : decode cX8_when 5 = .ok (.aload_n 0, 1) := dk_42 (dk_at dksX8_when_0 5 rfl rfl)
theorem dX8_when_6 : decode cX8_when 6 = .ok (.iload_n 1, 1) := dk_27 (dk_at dksX8_when_0 6 rfl rfl)
theorem dX8_when_7 : decode cX8_when 7 = .ok (.iload_n 2, 1) := dk_28 (dk_at dksX8_when_0 7 rfl rfl)
theorem dX8_when_8 : decode cX8_when 8 = .ok (.invokevirtual 355, 3) := dk_182 1 99 (dk_at dksX8_when_0 8 rfl rfl)
theorem dX8_when_11 : decode cX8_when 11 = .ok (.istore_n 3, 1) := dk_62 (dk_at dksX8_when_0 11 rfl rfl)
theorem dX8_when_12 : decode cX8_when 12 = .ok (.iload_n 3, 1) := dk_29 (dk_at dksX8_when_0 12 rfl rfl)
theorem dX8_when_13 : decode cX8_when 13 = .ok (.ifCond .eq 6, 3) := dk_153 0 6 (dk_at dksX8_when_0 13 rfl rfl)
theorem dX8_when_16 : decode cX8_when 16 = .ok (.iload_n 3, 1) := dk_29 (dk_at dksX8_when_0 16 rfl rfl)
theorem dX8_when_17 : decode cX8_when 17 = .ok (.i2l, 1) := dk_133 (dk_at dksX8_when_0 17 rfl rfl)
theorem dX8_when_18 : decode cX8_when 18 = .ok (.lreturn, 1) := dk_173 (dk_at dksX8_when_0 18 rfl rfl)
theorem dX8_when_19 : decode cX8_when 19 = .ok (.aload_n 0, 1) := dk_42 (dk_at dksX8_when_0 19 rfl rfl)
theorem dX8_when_20 : decode cX8_when 20 = .ok (.iload_n 1, 1) := dk_27 (dk_at dksX8_when_0 20 rfl rfl)
theorem dX8_when_21 : decode cX8_when 21 = .ok (.iload_n 2, 1) := dk_28 (dk_at dksX8_when_0 21 rfl rfl)
theorem dX8_when_22 : decode cX8_when 22 = .ok (.invokevirtual 358, 3) := dk_182 1 102 (dk_at dksX8_when_1 0 rfl rfl)
theorem dX8_when_25 : decode cX8_when 25 = .ok (.aload_n 0, 1) := dk_42 (dk_at dksX8_when_1 3 rfl rfl)
theorem dX8_when_26 : decode cX8_when 26 = .ok (.getfield 349, 3) := dk_180 1 93 (dk_at dksX8_when_1 4 rfl rfl)
theorem dX8_when_29 : decode cX8_when 29 = .ok (.lreturn, 1) := dk_173 (dk_at dksX8_when_1 7 rfl rfl)
abbrev cX8_listen : ByteArray := prog_13_method_95_code
def yX8_listen : MethodName := ⟨RX8, "listen", "(II)I"⟩
def dkwX8_listen_1 : List UInt8 := [182, 1, 108, 172]
abbrev dktX8_listen_1 : List UInt8 := dkwX8_listen_1 ++ []
def dkwX8_listen_0 : List UInt8 := [42, 3, 181, 0, 80, 42, 27, 28, 182, 1, 99, 62, 29, 153, 0, 7, 29, 167, 0, 9, 42, 27, 28]
abbrev dktX8_listen_0 : List UInt8 := dkwX8_listen_0 ++ dktX8_listen_1
theorem dksX8_listen_0 : cX8_listen.data.toList.drop 0 = dktX8_listen_0 := by decide +kernel
theorem dksX8_listen_1 : cX8_listen.data.toList.drop 23 = dktX8_listen_1 := dk_seg dksX8_listen_0 23 rfl rfl
theorem dX8_listen_0 : decode cX8_listen 0 = .ok (.aload_n 0, 1) := dk_42 (dk_at dksX8_listen_0 0 rfl rfl)
theorem dX8_listen_1 : decode cX8_listen 1 = .ok (.iconst 0, 1) := dk_3 (dk_at dksX8_listen_0 1 rfl rfl)
theorem dX8_listen_2 : decode cX8_listen 2 = .ok (.putfield 80, 3) := dk_181 0 80 (dk_at dksX8_listen_0 2 rfl rfl)
theorem dX8_listen_5 : decode cX8_listen 5 = .ok (.aload_n 0, 1) := dk_42 (dk_at dksX8_listen_0 5 rfl rfl)
theorem dX8_listen_6 : decode cX8_listen 6 = .ok (.iload_n 1, 1) := dk_27 (dk_at dksX8_listen_0 6 rfl rfl)
theorem dX8_listen_7 : decode cX8_listen 7 = .ok (.iload_n 2, 1) := dk_28 (dk_at dksX8_listen_0 7 rfl rfl)
theorem dX8_listen_8 : decode cX8_listen 8 = .ok (.invokevirtual 355, 3) := dk_182 1 99 (dk_at dksX8_listen_0 8 rfl rfl)
theorem dX8_listen_11 : decode cX8_listen 11 = .ok (.istore_n 3, 1) := dk_62 (dk_at dksX8_listen_0 11 rfl rfl)
theorem dX8_listen_12 : decode cX8_listen 12 = .ok (.iload_n 3, 1) := dk_29 (dk_at dksX8_listen_0 12 rfl rfl)
theorem dX8_listen_13 : decode cX8_listen 13 = .ok (.ifCond .eq 7, 3) := dk_153 0 7 (dk_at dksX8_listen_0 13 rfl rfl)
theorem dX8_listen_16 : decode cX8_listen 16 = .ok (.iload_n 3, 1) := dk_29 (dk_at dksX8_listen_0 16 rfl rfl)
theorem dX8_listen_17 : decode cX8_listen 17 = .ok (.goto 9, 3) := dk_167 0 9 (dk_at dksX8_listen_0 17 rfl rfl)
theorem dX8_listen_20 : decode cX8_listen 20 = .ok (.aload_n 0, 1) := dk_42 (dk_at dksX8_listen_0 20 rfl rfl)
theorem dX8_listen_21 : decode cX8_listen 21 = .ok (.iload_n 1, 1) := dk_27 (dk_at dksX8_listen_0 21 rfl rfl)
theorem dX8_listen_22 : decode cX8_listen 22 = .ok (.iload_n 2, 1) := dk_28 (dk_at dksX8_listen_0 22 rfl rfl)
theorem dX8_listen_23 : decode cX8_listen 23 = .ok (.invokevirtual 364, 3) := dk_182 1 108 (dk_at dksX8_listen_1 0 rfl rfl)
theorem dX8_listen_26 : decode cX8_listen 26 = .ok (.ireturn, 1) := dk_172 (dk_at dksX8_listen_1 3 rfl rfl)
abbrev cX8_listens : ByteArray := prog_13_method_94_code
def yX8_listens : MethodName := ⟨RX8, "listens", "(II)I"⟩
def dkwX8_listens_4 : List UInt8 := [167, 0, 12, 21, 4, 62, 42, 21, 5, 181, 1, 105, 132, 4, 1, 167, 255, 168, 29, 172]
abbrev dktX8_listens_4 : List UInt8 := dkwX8_listens_4 ++ []
def dkwX8_listens_3 : List UInt8 := [167, 0, 5, 21, 5, 54, 5, 132, 6, 1, 167, 255, 208, 21, 5, 42, 180, 1, 105, 161, 0, 6]
abbrev dktX8_listens_3 : List UInt8 := dkwX8_listens_3 ++ dktX8_listens_4
def dkwX8_listens_2 : List UInt8 := [104, 21, 6, 96, 46, 21, 5, 164, 0, 19, 42, 180, 0, 71, 16, 7, 21, 4, 104, 21, 6, 96, 46]
abbrev dktX8_listens_2 : List UInt8 := dkwX8_listens_2 ++ dktX8_listens_3
def dkwX8_listens_1 : List UInt8 := [162, 0, 87, 3, 54, 5, 3, 54, 6, 21, 6, 16, 7, 162, 0, 47, 42, 180, 0, 71, 16, 7, 21, 4]
abbrev dktX8_listens_1 : List UInt8 := dkwX8_listens_1 ++ dktX8_listens_2
def dkwX8_listens_0 : List UInt8 := [42, 27, 28, 182, 1, 102, 2, 62, 42, 42, 180, 1, 87, 181, 1, 105, 3, 54, 4, 21, 4, 16, 80]
abbrev dktX8_listens_0 : List UInt8 := dkwX8_listens_0 ++ dktX8_listens_1
theorem dksX8_listens_0 : cX8_listens.data.toList.drop 0 = dktX8_listens_0 := by decide +kernel
theorem dksX8_listens_1 : cX8_listens.data.toList.drop 23 = dktX8_listens_1 := dk_seg dksX8_listens_0 23 rfl rfl
theorem dksX8_listens_2 : cX8_listens.data.toList.drop 47 = dktX8_listens_2 := dk_seg dksX8_listens_1 24 rfl rfl
theorem dksX8_listens_3 : cX8_listens.data.toList.drop 70 = dktX8_listens_3 := dk_seg dksX8_listens_2 23 rfl rfl
theorem dksX8_listens_4 : cX8_listens.data.toList.drop 92 = dktX8_listens_4 := dk_seg dksX8_listens_3 22 rfl rfl
theorem dX8_listens_0 : decode cX8_listens 0 = .ok (.aload_n 0, 1) := dk_42 (dk_at dksX8_listens_0 0 rfl rfl)
theorem dX8_listens_1 : decode cX8_listens 1 = .ok (.iload_n 1, 1) := dk_27 (dk_at dksX8_listens_0 1 rfl rfl)
theorem dX8_listens_2 : decode cX8_listens 2 = .ok (.iload_n 2, 1) := dk_28 (dk_at dksX8_listens_0 2 rfl rfl)
theorem dX8_listens_3 : decode cX8_listens 3 = .ok (.invokevirtual 358, 3) := dk_182 1 102 (dk_at dksX8_listens_0 3 rfl rfl)
theorem dX8_listens_6 : decode cX8_listens 6 = .ok (.iconst (-1), 1) := dk_2 (dk_at dksX8_listens_0 6 rfl rfl)
theorem dX8_listens_7 : decode cX8_listens 7 = .ok (.istore_n 3, 1) := dk_62 (dk_at dksX8_listens_0 7 rfl rfl)
theorem dX8_listens_8 : decode cX8_listens 8 = .ok (.aload_n 0, 1) := dk_42 (dk_at dksX8_listens_0 8 rfl rfl)
theorem dX8_listens_9 : decode cX8_listens 9 = .ok (.aload_n 0, 1) := dk_42 (dk_at dksX8_listens_0 9 rfl rfl)
theorem dX8_listens_10 : decode cX8_listens 10 = .ok (.getfield 343, 3) := dk_180 1 87 (dk_at dksX8_listens_0 10 rfl rfl)
theorem dX8_listens_13 : decode cX8_listens 13 = .ok (.putfield 361, 3) := dk_181 1 105 (dk_at dksX8_listens_0 13 rfl rfl)
theorem dX8_listens_16 : decode cX8_listens 16 = .ok (.iconst 0, 1) := dk_3 (dk_at dksX8_listens_0 16 rfl rfl)
theorem dX8_listens_17 : decode cX8_listens 17 = .ok (.istore 4, 2) := dk_54 4 (dk_at dksX8_listens_0 17 rfl rfl)
theorem dX8_listens_19 : decode cX8_listens 19 = .ok (.iload 4, 2) := dk_21 4 (dk_at dksX8_listens_0 19 rfl rfl)
theorem dX8_listens_21 : decode cX8_listens 21 = .ok (.bipush 80, 2) := dk_16 80 (dk_at dksX8_listens_0 21 rfl rfl)
theorem dX8_listens_23 : decode cX8_listens 23 = .ok (.if_icmp .ge 87, 3) := dk_162 0 87 (dk_at dksX8_listens_1 0 rfl rfl)
theorem dX8_listens_26 : decode cX8_listens 26 = .ok (.iconst 0, 1) := dk_3 (dk_at dksX8_listens_1 3 rfl rfl)
theorem dX8_listens_27 : decode cX8_listens 27 = .ok (.istore 5, 2) := dk_54 5 (dk_at dksX8_listens_1 4 rfl rfl)
theorem dX8_listens_29 : decode cX8_listens 29 = .ok (.iconst 0, 1) := dk_3 (dk_at dksX8_listens_1 6 rfl rfl)
theorem dX8_listens_30 : decode cX8_listens 30 = .ok (.istore 6, 2) := dk_54 6 (dk_at dksX8_listens_1 7 rfl rfl)
theorem dX8_listens_32 : decode cX8_listens 32 = .ok (.iload 6, 2) := dk_21 6 (dk_at dksX8_listens_1 9 rfl rfl)
theorem dX8_listens_34 : decode cX8_listens 34 = .ok (.bipush 7, 2) := dk_16 7 (dk_at dksX8_listens_1 11 rfl rfl)
theorem dX8_listens_36 : decode cX8_listens 36 = .ok (.if_icmp .ge 47, 3) := dk_162 0 47 (dk_at dksX8_listens_1 13 rfl rfl)
theorem dX8_listens_39 : decode cX8_listens 39 = .ok (.aload_n 0, 1) := dk_42 (dk_at dksX8_listens_1 16 rfl rfl)
theorem dX8_listens_40 : decode cX8_listens 40 = .ok (.getfield 71, 3) := dk_180 0 71 (dk_at dksX8_listens_1 17 rfl rfl)
theorem dX8_listens_43 : decode cX8_listens 43 = .ok (.bipush 7, 2) := dk_16 7 (dk_at dksX8_listens_1 20 rfl rfl)
theorem dX8_listens_45 : decode cX8_listens 45 = .ok (.iload 4, 2) := dk_21 4 (dk_at dksX8_listens_1 22 rfl rfl)
theorem dX8_listens_47 : decode cX8_listens 47 = .ok (.imul, 1) := dk_104 (dk_at dksX8_listens_2 0 rfl rfl)
theorem dX8_listens_48 : decode cX8_listens 48 = .ok (.iload 6, 2) := dk_21 6 (dk_at dksX8_listens_2 1 rfl rfl)
theorem dX8_listens_50 : decode cX8_listens 50 = .ok (.iadd, 1) := dk_96 (dk_at dksX8_listens_2 3 rfl rfl)
theorem dX8_listens_51 : decode cX8_listens 51 = .ok (.iaload, 1) := dk_46 (dk_at dksX8_listens_2 4 rfl rfl)
theorem dX8_listens_52 : decode cX8_listens 52 = .ok (.iload 5, 2) := dk_21 5 (dk_at dksX8_listens_2 5 rfl rfl)
theorem dX8_listens_54 : decode cX8_listens 54 = .ok (.if_icmp .le 19, 3) := dk_164 0 19 (dk_at dksX8_listens_2 7 rfl rfl)
theorem dX8_listens_57 : decode cX8_listens 57 = .ok (.aload_n 0, 1) := dk_42 (dk_at dksX8_listens_2 10 rfl rfl)
theorem dX8_listens_58 : decode cX8_listens 58 = .ok (.getfield 71, 3) := dk_180 0 71 (dk_at dksX8_listens_2 11 rfl rfl)
theorem dX8_listens_61 : decode cX8_listens 61 = .ok (.bipush 7, 2) := dk_16 7 (dk_at dksX8_listens_2 14 rfl rfl)
theorem dX8_listens_63 : decode cX8_listens 63 = .ok (.iload 4, 2) := dk_21 4 (dk_at dksX8_listens_2 16 rfl rfl)
theorem dX8_listens_65 : decode cX8_listens 65 = .ok (.imul, 1) := dk_104 (dk_at dksX8_listens_2 18 rfl rfl)
theorem dX8_listens_66 : decode cX8_listens 66 = .ok (.iload 6, 2) := dk_21 6 (dk_at dksX8_listens_2 19 rfl rfl)
theorem dX8_listens_68 : decode cX8_listens 68 = .ok (.iadd, 1) := dk_96 (dk_at dksX8_listens_2 21 rfl rfl)
theorem dX8_listens_69 : decode cX8_listens 69 = .ok (.iaload, 1) := dk_46 (dk_at dksX8_listens_2 22 rfl rfl)
theorem dX8_listens_70 : decode cX8_listens 70 = .ok (.goto 5, 3) := dk_167 0 5 (dk_at dksX8_listens_3 0 rfl rfl)
theorem dX8_listens_73 : decode cX8_listens 73 = .ok (.iload 5, 2) := dk_21 5 (dk_at dksX8_listens_3 3 rfl rfl)
theorem dX8_listens_75 : decode cX8_listens 75 = .ok (.istore 5, 2) := dk_54 5 (dk_at dksX8_listens_3 5 rfl rfl)
theorem dX8_listens_77 : decode cX8_listens 77 = .ok (.iinc 6 1, 3) := dk_132 6 1 (dk_at dksX8_listens_3 7 rfl rfl)
theorem dX8_listens_80 : decode cX8_listens 80 = .ok (.goto (-48), 3) := dk_167 255 208 (dk_at dksX8_listens_3 10 rfl rfl)
theorem dX8_listens_83 : decode cX8_listens 83 = .ok (.iload 5, 2) := dk_21 5 (dk_at dksX8_listens_3 13 rfl rfl)
theorem dX8_listens_85 : decode cX8_listens 85 = .ok (.aload_n 0, 1) := dk_42 (dk_at dksX8_listens_3 15 rfl rfl)
theorem dX8_listens_86 : decode cX8_listens 86 = .ok (.getfield 361, 3) := dk_180 1 105 (dk_at dksX8_listens_3 16 rfl rfl)
theorem dX8_listens_89 : decode cX8_listens 89 = .ok (.if_icmp .lt 6, 3) := dk_161 0 6 (dk_at dksX8_listens_3 19 rfl rfl)
theorem dX8_listens_92 : decode cX8_listens 92 = .ok (.goto 12, 3) := dk_167 0 12 (dk_at dksX8_listens_4 0 rfl rfl)
theorem dX8_listens_95 : decode cX8_listens 95 = .ok (.iload 4, 2) := dk_21 4 (dk_at dksX8_listens_4 3 rfl rfl)
theorem dX8_listens_97 : decode cX8_listens 97 = .ok (.istore_n 3, 1) := dk_62 (dk_at dksX8_listens_4 5 rfl rfl)
theorem dX8_listens_98 : decode cX8_listens 98 = .ok (.aload_n 0, 1) := dk_42 (dk_at dksX8_listens_4 6 rfl rfl)
theorem dX8_listens_99 : decode cX8_listens 99 = .ok (.iload 5, 2) := dk_21 5 (dk_at dksX8_listens_4 7 rfl rfl)
theorem dX8_listens_101 : decode cX8_listens 101 = .ok (.putfield 361, 3) := dk_181 1 105 (dk_at dksX8_listens_4 9 rfl rfl)
theorem dX8_listens_104 : decode cX8_listens 104 = .ok (.iinc 4 1, 3) := dk_132 4 1 (dk_at dksX8_listens_4 12 rfl rfl)
theorem dX8_listens_107 : decode cX8_listens 107 = .ok (.goto (-88), 3) := dk_167 255 168 (dk_at dksX8_listens_4 15 rfl rfl)
theorem dX8_listens_110 : decode cX8_listens 110 = .ok (.iload_n 3, 1) := dk_29 (dk_at dksX8_listens_4 18 rfl rfl)
theorem dX8_listens_111 : decode cX8_listens 111 = .ok (.ireturn, 1) := dk_172 (dk_at dksX8_listens_4 19 rfl rfl)
abbrev cX8_leaves : ByteArray := prog_13_method_96_code
def yX8_leaves : MethodName := ⟨RX8, "leaves", "(II)I"⟩
def dkwX8_leaves_1 : List UInt8 := [87, 42, 180, 1, 105, 172]
abbrev dktX8_leaves_1 : List UInt8 := dkwX8_leaves_1 ++ []
def dkwX8_leaves_0 : List UInt8 := [42, 3, 181, 0, 80, 42, 27, 28, 182, 1, 99, 62, 29, 153, 0, 5, 29, 172, 42, 27, 28, 182, 1, 108]
abbrev dktX8_leaves_0 : List UInt8 := dkwX8_leaves_0 ++ dktX8_leaves_1
theorem dksX8_leaves_0 : cX8_leaves.data.toList.drop 0 = dktX8_leaves_0 := by decide +kernel
theorem dksX8_leaves_1 : cX8_leaves.data.toList.drop 24 = dktX8_leaves_1 := dk_seg dksX8_leaves_0 24 rfl rfl
theorem dX8_leaves_0 : decode cX8_leaves 0 = .ok (.aload_n 0, 1) := dk_42 (dk_at dksX8_leaves_0 0 rfl rfl)
theorem dX8_leaves_1 : decode cX8_leaves 1 = .ok (.iconst 0, 1) := dk_3 (dk_at dksX8_leaves_0 1 rfl rfl)
theorem dX8_leaves_2 : decode cX8_leaves 2 = .ok (.putfield 80, 3) := dk_181 0 80 (dk_at dksX8_leaves_0 2 rfl rfl)
theorem dX8_leaves_5 : decode cX8_leaves 5 = .ok (.aload_n 0, 1) := dk_42 (dk_at dksX8_leaves_0 5 rfl rfl)
theorem dX8_leaves_6 : decode cX8_leaves 6 = .ok (.iload_n 1, 1) := dk_27 (dk_at dksX8_leaves_0 6 rfl rfl)
theorem dX8_leaves_7 : decode cX8_leaves 7 = .ok (.iload_n 2, 1) := dk_28 (dk_at dksX8_leaves_0 7 rfl rfl)
theorem dX8_leaves_8 : decode cX8_leaves 8 = .ok (.invokevirtual 355, 3) := dk_182 1 99 (dk_at dksX8_leaves_0 8 rfl rfl)
theorem dX8_leaves_11 : decode cX8_leaves 11 = .ok (.istore_n 3, 1) := dk_62 (dk_at dksX8_leaves_0 11 rfl rfl)
theorem dX8_leaves_12 : decode cX8_leaves 12 = .ok (.iload_n 3, 1) := dk_29 (dk_at dksX8_leaves_0 12 rfl rfl)
theorem dX8_leaves_13 : decode cX8_leaves 13 = .ok (.ifCond .eq 5, 3) := dk_153 0 5 (dk_at dksX8_leaves_0 13 rfl rfl)
theorem dX8_leaves_16 : decode cX8_leaves 16 = .ok (.iload_n 3, 1) := dk_29 (dk_at dksX8_leaves_0 16 rfl rfl)
theorem dX8_leaves_17 : decode cX8_leaves 17 = .ok (.ireturn, 1) := dk_172 (dk_at dksX8_leaves_0 17 rfl rfl)
theorem dX8_leaves_18 : decode cX8_leaves 18 = .ok (.aload_n 0, 1) := dk_42 (dk_at dksX8_leaves_0 18 rfl rfl)
theorem dX8_leaves_19 : decode cX8_leaves 19 = .ok (.iload_n 1, 1) := dk_27 (dk_at dksX8_leaves_0 19 rfl rfl)
theorem dX8_leaves_20 : decode cX8_leaves 20 = .ok (.iload_n 2, 1) := dk_28 (dk_at dksX8_leaves_0 20 rfl rfl)
theorem dX8_leaves_21 : decode cX8_leaves 21 = .ok (.invokevirtual 364, 3) := dk_182 1 108 (dk_at dksX8_leaves_0 21 rfl rfl)
theorem dX8_leaves_24 : decode cX8_leaves 24 = .ok (.pop, 1) := dk_87 (dk_at dksX8_leaves_1 0 rfl rfl)
theorem dX8_leaves_25 : decode cX8_leaves 25 = .ok (.aload_n 0, 1) := dk_42 (dk_at dksX8_leaves_1 1 rfl rfl)
theorem dX8_leaves_26 : decode cX8_leaves 26 = .ok (.getfield 361, 3) := dk_180 1 105 (dk_at dksX8_leaves_1 2 rfl rfl)
theorem dX8_leaves_29 : decode cX8_leaves 29 = .ok (.ireturn, 1) := dk_172 (dk_at dksX8_leaves_1 5 rfl rfl)
abbrev cX8_crosses : ByteArray := prog_13_method_99_code
def yX8_crosses : MethodName := ⟨RX8, "crosses", "(I)I"⟩
def dkwX8_crosses_1 : List UInt8 := [182, 1, 111, 184, 1, 114, 167, 0, 5, 16, 254, 172]
abbrev dktX8_crosses_1 : List UInt8 := dkwX8_crosses_1 ++ []
def dkwX8_crosses_0 : List UInt8 := [42, 3, 181, 0, 80, 42, 182, 0, 254, 153, 0, 23, 27, 133, 184, 1, 14, 153, 0, 15, 42, 3, 27]
abbrev dktX8_crosses_0 : List UInt8 := dkwX8_crosses_0 ++ dktX8_crosses_1
theorem dksX8_crosses_0 : cX8_crosses.data.toList.drop 0 = dktX8_crosses_0 := by decide +kernel
theorem dksX8_crosses_1 : cX8_crosses.data.toList.drop 23 = dktX8_crosses_1 := dk_seg dksX8_crosses_0 23 rfl rfl
theorem dX8_crosses_0 : decode cX8_crosses 0 = .ok (.aload_n 0, 1) := dk_42 (dk_at dksX8_crosses_0 0 rfl rfl)
theorem dX8_crosses_1 : decode cX8_crosses 1 = .ok (.iconst 0, 1) := dk_3 (dk_at dksX8_crosses_0 1 rfl rfl)
theorem dX8_crosses_2 : decode cX8_crosses 2 = .ok (.putfield 80, 3) := dk_181 0 80 (dk_at dksX8_crosses_0 2 rfl rfl)
theorem dX8_crosses_5 : decode cX8_crosses 5 = .ok (.aload_n 0, 1) := dk_42 (dk_at dksX8_crosses_0 5 rfl rfl)
theorem dX8_crosses_6 : decode cX8_crosses 6 = .ok (.invokevirtual 254, 3) := dk_182 0 254 (dk_at dksX8_crosses_0 6 rfl rfl)
theorem dX8_crosses_9 : decode cX8_crosses 9 = .ok (.ifCond .eq 23, 3) := dk_153 0 23 (dk_at dksX8_crosses_0 9 rfl rfl)
theorem dX8_crosses_12 : decode cX8_crosses 12 = .ok (.iload_n 1, 1) := dk_27 (dk_at dksX8_crosses_0 12 rfl rfl)
theorem dX8_crosses_13 : decode cX8_crosses 13 = .ok (.i2l, 1) := dk_133 (dk_at dksX8_crosses_0 13 rfl rfl)
theorem dX8_crosses_14 : decode cX8_crosses 14 = .ok (.invokestatic 270, 3) := dk_184 1 14 (dk_at dksX8_crosses_0 14 rfl rfl)
theorem dX8_crosses_17 : decode cX8_crosses 17 = .ok (.ifCond .eq 15, 3) := dk_153 0 15 (dk_at dksX8_crosses_0 17 rfl rfl)
theorem dX8_crosses_20 : decode cX8_crosses 20 = .ok (.aload_n 0, 1) := dk_42 (dk_at dksX8_crosses_0 20 rfl rfl)
theorem dX8_crosses_21 : decode cX8_crosses 21 = .ok (.iconst 0, 1) := dk_3 (dk_at dksX8_crosses_0 21 rfl rfl)
theorem dX8_crosses_22 : decode cX8_crosses 22 = .ok (.iload_n 1, 1) := dk_27 (dk_at dksX8_crosses_0 22 rfl rfl)
theorem dX8_crosses_23 : decode cX8_crosses 23 = .ok (.invokevirtual 367, 3) := dk_182 1 111 (dk_at dksX8_crosses_1 0 rfl rfl)
theorem dX8_crosses_26 : decode cX8_crosses 26 = .ok (.invokestatic 370, 3) := dk_184 1 114 (dk_at dksX8_crosses_1 3 rfl rfl)
theorem dX8_crosses_29 : decode cX8_crosses 29 = .ok (.goto 5, 3) := dk_167 0 5 (dk_at dksX8_crosses_1 6 rfl rfl)
theorem dX8_crosses_32 : decode cX8_crosses 32 = .ok (.bipush (-2), 2) := dk_16 254 (dk_at dksX8_crosses_1 9 rfl rfl)
theorem dX8_crosses_34 : decode cX8_crosses 34 = .ok (.ireturn, 1) := dk_172 (dk_at dksX8_crosses_1 11 rfl rfl)
abbrev cX8_walks : ByteArray := prog_13_method_97_code
def yX8_walks : MethodName := ⟨RX8, "walks", "(II)I"⟩
def dkwX8_walks_4 : List UInt8 := [167, 255, 171, 29, 4, 96, 172]
abbrev dktX8_walks_4 : List UInt8 := dkwX8_walks_4 ++ []
def dkwX8_walks_3 : List UInt8 := [167, 255, 228, 132, 3, 1, 42, 180, 0, 74, 16, 12, 27, 104, 21, 5, 96, 29, 79, 132, 4, 1]
abbrev dktX8_walks_3 : List UInt8 := dkwX8_walks_3 ++ dktX8_walks_4
def dkwX8_walks_2 : List UInt8 := [21, 5, 104, 46, 112, 42, 180, 0, 50, 5, 21, 5, 104, 4, 96, 46, 159, 0, 9, 132, 3, 1]
abbrev dktX8_walks_2 : List UInt8 := dkwX8_walks_2 ++ dktX8_walks_3
def dkwX8_walks_1 : List UInt8 := [167, 0, 15, 42, 180, 0, 34, 16, 8, 46, 4, 100, 21, 4, 100, 54, 5, 29, 42, 180, 0, 50, 5]
abbrev dktX8_walks_1 : List UInt8 := dkwX8_walks_1 ++ dktX8_walks_2
def dkwX8_walks_0 : List UInt8 := [28, 62, 3, 54, 4, 21, 4, 42, 180, 0, 34, 16, 8, 46, 162, 0, 79, 27, 154, 0, 8, 21, 4]
abbrev dktX8_walks_0 : List UInt8 := dkwX8_walks_0 ++ dktX8_walks_1
theorem dksX8_walks_0 : cX8_walks.data.toList.drop 0 = dktX8_walks_0 := by decide +kernel
theorem dksX8_walks_1 : cX8_walks.data.toList.drop 23 = dktX8_walks_1 := dk_seg dksX8_walks_0 23 rfl rfl
theorem dksX8_walks_2 : cX8_walks.data.toList.drop 46 = dktX8_walks_2 := dk_seg dksX8_walks_1 23 rfl rfl
theorem dksX8_walks_3 : cX8_walks.data.toList.drop 68 = dktX8_walks_3 := dk_seg dksX8_walks_2 22 rfl rfl
theorem dksX8_walks_4 : cX8_walks.data.toList.drop 90 = dktX8_walks_4 := dk_seg dksX8_walks_3 22 rfl rfl
theorem dX8_walks_0 : decode cX8_walks 0 = .ok (.iload_n 2, 1) := dk_28 (dk_at dksX8_walks_0 0 rfl rfl)
theorem dX8_walks_1 : decode cX8_walks 1 = .ok (.istore_n 3, 1) := dk_62 (dk_at dksX8_walks_0 1 rfl rfl)
theorem dX8_walks_2 : decode cX8_walks 2 = .ok (.iconst 0, 1) := dk_3 (dk_at dksX8_walks_0 2 rfl rfl)
theorem dX8_walks_3 : decode cX8_walks 3 = .ok (.istore 4, 2) := dk_54 4 (dk_at dksX8_walks_0 3 rfl rfl)
theorem dX8_walks_5 : decode cX8_walks 5 = .ok (.iload 4, 2) := dk_21 4 (dk_at dksX8_walks_0 5 rfl rfl)
theorem dX8_walks_7 : decode cX8_walks 7 = .ok (.aload_n 0, 1) := dk_42 (dk_at dksX8_walks_0 7 rfl rfl)
theorem dX8_walks_8 : decode cX8_walks 8 = .ok (.getfield 34, 3) := dk_180 0 34 (dk_at dksX8_walks_0 8 rfl rfl)
theorem dX8_walks_11 : decode cX8_walks 11 = .ok (.bipush 8, 2) := dk_16 8 (dk_at dksX8_walks_0 11 rfl rfl)
theorem dX8_walks_13 : decode cX8_walks 13 = .ok (.iaload, 1) := dk_46 (dk_at dksX8_walks_0 13 rfl rfl)
theorem dX8_walks_14 : decode cX8_walks 14 = .ok (.if_icmp .ge 79, 3) := dk_162 0 79 (dk_at dksX8_walks_0 14 rfl rfl)
theorem dX8_walks_17 : decode cX8_walks 17 = .ok (.iload_n 1, 1) := dk_27 (dk_at dksX8_walks_0 17 rfl rfl)
theorem dX8_walks_18 : decode cX8_walks 18 = .ok (.ifCond .ne 8, 3) := dk_154 0 8 (dk_at dksX8_walks_0 18 rfl rfl)
theorem dX8_walks_21 : decode cX8_walks 21 = .ok (.iload 4, 2) := dk_21 4 (dk_at dksX8_walks_0 21 rfl rfl)
theorem dX8_walks_23 : decode cX8_walks 23 = .ok (.goto 15, 3) := dk_167 0 15 (dk_at dksX8_walks_1 0 rfl rfl)
theorem dX8_walks_26 : decode cX8_walks 26 = .ok (.aload_n 0, 1) := dk_42 (dk_at dksX8_walks_1 3 rfl rfl)
theorem dX8_walks_27 : decode cX8_walks 27 = .ok (.getfield 34, 3) := dk_180 0 34 (dk_at dksX8_walks_1 4 rfl rfl)
theorem dX8_walks_30 : decode cX8_walks 30 = .ok (.bipush 8, 2) := dk_16 8 (dk_at dksX8_walks_1 7 rfl rfl)
theorem dX8_walks_32 : decode cX8_walks 32 = .ok (.iaload, 1) := dk_46 (dk_at dksX8_walks_1 9 rfl rfl)
theorem dX8_walks_33 : decode cX8_walks 33 = .ok (.iconst 1, 1) := dk_4 (dk_at dksX8_walks_1 10 rfl rfl)
theorem dX8_walks_34 : decode cX8_walks 34 = .ok (.isub, 1) := dk_100 (dk_at dksX8_walks_1 11 rfl rfl)
theorem dX8_walks_35 : decode cX8_walks 35 = .ok (.iload 4, 2) := dk_21 4 (dk_at dksX8_walks_1 12 rfl rfl)
theorem dX8_walks_37 : decode cX8_walks 37 = .ok (.isub, 1) := dk_100 (dk_at dksX8_walks_1 14 rfl rfl)
theorem dX8_walks_38 : decode cX8_walks 38 = .ok (.istore 5, 2) := dk_54 5 (dk_at dksX8_walks_1 15 rfl rfl)
theorem dX8_walks_40 : decode cX8_walks 40 = .ok (.iload_n 3, 1) := dk_29 (dk_at dksX8_walks_1 17 rfl rfl)
theorem dX8_walks_41 : decode cX8_walks 41 = .ok (.aload_n 0, 1) := dk_42 (dk_at dksX8_walks_1 18 rfl rfl)
theorem dX8_walks_42 : decode cX8_walks 42 = .ok (.getfield 50, 3) := dk_180 0 50 (dk_at dksX8_walks_1 19 rfl rfl)
theorem dX8_walks_45 : decode cX8_walks 45 = .ok (.iconst 2, 1) := dk_5 (dk_at dksX8_walks_1 22 rfl rfl)
theorem dX8_walks_46 : decode cX8_walks 46 = .ok (.iload 5, 2) := dk_21 5 (dk_at dksX8_walks_2 0 rfl rfl)
theorem dX8_walks_48 : decode cX8_walks 48 = .ok (.imul, 1) := dk_104 (dk_at dksX8_walks_2 2 rfl rfl)
theorem dX8_walks_49 : decode cX8_walks 49 = .ok (.iaload, 1) := dk_46 (dk_at dksX8_walks_2 3 rfl rfl)
theorem dX8_walks_50 : decode cX8_walks 50 = .ok (.irem, 1) := dk_112 (dk_at dksX8_walks_2 4 rfl rfl)
theorem dX8_walks_51 : decode cX8_walks 51 = .ok (.aload_n 0, 1) := dk_42 (dk_at dksX8_walks_2 5 rfl rfl)
theorem dX8_walks_52 : decode cX8_walks 52 = .ok (.getfield 50, 3) := dk_180 0 50 (dk_at dksX8_walks_2 6 rfl rfl)
theorem dX8_walks_55 : decode cX8_walks 55 = .ok (.iconst 2, 1) := dk_5 (dk_at dksX8_walks_2 9 rfl rfl)
theorem dX8_walks_56 : decode cX8_walks 56 = .ok (.iload 5, 2) := dk_21 5 (dk_at dksX8_walks_2 10 rfl rfl)
theorem dX8_walks_58 : decode cX8_walks 58 = .ok (.imul, 1) := dk_104 (dk_at dksX8_walks_2 12 rfl rfl)
theorem dX8_walks_59 : decode cX8_walks 59 = .ok (.iconst 1, 1) := dk_4 (dk_at dksX8_walks_2 13 rfl rfl)
theorem dX8_walks_60 : decode cX8_walks 60 = .ok (.iadd, 1) := dk_96 (dk_at dksX8_walks_2 14 rfl rfl)
theorem dX8_walks_61 : decode cX8_walks 61 = .ok (.iaload, 1) := dk_46 (dk_at dksX8_walks_2 15 rfl rfl)
theorem dX8_walks_62 : decode cX8_walks 62 = .ok (.if_icmp .eq 9, 3) := dk_159 0 9 (dk_at dksX8_walks_2 16 rfl rfl)
theorem dX8_walks_65 : decode cX8_walks 65 = .ok (.iinc 3 1, 3) := dk_132 3 1 (dk_at dksX8_walks_2 19 rfl rfl)
theorem dX8_walks_68 : decode cX8_walks 68 = .ok (.goto (-28), 3) := dk_167 255 228 (dk_at dksX8_walks_3 0 rfl rfl)
theorem dX8_walks_71 : decode cX8_walks 71 = .ok (.iinc 3 1, 3) := dk_132 3 1 (dk_at dksX8_walks_3 3 rfl rfl)
theorem dX8_walks_74 : decode cX8_walks 74 = .ok (.aload_n 0, 1) := dk_42 (dk_at dksX8_walks_3 6 rfl rfl)
theorem dX8_walks_75 : decode cX8_walks 75 = .ok (.getfield 74, 3) := dk_180 0 74 (dk_at dksX8_walks_3 7 rfl rfl)
theorem dX8_walks_78 : decode cX8_walks 78 = .ok (.bipush 12, 2) := dk_16 12 (dk_at dksX8_walks_3 10 rfl rfl)
theorem dX8_walks_80 : decode cX8_walks 80 = .ok (.iload_n 1, 1) := dk_27 (dk_at dksX8_walks_3 12 rfl rfl)
theorem dX8_walks_81 : decode cX8_walks 81 = .ok (.imul, 1) := dk_104 (dk_at dksX8_walks_3 13 rfl rfl)
theorem dX8_walks_82 : decode cX8_walks 82 = .ok (.iload 5, 2) := dk_21 5 (dk_at dksX8_walks_3 14 rfl rfl)
theorem dX8_walks_84 : decode cX8_walks 84 = .ok (.iadd, 1) := dk_96 (dk_at dksX8_walks_3 16 rfl rfl)
theorem dX8_walks_85 : decode cX8_walks 85 = .ok (.iload_n 3, 1) := dk_29 (dk_at dksX8_walks_3 17 rfl rfl)
theorem dX8_walks_86 : decode cX8_walks 86 = .ok (.iastore, 1) := dk_79 (dk_at dksX8_walks_3 18 rfl rfl)
theorem dX8_walks_87 : decode cX8_walks 87 = .ok (.iinc 4 1, 3) := dk_132 4 1 (dk_at dksX8_walks_3 19 rfl rfl)
theorem dX8_walks_90 : decode cX8_walks 90 = .ok (.goto (-85), 3) := dk_167 255 171 (dk_at dksX8_walks_4 0 rfl rfl)
theorem dX8_walks_93 : decode cX8_walks 93 = .ok (.iload_n 3, 1) := dk_29 (dk_at dksX8_walks_4 3 rfl rfl)
theorem dX8_walks_94 : decode cX8_walks 94 = .ok (.iconst 1, 1) := dk_4 (dk_at dksX8_walks_4 4 rfl rfl)
theorem dX8_walks_95 : decode cX8_walks 95 = .ok (.iadd, 1) := dk_96 (dk_at dksX8_walks_4 5 rfl rfl)
theorem dX8_walks_96 : decode cX8_walks 96 = .ok (.ireturn, 1) := dk_172 (dk_at dksX8_walks_4 6 rfl rfl)
abbrev cX8_known : ByteArray := prog_13_method_98_code
def yX8_known : MethodName := ⟨RX8, "known", "(I)I"⟩
def dkwX8_known_0 : List UInt8 := [26, 17, 3, 232, 164, 0, 7, 2, 167, 0, 4, 26, 172]
abbrev dktX8_known_0 : List UInt8 := dkwX8_known_0 ++ []
theorem dksX8_known_0 : cX8_known.data.toList.drop 0 = dktX8_known_0 := by decide +kernel
theorem dX8_known_0 : decode cX8_known 0 = .ok (.iload_n 0, 1) := dk_26 (dk_at dksX8_known_0 0 rfl rfl)
theorem dX8_known_1 : decode cX8_known 1 = .ok (.sipush 1000, 3) := dk_17 3 232 (dk_at dksX8_known_0 1 rfl rfl)
theorem dX8_known_4 : decode cX8_known 4 = .ok (.if_icmp .le 7, 3) := dk_164 0 7 (dk_at dksX8_known_0 4 rfl rfl)
theorem dX8_known_7 : decode cX8_known 7 = .ok (.iconst (-1), 1) := dk_2 (dk_at dksX8_known_0 7 rfl rfl)
theorem dX8_known_8 : decode cX8_known 8 = .ok (.goto 4, 3) := dk_167 0 4 (dk_at dksX8_known_0 8 rfl rfl)
theorem dX8_known_11 : decode cX8_known 11 = .ok (.iload_n 0, 1) := dk_26 (dk_at dksX8_known_0 11 rfl rfl)
theorem dX8_known_12 : decode cX8_known 12 = .ok (.ireturn, 1) := dk_172 (dk_at dksX8_known_0 12 rfl rfl)
abbrev cX8_returns : ByteArray := prog_13_method_100_code
def yX8_returns : MethodName := ⟨RX8, "returns", "(I)I"⟩
def dkwX8_returns_1 : List UInt8 := [182, 1, 111, 184, 1, 114, 167, 0, 5, 16, 254, 172]
abbrev dktX8_returns_1 : List UInt8 := dkwX8_returns_1 ++ []
def dkwX8_returns_0 : List UInt8 := [42, 3, 181, 0, 80, 42, 182, 0, 254, 153, 0, 23, 27, 133, 184, 1, 14, 153, 0, 15, 42, 4, 27]
abbrev dktX8_returns_0 : List UInt8 := dkwX8_returns_0 ++ dktX8_returns_1
theorem dksX8_returns_0 : cX8_returns.data.toList.drop 0 = dktX8_returns_0 := by decide +kernel
theorem dksX8_returns_1 : cX8_returns.data.toList.drop 23 = dktX8_returns_1 := dk_seg dksX8_returns_0 23 rfl rfl
theorem dX8_returns_0 : decode cX8_returns 0 = .ok (.aload_n 0, 1) := dk_42 (dk_at dksX8_returns_0 0 rfl rfl)
theorem dX8_returns_1 : decode cX8_returns 1 = .ok (.iconst 0, 1) := dk_3 (dk_at dksX8_returns_0 1 rfl rfl)
theorem dX8_returns_2 : decode cX8_returns 2 = .ok (.putfield 80, 3) := dk_181 0 80 (dk_at dksX8_returns_0 2 rfl rfl)
theorem dX8_returns_5 : decode cX8_returns 5 = .ok (.aload_n 0, 1) := dk_42 (dk_at dksX8_returns_0 5 rfl rfl)
theorem dX8_returns_6 : decode cX8_returns 6 = .ok (.invokevirtual 254, 3) := dk_182 0 254 (dk_at dksX8_returns_0 6 rfl rfl)
theorem dX8_returns_9 : decode cX8_returns 9 = .ok (.ifCond .eq 23, 3) := dk_153 0 23 (dk_at dksX8_returns_0 9 rfl rfl)
theorem dX8_returns_12 : decode cX8_returns 12 = .ok (.iload_n 1, 1) := dk_27 (dk_at dksX8_returns_0 12 rfl rfl)
theorem dX8_returns_13 : decode cX8_returns 13 = .ok (.i2l, 1) := dk_133 (dk_at dksX8_returns_0 13 rfl rfl)
theorem dX8_returns_14 : decode cX8_returns 14 = .ok (.invokestatic 270, 3) := dk_184 1 14 (dk_at dksX8_returns_0 14 rfl rfl)
theorem dX8_returns_17 : decode cX8_returns 17 = .ok (.ifCond .eq 15, 3) := dk_153 0 15 (dk_at dksX8_returns_0 17 rfl rfl)
theorem dX8_returns_20 : decode cX8_returns 20 = .ok (.aload_n 0, 1) := dk_42 (dk_at dksX8_returns_0 20 rfl rfl)
theorem dX8_returns_21 : decode cX8_returns 21 = .ok (.iconst 1, 1) := dk_4 (dk_at dksX8_returns_0 21 rfl rfl)
theorem dX8_returns_22 : decode cX8_returns 22 = .ok (.iload_n 1, 1) := dk_27 (dk_at dksX8_returns_0 22 rfl rfl)
theorem dX8_returns_23 : decode cX8_returns 23 = .ok (.invokevirtual 367, 3) := dk_182 1 111 (dk_at dksX8_returns_1 0 rfl rfl)
theorem dX8_returns_26 : decode cX8_returns 26 = .ok (.invokestatic 370, 3) := dk_184 1 114 (dk_at dksX8_returns_1 3 rfl rfl)
theorem dX8_returns_29 : decode cX8_returns 29 = .ok (.goto 5, 3) := dk_167 0 5 (dk_at dksX8_returns_1 6 rfl rfl)
theorem dX8_returns_32 : decode cX8_returns 32 = .ok (.bipush (-2), 2) := dk_16 254 (dk_at dksX8_returns_1 9 rfl rfl)
theorem dX8_returns_34 : decode cX8_returns 34 = .ok (.ireturn, 1) := dk_172 (dk_at dksX8_returns_1 11 rfl rfl)
abbrev cX8_meet : ByteArray := prog_13_method_102_code
def yX8_meet : MethodName := ⟨RX8, "meet", "(II)I"⟩
def dkwX8_meet_1 : List UInt8 := [184, 1, 14, 154, 0, 6, 16, 254, 172, 42, 27, 28, 182, 1, 123, 42, 180, 1, 117, 184, 1, 114, 172]
abbrev dktX8_meet_1 : List UInt8 := dkwX8_meet_1 ++ []
def dkwX8_meet_0 : List UInt8 := [42, 3, 181, 0, 80, 42, 182, 0, 254, 153, 0, 19, 27, 133, 184, 1, 14, 153, 0, 11, 28, 133]
abbrev dktX8_meet_0 : List UInt8 := dkwX8_meet_0 ++ dktX8_meet_1
theorem dksX8_meet_0 : cX8_meet.data.toList.drop 0 = dktX8_meet_0 := by decide +kernel
theorem dksX8_meet_1 : cX8_meet.data.toList.drop 22 = dktX8_meet_1 := dk_seg dksX8_meet_0 22 rfl rfl
theorem dX8_meet_0 : decode cX8_meet 0 = .ok (.aload_n 0, 1) := dk_42 (dk_at dksX8_meet_0 0 rfl rfl)
theorem dX8_meet_1 : decode cX8_meet 1 = .ok (.iconst 0, 1) := dk_3 (dk_at dksX8_meet_0 1 rfl rfl)
theorem dX8_meet_2 : decode cX8_meet 2 = .ok (.putfield 80, 3) := dk_181 0 80 (dk_at dksX8_meet_0 2 rfl rfl)
theorem dX8_meet_5 : decode cX8_meet 5 = .ok (.aload_n 0, 1) := dk_42 (dk_at dksX8_meet_0 5 rfl rfl)
theorem dX8_meet_6 : decode cX8_meet 6 = .ok (.invokevirtual 254, 3) := dk_182 0 254 (dk_at dksX8_meet_0 6 rfl rfl)
theorem dX8_meet_9 : decode cX8_meet 9 = .ok (.ifCond .eq 19, 3) := dk_153 0 19 (dk_at dksX8_meet_0 9 rfl rfl)
theorem dX8_meet_12 : decode cX8_meet 12 = .ok (.iload_n 1, 1) := dk_27 (dk_at dksX8_meet_0 12 rfl rfl)
theorem dX8_meet_13 : decode cX8_meet 13 = .ok (.i2l, 1) := dk_133 (dk_at dksX8_meet_0 13 rfl rfl)
theorem dX8_meet_14 : decode cX8_meet 14 = .ok (.invokestatic 270, 3) := dk_184 1 14 (dk_at dksX8_meet_0 14 rfl rfl)
theorem dX8_meet_17 : decode cX8_meet 17 = .ok (.ifCond .eq 11, 3) := dk_153 0 11 (dk_at dksX8_meet_0 17 rfl rfl)
theorem dX8_meet_20 : decode cX8_meet 20 = .ok (.iload_n 2, 1) := dk_28 (dk_at dksX8_meet_0 20 rfl rfl)
theorem dX8_meet_21 : decode cX8_meet 21 = .ok (.i2l, 1) := dk_133 (dk_at dksX8_meet_0 21 rfl rfl)
theorem dX8_meet_22 : decode cX8_meet 22 = .ok (.invokestatic 270, 3) := dk_184 1 14 (dk_at dksX8_meet_1 0 rfl rfl)
theorem dX8_meet_25 : decode cX8_meet 25 = .ok (.ifCond .ne 6, 3) := dk_154 0 6 (dk_at dksX8_meet_1 3 rfl rfl)
theorem dX8_meet_28 : decode cX8_meet 28 = .ok (.bipush (-2), 2) := dk_16 254 (dk_at dksX8_meet_1 6 rfl rfl)
theorem dX8_meet_30 : decode cX8_meet 30 = .ok (.ireturn, 1) := dk_172 (dk_at dksX8_meet_1 8 rfl rfl)
theorem dX8_meet_31 : decode cX8_meet 31 = .ok (.aload_n 0, 1) := dk_42 (dk_at dksX8_meet_1 9 rfl rfl)
theorem dX8_meet_32 : decode cX8_meet 32 = .ok (.iload_n 1, 1) := dk_27 (dk_at dksX8_meet_1 10 rfl rfl)
theorem dX8_meet_33 : decode cX8_meet 33 = .ok (.iload_n 2, 1) := dk_28 (dk_at dksX8_meet_1 11 rfl rfl)
theorem dX8_meet_34 : decode cX8_meet 34 = .ok (.invokevirtual 379, 3) := dk_182 1 123 (dk_at dksX8_meet_1 12 rfl rfl)
theorem dX8_meet_37 : decode cX8_meet 37 = .ok (.aload_n 0, 1) := dk_42 (dk_at dksX8_meet_1 15 rfl rfl)
theorem dX8_meet_38 : decode cX8_meet 38 = .ok (.getfield 373, 3) := dk_180 1 117 (dk_at dksX8_meet_1 16 rfl rfl)
theorem dX8_meet_41 : decode cX8_meet 41 = .ok (.invokestatic 370, 3) := dk_184 1 114 (dk_at dksX8_meet_1 19 rfl rfl)
theorem dX8_meet_44 : decode cX8_meet 44 = .ok (.ireturn, 1) := dk_172 (dk_at dksX8_meet_1 22 rfl rfl)
abbrev cX8_laysMeet : ByteArray := prog_13_method_101_code
def yX8_laysMeet : MethodName := ⟨RX8, "laysMeet", "(II)V"⟩
def dkwX8_laysMeet_5 : List UInt8 := [42, 2, 181, 1, 120, 177]
abbrev dktX8_laysMeet_5 : List UInt8 := dkwX8_laysMeet_5 ++ []
def dkwX8_laysMeet_4 : List UInt8 := [181, 1, 117, 42, 29, 181, 1, 120, 132, 3, 1, 167, 255, 181, 42, 180, 1, 117, 17, 3, 232, 164, 0, 8]
abbrev dktX8_laysMeet_4 : List UInt8 := dkwX8_laysMeet_4 ++ dktX8_laysMeet_5
def dkwX8_laysMeet_3 : List UInt8 := [16, 12, 29, 96, 46, 54, 4, 21, 4, 42, 180, 1, 117, 161, 0, 6, 167, 0, 14, 42, 21, 4]
abbrev dktX8_laysMeet_3 : List UInt8 := dkwX8_laysMeet_3 ++ dktX8_laysMeet_4
def dkwX8_laysMeet_2 : List UInt8 := [180, 0, 74, 16, 12, 29, 96, 46, 164, 0, 12, 42, 180, 0, 74, 29, 46, 167, 0, 12, 42, 180, 0, 74]
abbrev dktX8_laysMeet_2 : List UInt8 := dkwX8_laysMeet_2 ++ dktX8_laysMeet_3
def dkwX8_laysMeet_1 : List UInt8 := [181, 1, 120, 3, 62, 29, 42, 180, 0, 34, 16, 8, 46, 162, 0, 70, 42, 180, 0, 74, 29, 46, 42]
abbrev dktX8_laysMeet_1 : List UInt8 := dkwX8_laysMeet_1 ++ dktX8_laysMeet_2
def dkwX8_laysMeet_0 : List UInt8 := [42, 3, 27, 182, 1, 111, 87, 42, 4, 28, 182, 1, 111, 87, 42, 18, 131, 181, 1, 117, 42, 2]
abbrev dktX8_laysMeet_0 : List UInt8 := dkwX8_laysMeet_0 ++ dktX8_laysMeet_1
theorem dksX8_laysMeet_0 : cX8_laysMeet.data.toList.drop 0 = dktX8_laysMeet_0 := by decide +kernel
theorem dksX8_laysMeet_1 : cX8_laysMeet.data.toList.drop 22 = dktX8_laysMeet_1 := dk_seg dksX8_laysMeet_0 22 rfl rfl
theorem dksX8_laysMeet_2 : cX8_laysMeet.data.toList.drop 45 = dktX8_laysMeet_2 := dk_seg dksX8_laysMeet_1 23 rfl rfl
theorem dksX8_laysMeet_3 : cX8_laysMeet.data.toList.drop 69 = dktX8_laysMeet_3 := dk_seg dksX8_laysMeet_2 24 rfl rfl
theorem dksX8_laysMeet_4 : cX8_laysMeet.data.toList.drop 91 = dktX8_laysMeet_4 := dk_seg dksX8_laysMeet_3 22 rfl rfl
theorem dksX8_laysMeet_5 : cX8_laysMeet.data.toList.drop 115 = dktX8_laysMeet_5 := dk_seg dksX8_laysMeet_4 24 rfl rfl
theorem dX8_laysMeet_0 : decode cX8_laysMeet 0 = .ok (.aload_n 0, 1) := dk_42 (dk_at dksX8_laysMeet_0 0 rfl rfl)
theorem dX8_laysMeet_1 : decode cX8_laysMeet 1 = .ok (.iconst 0, 1) := dk_3 (dk_at dksX8_laysMeet_0 1 rfl rfl)
theorem dX8_laysMeet_2 : decode cX8_laysMeet 2 = .ok (.iload_n 1, 1) := dk_27 (dk_at dksX8_laysMeet_0 2 rfl rfl)
theorem dX8_laysMeet_3 : decode cX8_laysMeet 3 = .ok (.invokevirtual 367, 3) := dk_182 1 111 (dk_at dksX8_laysMeet_0 3 rfl rfl)
theorem dX8_laysMeet_6 : decode cX8_laysMeet 6 = .ok (.pop, 1) := dk_87 (dk_at dksX8_laysMeet_0 6 rfl rfl)
theorem dX8_laysMeet_7 : decode cX8_laysMeet 7 = .ok (.aload_n 0, 1) := dk_42 (dk_at dksX8_laysMeet_0 7 rfl rfl)
theorem dX8_laysMeet_8 : decode cX8_laysMeet 8 = .ok (.iconst 1, 1) := dk_4 (dk_at dksX8_laysMeet_0 8 rfl rfl)
theorem dX8_laysMeet_9 : decode cX8_laysMeet 9 = .ok (.iload_n 2, 1) := dk_28 (dk_at dksX8_laysMeet_0 9 rfl rfl)
theorem dX8_laysMeet_10 : decode cX8_laysMeet 10 = .ok (.invokevirtual 367, 3) := dk_182 1 111 (dk_at dksX8_laysMeet_0 10 rfl rfl)
theorem dX8_laysMeet_13 : decode cX8_laysMeet 13 = .ok (.pop, 1) := dk_87 (dk_at dksX8_laysMeet_0 13 rfl rfl)
theorem dX8_laysMeet_14 : decode cX8_laysMeet 14 = .ok (.aload_n 0, 1) := dk_42 (dk_at dksX8_laysMeet_0 14 rfl rfl)
theorem dX8_laysMeet_15 : decode cX8_laysMeet 15 = .ok (.ldc 131, 2) := dk_18 131 (dk_at dksX8_laysMeet_0 15 rfl rfl)
theorem dX8_laysMeet_17 : decode cX8_laysMeet 17 = .ok (.putfield 373, 3) := dk_181 1 117 (dk_at dksX8_laysMeet_0 17 rfl rfl)
theorem dX8_laysMeet_20 : decode cX8_laysMeet 20 = .ok (.aload_n 0, 1) := dk_42 (dk_at dksX8_laysMeet_0 20 rfl rfl)
theorem dX8_laysMeet_21 : decode cX8_laysMeet 21 = .ok (.iconst (-1), 1) := dk_2 (dk_at dksX8_laysMeet_0 21 rfl rfl)
theorem dX8_laysMeet_22 : decode cX8_laysMeet 22 = .ok (.putfield 376, 3) := dk_181 1 120 (dk_at dksX8_laysMeet_1 0 rfl rfl)
theorem dX8_laysMeet_25 : decode cX8_laysMeet 25 = .ok (.iconst 0, 1) := dk_3 (dk_at dksX8_laysMeet_1 3 rfl rfl)
theorem dX8_laysMeet_26 : decode cX8_laysMeet 26 = .ok (.istore_n 3, 1) := dk_62 (dk_at dksX8_laysMeet_1 4 rfl rfl)
theorem dX8_laysMeet_27 : decode cX8_laysMeet 27 = .ok (.iload_n 3, 1) := dk_29 (dk_at dksX8_laysMeet_1 5 rfl rfl)
theorem dX8_laysMeet_28 : decode cX8_laysMeet 28 = .ok (.aload_n 0, 1) := dk_42 (dk_at dksX8_laysMeet_1 6 rfl rfl)
theorem dX8_laysMeet_29 : decode cX8_laysMeet 29 = .ok (.getfield 34, 3) := dk_180 0 34 (dk_at dksX8_laysMeet_1 7 rfl rfl)
theorem dX8_laysMeet_32 : decode cX8_laysMeet 32 = .ok (.bipush 8, 2) := dk_16 8 (dk_at dksX8_laysMeet_1 10 rfl rfl)
theorem dX8_laysMeet_34 : decode cX8_laysMeet 34 = .ok (.iaload, 1) := dk_46 (dk_at dksX8_laysMeet_1 12 rfl rfl)
theorem dX8_laysMeet_35 : decode cX8_laysMeet 35 = .ok (.if_icmp .ge 70, 3) := dk_162 0 70 (dk_at dksX8_laysMeet_1 13 rfl rfl)
theorem dX8_laysMeet_38 : decode cX8_laysMeet 38 = .ok (.aload_n 0, 1) := dk_42 (dk_at dksX8_laysMeet_1 16 rfl rfl)
theorem dX8_laysMeet_39 : decode cX8_laysMeet 39 = .ok (.getfield 74, 3) := dk_180 0 74 (dk_at dksX8_laysMeet_1 17 rfl rfl)
theorem dX8_laysMeet_42 : decode cX8_laysMeet 42 = .ok (.iload_n 3, 1) := dk_29 (dk_at dksX8_laysMeet_1 20 rfl rfl)
theorem dX8_laysMeet_43 : decode cX8_laysMeet 43 = .ok (.iaload, 1) := dk_46 (dk_at dksX8_laysMeet_1 21 rfl rfl)
theorem dX8_laysMeet_44 : decode cX8_laysMeet 44 = .ok (.aload_n 0, 1) := dk_42 (dk_at dksX8_laysMeet_1 22 rfl rfl)
theorem dX8_laysMeet_45 : decode cX8_laysMeet 45 = .ok (.getfield 74, 3) := dk_180 0 74 (dk_at dksX8_laysMeet_2 0 rfl rfl)
theorem dX8_laysMeet_48 : decode cX8_laysMeet 48 = .ok (.bipush 12, 2) := dk_16 12 (dk_at dksX8_laysMeet_2 3 rfl rfl)
theorem dX8_laysMeet_50 : decode cX8_laysMeet 50 = .ok (.iload_n 3, 1) := dk_29 (dk_at dksX8_laysMeet_2 5 rfl rfl)
theorem dX8_laysMeet_51 : decode cX8_laysMeet 51 = .ok (.iadd, 1) := dk_96 (dk_at dksX8_laysMeet_2 6 rfl rfl)
theorem dX8_laysMeet_52 : decode cX8_laysMeet 52 = .ok (.iaload, 1) := dk_46 (dk_at dksX8_laysMeet_2 7 rfl rfl)
theorem dX8_laysMeet_53 : decode cX8_laysMeet 53 = .ok (.if_icmp .le 12, 3) := dk_164 0 12 (dk_at dksX8_laysMeet_2 8 rfl rfl)
theorem dX8_laysMeet_56 : decode cX8_laysMeet 56 = .ok (.aload_n 0, 1) := dk_42 (dk_at dksX8_laysMeet_2 11 rfl rfl)
theorem dX8_laysMeet_57 : decode cX8_laysMeet 57 = .ok (.getfield 74, 3) := dk_180 0 74 (dk_at dksX8_laysMeet_2 12 rfl rfl)
theorem dX8_laysMeet_60 : decode cX8_laysMeet 60 = .ok (.iload_n 3, 1) := dk_29 (dk_at dksX8_laysMeet_2 15 rfl rfl)
theorem dX8_laysMeet_61 : decode cX8_laysMeet 61 = .ok (.iaload, 1) := dk_46 (dk_at dksX8_laysMeet_2 16 rfl rfl)
theorem dX8_laysMeet_62 : decode cX8_laysMeet 62 = .ok (.goto 12, 3) := dk_167 0 12 (dk_at dksX8_laysMeet_2 17 rfl rfl)
theorem dX8_laysMeet_65 : decode cX8_laysMeet 65 = .ok (.aload_n 0, 1) := dk_42 (dk_at dksX8_laysMeet_2 20 rfl rfl)
theorem dX8_laysMeet_66 : decode cX8_laysMeet 66 = .ok (.getfield 74, 3) := dk_180 0 74 (dk_at dksX8_laysMeet_2 21 rfl rfl)
theorem dX8_laysMeet_69 : decode cX8_laysMeet 69 = .ok (.bipush 12, 2) := dk_16 12 (dk_at dksX8_laysMeet_3 0 rfl rfl)
theorem dX8_laysMeet_71 : decode cX8_laysMeet 71 = .ok (.iload_n 3, 1) := dk_29 (dk_at dksX8_laysMeet_3 2 rfl rfl)
theorem dX8_laysMeet_72 : decode cX8_laysMeet 72 = .ok (.iadd, 1) := dk_96 (dk_at dksX8_laysMeet_3 3 rfl rfl)
theorem dX8_laysMeet_73 : decode cX8_laysMeet 73 = .ok (.iaload, 1) := dk_46 (dk_at dksX8_laysMeet_3 4 rfl rfl)
theorem dX8_laysMeet_74 : decode cX8_laysMeet 74 = .ok (.istore 4, 2) := dk_54 4 (dk_at dksX8_laysMeet_3 5 rfl rfl)
theorem dX8_laysMeet_76 : decode cX8_laysMeet 76 = .ok (.iload 4, 2) := dk_21 4 (dk_at dksX8_laysMeet_3 7 rfl rfl)
theorem dX8_laysMeet_78 : decode cX8_laysMeet 78 = .ok (.aload_n 0, 1) := dk_42 (dk_at dksX8_laysMeet_3 9 rfl rfl)
theorem dX8_laysMeet_79 : decode cX8_laysMeet 79 = .ok (.getfield 373, 3) := dk_180 1 117 (dk_at dksX8_laysMeet_3 10 rfl rfl)
theorem dX8_laysMeet_82 : decode cX8_laysMeet 82 = .ok (.if_icmp .lt 6, 3) := dk_161 0 6 (dk_at dksX8_laysMeet_3 13 rfl rfl)
theorem dX8_laysMeet_85 : decode cX8_laysMeet 85 = .ok (.goto 14, 3) := dk_167 0 14 (dk_at dksX8_laysMeet_3 16 rfl rfl)
theorem dX8_laysMeet_88 : decode cX8_laysMeet 88 = .ok (.aload_n 0, 1) := dk_42 (dk_at dksX8_laysMeet_3 19 rfl rfl)
theorem dX8_laysMeet_89 : decode cX8_laysMeet 89 = .ok (.iload 4, 2) := dk_21 4 (dk_at dksX8_laysMeet_3 20 rfl rfl)
theorem dX8_laysMeet_91 : decode cX8_laysMeet 91 = .ok (.putfield 373, 3) := dk_181 1 117 (dk_at dksX8_laysMeet_4 0 rfl rfl)
theorem dX8_laysMeet_94 : decode cX8_laysMeet 94 = .ok (.aload_n 0, 1) := dk_42 (dk_at dksX8_laysMeet_4 3 rfl rfl)
theorem dX8_laysMeet_95 : decode cX8_laysMeet 95 = .ok (.iload_n 3, 1) := dk_29 (dk_at dksX8_laysMeet_4 4 rfl rfl)
theorem dX8_laysMeet_96 : decode cX8_laysMeet 96 = .ok (.putfield 376, 3) := dk_181 1 120 (dk_at dksX8_laysMeet_4 5 rfl rfl)
theorem dX8_laysMeet_99 : decode cX8_laysMeet 99 = .ok (.iinc 3 1, 3) := dk_132 3 1 (dk_at dksX8_laysMeet_4 8 rfl rfl)
theorem dX8_laysMeet_102 : decode cX8_laysMeet 102 = .ok (.goto (-75), 3) := dk_167 255 181 (dk_at dksX8_laysMeet_4 11 rfl rfl)
theorem dX8_laysMeet_105 : decode cX8_laysMeet 105 = .ok (.aload_n 0, 1) := dk_42 (dk_at dksX8_laysMeet_4 14 rfl rfl)
theorem dX8_laysMeet_106 : decode cX8_laysMeet 106 = .ok (.getfield 373, 3) := dk_180 1 117 (dk_at dksX8_laysMeet_4 15 rfl rfl)
theorem dX8_laysMeet_109 : decode cX8_laysMeet 109 = .ok (.sipush 1000, 3) := dk_17 3 232 (dk_at dksX8_laysMeet_4 18 rfl rfl)
theorem dX8_laysMeet_112 : decode cX8_laysMeet 112 = .ok (.if_icmp .le 8, 3) := dk_164 0 8 (dk_at dksX8_laysMeet_4 21 rfl rfl)
theorem dX8_laysMeet_115 : decode cX8_laysMeet 115 = .ok (.aload_n 0, 1) := dk_42 (dk_at dksX8_laysMeet_5 0 rfl rfl)
theorem dX8_laysMeet_116 : decode cX8_laysMeet 116 = .ok (.iconst (-1), 1) := dk_2 (dk_at dksX8_laysMeet_5 1 rfl rfl)
theorem dX8_laysMeet_117 : decode cX8_laysMeet 117 = .ok (.putfield 376, 3) := dk_181 1 120 (dk_at dksX8_laysMeet_5 2 rfl rfl)
theorem dX8_laysMeet_120 : decode cX8_laysMeet 120 = .ok (.return_, 1) := dk_177 (dk_at dksX8_laysMeet_5 5 rfl rfl)
abbrev cX8_cell : ByteArray := prog_13_method_103_code
def yX8_cell : MethodName := ⟨RX8, "cell", "(II)I"⟩
def dkwX8_cell_1 : List UInt8 := [184, 1, 14, 154, 0, 6, 16, 254, 172, 42, 27, 28, 182, 1, 123, 42, 180, 1, 120, 172]
abbrev dktX8_cell_1 : List UInt8 := dkwX8_cell_1 ++ []
def dkwX8_cell_0 : List UInt8 := [42, 3, 181, 0, 80, 42, 182, 0, 254, 153, 0, 19, 27, 133, 184, 1, 14, 153, 0, 11, 28, 133]
abbrev dktX8_cell_0 : List UInt8 := dkwX8_cell_0 ++ dktX8_cell_1
theorem dksX8_cell_0 : cX8_cell.data.toList.drop 0 = dktX8_cell_0 := by decide +kernel
theorem dksX8_cell_1 : cX8_cell.data.toList.drop 22 = dktX8_cell_1 := dk_seg dksX8_cell_0 22 rfl rfl
theorem dX8_cell_0 : decode cX8_cell 0 = .ok (.aload_n 0, 1) := dk_42 (dk_at dksX8_cell_0 0 rfl rfl)
theorem dX8_cell_1 : decode cX8_cell 1 = .ok (.iconst 0, 1) := dk_3 (dk_at dksX8_cell_0 1 rfl rfl)
theorem dX8_cell_2 : decode cX8_cell 2 = .ok (.putfield 80, 3) := dk_181 0 80 (dk_at dksX8_cell_0 2 rfl rfl)
theorem dX8_cell_5 : decode cX8_cell 5 = .ok (.aload_n 0, 1) := dk_42 (dk_at dksX8_cell_0 5 rfl rfl)
theorem dX8_cell_6 : decode cX8_cell 6 = .ok (.invokevirtual 254, 3) := dk_182 0 254 (dk_at dksX8_cell_0 6 rfl rfl)
theorem dX8_cell_9 : decode cX8_cell 9 = .ok (.ifCond .eq 19, 3) := dk_153 0 19 (dk_at dksX8_cell_0 9 rfl rfl)
theorem dX8_cell_12 : decode cX8_cell 12 = .ok (.iload_n 1, 1) := dk_27 (dk_at dksX8_cell_0 12 rfl rfl)
theorem dX8_cell_13 : decode cX8_cell 13 = .ok (.i2l, 1) := dk_133 (dk_at dksX8_cell_0 13 rfl rfl)
theorem dX8_cell_14 : decode cX8_cell 14 = .ok (.invokestatic 270, 3) := dk_184 1 14 (dk_at dksX8_cell_0 14 rfl rfl)
theorem dX8_cell_17 : decode cX8_cell 17 = .ok (.ifCond .eq 11, 3) := dk_153 0 11 (dk_at dksX8_cell_0 17 rfl rfl)
theorem dX8_cell_20 : decode cX8_cell 20 = .ok (.iload_n 2, 1) := dk_28 (dk_at dksX8_cell_0 20 rfl rfl)
theorem dX8_cell_21 : decode cX8_cell 21 = .ok (.i2l, 1) := dk_133 (dk_at dksX8_cell_0 21 rfl rfl)
theorem dX8_cell_22 : decode cX8_cell 22 = .ok (.invokestatic 270, 3) := dk_184 1 14 (dk_at dksX8_cell_1 0 rfl rfl)
theorem dX8_cell_25 : decode cX8_cell 25 = .ok (.ifCond .ne 6, 3) := dk_154 0 6 (dk_at dksX8_cell_1 3 rfl rfl)
theorem dX8_cell_28 : decode cX8_cell 28 = .ok (.bipush (-2), 2) := dk_16 254 (dk_at dksX8_cell_1 6 rfl rfl)
theorem dX8_cell_30 : decode cX8_cell 30 = .ok (.ireturn, 1) := dk_172 (dk_at dksX8_cell_1 8 rfl rfl)
theorem dX8_cell_31 : decode cX8_cell 31 = .ok (.aload_n 0, 1) := dk_42 (dk_at dksX8_cell_1 9 rfl rfl)
theorem dX8_cell_32 : decode cX8_cell 32 = .ok (.iload_n 1, 1) := dk_27 (dk_at dksX8_cell_1 10 rfl rfl)
theorem dX8_cell_33 : decode cX8_cell 33 = .ok (.iload_n 2, 1) := dk_28 (dk_at dksX8_cell_1 11 rfl rfl)
theorem dX8_cell_34 : decode cX8_cell 34 = .ok (.invokevirtual 379, 3) := dk_182 1 123 (dk_at dksX8_cell_1 12 rfl rfl)
theorem dX8_cell_37 : decode cX8_cell 37 = .ok (.aload_n 0, 1) := dk_42 (dk_at dksX8_cell_1 15 rfl rfl)
theorem dX8_cell_38 : decode cX8_cell 38 = .ok (.getfield 376, 3) := dk_180 1 120 (dk_at dksX8_cell_1 16 rfl rfl)
theorem dX8_cell_41 : decode cX8_cell 41 = .ok (.ireturn, 1) := dk_172 (dk_at dksX8_cell_1 19 rfl rfl)
abbrev cX8_longest : ByteArray := prog_13_method_104_code
def yX8_longest : MethodName := ⟨RX8, "longest", "()I"⟩
def dkwX8_longest_2 : List UInt8 := [164, 0, 9, 29, 28, 100, 167, 0, 4, 27, 60, 132, 2, 1, 167, 255, 215, 27, 172]
abbrev dktX8_longest_2 : List UInt8 := dkwX8_longest_2 ++ []
def dkwX8_longest_1 : List UInt8 := [162, 0, 40, 42, 3, 28, 182, 1, 111, 62, 29, 17, 3, 232, 164, 0, 5, 2, 172, 29, 28, 100, 27]
abbrev dktX8_longest_1 : List UInt8 := dkwX8_longest_1 ++ dktX8_longest_2
def dkwX8_longest_0 : List UInt8 := [42, 3, 181, 0, 80, 42, 182, 0, 254, 154, 0, 6, 16, 254, 172, 3, 60, 3, 61, 28, 17, 0, 200]
abbrev dktX8_longest_0 : List UInt8 := dkwX8_longest_0 ++ dktX8_longest_1
theorem dksX8_longest_0 : cX8_longest.data.toList.drop 0 = dktX8_longest_0 := by decide +kernel
theorem dksX8_longest_1 : cX8_longest.data.toList.drop 23 = dktX8_longest_1 := dk_seg dksX8_longest_0 23 rfl rfl
theorem dksX8_longest_2 : cX8_longest.data.toList.drop 46 = dktX8_longest_2 := dk_seg dksX8_longest_1 23 rfl rfl
theorem dX8_longest_0 : decode cX8_longest 0 = .ok (.aload_n 0, 1) := dk_42 (dk_at dksX8_longest_0 0 rfl rfl)
theorem dX8_longest_1 : decode cX8_longest 1 = .ok (.iconst 0, 1) := dk_3 (dk_at dksX8_longest_0 1 rfl rfl)
theorem dX8_longest_2 : decode cX8_longest 2 = .ok (.putfield 80, 3) := dk_181 0 80 (dk_at dksX8_longest_0 2 rfl rfl)
theorem dX8_longest_5 : decode cX8_longest 5 = .ok (.aload_n 0, 1) := dk_42 (dk_at dksX8_longest_0 5 rfl rfl)
theorem dX8_longest_6 : decode cX8_longest 6 = .ok (.invokevirtual 254, 3) := dk_182 0 254 (dk_at dksX8_longest_0 6 rfl rfl)
theorem dX8_longest_9 : decode cX8_longest 9 = .ok (.ifCond .ne 6, 3) := dk_154 0 6 (dk_at dksX8_longest_0 9 rfl rfl)
theorem dX8_longest_12 : decode cX8_longest 12 = .ok (.bipush (-2), 2) := dk_16 254 (dk_at dksX8_longest_0 12 rfl rfl)
theorem dX8_longest_14 : decode cX8_longest 14 = .ok (.ireturn, 1) := dk_172 (dk_at dksX8_longest_0 14 rfl rfl)
theorem dX8_longest_15 : decode cX8_longest 15 = .ok (.iconst 0, 1) := dk_3 (dk_at dksX8_longest_0 15 rfl rfl)
theorem dX8_longest_16 : decode cX8_longest 16 = .ok (.istore_n 1, 1) := dk_60 (dk_at dksX8_longest_0 16 rfl rfl)
theorem dX8_longest_17 : decode cX8_longest 17 = .ok (.iconst 0, 1) := dk_3 (dk_at dksX8_longest_0 17 rfl rfl)
theorem dX8_longest_18 : decode cX8_longest 18 = .ok (.istore_n 2, 1) := dk_61 (dk_at dksX8_longest_0 18 rfl rfl)
theorem dX8_longest_19 : decode cX8_longest 19 = .ok (.iload_n 2, 1) := dk_28 (dk_at dksX8_longest_0 19 rfl rfl)
theorem dX8_longest_20 : decode cX8_longest 20 = .ok (.sipush 200, 3) := dk_17 0 200 (dk_at dksX8_longest_0 20 rfl rfl)
theorem dX8_longest_23 : decode cX8_longest 23 = .ok (.if_icmp .ge 40, 3) := dk_162 0 40 (dk_at dksX8_longest_1 0 rfl rfl)
theorem dX8_longest_26 : decode cX8_longest 26 = .ok (.aload_n 0, 1) := dk_42 (dk_at dksX8_longest_1 3 rfl rfl)
theorem dX8_longest_27 : decode cX8_longest 27 = .ok (.iconst 0, 1) := dk_3 (dk_at dksX8_longest_1 4 rfl rfl)
theorem dX8_longest_28 : decode cX8_longest 28 = .ok (.iload_n 2, 1) := dk_28 (dk_at dksX8_longest_1 5 rfl rfl)
theorem dX8_longest_29 : decode cX8_longest 29 = .ok (.invokevirtual 367, 3) := dk_182 1 111 (dk_at dksX8_longest_1 6 rfl rfl)
theorem dX8_longest_32 : decode cX8_longest 32 = .ok (.istore_n 3, 1) := dk_62 (dk_at dksX8_longest_1 9 rfl rfl)
theorem dX8_longest_33 : decode cX8_longest 33 = .ok (.iload_n 3, 1) := dk_29 (dk_at dksX8_longest_1 10 rfl rfl)
theorem dX8_longest_34 : decode cX8_longest 34 = .ok (.sipush 1000, 3) := dk_17 3 232 (dk_at dksX8_longest_1 11 rfl rfl)
theorem dX8_longest_37 : decode cX8_longest 37 = .ok (.if_icmp .le 5, 3) := dk_164 0 5 (dk_at dksX8_longest_1 14 rfl rfl)
theorem dX8_longest_40 : decode cX8_longest 40 = .ok (.iconst (-1), 1) := dk_2 (dk_at dksX8_longest_1 17 rfl rfl)
theorem dX8_longest_41 : decode cX8_longest 41 = .ok (.ireturn, 1) := dk_172 (dk_at dksX8_longest_1 18 rfl rfl)
theorem dX8_longest_42 : decode cX8_longest 42 = .ok (.iload_n 3, 1) := dk_29 (dk_at dksX8_longest_1 19 rfl rfl)
theorem dX8_longest_43 : decode cX8_longest 43 = .ok (.iload_n 2, 1) := dk_28 (dk_at dksX8_longest_1 20 rfl rfl)
theorem dX8_longest_44 : decode cX8_longest 44 = .ok (.isub, 1) := dk_100 (dk_at dksX8_longest_1 21 rfl rfl)
theorem dX8_longest_45 : decode cX8_longest 45 = .ok (.iload_n 1, 1) := dk_27 (dk_at dksX8_longest_1 22 rfl rfl)
theorem dX8_longest_46 : decode cX8_longest 46 = .ok (.if_icmp .le 9, 3) := dk_164 0 9 (dk_at dksX8_longest_2 0 rfl rfl)
theorem dX8_longest_49 : decode cX8_longest 49 = .ok (.iload_n 3, 1) := dk_29 (dk_at dksX8_longest_2 3 rfl rfl)
theorem dX8_longest_50 : decode cX8_longest 50 = .ok (.iload_n 2, 1) := dk_28 (dk_at dksX8_longest_2 4 rfl rfl)
theorem dX8_longest_51 : decode cX8_longest 51 = .ok (.isub, 1) := dk_100 (dk_at dksX8_longest_2 5 rfl rfl)
theorem dX8_longest_52 : decode cX8_longest 52 = .ok (.goto 4, 3) := dk_167 0 4 (dk_at dksX8_longest_2 6 rfl rfl)
theorem dX8_longest_55 : decode cX8_longest 55 = .ok (.iload_n 1, 1) := dk_27 (dk_at dksX8_longest_2 9 rfl rfl)
theorem dX8_longest_56 : decode cX8_longest 56 = .ok (.istore_n 1, 1) := dk_60 (dk_at dksX8_longest_2 10 rfl rfl)
theorem dX8_longest_57 : decode cX8_longest 57 = .ok (.iinc 2 1, 3) := dk_132 2 1 (dk_at dksX8_longest_2 11 rfl rfl)
theorem dX8_longest_60 : decode cX8_longest 60 = .ok (.goto (-41), 3) := dk_167 255 215 (dk_at dksX8_longest_2 14 rfl rfl)
theorem dX8_longest_63 : decode cX8_longest 63 = .ok (.iload_n 1, 1) := dk_27 (dk_at dksX8_longest_2 17 rfl rfl)
theorem dX8_longest_64 : decode cX8_longest 64 = .ok (.ireturn, 1) := dk_172 (dk_at dksX8_longest_2 18 rfl rfl)
abbrev cX8_half : ByteArray := prog_13_method_108_code
def yX8_half : MethodName := ⟨RX8, "half", "(I)I"⟩
def dkwX8_half_1 : List UInt8 := [172]
abbrev dktX8_half_1 : List UInt8 := dkwX8_half_1 ++ []
def dkwX8_half_0 : List UInt8 := [42, 3, 181, 0, 80, 42, 27, 182, 1, 129, 61, 28, 153, 0, 7, 28, 167, 0, 8, 42, 27, 182, 1, 132]
abbrev dktX8_half_0 : List UInt8 := dkwX8_half_0 ++ dktX8_half_1
theorem dksX8_half_0 : cX8_half.data.toList.drop 0 = dktX8_half_0 := by decide +kernel
theorem dksX8_half_1 : cX8_half.data.toList.drop 24 = dktX8_half_1 := dk_seg dksX8_half_0 24 rfl rfl
theorem dX8_half_0 : decode cX8_half 0 = .ok (.aload_n 0, 1) := dk_42 (dk_at dksX8_half_0 0 rfl rfl)
theorem dX8_half_1 : decode cX8_half 1 = .ok (.iconst 0, 1) := dk_3 (dk_at dksX8_half_0 1 rfl rfl)
theorem dX8_half_2 : decode cX8_half 2 = .ok (.putfield 80, 3) := dk_181 0 80 (dk_at dksX8_half_0 2 rfl rfl)
theorem dX8_half_5 : decode cX8_half 5 = .ok (.aload_n 0, 1) := dk_42 (dk_at dksX8_half_0 5 rfl rfl)
theorem dX8_half_6 : decode cX8_half 6 = .ok (.iload_n 1, 1) := dk_27 (dk_at dksX8_half_0 6 rfl rfl)
theorem dX8_half_7 : decode cX8_half 7 = .ok (.invokevirtual 385, 3) := dk_182 1 129 (dk_at dksX8_half_0 7 rfl rfl)
theorem dX8_half_10 : decode cX8_half 10 = .ok (.istore_n 2, 1) := dk_61 (dk_at dksX8_half_0 10 rfl rfl)
theorem dX8_half_11 : decode cX8_half 11 = .ok (.iload_n 2, 1) := dk_28 (dk_at dksX8_half_0 11 rfl rfl)
theorem dX8_half_12 : decode cX8_half 12 = .ok (.ifCond .eq 7, 3) := dk_153 0 7 (dk_at dksX8_half_0 12 rfl rfl)
theorem dX8_half_15 : decode cX8_half 15 = .ok (.iload_n 2, 1) := dk_28 (dk_at dksX8_half_0 15 rfl rfl)
theorem dX8_half_16 : decode cX8_half 16 = .ok (.goto 8, 3) := dk_167 0 8 (dk_at dksX8_half_0 16 rfl rfl)
theorem dX8_half_19 : decode cX8_half 19 = .ok (.aload_n 0, 1) := dk_42 (dk_at dksX8_half_0 19 rfl rfl)
theorem dX8_half_20 : decode cX8_half 20 = .ok (.iload_n 1, 1) := dk_27 (dk_at dksX8_half_0 20 rfl rfl)
theorem dX8_half_21 : decode cX8_half 21 = .ok (.invokevirtual 388, 3) := dk_182 1 132 (dk_at dksX8_half_0 21 rfl rfl)
theorem dX8_half_24 : decode cX8_half 24 = .ok (.ireturn, 1) := dk_172 (dk_at dksX8_half_1 0 rfl rfl)
abbrev cX8_whyNotHalf : ByteArray := prog_13_method_105_code
def yX8_whyNotHalf : MethodName := ⟨RX8, "whyNotHalf", "(I)I"⟩
def dkwX8_whyNotHalf_2 : List UInt8 := [20, 0, 124, 20, 1, 3, 184, 0, 85, 154, 0, 6, 16, 254, 172, 132, 2, 1, 167, 255, 217, 3, 172]
abbrev dktX8_whyNotHalf_2 : List UInt8 := dkwX8_whyNotHalf_2 ++ []
def dkwX8_whyNotHalf_1 : List UInt8 := [61, 28, 42, 180, 0, 13, 27, 46, 162, 0, 35, 42, 180, 0, 16, 16, 60, 27, 104, 28, 96, 47]
abbrev dktX8_whyNotHalf_1 : List UInt8 := dkwX8_whyNotHalf_1 ++ dktX8_whyNotHalf_2
def dkwX8_whyNotHalf_0 : List UInt8 := [27, 184, 0, 89, 154, 0, 6, 16, 254, 172, 42, 180, 0, 7, 27, 46, 2, 160, 0, 6, 16, 250, 172, 3]
abbrev dktX8_whyNotHalf_0 : List UInt8 := dkwX8_whyNotHalf_0 ++ dktX8_whyNotHalf_1
theorem dksX8_whyNotHalf_0 : cX8_whyNotHalf.data.toList.drop 0 = dktX8_whyNotHalf_0 := by decide +kernel
theorem dksX8_whyNotHalf_1 : cX8_whyNotHalf.data.toList.drop 24 = dktX8_whyNotHalf_1 := dk_seg dksX8_whyNotHalf_0 24 rfl rfl
theorem dksX8_whyNotHalf_2 : cX8_whyNotHalf.data.toList.drop 46 = dktX8_whyNotHalf_2 := dk_seg dksX8_whyNotHalf_1 22 rfl rfl
theorem dX8_whyNotHalf_0 : decode cX8_whyNotHalf 0 = .ok (.iload_n 1, 1) := dk_27 (dk_at dksX8_whyNotHalf_0 0 rfl rfl)
theorem dX8_whyNotHalf_1 : decode cX8_whyNotHalf 1 = .ok (.invokestatic 89, 3) := dk_184 0 89 (dk_at dksX8_whyNotHalf_0 1 rfl rfl)
theorem dX8_whyNotHalf_4 : decode cX8_whyNotHalf 4 = .ok (.ifCond .ne 6, 3) := dk_154 0 6 (dk_at dksX8_whyNotHalf_0 4 rfl rfl)
theorem dX8_whyNotHalf_7 : decode cX8_whyNotHalf 7 = .ok (.bipush (-2), 2) := dk_16 254 (dk_at dksX8_whyNotHalf_0 7 rfl rfl)
theorem dX8_whyNotHalf_9 : decode cX8_whyNotHalf 9 = .ok (.ireturn, 1) := dk_172 (dk_at dksX8_whyNotHalf_0 9 rfl rfl)
theorem dX8_whyNotHalf_10 : decode cX8_whyNotHalf 10 = .ok (.aload_n 0, 1) := dk_42 (dk_at dksX8_whyNotHalf_0 10 rfl rfl)
theorem dX8_whyNotHalf_11 : decode cX8_whyNotHalf 11 = .ok (.getfield 7, 3) := dk_180 0 7 (dk_at dksX8_whyNotHalf_0 11 rfl rfl)
theorem dX8_whyNotHalf_14 : decode cX8_whyNotHalf 14 = .ok (.iload_n 1, 1) := dk_27 (dk_at dksX8_whyNotHalf_0 14 rfl rfl)
theorem dX8_whyNotHalf_15 : decode cX8_whyNotHalf 15 = .ok (.iaload, 1) := dk_46 (dk_at dksX8_whyNotHalf_0 15 rfl rfl)
theorem dX8_whyNotHalf_16 : decode cX8_whyNotHalf 16 = .ok (.iconst (-1), 1) := dk_2 (dk_at dksX8_whyNotHalf_0 16 rfl rfl)
theorem dX8_whyNotHalf_17 : decode cX8_whyNotHalf 17 = .ok (.if_icmp .ne 6, 3) := dk_160 0 6 (dk_at dksX8_whyNotHalf_0 17 rfl rfl)
theorem dX8_whyNotHalf_20 : decode cX8_whyNotHalf 20 = .ok (.bipush (-6), 2) := dk_16 250 (dk_at dksX8_whyNotHalf_0 20 rfl rfl)
theorem dX8_whyNotHalf_22 : decode cX8_whyNotHalf 22 = .ok (.ireturn, 1) := dk_172 (dk_at dksX8_whyNotHalf_0 22 rfl rfl)
theorem dX8_whyNotHalf_23 : decode cX8_whyNotHalf 23 = .ok (.iconst 0, 1) := dk_3 (dk_at dksX8_whyNotHalf_0 23 rfl rfl)
theorem dX8_whyNotHalf_24 : decode cX8_whyNotHalf 24 = .ok (.istore_n 2, 1) := dk_61 (dk_at dksX8_whyNotHalf_1 0 rfl rfl)
theorem dX8_whyNotHalf_25 : decode cX8_whyNotHalf 25 = .ok (.iload_n 2, 1) := dk_28 (dk_at dksX8_whyNotHalf_1 1 rfl rfl)
theorem dX8_whyNotHalf_26 : decode cX8_whyNotHalf 26 = .ok (.aload_n 0, 1) := dk_42 (dk_at dksX8_whyNotHalf_1 2 rfl rfl)
theorem dX8_whyNotHalf_27 : decode cX8_whyNotHalf 27 = .ok (.getfield 13, 3) := dk_180 0 13 (dk_at dksX8_whyNotHalf_1 3 rfl rfl)
theorem dX8_whyNotHalf_30 : decode cX8_whyNotHalf 30 = .ok (.iload_n 1, 1) := dk_27 (dk_at dksX8_whyNotHalf_1 6 rfl rfl)
theorem dX8_whyNotHalf_31 : decode cX8_whyNotHalf 31 = .ok (.iaload, 1) := dk_46 (dk_at dksX8_whyNotHalf_1 7 rfl rfl)
theorem dX8_whyNotHalf_32 : decode cX8_whyNotHalf 32 = .ok (.if_icmp .ge 35, 3) := dk_162 0 35 (dk_at dksX8_whyNotHalf_1 8 rfl rfl)
theorem dX8_whyNotHalf_35 : decode cX8_whyNotHalf 35 = .ok (.aload_n 0, 1) := dk_42 (dk_at dksX8_whyNotHalf_1 11 rfl rfl)
theorem dX8_whyNotHalf_36 : decode cX8_whyNotHalf 36 = .ok (.getfield 16, 3) := dk_180 0 16 (dk_at dksX8_whyNotHalf_1 12 rfl rfl)
theorem dX8_whyNotHalf_39 : decode cX8_whyNotHalf 39 = .ok (.bipush 60, 2) := dk_16 60 (dk_at dksX8_whyNotHalf_1 15 rfl rfl)
theorem dX8_whyNotHalf_41 : decode cX8_whyNotHalf 41 = .ok (.iload_n 1, 1) := dk_27 (dk_at dksX8_whyNotHalf_1 17 rfl rfl)
theorem dX8_whyNotHalf_42 : decode cX8_whyNotHalf 42 = .ok (.imul, 1) := dk_104 (dk_at dksX8_whyNotHalf_1 18 rfl rfl)
theorem dX8_whyNotHalf_43 : decode cX8_whyNotHalf 43 = .ok (.iload_n 2, 1) := dk_28 (dk_at dksX8_whyNotHalf_1 19 rfl rfl)
theorem dX8_whyNotHalf_44 : decode cX8_whyNotHalf 44 = .ok (.iadd, 1) := dk_96 (dk_at dksX8_whyNotHalf_1 20 rfl rfl)
theorem dX8_whyNotHalf_45 : decode cX8_whyNotHalf 45 = .ok (.laload, 1) := dk_47 (dk_at dksX8_whyNotHalf_1 21 rfl rfl)
theorem dX8_whyNotHalf_46 : decode cX8_whyNotHalf 46 = .ok (.ldc2_w 124, 3) := dk_20 0 124 (dk_at dksX8_whyNotHalf_2 0 rfl rfl)
theorem dX8_whyNotHalf_49 : decode cX8_whyNotHalf 49 = .ok (.ldc2_w 259, 3) := dk_20 1 3 (dk_at dksX8_whyNotHalf_2 3 rfl rfl)
theorem dX8_whyNotHalf_52 : decode cX8_whyNotHalf 52 = .ok (.invokestatic 85, 3) := dk_184 0 85 (dk_at dksX8_whyNotHalf_2 6 rfl rfl)
theorem dX8_whyNotHalf_55 : decode cX8_whyNotHalf 55 = .ok (.ifCond .ne 6, 3) := dk_154 0 6 (dk_at dksX8_whyNotHalf_2 9 rfl rfl)
theorem dX8_whyNotHalf_58 : decode cX8_whyNotHalf 58 = .ok (.bipush (-2), 2) := dk_16 254 (dk_at dksX8_whyNotHalf_2 12 rfl rfl)
theorem dX8_whyNotHalf_60 : decode cX8_whyNotHalf 60 = .ok (.ireturn, 1) := dk_172 (dk_at dksX8_whyNotHalf_2 14 rfl rfl)
theorem dX8_whyNotHalf_61 : decode cX8_whyNotHalf 61 = .ok (.iinc 2 1, 3) := dk_132 2 1 (dk_at dksX8_whyNotHalf_2 15 rfl rfl)
theorem dX8_whyNotHalf_64 : decode cX8_whyNotHalf 64 = .ok (.goto (-39), 3) := dk_167 255 217 (dk_at dksX8_whyNotHalf_2 18 rfl rfl)
theorem dX8_whyNotHalf_67 : decode cX8_whyNotHalf 67 = .ok (.iconst 0, 1) := dk_3 (dk_at dksX8_whyNotHalf_2 21 rfl rfl)
theorem dX8_whyNotHalf_68 : decode cX8_whyNotHalf 68 = .ok (.ireturn, 1) := dk_172 (dk_at dksX8_whyNotHalf_2 22 rfl rfl)
abbrev cX8_halfOf : ByteArray := prog_13_method_107_code
def yX8_halfOf : MethodName := ⟨RX8, "halfOf", "(I)I"⟩
def dkwX8_halfOf_1 : List UInt8 := [167, 255, 236, 2, 172]
abbrev dktX8_halfOf_1 : List UInt8 := dkwX8_halfOf_1 ++ []
def dkwX8_halfOf_0 : List UInt8 := [4, 61, 28, 16, 12, 163, 0, 20, 42, 27, 28, 182, 1, 126, 153, 0, 5, 28, 172, 132, 2, 1]
abbrev dktX8_halfOf_0 : List UInt8 := dkwX8_halfOf_0 ++ dktX8_halfOf_1
theorem dksX8_halfOf_0 : cX8_halfOf.data.toList.drop 0 = dktX8_halfOf_0 := by decide +kernel
theorem dksX8_halfOf_1 : cX8_halfOf.data.toList.drop 22 = dktX8_halfOf_1 := dk_seg dksX8_halfOf_0 22 rfl rfl
theorem dX8_halfOf_0 : decode cX8_halfOf 0 = .ok (.iconst 1, 1) := dk_4 (dk_at dksX8_halfOf_0 0 rfl rfl)
theorem dX8_halfOf_1 : decode cX8_halfOf 1 = .ok (.istore_n 2, 1) := dk_61 (dk_at dksX8_halfOf_0 1 rfl rfl)
theorem dX8_halfOf_2 : decode cX8_halfOf 2 = .ok (.iload_n 2, 1) := dk_28 (dk_at dksX8_halfOf_0 2 rfl rfl)
theorem dX8_halfOf_3 : decode cX8_halfOf 3 = .ok (.bipush 12, 2) := dk_16 12 (dk_at dksX8_halfOf_0 3 rfl rfl)
theorem dX8_halfOf_5 : decode cX8_halfOf 5 = .ok (.if_icmp .gt 20, 3) := dk_163 0 20 (dk_at dksX8_halfOf_0 5 rfl rfl)
theorem dX8_halfOf_8 : decode cX8_halfOf 8 = .ok (.aload_n 0, 1) := dk_42 (dk_at dksX8_halfOf_0 8 rfl rfl)
theorem dX8_halfOf_9 : decode cX8_halfOf 9 = .ok (.iload_n 1, 1) := dk_27 (dk_at dksX8_halfOf_0 9 rfl rfl)
theorem dX8_halfOf_10 : decode cX8_halfOf 10 = .ok (.iload_n 2, 1) := dk_28 (dk_at dksX8_halfOf_0 10 rfl rfl)
theorem dX8_halfOf_11 : decode cX8_halfOf 11 = .ok (.invokevirtual 382, 3) := dk_182 1 126 (dk_at dksX8_halfOf_0 11 rfl rfl)
theorem dX8_halfOf_14 : decode cX8_halfOf 14 = .ok (.ifCond .eq 5, 3) := dk_153 0 5 (dk_at dksX8_halfOf_0 14 rfl rfl)
theorem dX8_halfOf_17 : decode cX8_halfOf 17 = .ok (.iload_n 2, 1) := dk_28 (dk_at dksX8_halfOf_0 17 rfl rfl)
theorem dX8_halfOf_18 : decode cX8_halfOf 18 = .ok (.ireturn, 1) := dk_172 (dk_at dksX8_halfOf_0 18 rfl rfl)
theorem dX8_halfOf_19 : decode cX8_halfOf 19 = .ok (.iinc 2 1, 3) := dk_132 2 1 (dk_at dksX8_halfOf_0 19 rfl rfl)
theorem dX8_halfOf_22 : decode cX8_halfOf 22 = .ok (.goto (-20), 3) := dk_167 255 236 (dk_at dksX8_halfOf_1 0 rfl rfl)
theorem dX8_halfOf_25 : decode cX8_halfOf 25 = .ok (.iconst (-1), 1) := dk_2 (dk_at dksX8_halfOf_1 3 rfl rfl)
theorem dX8_halfOf_26 : decode cX8_halfOf 26 = .ok (.ireturn, 1) := dk_172 (dk_at dksX8_halfOf_1 4 rfl rfl)
abbrev cX8_isHalf : ByteArray := prog_13_method_106_code
def yX8_isHalf : MethodName := ⟨RX8, "isHalf", "(II)Z"⟩
def dkwX8_isHalf_4 : List UInt8 := [167, 255, 183, 4, 172]
abbrev dktX8_isHalf_4 : List UInt8 := dkwX8_isHalf_4 ++ []
def dkwX8_isHalf_3 : List UInt8 := [28, 112, 46, 21, 4, 159, 0, 5, 3, 172, 42, 180, 0, 62, 29, 28, 112, 21, 4, 79, 132, 3, 1]
abbrev dktX8_isHalf_3 : List UInt8 := dkwX8_isHalf_3 ++ dktX8_isHalf_4
def dkwX8_isHalf_2 : List UInt8 := [2, 160, 0, 6, 167, 0, 40, 42, 180, 0, 62, 29, 28, 112, 46, 2, 159, 0, 18, 42, 180, 0, 62, 29]
abbrev dktX8_isHalf_2 : List UInt8 := dkwX8_isHalf_2 ++ dktX8_isHalf_3
def dkwX8_isHalf_1 : List UInt8 := [180, 0, 13, 27, 46, 162, 0, 69, 42, 180, 0, 16, 16, 60, 27, 104, 29, 96, 47, 136, 54, 4, 21, 4]
abbrev dktX8_isHalf_1 : List UInt8 := dkwX8_isHalf_1 ++ dktX8_isHalf_2
def dkwX8_isHalf_0 : List UInt8 := [3, 62, 29, 28, 162, 0, 16, 42, 180, 0, 62, 29, 2, 79, 132, 3, 1, 167, 255, 241, 3, 62, 29, 42]
abbrev dktX8_isHalf_0 : List UInt8 := dkwX8_isHalf_0 ++ dktX8_isHalf_1
theorem dksX8_isHalf_0 : cX8_isHalf.data.toList.drop 0 = dktX8_isHalf_0 := by decide +kernel
theorem dksX8_isHalf_1 : cX8_isHalf.data.toList.drop 24 = dktX8_isHalf_1 := dk_seg dksX8_isHalf_0 24 rfl rfl
theorem dksX8_isHalf_2 : cX8_isHalf.data.toList.drop 48 = dktX8_isHalf_2 := dk_seg dksX8_isHalf_1 24 rfl rfl
theorem dksX8_isHalf_3 : cX8_isHalf.data.toList.drop 72 = dktX8_isHalf_3 := dk_seg dksX8_isHalf_2 24 rfl rfl
theorem dksX8_isHalf_4 : cX8_isHalf.data.toList.drop 95 = dktX8_isHalf_4 := dk_seg dksX8_isHalf_3 23 rfl rfl
theorem dX8_isHalf_0 : decode cX8_isHalf 0 = .ok (.iconst 0, 1) := dk_3 (dk_at dksX8_isHalf_0 0 rfl rfl)
theorem dX8_isHalf_1 : decode cX8_isHalf 1 = .ok (.istore_n 3, 1) := dk_62 (dk_at dksX8_isHalf_0 1 rfl rfl)
theorem dX8_isHalf_2 : decode cX8_isHalf 2 = .ok (.iload_n 3, 1) := dk_29 (dk_at dksX8_isHalf_0 2 rfl rfl)
theorem dX8_isHalf_3 : decode cX8_isHalf 3 = .ok (.iload_n 2, 1) := dk_28 (dk_at dksX8_isHalf_0 3 rfl rfl)
theorem dX8_isHalf_4 : decode cX8_isHalf 4 = .ok (.if_icmp .ge 16, 3) := dk_162 0 16 (dk_at dksX8_isHalf_0 4 rfl rfl)
theorem dX8_isHalf_7 : decode cX8_isHalf 7 = .ok (.aload_n 0, 1) := dk_42 (dk_at dksX8_isHalf_0 7 rfl rfl)
theorem dX8_isHalf_8 : decode cX8_isHalf 8 = .ok (.getfield 62, 3) := dk_180 0 62 (dk_at dksX8_isHalf_0 8 rfl rfl)
theorem dX8_isHalf_11 : decode cX8_isHalf 11 = .ok (.iload_n 3, 1) := dk_29 (dk_at dksX8_isHalf_0 11 rfl rfl)
theorem dX8_isHalf_12 : decode cX8_isHalf 12 = .ok (.iconst (-1), 1) := dk_2 (dk_at dksX8_isHalf_0 12 rfl rfl)
theorem dX8_isHalf_13 : decode cX8_isHalf 13 = .ok (.iastore, 1) := dk_79 (dk_at dksX8_isHalf_0 13 rfl rfl)
theorem dX8_isHalf_14 : decode cX8_isHalf 14 = .ok (.iinc 3 1, 3) := dk_132 3 1 (dk_at dksX8_isHalf_0 14 rfl rfl)
theorem dX8_isHalf_17 : decode cX8_isHalf 17 = .ok (.goto (-15), 3) := dk_167 255 241 (dk_at dksX8_isHalf_0 17 rfl rfl)
theorem dX8_isHalf_20 : decode cX8_isHalf 20 = .ok (.iconst 0, 1) := dk_3 (dk_at dksX8_isHalf_0 20 rfl rfl)
theorem dX8_isHalf_21 : decode cX8_isHalf 21 = .ok (.istore_n 3, 1) := dk_62 (dk_at dksX8_isHalf_0 21 rfl rfl)
theorem dX8_isHalf_22 : decode cX8_isHalf 22 = .ok (.iload_n 3, 1) := dk_29 (dk_at dksX8_isHalf_0 22 rfl rfl)
theorem dX8_isHalf_23 : decode cX8_isHalf 23 = .ok (.aload_n 0, 1) := dk_42 (dk_at dksX8_isHalf_0 23 rfl rfl)
theorem dX8_isHalf_24 : decode cX8_isHalf 24 = .ok (.getfield 13, 3) := dk_180 0 13 (dk_at dksX8_isHalf_1 0 rfl rfl)
theorem dX8_isHalf_27 : decode cX8_isHalf 27 = .ok (.iload_n 1, 1) := dk_27 (dk_at dksX8_isHalf_1 3 rfl rfl)
theorem dX8_isHalf_28 : decode cX8_isHalf 28 = .ok (.iaload, 1) := dk_46 (dk_at dksX8_isHalf_1 4 rfl rfl)
theorem dX8_isHalf_29 : decode cX8_isHalf 29 = .ok (.if_icmp .ge 69, 3) := dk_162 0 69 (dk_at dksX8_isHalf_1 5 rfl rfl)
theorem dX8_isHalf_32 : decode cX8_isHalf 32 = .ok (.aload_n 0, 1) := dk_42 (dk_at dksX8_isHalf_1 8 rfl rfl)
theorem dX8_isHalf_33 : decode cX8_isHalf 33 = .ok (.getfield 16, 3) := dk_180 0 16 (dk_at dksX8_isHalf_1 9 rfl rfl)
theorem dX8_isHalf_36 : decode cX8_isHalf 36 = .ok (.bipush 60, 2) := dk_16 60 (dk_at dksX8_isHalf_1 12 rfl rfl)
theorem dX8_isHalf_38 : decode cX8_isHalf 38 = .ok (.iload_n 1, 1) := dk_27 (dk_at dksX8_isHalf_1 14 rfl rfl)
theorem dX8_isHalf_39 : decode cX8_isHalf 39 = .ok (.imul, 1) := dk_104 (dk_at dksX8_isHalf_1 15 rfl rfl)
theorem dX8_isHalf_40 : decode cX8_isHalf 40 = .ok (.iload_n 3, 1) := dk_29 (dk_at dksX8_isHalf_1 16 rfl rfl)
theorem dX8_isHalf_41 : decode cX8_isHalf 41 = .ok (.iadd, 1) := dk_96 (dk_at dksX8_isHalf_1 17 rfl rfl)
theorem dX8_isHalf_42 : decode cX8_isHalf 42 = .ok (.laload, 1) := dk_47 (dk_at dksX8_isHalf_1 18 rfl rfl)
theorem dX8_isHalf_43 : decode cX8_isHalf 43 = .ok (.l2i, 1) := dk_136 (dk_at dksX8_isHalf_1 19 rfl rfl)
theorem dX8_isHalf_44 : decode cX8_isHalf 44 = .ok (.istore 4, 2) := dk_54 4 (dk_at dksX8_isHalf_1 20 rfl rfl)
theorem dX8_isHalf_46 : decode cX8_isHalf 46 = .ok (.iload 4, 2) := dk_21 4 (dk_at dksX8_isHalf_1 22 rfl rfl)
theorem dX8_isHalf_48 : decode cX8_isHalf 48 = .ok (.iconst (-1), 1) := dk_2 (dk_at dksX8_isHalf_2 0 rfl rfl)
theorem dX8_isHalf_49 : decode cX8_isHalf 49 = .ok (.if_icmp .ne 6, 3) := dk_160 0 6 (dk_at dksX8_isHalf_2 1 rfl rfl)
theorem dX8_isHalf_52 : decode cX8_isHalf 52 = .ok (.goto 40, 3) := dk_167 0 40 (dk_at dksX8_isHalf_2 4 rfl rfl)
theorem dX8_isHalf_55 : decode cX8_isHalf 55 = .ok (.aload_n 0, 1) := dk_42 (dk_at dksX8_isHalf_2 7 rfl rfl)
theorem dX8_isHalf_56 : decode cX8_isHalf 56 = .ok (.getfield 62, 3) := dk_180 0 62 (dk_at dksX8_isHalf_2 8 rfl rfl)
theorem dX8_isHalf_59 : decode cX8_isHalf 59 = .ok (.iload_n 3, 1) := dk_29 (dk_at dksX8_isHalf_2 11 rfl rfl)
theorem dX8_isHalf_60 : decode cX8_isHalf 60 = .ok (.iload_n 2, 1) := dk_28 (dk_at dksX8_isHalf_2 12 rfl rfl)
theorem dX8_isHalf_61 : decode cX8_isHalf 61 = .ok (.irem, 1) := dk_112 (dk_at dksX8_isHalf_2 13 rfl rfl)
theorem dX8_isHalf_62 : decode cX8_isHalf 62 = .ok (.iaload, 1) := dk_46 (dk_at dksX8_isHalf_2 14 rfl rfl)
theorem dX8_isHalf_63 : decode cX8_isHalf 63 = .ok (.iconst (-1), 1) := dk_2 (dk_at dksX8_isHalf_2 15 rfl rfl)
theorem dX8_isHalf_64 : decode cX8_isHalf 64 = .ok (.if_icmp .eq 18, 3) := dk_159 0 18 (dk_at dksX8_isHalf_2 16 rfl rfl)
theorem dX8_isHalf_67 : decode cX8_isHalf 67 = .ok (.aload_n 0, 1) := dk_42 (dk_at dksX8_isHalf_2 19 rfl rfl)
theorem dX8_isHalf_68 : decode cX8_isHalf 68 = .ok (.getfield 62, 3) := dk_180 0 62 (dk_at dksX8_isHalf_2 20 rfl rfl)
theorem dX8_isHalf_71 : decode cX8_isHalf 71 = .ok (.iload_n 3, 1) := dk_29 (dk_at dksX8_isHalf_2 23 rfl rfl)
theorem dX8_isHalf_72 : decode cX8_isHalf 72 = .ok (.iload_n 2, 1) := dk_28 (dk_at dksX8_isHalf_3 0 rfl rfl)
theorem dX8_isHalf_73 : decode cX8_isHalf 73 = .ok (.irem, 1) := dk_112 (dk_at dksX8_isHalf_3 1 rfl rfl)
theorem dX8_isHalf_74 : decode cX8_isHalf 74 = .ok (.iaload, 1) := dk_46 (dk_at dksX8_isHalf_3 2 rfl rfl)
theorem dX8_isHalf_75 : decode cX8_isHalf 75 = .ok (.iload 4, 2) := dk_21 4 (dk_at dksX8_isHalf_3 3 rfl rfl)
theorem dX8_isHalf_77 : decode cX8_isHalf 77 = .ok (.if_icmp .eq 5, 3) := dk_159 0 5 (dk_at dksX8_isHalf_3 5 rfl rfl)
theorem dX8_isHalf_80 : decode cX8_isHalf 80 = .ok (.iconst 0, 1) := dk_3 (dk_at dksX8_isHalf_3 8 rfl rfl)
theorem dX8_isHalf_81 : decode cX8_isHalf 81 = .ok (.ireturn, 1) := dk_172 (dk_at dksX8_isHalf_3 9 rfl rfl)
theorem dX8_isHalf_82 : decode cX8_isHalf 82 = .ok (.aload_n 0, 1) := dk_42 (dk_at dksX8_isHalf_3 10 rfl rfl)
theorem dX8_isHalf_83 : decode cX8_isHalf 83 = .ok (.getfield 62, 3) := dk_180 0 62 (dk_at dksX8_isHalf_3 11 rfl rfl)
theorem dX8_isHalf_86 : decode cX8_isHalf 86 = .ok (.iload_n 3, 1) := dk_29 (dk_at dksX8_isHalf_3 14 rfl rfl)
theorem dX8_isHalf_87 : decode cX8_isHalf 87 = .ok (.iload_n 2, 1) := dk_28 (dk_at dksX8_isHalf_3 15 rfl rfl)
theorem dX8_isHalf_88 : decode cX8_isHalf 88 = .ok (.irem, 1) := dk_112 (dk_at dksX8_isHalf_3 16 rfl rfl)
theorem dX8_isHalf_89 : decode cX8_isHalf 89 = .ok (.iload 4, 2) := dk_21 4 (dk_at dksX8_isHalf_3 17 rfl rfl)
theorem dX8_isHalf_91 : decode cX8_isHalf 91 = .ok (.iastore, 1) := dk_79 (dk_at dksX8_isHalf_3 19 rfl rfl)
theorem dX8_isHalf_92 : decode cX8_isHalf 92 = .ok (.iinc 3 1, 3) := dk_132 3 1 (dk_at dksX8_isHalf_3 20 rfl rfl)
theorem dX8_isHalf_95 : decode cX8_isHalf 95 = .ok (.goto (-73), 3) := dk_167 255 183 (dk_at dksX8_isHalf_4 0 rfl rfl)
theorem dX8_isHalf_98 : decode cX8_isHalf 98 = .ok (.iconst 1, 1) := dk_4 (dk_at dksX8_isHalf_4 3 rfl rfl)
theorem dX8_isHalf_99 : decode cX8_isHalf 99 = .ok (.ireturn, 1) := dk_172 (dk_at dksX8_isHalf_4 4 rfl rfl)
abbrev cX8_fills : ByteArray := prog_13_method_109_code
def yX8_fills : MethodName := ⟨RX8, "fills", "(II)I"⟩
def dkwX8_fills_1 : List UInt8 := [182, 1, 132, 4, 100, 133, 184, 0, 85, 153, 0, 12, 42, 180, 0, 62, 28, 46, 167, 0, 4, 2, 172]
abbrev dktX8_fills_1 : List UInt8 := dkwX8_fills_1 ++ []
def dkwX8_fills_0 : List UInt8 := [42, 3, 181, 0, 80, 42, 27, 182, 1, 129, 62, 29, 153, 0, 5, 29, 172, 28, 133, 9, 42, 27]
abbrev dktX8_fills_0 : List UInt8 := dkwX8_fills_0 ++ dktX8_fills_1
theorem dksX8_fills_0 : cX8_fills.data.toList.drop 0 = dktX8_fills_0 := by decide +kernel
theorem dksX8_fills_1 : cX8_fills.data.toList.drop 22 = dktX8_fills_1 := dk_seg dksX8_fills_0 22 rfl rfl
theorem dX8_fills_0 : decode cX8_fills 0 = .ok (.aload_n 0, 1) := dk_42 (dk_at dksX8_fills_0 0 rfl rfl)
theorem dX8_fills_1 : decode cX8_fills 1 = .ok (.iconst 0, 1) := dk_3 (dk_at dksX8_fills_0 1 rfl rfl)
theorem dX8_fills_2 : decode cX8_fills 2 = .ok (.putfield 80, 3) := dk_181 0 80 (dk_at dksX8_fills_0 2 rfl rfl)
theorem dX8_fills_5 : decode cX8_fills 5 = .ok (.aload_n 0, 1) := dk_42 (dk_at dksX8_fills_0 5 rfl rfl)
theorem dX8_fills_6 : decode cX8_fills 6 = .ok (.iload_n 1, 1) := dk_27 (dk_at dksX8_fills_0 6 rfl rfl)
theorem dX8_fills_7 : decode cX8_fills 7 = .ok (.invokevirtual 385, 3) := dk_182 1 129 (dk_at dksX8_fills_0 7 rfl rfl)
theorem dX8_fills_10 : decode cX8_fills 10 = .ok (.istore_n 3, 1) := dk_62 (dk_at dksX8_fills_0 10 rfl rfl)
theorem dX8_fills_11 : decode cX8_fills 11 = .ok (.iload_n 3, 1) := dk_29 (dk_at dksX8_fills_0 11 rfl rfl)
theorem dX8_fills_12 : decode cX8_fills 12 = .ok (.ifCond .eq 5, 3) := dk_153 0 5 (dk_at dksX8_fills_0 12 rfl rfl)
theorem dX8_fills_15 : decode cX8_fills 15 = .ok (.iload_n 3, 1) := dk_29 (dk_at dksX8_fills_0 15 rfl rfl)
theorem dX8_fills_16 : decode cX8_fills 16 = .ok (.ireturn, 1) := dk_172 (dk_at dksX8_fills_0 16 rfl rfl)
theorem dX8_fills_17 : decode cX8_fills 17 = .ok (.iload_n 2, 1) := dk_28 (dk_at dksX8_fills_0 17 rfl rfl)
theorem dX8_fills_18 : decode cX8_fills 18 = .ok (.i2l, 1) := dk_133 (dk_at dksX8_fills_0 18 rfl rfl)
theorem dX8_fills_19 : decode cX8_fills 19 = .ok (.lconst 0, 1) := dk_9 (dk_at dksX8_fills_0 19 rfl rfl)
theorem dX8_fills_20 : decode cX8_fills 20 = .ok (.aload_n 0, 1) := dk_42 (dk_at dksX8_fills_0 20 rfl rfl)
theorem dX8_fills_21 : decode cX8_fills 21 = .ok (.iload_n 1, 1) := dk_27 (dk_at dksX8_fills_0 21 rfl rfl)
theorem dX8_fills_22 : decode cX8_fills 22 = .ok (.invokevirtual 388, 3) := dk_182 1 132 (dk_at dksX8_fills_1 0 rfl rfl)
theorem dX8_fills_25 : decode cX8_fills 25 = .ok (.iconst 1, 1) := dk_4 (dk_at dksX8_fills_1 3 rfl rfl)
theorem dX8_fills_26 : decode cX8_fills 26 = .ok (.isub, 1) := dk_100 (dk_at dksX8_fills_1 4 rfl rfl)
theorem dX8_fills_27 : decode cX8_fills 27 = .ok (.i2l, 1) := dk_133 (dk_at dksX8_fills_1 5 rfl rfl)
theorem dX8_fills_28 : decode cX8_fills 28 = .ok (.invokestatic 85, 3) := dk_184 0 85 (dk_at dksX8_fills_1 6 rfl rfl)
theorem dX8_fills_31 : decode cX8_fills 31 = .ok (.ifCond .eq 12, 3) := dk_153 0 12 (dk_at dksX8_fills_1 9 rfl rfl)
theorem dX8_fills_34 : decode cX8_fills 34 = .ok (.aload_n 0, 1) := dk_42 (dk_at dksX8_fills_1 12 rfl rfl)
theorem dX8_fills_35 : decode cX8_fills 35 = .ok (.getfield 62, 3) := dk_180 0 62 (dk_at dksX8_fills_1 13 rfl rfl)
theorem dX8_fills_38 : decode cX8_fills 38 = .ok (.iload_n 2, 1) := dk_28 (dk_at dksX8_fills_1 16 rfl rfl)
theorem dX8_fills_39 : decode cX8_fills 39 = .ok (.iaload, 1) := dk_46 (dk_at dksX8_fills_1 17 rfl rfl)
theorem dX8_fills_40 : decode cX8_fills 40 = .ok (.goto 4, 3) := dk_167 0 4 (dk_at dksX8_fills_1 18 rfl rfl)
theorem dX8_fills_43 : decode cX8_fills 43 = .ok (.iconst (-1), 1) := dk_2 (dk_at dksX8_fills_1 21 rfl rfl)
theorem dX8_fills_44 : decode cX8_fills 44 = .ok (.ireturn, 1) := dk_172 (dk_at dksX8_fills_1 22 rfl rfl)
abbrev cX8_open : ByteArray := prog_13_method_110_code
def yX8_open : MethodName := ⟨RX8, "open", "(I)I"⟩
def dkwX8_open_2 : List UInt8 := [21, 5, 46, 2, 160, 0, 7, 4, 167, 0, 4, 3, 96, 54, 4, 132, 5, 1, 167, 255, 226, 21, 4, 172]
abbrev dktX8_open_2 : List UInt8 := dkwX8_open_2 ++ []
def dkwX8_open_1 : List UInt8 := [2, 160, 0, 5, 2, 172, 3, 54, 4, 3, 54, 5, 21, 5, 29, 162, 0, 30, 21, 4, 42, 180, 0, 62]
abbrev dktX8_open_1 : List UInt8 := dkwX8_open_1 ++ dktX8_open_2
def dkwX8_open_0 : List UInt8 := [42, 3, 181, 0, 80, 42, 27, 182, 1, 129, 61, 28, 153, 0, 5, 28, 172, 42, 27, 182, 1, 132, 62, 29]
abbrev dktX8_open_0 : List UInt8 := dkwX8_open_0 ++ dktX8_open_1
theorem dksX8_open_0 : cX8_open.data.toList.drop 0 = dktX8_open_0 := by decide +kernel
theorem dksX8_open_1 : cX8_open.data.toList.drop 24 = dktX8_open_1 := dk_seg dksX8_open_0 24 rfl rfl
theorem dksX8_open_2 : cX8_open.data.toList.drop 48 = dktX8_open_2 := dk_seg dksX8_open_1 24 rfl rfl
theorem dX8_open_0 : decode cX8_open 0 = .ok (.aload_n 0, 1) := dk_42 (dk_at dksX8_open_0 0 rfl rfl)
theorem dX8_open_1 : decode cX8_open 1 = .ok (.iconst 0, 1) := dk_3 (dk_at dksX8_open_0 1 rfl rfl)
theorem dX8_open_2 : decode cX8_open 2 = .ok (.putfield 80, 3) := dk_181 0 80 (dk_at dksX8_open_0 2 rfl rfl)
theorem dX8_open_5 : decode cX8_open 5 = .ok (.aload_n 0, 1) := dk_42 (dk_at dksX8_open_0 5 rfl rfl)
theorem dX8_open_6 : decode cX8_open 6 = .ok (.iload_n 1, 1) := dk_27 (dk_at dksX8_open_0 6 rfl rfl)
theorem dX8_open_7 : decode cX8_open 7 = .ok (.invokevirtual 385, 3) := dk_182 1 129 (dk_at dksX8_open_0 7 rfl rfl)
theorem dX8_open_10 : decode cX8_open 10 = .ok (.istore_n 2, 1) := dk_61 (dk_at dksX8_open_0 10 rfl rfl)
theorem dX8_open_11 : decode cX8_open 11 = .ok (.iload_n 2, 1) := dk_28 (dk_at dksX8_open_0 11 rfl rfl)
theorem dX8_open_12 : decode cX8_open 12 = .ok (.ifCond .eq 5, 3) := dk_153 0 5 (dk_at dksX8_open_0 12 rfl rfl)
theorem dX8_open_15 : decode cX8_open 15 = .ok (.iload_n 2, 1) := dk_28 (dk_at dksX8_open_0 15 rfl rfl)
theorem dX8_open_16 : decode cX8_open 16 = .ok (.ireturn, 1) := dk_172 (dk_at dksX8_open_0 16 rfl rfl)
theorem dX8_open_17 : decode cX8_open 17 = .ok (.aload_n 0, 1) := dk_42 (dk_at dksX8_open_0 17 rfl rfl)
theorem dX8_open_18 : decode cX8_open 18 = .ok (.iload_n 1, 1) := dk_27 (dk_at dksX8_open_0 18 rfl rfl)
theorem dX8_open_19 : decode cX8_open 19 = .ok (.invokevirtual 388, 3) := dk_182 1 132 (dk_at dksX8_open_0 19 rfl rfl)
theorem dX8_open_22 : decode cX8_open 22 = .ok (.istore_n 3, 1) := dk_62 (dk_at dksX8_open_0 22 rfl rfl)
theorem dX8_open_23 : decode cX8_open 23 = .ok (.iload_n 3, 1) := dk_29 (dk_at dksX8_open_0 23 rfl rfl)
theorem dX8_open_24 : decode cX8_open 24 = .ok (.iconst (-1), 1) := dk_2 (dk_at dksX8_open_1 0 rfl rfl)
theorem dX8_open_25 : decode cX8_open 25 = .ok (.if_icmp .ne 5, 3) := dk_160 0 5 (dk_at dksX8_open_1 1 rfl rfl)
theorem dX8_open_28 : decode cX8_open 28 = .ok (.iconst (-1), 1) := dk_2 (dk_at dksX8_open_1 4 rfl rfl)
theorem dX8_open_29 : decode cX8_open 29 = .ok (.ireturn, 1) := dk_172 (dk_at dksX8_open_1 5 rfl rfl)
theorem dX8_open_30 : decode cX8_open 30 = .ok (.iconst 0, 1) := dk_3 (dk_at dksX8_open_1 6 rfl rfl)
theorem dX8_open_31 : decode cX8_open 31 = .ok (.istore 4, 2) := dk_54 4 (dk_at dksX8_open_1 7 rfl rfl)
theorem dX8_open_33 : decode cX8_open 33 = .ok (.iconst 0, 1) := dk_3 (dk_at dksX8_open_1 9 rfl rfl)
theorem dX8_open_34 : decode cX8_open 34 = .ok (.istore 5, 2) := dk_54 5 (dk_at dksX8_open_1 10 rfl rfl)
theorem dX8_open_36 : decode cX8_open 36 = .ok (.iload 5, 2) := dk_21 5 (dk_at dksX8_open_1 12 rfl rfl)
theorem dX8_open_38 : decode cX8_open 38 = .ok (.iload_n 3, 1) := dk_29 (dk_at dksX8_open_1 14 rfl rfl)
theorem dX8_open_39 : decode cX8_open 39 = .ok (.if_icmp .ge 30, 3) := dk_162 0 30 (dk_at dksX8_open_1 15 rfl rfl)
theorem dX8_open_42 : decode cX8_open 42 = .ok (.iload 4, 2) := dk_21 4 (dk_at dksX8_open_1 18 rfl rfl)
theorem dX8_open_44 : decode cX8_open 44 = .ok (.aload_n 0, 1) := dk_42 (dk_at dksX8_open_1 20 rfl rfl)
theorem dX8_open_45 : decode cX8_open 45 = .ok (.getfield 62, 3) := dk_180 0 62 (dk_at dksX8_open_1 21 rfl rfl)
theorem dX8_open_48 : decode cX8_open 48 = .ok (.iload 5, 2) := dk_21 5 (dk_at dksX8_open_2 0 rfl rfl)
theorem dX8_open_50 : decode cX8_open 50 = .ok (.iaload, 1) := dk_46 (dk_at dksX8_open_2 2 rfl rfl)
theorem dX8_open_51 : decode cX8_open 51 = .ok (.iconst (-1), 1) := dk_2 (dk_at dksX8_open_2 3 rfl rfl)
theorem dX8_open_52 : decode cX8_open 52 = .ok (.if_icmp .ne 7, 3) := dk_160 0 7 (dk_at dksX8_open_2 4 rfl rfl)
theorem dX8_open_55 : decode cX8_open 55 = .ok (.iconst 1, 1) := dk_4 (dk_at dksX8_open_2 7 rfl rfl)
theorem dX8_open_56 : decode cX8_open 56 = .ok (.goto 4, 3) := dk_167 0 4 (dk_at dksX8_open_2 8 rfl rfl)
theorem dX8_open_59 : decode cX8_open 59 = .ok (.iconst 0, 1) := dk_3 (dk_at dksX8_open_2 11 rfl rfl)
theorem dX8_open_60 : decode cX8_open 60 = .ok (.iadd, 1) := dk_96 (dk_at dksX8_open_2 12 rfl rfl)
theorem dX8_open_61 : decode cX8_open 61 = .ok (.istore 4, 2) := dk_54 4 (dk_at dksX8_open_2 13 rfl rfl)
theorem dX8_open_63 : decode cX8_open 63 = .ok (.iinc 5 1, 3) := dk_132 5 1 (dk_at dksX8_open_2 15 rfl rfl)
theorem dX8_open_66 : decode cX8_open 66 = .ok (.goto (-30), 3) := dk_167 255 226 (dk_at dksX8_open_2 18 rfl rfl)
theorem dX8_open_69 : decode cX8_open 69 = .ok (.iload 4, 2) := dk_21 4 (dk_at dksX8_open_2 21 rfl rfl)
theorem dX8_open_71 : decode cX8_open 71 = .ok (.ireturn, 1) := dk_172 (dk_at dksX8_open_2 23 rfl rfl)
abbrev cX8_together : ByteArray := prog_13_method_114_code
def yX8_together : MethodName := ⟨RX8, "together", "(II)J"⟩
def dkwX8_together_1 : List UInt8 := [182, 1, 138, 167, 0, 6, 20, 1, 142, 173]
abbrev dktX8_together_1 : List UInt8 := dkwX8_together_1 ++ []
def dkwX8_together_0 : List UInt8 := [42, 3, 181, 0, 80, 42, 27, 182, 1, 135, 153, 0, 20, 28, 133, 184, 1, 14, 153, 0, 12, 42, 27, 28]
abbrev dktX8_together_0 : List UInt8 := dkwX8_together_0 ++ dktX8_together_1
theorem dksX8_together_0 : cX8_together.data.toList.drop 0 = dktX8_together_0 := by decide +kernel
theorem dksX8_together_1 : cX8_together.data.toList.drop 24 = dktX8_together_1 := dk_seg dksX8_together_0 24 rfl rfl
theorem dX8_together_0 : decode cX8_together 0 = .ok (.aload_n 0, 1) := dk_42 (dk_at dksX8_together_0 0 rfl rfl)
theorem dX8_together_1 : decode cX8_together 1 = .ok (.iconst 0, 1) := dk_3 (dk_at dksX8_together_0 1 rfl rfl)
theorem dX8_together_2 : decode cX8_together 2 = .ok (.putfield 80, 3) := dk_181 0 80 (dk_at dksX8_together_0 2 rfl rfl)
theorem dX8_together_5 : decode cX8_together 5 = .ok (.aload_n 0, 1) := dk_42 (dk_at dksX8_together_0 5 rfl rfl)
theorem dX8_together_6 : decode cX8_together 6 = .ok (.iload_n 1, 1) := dk_27 (dk_at dksX8_together_0 6 rfl rfl)
theorem dX8_together_7 : decode cX8_together 7 = .ok (.invokevirtual 391, 3) := dk_182 1 135 (dk_at dksX8_together_0 7 rfl rfl)
theorem dX8_together_10 : decode cX8_together 10 = .ok (.ifCond .eq 20, 3) := dk_153 0 20 (dk_at dksX8_together_0 10 rfl rfl)
theorem dX8_together_13 : decode cX8_together 13 = .ok (.iload_n 2, 1) := dk_28 (dk_at dksX8_together_0 13 rfl rfl)
theorem dX8_together_14 : decode cX8_together 14 = .ok (.i2l, 1) := dk_133 (dk_at dksX8_together_0 14 rfl rfl)
theorem dX8_together_15 : decode cX8_together 15 = .ok (.invokestatic 270, 3) := dk_184 1 14 (dk_at dksX8_together_0 15 rfl rfl)
theorem dX8_together_18 : decode cX8_together 18 = .ok (.ifCond .eq 12, 3) := dk_153 0 12 (dk_at dksX8_together_0 18 rfl rfl)
theorem dX8_together_21 : decode cX8_together 21 = .ok (.aload_n 0, 1) := dk_42 (dk_at dksX8_together_0 21 rfl rfl)
theorem dX8_together_22 : decode cX8_together 22 = .ok (.iload_n 1, 1) := dk_27 (dk_at dksX8_together_0 22 rfl rfl)
theorem dX8_together_23 : decode cX8_together 23 = .ok (.iload_n 2, 1) := dk_28 (dk_at dksX8_together_0 23 rfl rfl)
theorem dX8_together_24 : decode cX8_together 24 = .ok (.invokevirtual 394, 3) := dk_182 1 138 (dk_at dksX8_together_1 0 rfl rfl)
theorem dX8_together_27 : decode cX8_together 27 = .ok (.goto 6, 3) := dk_167 0 6 (dk_at dksX8_together_1 3 rfl rfl)
theorem dX8_together_30 : decode cX8_together 30 = .ok (.ldc2_w 398, 3) := dk_20 1 142 (dk_at dksX8_together_1 6 rfl rfl)
theorem dX8_together_33 : decode cX8_together 33 = .ok (.lreturn, 1) := dk_173 (dk_at dksX8_together_1 9 rfl rfl)
abbrev cX8_isSet : ByteArray := prog_13_method_111_code
def yX8_isSet : MethodName := ⟨RX8, "isSet", "(I)Z"⟩
def dkwX8_isSet_1 : List UInt8 := [184, 0, 85, 153, 0, 7, 4, 167, 0, 4, 3, 172]
abbrev dktX8_isSet_1 : List UInt8 := dkwX8_isSet_1 ++ []
def dkwX8_isSet_0 : List UInt8 := [42, 182, 0, 254, 153, 0, 28, 27, 133, 9, 4, 42, 180, 0, 34, 16, 9, 46, 120, 4, 100, 133]
abbrev dktX8_isSet_0 : List UInt8 := dkwX8_isSet_0 ++ dktX8_isSet_1
theorem dksX8_isSet_0 : cX8_isSet.data.toList.drop 0 = dktX8_isSet_0 := by decide +kernel
theorem dksX8_isSet_1 : cX8_isSet.data.toList.drop 22 = dktX8_isSet_1 := dk_seg dksX8_isSet_0 22 rfl rfl
theorem dX8_isSet_0 : decode cX8_isSet 0 = .ok (.aload_n 0, 1) := dk_42 (dk_at dksX8_isSet_0 0 rfl rfl)
theorem dX8_isSet_1 : decode cX8_isSet 1 = .ok (.invokevirtual 254, 3) := dk_182 0 254 (dk_at dksX8_isSet_0 1 rfl rfl)
theorem dX8_isSet_4 : decode cX8_isSet 4 = .ok (.ifCond .eq 28, 3) := dk_153 0 28 (dk_at dksX8_isSet_0 4 rfl rfl)
theorem dX8_isSet_7 : decode cX8_isSet 7 = .ok (.iload_n 1, 1) := dk_27 (dk_at dksX8_isSet_0 7 rfl rfl)
theorem dX8_isSet_8 : decode cX8_isSet 8 = .ok (.i2l, 1) := dk_133 (dk_at dksX8_isSet_0 8 rfl rfl)
theorem dX8_isSet_9 : decode cX8_isSet 9 = .ok (.lconst 0, 1) := dk_9 (dk_at dksX8_isSet_0 9 rfl rfl)
theorem dX8_isSet_10 : decode cX8_isSet 10 = .ok (.iconst 1, 1) := dk_4 (dk_at dksX8_isSet_0 10 rfl rfl)
theorem dX8_isSet_11 : decode cX8_isSet 11 = .ok (.aload_n 0, 1) := dk_42 (dk_at dksX8_isSet_0 11 rfl rfl)
theorem dX8_isSet_12 : decode cX8_isSet 12 = .ok (.getfield 34, 3) := dk_180 0 34 (dk_at dksX8_isSet_0 12 rfl rfl)
theorem dX8_isSet_15 : decode cX8_isSet 15 = .ok (.bipush 9, 2) := dk_16 9 (dk_at dksX8_isSet_0 15 rfl rfl)
theorem dX8_isSet_17 : decode cX8_isSet 17 = .ok (.iaload, 1) := dk_46 (dk_at dksX8_isSet_0 17 rfl rfl)
theorem dX8_isSet_18 : decode cX8_isSet 18 = .ok (.ishl, 1) := dk_120 (dk_at dksX8_isSet_0 18 rfl rfl)
theorem dX8_isSet_19 : decode cX8_isSet 19 = .ok (.iconst 1, 1) := dk_4 (dk_at dksX8_isSet_0 19 rfl rfl)
theorem dX8_isSet_20 : decode cX8_isSet 20 = .ok (.isub, 1) := dk_100 (dk_at dksX8_isSet_0 20 rfl rfl)
theorem dX8_isSet_21 : decode cX8_isSet 21 = .ok (.i2l, 1) := dk_133 (dk_at dksX8_isSet_0 21 rfl rfl)
theorem dX8_isSet_22 : decode cX8_isSet 22 = .ok (.invokestatic 85, 3) := dk_184 0 85 (dk_at dksX8_isSet_1 0 rfl rfl)
theorem dX8_isSet_25 : decode cX8_isSet 25 = .ok (.ifCond .eq 7, 3) := dk_153 0 7 (dk_at dksX8_isSet_1 3 rfl rfl)
theorem dX8_isSet_28 : decode cX8_isSet 28 = .ok (.iconst 1, 1) := dk_4 (dk_at dksX8_isSet_1 6 rfl rfl)
theorem dX8_isSet_29 : decode cX8_isSet 29 = .ok (.goto 4, 3) := dk_167 0 4 (dk_at dksX8_isSet_1 7 rfl rfl)
theorem dX8_isSet_32 : decode cX8_isSet 32 = .ok (.iconst 0, 1) := dk_3 (dk_at dksX8_isSet_1 10 rfl rfl)
theorem dX8_isSet_33 : decode cX8_isSet 33 = .ok (.ireturn, 1) := dk_172 (dk_at dksX8_isSet_1 11 rfl rfl)
abbrev cX8_togetherOf : ByteArray := prog_13_method_113_code
def yX8_togetherOf : MethodName := ⟨RX8, "togetherOf", "(II)J"⟩
def dkwX8_togetherOf_6 : List UInt8 := [180, 0, 53, 5, 21, 7, 104, 46, 133, 105, 55, 5, 132, 7, 1, 167, 255, 110, 33, 173]
abbrev dktX8_togetherOf_6 : List UInt8 := dkwX8_togetherOf_6 ++ []
def dkwX8_togetherOf_5 : List UInt8 := [20, 0, 124, 173, 22, 5, 22, 5, 42, 180, 0, 53, 5, 21, 7, 104, 46, 133, 184, 1, 62, 109, 42]
abbrev dktX8_togetherOf_5 : List UInt8 := dkwX8_togetherOf_5 ++ dktX8_togetherOf_6
def dkwX8_togetherOf_4 : List UInt8 := [21, 7, 104, 46, 133, 113, 42, 180, 0, 53, 5, 21, 7, 104, 4, 96, 46, 133, 148, 153, 0, 7]
abbrev dktX8_togetherOf_4 : List UInt8 := dkwX8_togetherOf_4 ++ dktX8_togetherOf_5
def dkwX8_togetherOf_3 : List UInt8 := [21, 7, 104, 46, 162, 0, 14, 33, 22, 5, 97, 66, 132, 8, 1, 167, 255, 206, 33, 42, 180, 0, 53, 5]
abbrev dktX8_togetherOf_3 : List UInt8 := dkwX8_togetherOf_3 ++ dktX8_togetherOf_4
def dkwX8_togetherOf_2 : List UInt8 := [42, 180, 0, 53, 5, 21, 7, 104, 4, 96, 46, 133, 148, 153, 0, 28, 21, 8, 42, 180, 0, 53, 5]
abbrev dktX8_togetherOf_2 : List UInt8 := dkwX8_togetherOf_2 ++ dktX8_togetherOf_3
def dkwX8_togetherOf_1 : List UInt8 := [184, 1, 24, 154, 0, 6, 167, 0, 122, 3, 54, 8, 33, 42, 180, 0, 53, 5, 21, 7, 104, 46, 133, 113]
abbrev dktX8_togetherOf_1 : List UInt8 := dkwX8_togetherOf_1 ++ dktX8_togetherOf_2
def dkwX8_togetherOf_0 : List UInt8 := [28, 133, 66, 10, 55, 5, 3, 54, 7, 21, 7, 42, 180, 0, 34, 16, 9, 46, 162, 0, 140, 27, 21, 7]
abbrev dktX8_togetherOf_0 : List UInt8 := dkwX8_togetherOf_0 ++ dktX8_togetherOf_1
theorem dksX8_togetherOf_0 : cX8_togetherOf.data.toList.drop 0 = dktX8_togetherOf_0 := by decide +kernel
theorem dksX8_togetherOf_1 : cX8_togetherOf.data.toList.drop 24 = dktX8_togetherOf_1 := dk_seg dksX8_togetherOf_0 24 rfl rfl
theorem dksX8_togetherOf_2 : cX8_togetherOf.data.toList.drop 48 = dktX8_togetherOf_2 := dk_seg dksX8_togetherOf_1 24 rfl rfl
theorem dksX8_togetherOf_3 : cX8_togetherOf.data.toList.drop 71 = dktX8_togetherOf_3 := dk_seg dksX8_togetherOf_2 23 rfl rfl
theorem dksX8_togetherOf_4 : cX8_togetherOf.data.toList.drop 95 = dktX8_togetherOf_4 := dk_seg dksX8_togetherOf_3 24 rfl rfl
theorem dksX8_togetherOf_5 : cX8_togetherOf.data.toList.drop 117 = dktX8_togetherOf_5 := dk_seg dksX8_togetherOf_4 22 rfl rfl
theorem dksX8_togetherOf_6 : cX8_togetherOf.data.toList.drop 140 = dktX8_togetherOf_6 := dk_seg dksX8_togetherOf_5 23 rfl rfl
theorem dX8_togetherOf_0 : decode cX8_togetherOf 0 = .ok (.iload_n 2, 1) := dk_28 (dk_at dksX8_togetherOf_0 0 rfl rfl)
theorem dX8_togetherOf_1 : decode cX8_togetherOf 1 = .ok (.i2l, 1) := dk_133 (dk_at dksX8_togetherOf_0 1 rfl rfl)
theorem dX8_togetherOf_2 : decode cX8_togetherOf 2 = .ok (.lstore_n 3, 1) := dk_66 (dk_at dksX8_togetherOf_0 2 rfl rfl)
theorem dX8_togetherOf_3 : decode cX8_togetherOf 3 = .ok (.lconst 1, 1) := dk_10 (dk_at dksX8_togetherOf_0 3 rfl rfl)
theorem dX8_togetherOf_4 : decode cX8_togetherOf 4 = .ok (.lstore 5, 2) := dk_55 5 (dk_at dksX8_togetherOf_0 4 rfl rfl)
theorem dX8_togetherOf_6 : decode cX8_togetherOf 6 = .ok (.iconst 0, 1) := dk_3 (dk_at dksX8_togetherOf_0 6 rfl rfl)
theorem dX8_togetherOf_7 : decode cX8_togetherOf 7 = .ok (.istore 7, 2) := dk_54 7 (dk_at dksX8_togetherOf_0 7 rfl rfl)
theorem dX8_togetherOf_9 : decode cX8_togetherOf 9 = .ok (.iload 7, 2) := dk_21 7 (dk_at dksX8_togetherOf_0 9 rfl rfl)
theorem dX8_togetherOf_11 : decode cX8_togetherOf 11 = .ok (.aload_n 0, 1) := dk_42 (dk_at dksX8_togetherOf_0 11 rfl rfl)
theorem dX8_togetherOf_12 : decode cX8_togetherOf 12 = .ok (.getfield 34, 3) := dk_180 0 34 (dk_at dksX8_togetherOf_0 12 rfl rfl)
theorem dX8_togetherOf_15 : decode cX8_togetherOf 15 = .ok (.bipush 9, 2) := dk_16 9 (dk_at dksX8_togetherOf_0 15 rfl rfl)
theorem dX8_togetherOf_17 : decode cX8_togetherOf 17 = .ok (.iaload, 1) := dk_46 (dk_at dksX8_togetherOf_0 17 rfl rfl)
theorem dX8_togetherOf_18 : decode cX8_togetherOf 18 = .ok (.if_icmp .ge 140, 3) := dk_162 0 140 (dk_at dksX8_togetherOf_0 18 rfl rfl)
theorem dX8_togetherOf_21 : decode cX8_togetherOf 21 = .ok (.iload_n 1, 1) := dk_27 (dk_at dksX8_togetherOf_0 21 rfl rfl)
theorem dX8_togetherOf_22 : decode cX8_togetherOf 22 = .ok (.iload 7, 2) := dk_21 7 (dk_at dksX8_togetherOf_0 22 rfl rfl)
theorem dX8_togetherOf_24 : decode cX8_togetherOf 24 = .ok (.invokestatic 280, 3) := dk_184 1 24 (dk_at dksX8_togetherOf_1 0 rfl rfl)
theorem dX8_togetherOf_27 : decode cX8_togetherOf 27 = .ok (.ifCond .ne 6, 3) := dk_154 0 6 (dk_at dksX8_togetherOf_1 3 rfl rfl)
theorem dX8_togetherOf_30 : decode cX8_togetherOf 30 = .ok (.goto 122, 3) := dk_167 0 122 (dk_at dksX8_togetherOf_1 6 rfl rfl)
theorem dX8_togetherOf_33 : decode cX8_togetherOf 33 = .ok (.iconst 0, 1) := dk_3 (dk_at dksX8_togetherOf_1 9 rfl rfl)
theorem dX8_togetherOf_34 : decode cX8_togetherOf 34 = .ok (.istore 8, 2) := dk_54 8 (dk_at dksX8_togetherOf_1 10 rfl rfl)
theorem dX8_togetherOf_36 : decode cX8_togetherOf 36 = .ok (.lload_n 3, 1) := dk_33 (dk_at dksX8_togetherOf_1 12 rfl rfl)
theorem dX8_togetherOf_37 : decode cX8_togetherOf 37 = .ok (.aload_n 0, 1) := dk_42 (dk_at dksX8_togetherOf_1 13 rfl rfl)
theorem dX8_togetherOf_38 : decode cX8_togetherOf 38 = .ok (.getfield 53, 3) := dk_180 0 53 (dk_at dksX8_togetherOf_1 14 rfl rfl)
theorem dX8_togetherOf_41 : decode cX8_togetherOf 41 = .ok (.iconst 2, 1) := dk_5 (dk_at dksX8_togetherOf_1 17 rfl rfl)
theorem dX8_togetherOf_42 : decode cX8_togetherOf 42 = .ok (.iload 7, 2) := dk_21 7 (dk_at dksX8_togetherOf_1 18 rfl rfl)
theorem dX8_togetherOf_44 : decode cX8_togetherOf 44 = .ok (.imul, 1) := dk_104 (dk_at dksX8_togetherOf_1 20 rfl rfl)
theorem dX8_togetherOf_45 : decode cX8_togetherOf 45 = .ok (.iaload, 1) := dk_46 (dk_at dksX8_togetherOf_1 21 rfl rfl)
theorem dX8_togetherOf_46 : decode cX8_togetherOf 46 = .ok (.i2l, 1) := dk_133 (dk_at dksX8_togetherOf_1 22 rfl rfl)
theorem dX8_togetherOf_47 : decode cX8_togetherOf 47 = .ok (.lrem, 1) := dk_113 (dk_at dksX8_togetherOf_1 23 rfl rfl)
theorem dX8_togetherOf_48 : decode cX8_togetherOf 48 = .ok (.aload_n 0, 1) := dk_42 (dk_at dksX8_togetherOf_2 0 rfl rfl)
theorem dX8_togetherOf_49 : decode cX8_togetherOf 49 = .ok (.getfield 53, 3) := dk_180 0 53 (dk_at dksX8_togetherOf_2 1 rfl rfl)
theorem dX8_togetherOf_52 : decode cX8_togetherOf 52 = .ok (.iconst 2, 1) := dk_5 (dk_at dksX8_togetherOf_2 4 rfl rfl)
theorem dX8_togetherOf_53 : decode cX8_togetherOf 53 = .ok (.iload 7, 2) := dk_21 7 (dk_at dksX8_togetherOf_2 5 rfl rfl)
theorem dX8_togetherOf_55 : decode cX8_togetherOf 55 = .ok (.imul, 1) := dk_104 (dk_at dksX8_togetherOf_2 7 rfl rfl)
theorem dX8_togetherOf_56 : decode cX8_togetherOf 56 = .ok (.iconst 1, 1) := dk_4 (dk_at dksX8_togetherOf_2 8 rfl rfl)
theorem dX8_togetherOf_57 : decode cX8_togetherOf 57 = .ok (.iadd, 1) := dk_96 (dk_at dksX8_togetherOf_2 9 rfl rfl)
theorem dX8_togetherOf_58 : decode cX8_togetherOf 58 = .ok (.iaload, 1) := dk_46 (dk_at dksX8_togetherOf_2 10 rfl rfl)
theorem dX8_togetherOf_59 : decode cX8_togetherOf 59 = .ok (.i2l, 1) := dk_133 (dk_at dksX8_togetherOf_2 11 rfl rfl)
theorem dX8_togetherOf_60 : decode cX8_togetherOf 60 = .ok (.lcmp, 1) := dk_148 (dk_at dksX8_togetherOf_2 12 rfl rfl)
theorem dX8_togetherOf_61 : decode cX8_togetherOf 61 = .ok (.ifCond .eq 28, 3) := dk_153 0 28 (dk_at dksX8_togetherOf_2 13 rfl rfl)
theorem dX8_togetherOf_64 : decode cX8_togetherOf 64 = .ok (.iload 8, 2) := dk_21 8 (dk_at dksX8_togetherOf_2 16 rfl rfl)
theorem dX8_togetherOf_66 : decode cX8_togetherOf 66 = .ok (.aload_n 0, 1) := dk_42 (dk_at dksX8_togetherOf_2 18 rfl rfl)
theorem dX8_togetherOf_67 : decode cX8_togetherOf 67 = .ok (.getfield 53, 3) := dk_180 0 53 (dk_at dksX8_togetherOf_2 19 rfl rfl)
theorem dX8_togetherOf_70 : decode cX8_togetherOf 70 = .ok (.iconst 2, 1) := dk_5 (dk_at dksX8_togetherOf_2 22 rfl rfl)
theorem dX8_togetherOf_71 : decode cX8_togetherOf 71 = .ok (.iload 7, 2) := dk_21 7 (dk_at dksX8_togetherOf_3 0 rfl rfl)
theorem dX8_togetherOf_73 : decode cX8_togetherOf 73 = .ok (.imul, 1) := dk_104 (dk_at dksX8_togetherOf_3 2 rfl rfl)
theorem dX8_togetherOf_74 : decode cX8_togetherOf 74 = .ok (.iaload, 1) := dk_46 (dk_at dksX8_togetherOf_3 3 rfl rfl)
theorem dX8_togetherOf_75 : decode cX8_togetherOf 75 = .ok (.if_icmp .ge 14, 3) := dk_162 0 14 (dk_at dksX8_togetherOf_3 4 rfl rfl)
theorem dX8_togetherOf_78 : decode cX8_togetherOf 78 = .ok (.lload_n 3, 1) := dk_33 (dk_at dksX8_togetherOf_3 7 rfl rfl)
theorem dX8_togetherOf_79 : decode cX8_togetherOf 79 = .ok (.lload 5, 2) := dk_22 5 (dk_at dksX8_togetherOf_3 8 rfl rfl)
theorem dX8_togetherOf_81 : decode cX8_togetherOf 81 = .ok (.ladd, 1) := dk_97 (dk_at dksX8_togetherOf_3 10 rfl rfl)
theorem dX8_togetherOf_82 : decode cX8_togetherOf 82 = .ok (.lstore_n 3, 1) := dk_66 (dk_at dksX8_togetherOf_3 11 rfl rfl)
theorem dX8_togetherOf_83 : decode cX8_togetherOf 83 = .ok (.iinc 8 1, 3) := dk_132 8 1 (dk_at dksX8_togetherOf_3 12 rfl rfl)
theorem dX8_togetherOf_86 : decode cX8_togetherOf 86 = .ok (.goto (-50), 3) := dk_167 255 206 (dk_at dksX8_togetherOf_3 15 rfl rfl)
theorem dX8_togetherOf_89 : decode cX8_togetherOf 89 = .ok (.lload_n 3, 1) := dk_33 (dk_at dksX8_togetherOf_3 18 rfl rfl)
theorem dX8_togetherOf_90 : decode cX8_togetherOf 90 = .ok (.aload_n 0, 1) := dk_42 (dk_at dksX8_togetherOf_3 19 rfl rfl)
theorem dX8_togetherOf_91 : decode cX8_togetherOf 91 = .ok (.getfield 53, 3) := dk_180 0 53 (dk_at dksX8_togetherOf_3 20 rfl rfl)
theorem dX8_togetherOf_94 : decode cX8_togetherOf 94 = .ok (.iconst 2, 1) := dk_5 (dk_at dksX8_togetherOf_3 23 rfl rfl)
theorem dX8_togetherOf_95 : decode cX8_togetherOf 95 = .ok (.iload 7, 2) := dk_21 7 (dk_at dksX8_togetherOf_4 0 rfl rfl)
theorem dX8_togetherOf_97 : decode cX8_togetherOf 97 = .ok (.imul, 1) := dk_104 (dk_at dksX8_togetherOf_4 2 rfl rfl)
theorem dX8_togetherOf_98 : decode cX8_togetherOf 98 = .ok (.iaload, 1) := dk_46 (dk_at dksX8_togetherOf_4 3 rfl rfl)
theorem dX8_togetherOf_99 : decode cX8_togetherOf 99 = .ok (.i2l, 1) := dk_133 (dk_at dksX8_togetherOf_4 4 rfl rfl)
theorem dX8_togetherOf_100 : decode cX8_togetherOf 100 = .ok (.lrem, 1) := dk_113 (dk_at dksX8_togetherOf_4 5 rfl rfl)
theorem dX8_togetherOf_101 : decode cX8_togetherOf 101 = .ok (.aload_n 0, 1) := dk_42 (dk_at dksX8_togetherOf_4 6 rfl rfl)
theorem dX8_togetherOf_102 : decode cX8_togetherOf 102 = .ok (.getfield 53, 3) := dk_180 0 53 (dk_at dksX8_togetherOf_4 7 rfl rfl)
theorem dX8_togetherOf_105 : decode cX8_togetherOf 105 = .ok (.iconst 2, 1) := dk_5 (dk_at dksX8_togetherOf_4 10 rfl rfl)
theorem dX8_togetherOf_106 : decode cX8_togetherOf 106 = .ok (.iload 7, 2) := dk_21 7 (dk_at dksX8_togetherOf_4 11 rfl rfl)
theorem dX8_togetherOf_108 : decode cX8_togetherOf 108 = .ok (.imul, 1) := dk_104 (dk_at dksX8_togetherOf_4 13 rfl rfl)
theorem dX8_togetherOf_109 : decode cX8_togetherOf 109 = .ok (.iconst 1, 1) := dk_4 (dk_at dksX8_togetherOf_4 14 rfl rfl)
theorem dX8_togetherOf_110 : decode cX8_togetherOf 110 = .ok (.iadd, 1) := dk_96 (dk_at dksX8_togetherOf_4 15 rfl rfl)
theorem dX8_togetherOf_111 : decode cX8_togetherOf 111 = .ok (.iaload, 1) := dk_46 (dk_at dksX8_togetherOf_4 16 rfl rfl)
theorem dX8_togetherOf_112 : decode cX8_togetherOf 112 = .ok (.i2l, 1) := dk_133 (dk_at dksX8_togetherOf_4 17 rfl rfl)
theorem dX8_togetherOf_113 : decode cX8_togetherOf 113 = .ok (.lcmp, 1) := dk_148 (dk_at dksX8_togetherOf_4 18 rfl rfl)
theorem dX8_togetherOf_114 : decode cX8_togetherOf 114 = .ok (.ifCond .eq 7, 3) := dk_153 0 7 (dk_at dksX8_togetherOf_4 19 rfl rfl)
theorem dX8_togetherOf_117 : decode cX8_togetherOf 117 = .ok (.ldc2_w 124, 3) := dk_20 0 124 (dk_at dksX8_togetherOf_5 0 rfl rfl)
theorem dX8_togetherOf_120 : decode cX8_togetherOf 120 = .ok (.lreturn, 1) := dk_173 (dk_at dksX8_togetherOf_5 3 rfl rfl)
theorem dX8_togetherOf_121 : decode cX8_togetherOf 121 = .ok (.lload 5, 2) := dk_22 5 (dk_at dksX8_togetherOf_5 4 rfl rfl)
theorem dX8_togetherOf_123 : decode cX8_togetherOf 123 = .ok (.lload 5, 2) := dk_22 5 (dk_at dksX8_togetherOf_5 6 rfl rfl)
theorem dX8_togetherOf_125 : decode cX8_togetherOf 125 = .ok (.aload_n 0, 1) := dk_42 (dk_at dksX8_togetherOf_5 8 rfl rfl)
theorem dX8_togetherOf_126 : decode cX8_togetherOf 126 = .ok (.getfield 53, 3) := dk_180 0 53 (dk_at dksX8_togetherOf_5 9 rfl rfl)
theorem dX8_togetherOf_129 : decode cX8_togetherOf 129 = .ok (.iconst 2, 1) := dk_5 (dk_at dksX8_togetherOf_5 12 rfl rfl)
theorem dX8_togetherOf_130 : decode cX8_togetherOf 130 = .ok (.iload 7, 2) := dk_21 7 (dk_at dksX8_togetherOf_5 13 rfl rfl)
theorem dX8_togetherOf_132 : decode cX8_togetherOf 132 = .ok (.imul, 1) := dk_104 (dk_at dksX8_togetherOf_5 15 rfl rfl)
theorem dX8_togetherOf_133 : decode cX8_togetherOf 133 = .ok (.iaload, 1) := dk_46 (dk_at dksX8_togetherOf_5 16 rfl rfl)
theorem dX8_togetherOf_134 : decode cX8_togetherOf 134 = .ok (.i2l, 1) := dk_133 (dk_at dksX8_togetherOf_5 17 rfl rfl)
theorem dX8_togetherOf_135 : decode cX8_togetherOf 135 = .ok (.invokestatic 318, 3) := dk_184 1 62 (dk_at dksX8_togetherOf_5 18 rfl rfl)
theorem dX8_togetherOf_138 : decode cX8_togetherOf 138 = .ok (.ldiv, 1) := dk_109 (dk_at dksX8_togetherOf_5 21 rfl rfl)
theorem dX8_togetherOf_139 : decode cX8_togetherOf 139 = .ok (.aload_n 0, 1) := dk_42 (dk_at dksX8_togetherOf_5 22 rfl rfl)
theorem dX8_togetherOf_140 : decode cX8_togetherOf 140 = .ok (.getfield 53, 3) := dk_180 0 53 (dk_at dksX8_togetherOf_6 0 rfl rfl)
theorem dX8_togetherOf_143 : decode cX8_togetherOf 143 = .ok (.iconst 2, 1) := dk_5 (dk_at dksX8_togetherOf_6 3 rfl rfl)
theorem dX8_togetherOf_144 : decode cX8_togetherOf 144 = .ok (.iload 7, 2) := dk_21 7 (dk_at dksX8_togetherOf_6 4 rfl rfl)
theorem dX8_togetherOf_146 : decode cX8_togetherOf 146 = .ok (.imul, 1) := dk_104 (dk_at dksX8_togetherOf_6 6 rfl rfl)
theorem dX8_togetherOf_147 : decode cX8_togetherOf 147 = .ok (.iaload, 1) := dk_46 (dk_at dksX8_togetherOf_6 7 rfl rfl)
theorem dX8_togetherOf_148 : decode cX8_togetherOf 148 = .ok (.i2l, 1) := dk_133 (dk_at dksX8_togetherOf_6 8 rfl rfl)
theorem dX8_togetherOf_149 : decode cX8_togetherOf 149 = .ok (.lmul, 1) := dk_105 (dk_at dksX8_togetherOf_6 9 rfl rfl)
theorem dX8_togetherOf_150 : decode cX8_togetherOf 150 = .ok (.lstore 5, 2) := dk_55 5 (dk_at dksX8_togetherOf_6 10 rfl rfl)
theorem dX8_togetherOf_152 : decode cX8_togetherOf 152 = .ok (.iinc 7 1, 3) := dk_132 7 1 (dk_at dksX8_togetherOf_6 12 rfl rfl)
theorem dX8_togetherOf_155 : decode cX8_togetherOf 155 = .ok (.goto (-146), 3) := dk_167 255 110 (dk_at dksX8_togetherOf_6 15 rfl rfl)
theorem dX8_togetherOf_158 : decode cX8_togetherOf 158 = .ok (.lload_n 3, 1) := dk_33 (dk_at dksX8_togetherOf_6 18 rfl rfl)
theorem dX8_togetherOf_159 : decode cX8_togetherOf 159 = .ok (.lreturn, 1) := dk_173 (dk_at dksX8_togetherOf_6 19 rfl rfl)
abbrev cX8_commonLong : ByteArray := prog_13_method_73_code
def yX8_commonLong : MethodName := ⟨RX8, "commonLong", "(JJ)J"⟩
def dkwX8_commonLong_0 : List UInt8 := [32, 9, 148, 154, 0, 7, 30, 167, 0, 10, 32, 30, 32, 113, 184, 1, 62, 173]
abbrev dktX8_commonLong_0 : List UInt8 := dkwX8_commonLong_0 ++ []
theorem dksX8_commonLong_0 : cX8_commonLong.data.toList.drop 0 = dktX8_commonLong_0 := by decide +kernel
theorem dX8_commonLong_0 : decode cX8_commonLong 0 = .ok (.lload_n 2, 1) := dk_32 (dk_at dksX8_commonLong_0 0 rfl rfl)
theorem dX8_commonLong_1 : decode cX8_commonLong 1 = .ok (.lconst 0, 1) := dk_9 (dk_at dksX8_commonLong_0 1 rfl rfl)
theorem dX8_commonLong_2 : decode cX8_commonLong 2 = .ok (.lcmp, 1) := dk_148 (dk_at dksX8_commonLong_0 2 rfl rfl)
theorem dX8_commonLong_3 : decode cX8_commonLong 3 = .ok (.ifCond .ne 7, 3) := dk_154 0 7 (dk_at dksX8_commonLong_0 3 rfl rfl)
theorem dX8_commonLong_6 : decode cX8_commonLong 6 = .ok (.lload_n 0, 1) := dk_30 (dk_at dksX8_commonLong_0 6 rfl rfl)
theorem dX8_commonLong_7 : decode cX8_commonLong 7 = .ok (.goto 10, 3) := dk_167 0 10 (dk_at dksX8_commonLong_0 7 rfl rfl)
theorem dX8_commonLong_10 : decode cX8_commonLong 10 = .ok (.lload_n 2, 1) := dk_32 (dk_at dksX8_commonLong_0 10 rfl rfl)
theorem dX8_commonLong_11 : decode cX8_commonLong 11 = .ok (.lload_n 0, 1) := dk_30 (dk_at dksX8_commonLong_0 11 rfl rfl)
theorem dX8_commonLong_12 : decode cX8_commonLong 12 = .ok (.lload_n 2, 1) := dk_32 (dk_at dksX8_commonLong_0 12 rfl rfl)
theorem dX8_commonLong_13 : decode cX8_commonLong 13 = .ok (.lrem, 1) := dk_113 (dk_at dksX8_commonLong_0 13 rfl rfl)
theorem dX8_commonLong_14 : decode cX8_commonLong 14 = .ok (.invokestatic 318, 3) := dk_184 1 62 (dk_at dksX8_commonLong_0 14 rfl rfl)
theorem dX8_commonLong_17 : decode cX8_commonLong 17 = .ok (.lreturn, 1) := dk_173 (dk_at dksX8_commonLong_0 17 rfl rfl)
abbrev cX8_again : ByteArray := prog_13_method_115_code
def yX8_again : MethodName := ⟨RX8, "again", "(I)J"⟩
def dkwX8_again_1 : List UInt8 := [173]
abbrev dktX8_again_1 : List UInt8 := dkwX8_again_1 ++ []
def dkwX8_again_0 : List UInt8 := [42, 3, 181, 0, 80, 42, 27, 182, 1, 135, 153, 0, 11, 42, 27, 182, 1, 144, 167, 0, 6, 20, 1, 142]
abbrev dktX8_again_0 : List UInt8 := dkwX8_again_0 ++ dktX8_again_1
theorem dksX8_again_0 : cX8_again.data.toList.drop 0 = dktX8_again_0 := by decide +kernel
theorem dksX8_again_1 : cX8_again.data.toList.drop 24 = dktX8_again_1 := dk_seg dksX8_again_0 24 rfl rfl
theorem dX8_again_0 : decode cX8_again 0 = .ok (.aload_n 0, 1) := dk_42 (dk_at dksX8_again_0 0 rfl rfl)
theorem dX8_again_1 : decode cX8_again 1 = .ok (.iconst 0, 1) := dk_3 (dk_at dksX8_again_0 1 rfl rfl)
theorem dX8_again_2 : decode cX8_again 2 = .ok (.putfield 80, 3) := dk_181 0 80 (dk_at dksX8_again_0 2 rfl rfl)
theorem dX8_again_5 : decode cX8_again 5 = .ok (.aload_n 0, 1) := dk_42 (dk_at dksX8_again_0 5 rfl rfl)
theorem dX8_again_6 : decode cX8_again 6 = .ok (.iload_n 1, 1) := dk_27 (dk_at dksX8_again_0 6 rfl rfl)
theorem dX8_again_7 : decode cX8_again 7 = .ok (.invokevirtual 391, 3) := dk_182 1 135 (dk_at dksX8_again_0 7 rfl rfl)
theorem dX8_again_10 : decode cX8_again 10 = .ok (.ifCond .eq 11, 3) := dk_153 0 11 (dk_at dksX8_again_0 10 rfl rfl)
theorem dX8_again_13 : decode cX8_again 13 = .ok (.aload_n 0, 1) := dk_42 (dk_at dksX8_again_0 13 rfl rfl)
theorem dX8_again_14 : decode cX8_again 14 = .ok (.iload_n 1, 1) := dk_27 (dk_at dksX8_again_0 14 rfl rfl)
theorem dX8_again_15 : decode cX8_again 15 = .ok (.invokevirtual 400, 3) := dk_182 1 144 (dk_at dksX8_again_0 15 rfl rfl)
theorem dX8_again_18 : decode cX8_again 18 = .ok (.goto 6, 3) := dk_167 0 6 (dk_at dksX8_again_0 18 rfl rfl)
theorem dX8_again_21 : decode cX8_again 21 = .ok (.ldc2_w 398, 3) := dk_20 1 142 (dk_at dksX8_again_0 21 rfl rfl)
theorem dX8_again_24 : decode cX8_again 24 = .ok (.lreturn, 1) := dk_173 (dk_at dksX8_again_1 0 rfl rfl)
abbrev cX8_againOf : ByteArray := prog_13_method_112_code
def yX8_againOf : MethodName := ⟨RX8, "againOf", "(I)J"⟩
def dkwX8_againOf_2 : List UInt8 := [21, 4, 104, 46, 133, 105, 65, 132, 4, 1, 167, 255, 204, 32, 173]
abbrev dktX8_againOf_2 : List UInt8 := dkwX8_againOf_2 ++ []
def dkwX8_againOf_1 : List UInt8 := [153, 0, 31, 32, 32, 42, 180, 0, 53, 5, 21, 4, 104, 46, 133, 184, 1, 62, 109, 42, 180, 0, 53, 5]
abbrev dktX8_againOf_1 : List UInt8 := dkwX8_againOf_1 ++ dktX8_againOf_2
def dkwX8_againOf_0 : List UInt8 := [10, 65, 3, 54, 4, 21, 4, 42, 180, 0, 34, 16, 9, 46, 162, 0, 46, 27, 21, 4, 184, 1, 24]
abbrev dktX8_againOf_0 : List UInt8 := dkwX8_againOf_0 ++ dktX8_againOf_1
theorem dksX8_againOf_0 : cX8_againOf.data.toList.drop 0 = dktX8_againOf_0 := by decide +kernel
theorem dksX8_againOf_1 : cX8_againOf.data.toList.drop 23 = dktX8_againOf_1 := dk_seg dksX8_againOf_0 23 rfl rfl
theorem dksX8_againOf_2 : cX8_againOf.data.toList.drop 47 = dktX8_againOf_2 := dk_seg dksX8_againOf_1 24 rfl rfl
theorem dX8_againOf_0 : decode cX8_againOf 0 = .ok (.lconst 1, 1) := dk_10 (dk_at dksX8_againOf_0 0 rfl rfl)
theorem dX8_againOf_1 : decode cX8_againOf 1 = .ok (.lstore_n 2, 1) := dk_65 (dk_at dksX8_againOf_0 1 rfl rfl)
theorem dX8_againOf_2 : decode cX8_againOf 2 = .ok (.iconst 0, 1) := dk_3 (dk_at dksX8_againOf_0 2 rfl rfl)
theorem dX8_againOf_3 : decode cX8_againOf 3 = .ok (.istore 4, 2) := dk_54 4 (dk_at dksX8_againOf_0 3 rfl rfl)
theorem dX8_againOf_5 : decode cX8_againOf 5 = .ok (.iload 4, 2) := dk_21 4 (dk_at dksX8_againOf_0 5 rfl rfl)
theorem dX8_againOf_7 : decode cX8_againOf 7 = .ok (.aload_n 0, 1) := dk_42 (dk_at dksX8_againOf_0 7 rfl rfl)
theorem dX8_againOf_8 : decode cX8_againOf 8 = .ok (.getfield 34, 3) := dk_180 0 34 (dk_at dksX8_againOf_0 8 rfl rfl)
theorem dX8_againOf_11 : decode cX8_againOf 11 = .ok (.bipush 9, 2) := dk_16 9 (dk_at dksX8_againOf_0 11 rfl rfl)
theorem dX8_againOf_13 : decode cX8_againOf 13 = .ok (.iaload, 1) := dk_46 (dk_at dksX8_againOf_0 13 rfl rfl)
theorem dX8_againOf_14 : decode cX8_againOf 14 = .ok (.if_icmp .ge 46, 3) := dk_162 0 46 (dk_at dksX8_againOf_0 14 rfl rfl)
theorem dX8_againOf_17 : decode cX8_againOf 17 = .ok (.iload_n 1, 1) := dk_27 (dk_at dksX8_againOf_0 17 rfl rfl)
theorem dX8_againOf_18 : decode cX8_againOf 18 = .ok (.iload 4, 2) := dk_21 4 (dk_at dksX8_againOf_0 18 rfl rfl)
theorem dX8_againOf_20 : decode cX8_againOf 20 = .ok (.invokestatic 280, 3) := dk_184 1 24 (dk_at dksX8_againOf_0 20 rfl rfl)
theorem dX8_againOf_23 : decode cX8_againOf 23 = .ok (.ifCond .eq 31, 3) := dk_153 0 31 (dk_at dksX8_againOf_1 0 rfl rfl)
theorem dX8_againOf_26 : decode cX8_againOf 26 = .ok (.lload_n 2, 1) := dk_32 (dk_at dksX8_againOf_1 3 rfl rfl)
theorem dX8_againOf_27 : decode cX8_againOf 27 = .ok (.lload_n 2, 1) := dk_32 (dk_at dksX8_againOf_1 4 rfl rfl)
theorem dX8_againOf_28 : decode cX8_againOf 28 = .ok (.aload_n 0, 1) := dk_42 (dk_at dksX8_againOf_1 5 rfl rfl)
theorem dX8_againOf_29 : decode cX8_againOf 29 = .ok (.getfield 53, 3) := dk_180 0 53 (dk_at dksX8_againOf_1 6 rfl rfl)
theorem dX8_againOf_32 : decode cX8_againOf 32 = .ok (.iconst 2, 1) := dk_5 (dk_at dksX8_againOf_1 9 rfl rfl)
theorem dX8_againOf_33 : decode cX8_againOf 33 = .ok (.iload 4, 2) := dk_21 4 (dk_at dksX8_againOf_1 10 rfl rfl)
theorem dX8_againOf_35 : decode cX8_againOf 35 = .ok (.imul, 1) := dk_104 (dk_at dksX8_againOf_1 12 rfl rfl)
theorem dX8_againOf_36 : decode cX8_againOf 36 = .ok (.iaload, 1) := dk_46 (dk_at dksX8_againOf_1 13 rfl rfl)
theorem dX8_againOf_37 : decode cX8_againOf 37 = .ok (.i2l, 1) := dk_133 (dk_at dksX8_againOf_1 14 rfl rfl)
theorem dX8_againOf_38 : decode cX8_againOf 38 = .ok (.invokestatic 318, 3) := dk_184 1 62 (dk_at dksX8_againOf_1 15 rfl rfl)
theorem dX8_againOf_41 : decode cX8_againOf 41 = .ok (.ldiv, 1) := dk_109 (dk_at dksX8_againOf_1 18 rfl rfl)
theorem dX8_againOf_42 : decode cX8_againOf 42 = .ok (.aload_n 0, 1) := dk_42 (dk_at dksX8_againOf_1 19 rfl rfl)
theorem dX8_againOf_43 : decode cX8_againOf 43 = .ok (.getfield 53, 3) := dk_180 0 53 (dk_at dksX8_againOf_1 20 rfl rfl)
theorem dX8_againOf_46 : decode cX8_againOf 46 = .ok (.iconst 2, 1) := dk_5 (dk_at dksX8_againOf_1 23 rfl rfl)
theorem dX8_againOf_47 : decode cX8_againOf 47 = .ok (.iload 4, 2) := dk_21 4 (dk_at dksX8_againOf_2 0 rfl rfl)
theorem dX8_againOf_49 : decode cX8_againOf 49 = .ok (.imul, 1) := dk_104 (dk_at dksX8_againOf_2 2 rfl rfl)
theorem dX8_againOf_50 : decode cX8_againOf 50 = .ok (.iaload, 1) := dk_46 (dk_at dksX8_againOf_2 3 rfl rfl)
theorem dX8_againOf_51 : decode cX8_againOf 51 = .ok (.i2l, 1) := dk_133 (dk_at dksX8_againOf_2 4 rfl rfl)
theorem dX8_againOf_52 : decode cX8_againOf 52 = .ok (.lmul, 1) := dk_105 (dk_at dksX8_againOf_2 5 rfl rfl)
theorem dX8_againOf_53 : decode cX8_againOf 53 = .ok (.lstore_n 2, 1) := dk_65 (dk_at dksX8_againOf_2 6 rfl rfl)
theorem dX8_againOf_54 : decode cX8_againOf 54 = .ok (.iinc 4 1, 3) := dk_132 4 1 (dk_at dksX8_againOf_2 7 rfl rfl)
theorem dX8_againOf_57 : decode cX8_againOf 57 = .ok (.goto (-52), 3) := dk_167 255 204 (dk_at dksX8_againOf_2 10 rfl rfl)
theorem dX8_againOf_60 : decode cX8_againOf 60 = .ok (.lload_n 2, 1) := dk_32 (dk_at dksX8_againOf_2 13 rfl rfl)
theorem dX8_againOf_61 : decode cX8_againOf 61 = .ok (.lreturn, 1) := dk_173 (dk_at dksX8_againOf_2 14 rfl rfl)
abbrev cX8_most : ByteArray := prog_13_method_117_code
def yX8_most : MethodName := ⟨RX8, "most", "()I"⟩
def dkwX8_most_1 : List UInt8 := [172]
abbrev dktX8_most_1 : List UInt8 := dkwX8_most_1 ++ []
def dkwX8_most_0 : List UInt8 := [42, 3, 181, 0, 80, 42, 182, 0, 254, 153, 0, 13, 42, 182, 1, 151, 184, 1, 148, 167, 0, 5, 16, 254]
abbrev dktX8_most_0 : List UInt8 := dkwX8_most_0 ++ dktX8_most_1
theorem dksX8_most_0 : cX8_most.data.toList.drop 0 = dktX8_most_0 := by decide +kernel
theorem dksX8_most_1 : cX8_most.data.toList.drop 24 = dktX8_most_1 := dk_seg dksX8_most_0 24 rfl rfl
theorem dX8_most_0 : decode cX8_most 0 = .ok (.aload_n 0, 1) := dk_42 (dk_at dksX8_most_0 0 rfl rfl)
theorem dX8_most_1 : decode cX8_most 1 = .ok (.iconst 0, 1) := dk_3 (dk_at dksX8_most_0 1 rfl rfl)
theorem dX8_most_2 : decode cX8_most 2 = .ok (.putfield 80, 3) := dk_181 0 80 (dk_at dksX8_most_0 2 rfl rfl)
theorem dX8_most_5 : decode cX8_most 5 = .ok (.aload_n 0, 1) := dk_42 (dk_at dksX8_most_0 5 rfl rfl)
theorem dX8_most_6 : decode cX8_most 6 = .ok (.invokevirtual 254, 3) := dk_182 0 254 (dk_at dksX8_most_0 6 rfl rfl)
theorem dX8_most_9 : decode cX8_most 9 = .ok (.ifCond .eq 13, 3) := dk_153 0 13 (dk_at dksX8_most_0 9 rfl rfl)
theorem dX8_most_12 : decode cX8_most 12 = .ok (.aload_n 0, 1) := dk_42 (dk_at dksX8_most_0 12 rfl rfl)
theorem dX8_most_13 : decode cX8_most 13 = .ok (.invokevirtual 407, 3) := dk_182 1 151 (dk_at dksX8_most_0 13 rfl rfl)
theorem dX8_most_16 : decode cX8_most 16 = .ok (.invokestatic 404, 3) := dk_184 1 148 (dk_at dksX8_most_0 16 rfl rfl)
theorem dX8_most_19 : decode cX8_most 19 = .ok (.goto 5, 3) := dk_167 0 5 (dk_at dksX8_most_0 19 rfl rfl)
theorem dX8_most_22 : decode cX8_most 22 = .ok (.bipush (-2), 2) := dk_16 254 (dk_at dksX8_most_0 22 rfl rfl)
theorem dX8_most_24 : decode cX8_most 24 = .ok (.ireturn, 1) := dk_172 (dk_at dksX8_most_1 0 rfl rfl)
abbrev cX8_chorusOf : ByteArray := prog_13_method_116_code
def yX8_chorusOf : MethodName := ⟨RX8, "chorusOf", "()I"⟩
def dkwX8_chorusOf_2 : List UInt8 := [167, 255, 214, 27, 172]
abbrev dktX8_chorusOf_2 : List UInt8 := dkwX8_chorusOf_2 ++ []
def dkwX8_chorusOf_1 : List UInt8 := [184, 1, 148, 164, 0, 18, 42, 28, 3, 182, 1, 138, 20, 0, 124, 148, 153, 0, 5, 28, 60, 132, 2, 1]
abbrev dktX8_chorusOf_1 : List UInt8 := dkwX8_chorusOf_1 ++ dktX8_chorusOf_2
def dkwX8_chorusOf_0 : List UInt8 := [3, 60, 4, 61, 28, 4, 42, 180, 0, 34, 16, 9, 46, 120, 162, 0, 35, 28, 184, 1, 148, 27]
abbrev dktX8_chorusOf_0 : List UInt8 := dkwX8_chorusOf_0 ++ dktX8_chorusOf_1
theorem dksX8_chorusOf_0 : cX8_chorusOf.data.toList.drop 0 = dktX8_chorusOf_0 := by decide +kernel
theorem dksX8_chorusOf_1 : cX8_chorusOf.data.toList.drop 22 = dktX8_chorusOf_1 := dk_seg dksX8_chorusOf_0 22 rfl rfl
theorem dksX8_chorusOf_2 : cX8_chorusOf.data.toList.drop 46 = dktX8_chorusOf_2 := dk_seg dksX8_chorusOf_1 24 rfl rfl
theorem dX8_chorusOf_0 : decode cX8_chorusOf 0 = .ok (.iconst 0, 1) := dk_3 (dk_at dksX8_chorusOf_0 0 rfl rfl)
theorem dX8_chorusOf_1 : decode cX8_chorusOf 1 = .ok (.istore_n 1, 1) := dk_60 (dk_at dksX8_chorusOf_0 1 rfl rfl)
theorem dX8_chorusOf_2 : decode cX8_chorusOf 2 = .ok (.iconst 1, 1) := dk_4 (dk_at dksX8_chorusOf_0 2 rfl rfl)
theorem dX8_chorusOf_3 : decode cX8_chorusOf 3 = .ok (.istore_n 2, 1) := dk_61 (dk_at dksX8_chorusOf_0 3 rfl rfl)
theorem dX8_chorusOf_4 : decode cX8_chorusOf 4 = .ok (.iload_n 2, 1) := dk_28 (dk_at dksX8_chorusOf_0 4 rfl rfl)
theorem dX8_chorusOf_5 : decode cX8_chorusOf 5 = .ok (.iconst 1, 1) := dk_4 (dk_at dksX8_chorusOf_0 5 rfl rfl)
theorem dX8_chorusOf_6 : decode cX8_chorusOf 6 = .ok (.aload_n 0, 1) := dk_42 (dk_at dksX8_chorusOf_0 6 rfl rfl)
theorem dX8_chorusOf_7 : decode cX8_chorusOf 7 = .ok (.getfield 34, 3) := dk_180 0 34 (dk_at dksX8_chorusOf_0 7 rfl rfl)
theorem dX8_chorusOf_10 : decode cX8_chorusOf 10 = .ok (.bipush 9, 2) := dk_16 9 (dk_at dksX8_chorusOf_0 10 rfl rfl)
theorem dX8_chorusOf_12 : decode cX8_chorusOf 12 = .ok (.iaload, 1) := dk_46 (dk_at dksX8_chorusOf_0 12 rfl rfl)
theorem dX8_chorusOf_13 : decode cX8_chorusOf 13 = .ok (.ishl, 1) := dk_120 (dk_at dksX8_chorusOf_0 13 rfl rfl)
theorem dX8_chorusOf_14 : decode cX8_chorusOf 14 = .ok (.if_icmp .ge 35, 3) := dk_162 0 35 (dk_at dksX8_chorusOf_0 14 rfl rfl)
theorem dX8_chorusOf_17 : decode cX8_chorusOf 17 = .ok (.iload_n 2, 1) := dk_28 (dk_at dksX8_chorusOf_0 17 rfl rfl)
theorem dX8_chorusOf_18 : decode cX8_chorusOf 18 = .ok (.invokestatic 404, 3) := dk_184 1 148 (dk_at dksX8_chorusOf_0 18 rfl rfl)
theorem dX8_chorusOf_21 : decode cX8_chorusOf 21 = .ok (.iload_n 1, 1) := dk_27 (dk_at dksX8_chorusOf_0 21 rfl rfl)
theorem dX8_chorusOf_22 : decode cX8_chorusOf 22 = .ok (.invokestatic 404, 3) := dk_184 1 148 (dk_at dksX8_chorusOf_1 0 rfl rfl)
theorem dX8_chorusOf_25 : decode cX8_chorusOf 25 = .ok (.if_icmp .le 18, 3) := dk_164 0 18 (dk_at dksX8_chorusOf_1 3 rfl rfl)
theorem dX8_chorusOf_28 : decode cX8_chorusOf 28 = .ok (.aload_n 0, 1) := dk_42 (dk_at dksX8_chorusOf_1 6 rfl rfl)
theorem dX8_chorusOf_29 : decode cX8_chorusOf 29 = .ok (.iload_n 2, 1) := dk_28 (dk_at dksX8_chorusOf_1 7 rfl rfl)
theorem dX8_chorusOf_30 : decode cX8_chorusOf 30 = .ok (.iconst 0, 1) := dk_3 (dk_at dksX8_chorusOf_1 8 rfl rfl)
theorem dX8_chorusOf_31 : decode cX8_chorusOf 31 = .ok (.invokevirtual 394, 3) := dk_182 1 138 (dk_at dksX8_chorusOf_1 9 rfl rfl)
theorem dX8_chorusOf_34 : decode cX8_chorusOf 34 = .ok (.ldc2_w 124, 3) := dk_20 0 124 (dk_at dksX8_chorusOf_1 12 rfl rfl)
theorem dX8_chorusOf_37 : decode cX8_chorusOf 37 = .ok (.lcmp, 1) := dk_148 (dk_at dksX8_chorusOf_1 15 rfl rfl)
theorem dX8_chorusOf_38 : decode cX8_chorusOf 38 = .ok (.ifCond .eq 5, 3) := dk_153 0 5 (dk_at dksX8_chorusOf_1 16 rfl rfl)
theorem dX8_chorusOf_41 : decode cX8_chorusOf 41 = .ok (.iload_n 2, 1) := dk_28 (dk_at dksX8_chorusOf_1 19 rfl rfl)
theorem dX8_chorusOf_42 : decode cX8_chorusOf 42 = .ok (.istore_n 1, 1) := dk_60 (dk_at dksX8_chorusOf_1 20 rfl rfl)
theorem dX8_chorusOf_43 : decode cX8_chorusOf 43 = .ok (.iinc 2 1, 3) := dk_132 2 1 (dk_at dksX8_chorusOf_1 21 rfl rfl)
theorem dX8_chorusOf_46 : decode cX8_chorusOf 46 = .ok (.goto (-42), 3) := dk_167 255 214 (dk_at dksX8_chorusOf_2 0 rfl rfl)
theorem dX8_chorusOf_49 : decode cX8_chorusOf 49 = .ok (.iload_n 1, 1) := dk_27 (dk_at dksX8_chorusOf_2 3 rfl rfl)
theorem dX8_chorusOf_50 : decode cX8_chorusOf 50 = .ok (.ireturn, 1) := dk_172 (dk_at dksX8_chorusOf_2 4 rfl rfl)
abbrev cX8_sizeOf : ByteArray := prog_13_method_46_code
def yX8_sizeOf : MethodName := ⟨RX8, "sizeOf", "(I)I"⟩
def dkwX8_sizeOf_0 : List UInt8 := [3, 60, 26, 61, 28, 153, 0, 15, 132, 1, 1, 28, 28, 4, 100, 126, 61, 167, 255, 243, 27, 172]
abbrev dktX8_sizeOf_0 : List UInt8 := dkwX8_sizeOf_0 ++ []
theorem dksX8_sizeOf_0 : cX8_sizeOf.data.toList.drop 0 = dktX8_sizeOf_0 := by decide +kernel
theorem dX8_sizeOf_0 : decode cX8_sizeOf 0 = .ok (.iconst 0, 1) := dk_3 (dk_at dksX8_sizeOf_0 0 rfl rfl)
theorem dX8_sizeOf_1 : decode cX8_sizeOf 1 = .ok (.istore_n 1, 1) := dk_60 (dk_at dksX8_sizeOf_0 1 rfl rfl)
theorem dX8_sizeOf_2 : decode cX8_sizeOf 2 = .ok (.iload_n 0, 1) := dk_26 (dk_at dksX8_sizeOf_0 2 rfl rfl)
theorem dX8_sizeOf_3 : decode cX8_sizeOf 3 = .ok (.istore_n 2, 1) := dk_61 (dk_at dksX8_sizeOf_0 3 rfl rfl)
theorem dX8_sizeOf_4 : decode cX8_sizeOf 4 = .ok (.iload_n 2, 1) := dk_28 (dk_at dksX8_sizeOf_0 4 rfl rfl)
theorem dX8_sizeOf_5 : decode cX8_sizeOf 5 = .ok (.ifCond .eq 15, 3) := dk_153 0 15 (dk_at dksX8_sizeOf_0 5 rfl rfl)
theorem dX8_sizeOf_8 : decode cX8_sizeOf 8 = .ok (.iinc 1 1, 3) := dk_132 1 1 (dk_at dksX8_sizeOf_0 8 rfl rfl)
theorem dX8_sizeOf_11 : decode cX8_sizeOf 11 = .ok (.iload_n 2, 1) := dk_28 (dk_at dksX8_sizeOf_0 11 rfl rfl)
theorem dX8_sizeOf_12 : decode cX8_sizeOf 12 = .ok (.iload_n 2, 1) := dk_28 (dk_at dksX8_sizeOf_0 12 rfl rfl)
theorem dX8_sizeOf_13 : decode cX8_sizeOf 13 = .ok (.iconst 1, 1) := dk_4 (dk_at dksX8_sizeOf_0 13 rfl rfl)
theorem dX8_sizeOf_14 : decode cX8_sizeOf 14 = .ok (.isub, 1) := dk_100 (dk_at dksX8_sizeOf_0 14 rfl rfl)
theorem dX8_sizeOf_15 : decode cX8_sizeOf 15 = .ok (.iand, 1) := dk_126 (dk_at dksX8_sizeOf_0 15 rfl rfl)
theorem dX8_sizeOf_16 : decode cX8_sizeOf 16 = .ok (.istore_n 2, 1) := dk_61 (dk_at dksX8_sizeOf_0 16 rfl rfl)
theorem dX8_sizeOf_17 : decode cX8_sizeOf 17 = .ok (.goto (-13), 3) := dk_167 255 243 (dk_at dksX8_sizeOf_0 17 rfl rfl)
theorem dX8_sizeOf_20 : decode cX8_sizeOf 20 = .ok (.iload_n 1, 1) := dk_27 (dk_at dksX8_sizeOf_0 20 rfl rfl)
theorem dX8_sizeOf_21 : decode cX8_sizeOf 21 = .ok (.ireturn, 1) := dk_172 (dk_at dksX8_sizeOf_0 21 rfl rfl)
abbrev cX8_chorus : ByteArray := prog_13_method_118_code
def yX8_chorus : MethodName := ⟨RX8, "chorus", "()I"⟩
def dkwX8_chorus_0 : List UInt8 := [42, 3, 181, 0, 80, 42, 182, 0, 254, 153, 0, 10, 42, 182, 1, 151, 167, 0, 5, 16, 254, 172]
abbrev dktX8_chorus_0 : List UInt8 := dkwX8_chorus_0 ++ []
theorem dksX8_chorus_0 : cX8_chorus.data.toList.drop 0 = dktX8_chorus_0 := by decide +kernel
theorem dX8_chorus_0 : decode cX8_chorus 0 = .ok (.aload_n 0, 1) := dk_42 (dk_at dksX8_chorus_0 0 rfl rfl)
theorem dX8_chorus_1 : decode cX8_chorus 1 = .ok (.iconst 0, 1) := dk_3 (dk_at dksX8_chorus_0 1 rfl rfl)
theorem dX8_chorus_2 : decode cX8_chorus 2 = .ok (.putfield 80, 3) := dk_181 0 80 (dk_at dksX8_chorus_0 2 rfl rfl)
theorem dX8_chorus_5 : decode cX8_chorus 5 = .ok (.aload_n 0, 1) := dk_42 (dk_at dksX8_chorus_0 5 rfl rfl)
theorem dX8_chorus_6 : decode cX8_chorus 6 = .ok (.invokevirtual 254, 3) := dk_182 0 254 (dk_at dksX8_chorus_0 6 rfl rfl)
theorem dX8_chorus_9 : decode cX8_chorus 9 = .ok (.ifCond .eq 10, 3) := dk_153 0 10 (dk_at dksX8_chorus_0 9 rfl rfl)
theorem dX8_chorus_12 : decode cX8_chorus 12 = .ok (.aload_n 0, 1) := dk_42 (dk_at dksX8_chorus_0 12 rfl rfl)
theorem dX8_chorus_13 : decode cX8_chorus 13 = .ok (.invokevirtual 407, 3) := dk_182 1 151 (dk_at dksX8_chorus_0 13 rfl rfl)
theorem dX8_chorus_16 : decode cX8_chorus 16 = .ok (.goto 5, 3) := dk_167 0 5 (dk_at dksX8_chorus_0 16 rfl rfl)
theorem dX8_chorus_19 : decode cX8_chorus 19 = .ok (.bipush (-2), 2) := dk_16 254 (dk_at dksX8_chorus_0 19 rfl rfl)
theorem dX8_chorus_21 : decode cX8_chorus 21 = .ok (.ireturn, 1) := dk_172 (dk_at dksX8_chorus_0 21 rfl rfl)
abbrev cX8_treaties : ByteArray := prog_13_method_119_code
def yX8_treaties : MethodName := ⟨RX8, "treaties", "()I"⟩
def dkwX8_treaties_3 : List UInt8 := [132, 3, 1, 167, 255, 213, 132, 2, 1, 167, 255, 199, 27, 172]
abbrev dktX8_treaties_3 : List UInt8 := dkwX8_treaties_3 ++ []
def dkwX8_treaties_2 : List UInt8 := [153, 0, 20, 42, 180, 0, 40, 29, 46, 28, 184, 1, 24, 153, 0, 7, 4, 167, 0, 4, 3, 96, 60]
abbrev dktX8_treaties_2 : List UInt8 := dkwX8_treaties_2 ++ dktX8_treaties_3
def dkwX8_treaties_1 : List UInt8 := [162, 0, 57, 3, 62, 29, 16, 6, 162, 0, 43, 27, 42, 180, 0, 40, 28, 46, 29, 184, 1, 24]
abbrev dktX8_treaties_1 : List UInt8 := dkwX8_treaties_1 ++ dktX8_treaties_2
def dkwX8_treaties_0 : List UInt8 := [42, 3, 181, 0, 80, 42, 182, 0, 254, 154, 0, 6, 16, 254, 172, 3, 60, 3, 61, 28, 16, 6]
abbrev dktX8_treaties_0 : List UInt8 := dkwX8_treaties_0 ++ dktX8_treaties_1
theorem dksX8_treaties_0 : cX8_treaties.data.toList.drop 0 = dktX8_treaties_0 := by decide +kernel
theorem dksX8_treaties_1 : cX8_treaties.data.toList.drop 22 = dktX8_treaties_1 := dk_seg dksX8_treaties_0 22 rfl rfl
theorem dksX8_treaties_2 : cX8_treaties.data.toList.drop 44 = dktX8_treaties_2 := dk_seg dksX8_treaties_1 22 rfl rfl
theorem dksX8_treaties_3 : cX8_treaties.data.toList.drop 67 = dktX8_treaties_3 := dk_seg dksX8_treaties_2 23 rfl rfl
theorem dX8_treaties_0 : decode cX8_treaties 0 = .ok (.aload_n 0, 1) := dk_42 (dk_at dksX8_treaties_0 0 rfl rfl)
theorem dX8_treaties_1 : decode cX8_treaties 1 = .ok (.iconst 0, 1) := dk_3 (dk_at dksX8_treaties_0 1 rfl rfl)
theorem dX8_treaties_2 : decode cX8_treaties 2 = .ok (.putfield 80, 3) := dk_181 0 80 (dk_at dksX8_treaties_0 2 rfl rfl)
theorem dX8_treaties_5 : decode cX8_treaties 5 = .ok (.aload_n 0, 1) := dk_42 (dk_at dksX8_treaties_0 5 rfl rfl)
theorem dX8_treaties_6 : decode cX8_treaties 6 = .ok (.invokevirtual 254, 3) := dk_182 0 254 (dk_at dksX8_treaties_0 6 rfl rfl)
theorem dX8_treaties_9 : decode cX8_treaties 9 = .ok (.ifCond .ne 6, 3) := dk_154 0 6 (dk_at dksX8_treaties_0 9 rfl rfl)
theorem dX8_treaties_12 : decode cX8_treaties 12 = .ok (.bipush (-2), 2) := dk_16 254 (dk_at dksX8_treaties_0 12 rfl rfl)
theorem dX8_treaties_14 : decode cX8_treaties 14 = .ok (.ireturn, 1) := dk_172 (dk_at dksX8_treaties_0 14 rfl rfl)
theorem dX8_treaties_15 : decode cX8_treaties 15 = .ok (.iconst 0, 1) := dk_3 (dk_at dksX8_treaties_0 15 rfl rfl)
theorem dX8_treaties_16 : decode cX8_treaties 16 = .ok (.istore_n 1, 1) := dk_60 (dk_at dksX8_treaties_0 16 rfl rfl)
theorem dX8_treaties_17 : decode cX8_treaties 17 = .ok (.iconst 0, 1) := dk_3 (dk_at dksX8_treaties_0 17 rfl rfl)
theorem dX8_treaties_18 : decode cX8_treaties 18 = .ok (.istore_n 2, 1) := dk_61 (dk_at dksX8_treaties_0 18 rfl rfl)
theorem dX8_treaties_19 : decode cX8_treaties 19 = .ok (.iload_n 2, 1) := dk_28 (dk_at dksX8_treaties_0 19 rfl rfl)
theorem dX8_treaties_20 : decode cX8_treaties 20 = .ok (.bipush 6, 2) := dk_16 6 (dk_at dksX8_treaties_0 20 rfl rfl)
theorem dX8_treaties_22 : decode cX8_treaties 22 = .ok (.if_icmp .ge 57, 3) := dk_162 0 57 (dk_at dksX8_treaties_1 0 rfl rfl)
theorem dX8_treaties_25 : decode cX8_treaties 25 = .ok (.iconst 0, 1) := dk_3 (dk_at dksX8_treaties_1 3 rfl rfl)
theorem dX8_treaties_26 : decode cX8_treaties 26 = .ok (.istore_n 3, 1) := dk_62 (dk_at dksX8_treaties_1 4 rfl rfl)
theorem dX8_treaties_27 : decode cX8_treaties 27 = .ok (.iload_n 3, 1) := dk_29 (dk_at dksX8_treaties_1 5 rfl rfl)
theorem dX8_treaties_28 : decode cX8_treaties 28 = .ok (.bipush 6, 2) := dk_16 6 (dk_at dksX8_treaties_1 6 rfl rfl)
theorem dX8_treaties_30 : decode cX8_treaties 30 = .ok (.if_icmp .ge 43, 3) := dk_162 0 43 (dk_at dksX8_treaties_1 8 rfl rfl)
theorem dX8_treaties_33 : decode cX8_treaties 33 = .ok (.iload_n 1, 1) := dk_27 (dk_at dksX8_treaties_1 11 rfl rfl)
theorem dX8_treaties_34 : decode cX8_treaties 34 = .ok (.aload_n 0, 1) := dk_42 (dk_at dksX8_treaties_1 12 rfl rfl)
theorem dX8_treaties_35 : decode cX8_treaties 35 = .ok (.getfield 40, 3) := dk_180 0 40 (dk_at dksX8_treaties_1 13 rfl rfl)
theorem dX8_treaties_38 : decode cX8_treaties 38 = .ok (.iload_n 2, 1) := dk_28 (dk_at dksX8_treaties_1 16 rfl rfl)
theorem dX8_treaties_39 : decode cX8_treaties 39 = .ok (.iaload, 1) := dk_46 (dk_at dksX8_treaties_1 17 rfl rfl)
theorem dX8_treaties_40 : decode cX8_treaties 40 = .ok (.iload_n 3, 1) := dk_29 (dk_at dksX8_treaties_1 18 rfl rfl)
theorem dX8_treaties_41 : decode cX8_treaties 41 = .ok (.invokestatic 280, 3) := dk_184 1 24 (dk_at dksX8_treaties_1 19 rfl rfl)
theorem dX8_treaties_44 : decode cX8_treaties 44 = .ok (.ifCond .eq 20, 3) := dk_153 0 20 (dk_at dksX8_treaties_2 0 rfl rfl)
theorem dX8_treaties_47 : decode cX8_treaties 47 = .ok (.aload_n 0, 1) := dk_42 (dk_at dksX8_treaties_2 3 rfl rfl)
theorem dX8_treaties_48 : decode cX8_treaties 48 = .ok (.getfield 40, 3) := dk_180 0 40 (dk_at dksX8_treaties_2 4 rfl rfl)
theorem dX8_treaties_51 : decode cX8_treaties 51 = .ok (.iload_n 3, 1) := dk_29 (dk_at dksX8_treaties_2 7 rfl rfl)
theorem dX8_treaties_52 : decode cX8_treaties 52 = .ok (.iaload, 1) := dk_46 (dk_at dksX8_treaties_2 8 rfl rfl)
theorem dX8_treaties_53 : decode cX8_treaties 53 = .ok (.iload_n 2, 1) := dk_28 (dk_at dksX8_treaties_2 9 rfl rfl)
theorem dX8_treaties_54 : decode cX8_treaties 54 = .ok (.invokestatic 280, 3) := dk_184 1 24 (dk_at dksX8_treaties_2 10 rfl rfl)
theorem dX8_treaties_57 : decode cX8_treaties 57 = .ok (.ifCond .eq 7, 3) := dk_153 0 7 (dk_at dksX8_treaties_2 13 rfl rfl)
theorem dX8_treaties_60 : decode cX8_treaties 60 = .ok (.iconst 1, 1) := dk_4 (dk_at dksX8_treaties_2 16 rfl rfl)
theorem dX8_treaties_61 : decode cX8_treaties 61 = .ok (.goto 4, 3) := dk_167 0 4 (dk_at dksX8_treaties_2 17 rfl rfl)
theorem dX8_treaties_64 : decode cX8_treaties 64 = .ok (.iconst 0, 1) := dk_3 (dk_at dksX8_treaties_2 20 rfl rfl)
theorem dX8_treaties_65 : decode cX8_treaties 65 = .ok (.iadd, 1) := dk_96 (dk_at dksX8_treaties_2 21 rfl rfl)
theorem dX8_treaties_66 : decode cX8_treaties 66 = .ok (.istore_n 1, 1) := dk_60 (dk_at dksX8_treaties_2 22 rfl rfl)
theorem dX8_treaties_67 : decode cX8_treaties 67 = .ok (.iinc 3 1, 3) := dk_132 3 1 (dk_at dksX8_treaties_3 0 rfl rfl)
theorem dX8_treaties_70 : decode cX8_treaties 70 = .ok (.goto (-43), 3) := dk_167 255 213 (dk_at dksX8_treaties_3 3 rfl rfl)
theorem dX8_treaties_73 : decode cX8_treaties 73 = .ok (.iinc 2 1, 3) := dk_132 2 1 (dk_at dksX8_treaties_3 6 rfl rfl)
theorem dX8_treaties_76 : decode cX8_treaties 76 = .ok (.goto (-57), 3) := dk_167 255 199 (dk_at dksX8_treaties_3 9 rfl rfl)
theorem dX8_treaties_79 : decode cX8_treaties 79 = .ok (.iload_n 1, 1) := dk_27 (dk_at dksX8_treaties_3 12 rfl rfl)
theorem dX8_treaties_80 : decode cX8_treaties 80 = .ok (.ireturn, 1) := dk_172 (dk_at dksX8_treaties_3 13 rfl rfl)
abbrev cX8_leads : ByteArray := prog_13_method_120_code
def yX8_leads : MethodName := ⟨RX8, "leads", "(I)I"⟩
def dkwX8_leads_3 : List UInt8 := [42, 180, 0, 40, 28, 46, 184, 1, 148, 162, 0, 5, 29, 61, 132, 3, 1, 167, 255, 196, 28, 172]
abbrev dktX8_leads_3 : List UInt8 := dkwX8_leads_3 ++ []
def dkwX8_leads_2 : List UInt8 := [42, 180, 0, 40, 28, 46, 184, 1, 148, 164, 0, 29, 167, 0, 24, 42, 180, 0, 40, 29, 46, 184, 1, 148]
abbrev dktX8_leads_2 : List UInt8 := dkwX8_leads_2 ++ dktX8_leads_3
def dkwX8_leads_1 : List UInt8 := [172, 3, 61, 4, 62, 29, 16, 6, 162, 0, 60, 27, 154, 0, 27, 42, 180, 0, 40, 29, 46, 184, 1, 148]
abbrev dktX8_leads_1 : List UInt8 := dkwX8_leads_1 ++ dktX8_leads_2
def dkwX8_leads_0 : List UInt8 := [42, 3, 181, 0, 80, 42, 182, 0, 254, 153, 0, 13, 27, 133, 9, 10, 184, 0, 85, 154, 0, 6, 16, 254]
abbrev dktX8_leads_0 : List UInt8 := dkwX8_leads_0 ++ dktX8_leads_1
theorem dksX8_leads_0 : cX8_leads.data.toList.drop 0 = dktX8_leads_0 := by decide +kernel
theorem dksX8_leads_1 : cX8_leads.data.toList.drop 24 = dktX8_leads_1 := dk_seg dksX8_leads_0 24 rfl rfl
theorem dksX8_leads_2 : cX8_leads.data.toList.drop 48 = dktX8_leads_2 := dk_seg dksX8_leads_1 24 rfl rfl
theorem dksX8_leads_3 : cX8_leads.data.toList.drop 72 = dktX8_leads_3 := dk_seg dksX8_leads_2 24 rfl rfl
theorem dX8_leads_0 : decode cX8_leads 0 = .ok (.aload_n 0, 1) := dk_42 (dk_at dksX8_leads_0 0 rfl rfl)
theorem dX8_leads_1 : decode cX8_leads 1 = .ok (.iconst 0, 1) := dk_3 (dk_at dksX8_leads_0 1 rfl rfl)
theorem dX8_leads_2 : decode cX8_leads 2 = .ok (.putfield 80, 3) := dk_181 0 80 (dk_at dksX8_leads_0 2 rfl rfl)
theorem dX8_leads_5 : decode cX8_leads 5 = .ok (.aload_n 0, 1) := dk_42 (dk_at dksX8_leads_0 5 rfl rfl)
theorem dX8_leads_6 : decode cX8_leads 6 = .ok (.invokevirtual 254, 3) := dk_182 0 254 (dk_at dksX8_leads_0 6 rfl rfl)
theorem dX8_leads_9 : decode cX8_leads 9 = .ok (.ifCond .eq 13, 3) := dk_153 0 13 (dk_at dksX8_leads_0 9 rfl rfl)
theorem dX8_leads_12 : decode cX8_leads 12 = .ok (.iload_n 1, 1) := dk_27 (dk_at dksX8_leads_0 12 rfl rfl)
theorem dX8_leads_13 : decode cX8_leads 13 = .ok (.i2l, 1) := dk_133 (dk_at dksX8_leads_0 13 rfl rfl)
theorem dX8_leads_14 : decode cX8_leads 14 = .ok (.lconst 0, 1) := dk_9 (dk_at dksX8_leads_0 14 rfl rfl)
theorem dX8_leads_15 : decode cX8_leads 15 = .ok (.lconst 1, 1) := dk_10 (dk_at dksX8_leads_0 15 rfl rfl)
theorem dX8_leads_16 : decode cX8_leads 16 = .ok (.invokestatic 85, 3) := dk_184 0 85 (dk_at dksX8_leads_0 16 rfl rfl)
theorem dX8_leads_19 : decode cX8_leads 19 = .ok (.ifCond .ne 6, 3) := dk_154 0 6 (dk_at dksX8_leads_0 19 rfl rfl)
theorem dX8_leads_22 : decode cX8_leads 22 = .ok (.bipush (-2), 2) := dk_16 254 (dk_at dksX8_leads_0 22 rfl rfl)
theorem dX8_leads_24 : decode cX8_leads 24 = .ok (.ireturn, 1) := dk_172 (dk_at dksX8_leads_1 0 rfl rfl)
theorem dX8_leads_25 : decode cX8_leads 25 = .ok (.iconst 0, 1) := dk_3 (dk_at dksX8_leads_1 1 rfl rfl)
theorem dX8_leads_26 : decode cX8_leads 26 = .ok (.istore_n 2, 1) := dk_61 (dk_at dksX8_leads_1 2 rfl rfl)
theorem dX8_leads_27 : decode cX8_leads 27 = .ok (.iconst 1, 1) := dk_4 (dk_at dksX8_leads_1 3 rfl rfl)
theorem dX8_leads_28 : decode cX8_leads 28 = .ok (.istore_n 3, 1) := dk_62 (dk_at dksX8_leads_1 4 rfl rfl)
theorem dX8_leads_29 : decode cX8_leads 29 = .ok (.iload_n 3, 1) := dk_29 (dk_at dksX8_leads_1 5 rfl rfl)
theorem dX8_leads_30 : decode cX8_leads 30 = .ok (.bipush 6, 2) := dk_16 6 (dk_at dksX8_leads_1 6 rfl rfl)
theorem dX8_leads_32 : decode cX8_leads 32 = .ok (.if_icmp .ge 60, 3) := dk_162 0 60 (dk_at dksX8_leads_1 8 rfl rfl)
theorem dX8_leads_35 : decode cX8_leads 35 = .ok (.iload_n 1, 1) := dk_27 (dk_at dksX8_leads_1 11 rfl rfl)
theorem dX8_leads_36 : decode cX8_leads 36 = .ok (.ifCond .ne 27, 3) := dk_154 0 27 (dk_at dksX8_leads_1 12 rfl rfl)
theorem dX8_leads_39 : decode cX8_leads 39 = .ok (.aload_n 0, 1) := dk_42 (dk_at dksX8_leads_1 15 rfl rfl)
theorem dX8_leads_40 : decode cX8_leads 40 = .ok (.getfield 40, 3) := dk_180 0 40 (dk_at dksX8_leads_1 16 rfl rfl)
theorem dX8_leads_43 : decode cX8_leads 43 = .ok (.iload_n 3, 1) := dk_29 (dk_at dksX8_leads_1 19 rfl rfl)
theorem dX8_leads_44 : decode cX8_leads 44 = .ok (.iaload, 1) := dk_46 (dk_at dksX8_leads_1 20 rfl rfl)
theorem dX8_leads_45 : decode cX8_leads 45 = .ok (.invokestatic 404, 3) := dk_184 1 148 (dk_at dksX8_leads_1 21 rfl rfl)
theorem dX8_leads_48 : decode cX8_leads 48 = .ok (.aload_n 0, 1) := dk_42 (dk_at dksX8_leads_2 0 rfl rfl)
theorem dX8_leads_49 : decode cX8_leads 49 = .ok (.getfield 40, 3) := dk_180 0 40 (dk_at dksX8_leads_2 1 rfl rfl)
theorem dX8_leads_52 : decode cX8_leads 52 = .ok (.iload_n 2, 1) := dk_28 (dk_at dksX8_leads_2 4 rfl rfl)
theorem dX8_leads_53 : decode cX8_leads 53 = .ok (.iaload, 1) := dk_46 (dk_at dksX8_leads_2 5 rfl rfl)
theorem dX8_leads_54 : decode cX8_leads 54 = .ok (.invokestatic 404, 3) := dk_184 1 148 (dk_at dksX8_leads_2 6 rfl rfl)
theorem dX8_leads_57 : decode cX8_leads 57 = .ok (.if_icmp .le 29, 3) := dk_164 0 29 (dk_at dksX8_leads_2 9 rfl rfl)
theorem dX8_leads_60 : decode cX8_leads 60 = .ok (.goto 24, 3) := dk_167 0 24 (dk_at dksX8_leads_2 12 rfl rfl)
theorem dX8_leads_63 : decode cX8_leads 63 = .ok (.aload_n 0, 1) := dk_42 (dk_at dksX8_leads_2 15 rfl rfl)
theorem dX8_leads_64 : decode cX8_leads 64 = .ok (.getfield 40, 3) := dk_180 0 40 (dk_at dksX8_leads_2 16 rfl rfl)
theorem dX8_leads_67 : decode cX8_leads 67 = .ok (.iload_n 3, 1) := dk_29 (dk_at dksX8_leads_2 19 rfl rfl)
theorem dX8_leads_68 : decode cX8_leads 68 = .ok (.iaload, 1) := dk_46 (dk_at dksX8_leads_2 20 rfl rfl)
theorem dX8_leads_69 : decode cX8_leads 69 = .ok (.invokestatic 404, 3) := dk_184 1 148 (dk_at dksX8_leads_2 21 rfl rfl)
theorem dX8_leads_72 : decode cX8_leads 72 = .ok (.aload_n 0, 1) := dk_42 (dk_at dksX8_leads_3 0 rfl rfl)
theorem dX8_leads_73 : decode cX8_leads 73 = .ok (.getfield 40, 3) := dk_180 0 40 (dk_at dksX8_leads_3 1 rfl rfl)
theorem dX8_leads_76 : decode cX8_leads 76 = .ok (.iload_n 2, 1) := dk_28 (dk_at dksX8_leads_3 4 rfl rfl)
theorem dX8_leads_77 : decode cX8_leads 77 = .ok (.iaload, 1) := dk_46 (dk_at dksX8_leads_3 5 rfl rfl)
theorem dX8_leads_78 : decode cX8_leads 78 = .ok (.invokestatic 404, 3) := dk_184 1 148 (dk_at dksX8_leads_3 6 rfl rfl)
theorem dX8_leads_81 : decode cX8_leads 81 = .ok (.if_icmp .ge 5, 3) := dk_162 0 5 (dk_at dksX8_leads_3 9 rfl rfl)
theorem dX8_leads_84 : decode cX8_leads 84 = .ok (.iload_n 3, 1) := dk_29 (dk_at dksX8_leads_3 12 rfl rfl)
theorem dX8_leads_85 : decode cX8_leads 85 = .ok (.istore_n 2, 1) := dk_61 (dk_at dksX8_leads_3 13 rfl rfl)
theorem dX8_leads_86 : decode cX8_leads 86 = .ok (.iinc 3 1, 3) := dk_132 3 1 (dk_at dksX8_leads_3 14 rfl rfl)
theorem dX8_leads_89 : decode cX8_leads 89 = .ok (.goto (-60), 3) := dk_167 255 196 (dk_at dksX8_leads_3 17 rfl rfl)
theorem dX8_leads_92 : decode cX8_leads 92 = .ok (.iload_n 2, 1) := dk_28 (dk_at dksX8_leads_3 20 rfl rfl)
theorem dX8_leads_93 : decode cX8_leads 93 = .ok (.ireturn, 1) := dk_172 (dk_at dksX8_leads_3 21 rfl rfl)
abbrev cX8_game : ByteArray := prog_13_method_124_code
def yX8_game : MethodName := ⟨RX8, "game", "(I)I"⟩
def dkwX8_game_1 : List UInt8 := [182, 1, 160, 42, 4, 5, 27, 104, 120, 27, 182, 1, 157, 153, 0, 7, 4, 167, 0, 4, 3, 172]
abbrev dktX8_game_1 : List UInt8 := dkwX8_game_1 ++ []
def dkwX8_game_0 : List UInt8 := [42, 3, 181, 0, 80, 42, 182, 0, 254, 153, 0, 11, 27, 133, 184, 1, 11, 154, 0, 6, 16, 254, 172, 42]
abbrev dktX8_game_0 : List UInt8 := dkwX8_game_0 ++ dktX8_game_1
theorem dksX8_game_0 : cX8_game.data.toList.drop 0 = dktX8_game_0 := by decide +kernel
theorem dksX8_game_1 : cX8_game.data.toList.drop 24 = dktX8_game_1 := dk_seg dksX8_game_0 24 rfl rfl
theorem dX8_game_0 : decode cX8_game 0 = .ok (.aload_n 0, 1) := dk_42 (dk_at dksX8_game_0 0 rfl rfl)
theorem dX8_game_1 : decode cX8_game 1 = .ok (.iconst 0, 1) := dk_3 (dk_at dksX8_game_0 1 rfl rfl)
theorem dX8_game_2 : decode cX8_game 2 = .ok (.putfield 80, 3) := dk_181 0 80 (dk_at dksX8_game_0 2 rfl rfl)
theorem dX8_game_5 : decode cX8_game 5 = .ok (.aload_n 0, 1) := dk_42 (dk_at dksX8_game_0 5 rfl rfl)
theorem dX8_game_6 : decode cX8_game 6 = .ok (.invokevirtual 254, 3) := dk_182 0 254 (dk_at dksX8_game_0 6 rfl rfl)
theorem dX8_game_9 : decode cX8_game 9 = .ok (.ifCond .eq 11, 3) := dk_153 0 11 (dk_at dksX8_game_0 9 rfl rfl)
theorem dX8_game_12 : decode cX8_game 12 = .ok (.iload_n 1, 1) := dk_27 (dk_at dksX8_game_0 12 rfl rfl)
theorem dX8_game_13 : decode cX8_game 13 = .ok (.i2l, 1) := dk_133 (dk_at dksX8_game_0 13 rfl rfl)
theorem dX8_game_14 : decode cX8_game 14 = .ok (.invokestatic 267, 3) := dk_184 1 11 (dk_at dksX8_game_0 14 rfl rfl)
theorem dX8_game_17 : decode cX8_game 17 = .ok (.ifCond .ne 6, 3) := dk_154 0 6 (dk_at dksX8_game_0 17 rfl rfl)
theorem dX8_game_20 : decode cX8_game 20 = .ok (.bipush (-2), 2) := dk_16 254 (dk_at dksX8_game_0 20 rfl rfl)
theorem dX8_game_22 : decode cX8_game 22 = .ok (.ireturn, 1) := dk_172 (dk_at dksX8_game_0 22 rfl rfl)
theorem dX8_game_23 : decode cX8_game 23 = .ok (.aload_n 0, 1) := dk_42 (dk_at dksX8_game_0 23 rfl rfl)
theorem dX8_game_24 : decode cX8_game 24 = .ok (.invokevirtual 416, 3) := dk_182 1 160 (dk_at dksX8_game_1 0 rfl rfl)
theorem dX8_game_27 : decode cX8_game 27 = .ok (.aload_n 0, 1) := dk_42 (dk_at dksX8_game_1 3 rfl rfl)
theorem dX8_game_28 : decode cX8_game 28 = .ok (.iconst 1, 1) := dk_4 (dk_at dksX8_game_1 4 rfl rfl)
theorem dX8_game_29 : decode cX8_game 29 = .ok (.iconst 2, 1) := dk_5 (dk_at dksX8_game_1 5 rfl rfl)
theorem dX8_game_30 : decode cX8_game 30 = .ok (.iload_n 1, 1) := dk_27 (dk_at dksX8_game_1 6 rfl rfl)
theorem dX8_game_31 : decode cX8_game 31 = .ok (.imul, 1) := dk_104 (dk_at dksX8_game_1 7 rfl rfl)
theorem dX8_game_32 : decode cX8_game 32 = .ok (.ishl, 1) := dk_120 (dk_at dksX8_game_1 8 rfl rfl)
theorem dX8_game_33 : decode cX8_game 33 = .ok (.iload_n 1, 1) := dk_27 (dk_at dksX8_game_1 9 rfl rfl)
theorem dX8_game_34 : decode cX8_game 34 = .ok (.invokevirtual 413, 3) := dk_182 1 157 (dk_at dksX8_game_1 10 rfl rfl)
theorem dX8_game_37 : decode cX8_game 37 = .ok (.ifCond .eq 7, 3) := dk_153 0 7 (dk_at dksX8_game_1 13 rfl rfl)
theorem dX8_game_40 : decode cX8_game 40 = .ok (.iconst 1, 1) := dk_4 (dk_at dksX8_game_1 16 rfl rfl)
theorem dX8_game_41 : decode cX8_game 41 = .ok (.goto 4, 3) := dk_167 0 4 (dk_at dksX8_game_1 17 rfl rfl)
theorem dX8_game_44 : decode cX8_game 44 = .ok (.iconst 0, 1) := dk_3 (dk_at dksX8_game_1 20 rfl rfl)
theorem dX8_game_45 : decode cX8_game 45 = .ok (.ireturn, 1) := dk_172 (dk_at dksX8_game_1 21 rfl rfl)
abbrev cX8_laysGame : ByteArray := prog_13_method_123_code
def yX8_laysGame : MethodName := ⟨RX8, "laysGame", "()V"⟩
def dkwX8_laysGame_0 : List UInt8 := [3, 60, 27, 17, 96, 0, 162, 0, 16, 42, 180, 0, 77, 27, 3, 79, 132, 1, 1, 167, 255, 239, 177]
abbrev dktX8_laysGame_0 : List UInt8 := dkwX8_laysGame_0 ++ []
theorem dksX8_laysGame_0 : cX8_laysGame.data.toList.drop 0 = dktX8_laysGame_0 := by decide +kernel
theorem dX8_laysGame_0 : decode cX8_laysGame 0 = .ok (.iconst 0, 1) := dk_3 (dk_at dksX8_laysGame_0 0 rfl rfl)
theorem dX8_laysGame_1 : decode cX8_laysGame 1 = .ok (.istore_n 1, 1) := dk_60 (dk_at dksX8_laysGame_0 1 rfl rfl)
theorem dX8_laysGame_2 : decode cX8_laysGame 2 = .ok (.iload_n 1, 1) := dk_27 (dk_at dksX8_laysGame_0 2 rfl rfl)
theorem dX8_laysGame_3 : decode cX8_laysGame 3 = .ok (.sipush 24576, 3) := dk_17 96 0 (dk_at dksX8_laysGame_0 3 rfl rfl)
theorem dX8_laysGame_6 : decode cX8_laysGame 6 = .ok (.if_icmp .ge 16, 3) := dk_162 0 16 (dk_at dksX8_laysGame_0 6 rfl rfl)
theorem dX8_laysGame_9 : decode cX8_laysGame 9 = .ok (.aload_n 0, 1) := dk_42 (dk_at dksX8_laysGame_0 9 rfl rfl)
theorem dX8_laysGame_10 : decode cX8_laysGame 10 = .ok (.getfield 77, 3) := dk_180 0 77 (dk_at dksX8_laysGame_0 10 rfl rfl)
theorem dX8_laysGame_13 : decode cX8_laysGame 13 = .ok (.iload_n 1, 1) := dk_27 (dk_at dksX8_laysGame_0 13 rfl rfl)
theorem dX8_laysGame_14 : decode cX8_laysGame 14 = .ok (.iconst 0, 1) := dk_3 (dk_at dksX8_laysGame_0 14 rfl rfl)
theorem dX8_laysGame_15 : decode cX8_laysGame 15 = .ok (.iastore, 1) := dk_79 (dk_at dksX8_laysGame_0 15 rfl rfl)
theorem dX8_laysGame_16 : decode cX8_laysGame 16 = .ok (.iinc 1 1, 3) := dk_132 1 1 (dk_at dksX8_laysGame_0 16 rfl rfl)
theorem dX8_laysGame_19 : decode cX8_laysGame 19 = .ok (.goto (-17), 3) := dk_167 255 239 (dk_at dksX8_laysGame_0 19 rfl rfl)
theorem dX8_laysGame_22 : decode cX8_laysGame 22 = .ok (.return_, 1) := dk_177 (dk_at dksX8_laysGame_0 22 rfl rfl)
abbrev cX8_winsFrom : ByteArray := prog_13_method_121_code
def yX8_winsFrom : MethodName := ⟨RX8, "winsFrom", "(II)Z"⟩
def dkwX8_winsFrom_4 : List UInt8 := [167, 0, 4, 3, 172]
abbrev dktX8_winsFrom_4 : List UInt8 := dkwX8_winsFrom_4 ++ []
def dkwX8_winsFrom_3 : List UInt8 := [180, 0, 77, 29, 4, 79, 132, 4, 1, 167, 255, 201, 42, 180, 0, 77, 29, 46, 4, 160, 0, 7, 4]
abbrev dktX8_winsFrom_3 : List UInt8 := dkwX8_winsFrom_3 ++ dktX8_winsFrom_4
def dkwX8_winsFrom_2 : List UInt8 := [182, 1, 154, 153, 0, 27, 42, 27, 4, 5, 21, 4, 104, 120, 96, 21, 4, 182, 1, 157, 154, 0, 10, 42]
abbrev dktX8_winsFrom_2 : List UInt8 := dkwX8_winsFrom_2 ++ dktX8_winsFrom_3
def dkwX8_winsFrom_1 : List UInt8 := [54, 4, 21, 4, 16, 6, 162, 0, 54, 42, 180, 0, 77, 29, 46, 5, 160, 0, 44, 42, 27, 28, 21, 4]
abbrev dktX8_winsFrom_1 : List UInt8 := dkwX8_winsFrom_1 ++ dktX8_winsFrom_2
def dkwX8_winsFrom_0 : List UInt8 := [16, 6, 27, 104, 28, 96, 62, 42, 180, 0, 77, 29, 46, 154, 0, 71, 42, 180, 0, 77, 29, 5, 79, 3]
abbrev dktX8_winsFrom_0 : List UInt8 := dkwX8_winsFrom_0 ++ dktX8_winsFrom_1
theorem dksX8_winsFrom_0 : cX8_winsFrom.data.toList.drop 0 = dktX8_winsFrom_0 := by decide +kernel
theorem dksX8_winsFrom_1 : cX8_winsFrom.data.toList.drop 24 = dktX8_winsFrom_1 := dk_seg dksX8_winsFrom_0 24 rfl rfl
theorem dksX8_winsFrom_2 : cX8_winsFrom.data.toList.drop 48 = dktX8_winsFrom_2 := dk_seg dksX8_winsFrom_1 24 rfl rfl
theorem dksX8_winsFrom_3 : cX8_winsFrom.data.toList.drop 72 = dktX8_winsFrom_3 := dk_seg dksX8_winsFrom_2 24 rfl rfl
theorem dksX8_winsFrom_4 : cX8_winsFrom.data.toList.drop 95 = dktX8_winsFrom_4 := dk_seg dksX8_winsFrom_3 23 rfl rfl
theorem dX8_winsFrom_0 : decode cX8_winsFrom 0 = .ok (.bipush 6, 2) := dk_16 6 (dk_at dksX8_winsFrom_0 0 rfl rfl)
theorem dX8_winsFrom_2 : decode cX8_winsFrom 2 = .ok (.iload_n 1, 1) := dk_27 (dk_at dksX8_winsFrom_0 2 rfl rfl)
theorem dX8_winsFrom_3 : decode cX8_winsFrom 3 = .ok (.imul, 1) := dk_104 (dk_at dksX8_winsFrom_0 3 rfl rfl)
theorem dX8_winsFrom_4 : decode cX8_winsFrom 4 = .ok (.iload_n 2, 1) := dk_28 (dk_at dksX8_winsFrom_0 4 rfl rfl)
theorem dX8_winsFrom_5 : decode cX8_winsFrom 5 = .ok (.iadd, 1) := dk_96 (dk_at dksX8_winsFrom_0 5 rfl rfl)
theorem dX8_winsFrom_6 : decode cX8_winsFrom 6 = .ok (.istore_n 3, 1) := dk_62 (dk_at dksX8_winsFrom_0 6 rfl rfl)
theorem dX8_winsFrom_7 : decode cX8_winsFrom 7 = .ok (.aload_n 0, 1) := dk_42 (dk_at dksX8_winsFrom_0 7 rfl rfl)
theorem dX8_winsFrom_8 : decode cX8_winsFrom 8 = .ok (.getfield 77, 3) := dk_180 0 77 (dk_at dksX8_winsFrom_0 8 rfl rfl)
theorem dX8_winsFrom_11 : decode cX8_winsFrom 11 = .ok (.iload_n 3, 1) := dk_29 (dk_at dksX8_winsFrom_0 11 rfl rfl)
theorem dX8_winsFrom_12 : decode cX8_winsFrom 12 = .ok (.iaload, 1) := dk_46 (dk_at dksX8_winsFrom_0 12 rfl rfl)
theorem dX8_winsFrom_13 : decode cX8_winsFrom 13 = .ok (.ifCond .ne 71, 3) := dk_154 0 71 (dk_at dksX8_winsFrom_0 13 rfl rfl)
theorem dX8_winsFrom_16 : decode cX8_winsFrom 16 = .ok (.aload_n 0, 1) := dk_42 (dk_at dksX8_winsFrom_0 16 rfl rfl)
theorem dX8_winsFrom_17 : decode cX8_winsFrom 17 = .ok (.getfield 77, 3) := dk_180 0 77 (dk_at dksX8_winsFrom_0 17 rfl rfl)
theorem dX8_winsFrom_20 : decode cX8_winsFrom 20 = .ok (.iload_n 3, 1) := dk_29 (dk_at dksX8_winsFrom_0 20 rfl rfl)
theorem dX8_winsFrom_21 : decode cX8_winsFrom 21 = .ok (.iconst 2, 1) := dk_5 (dk_at dksX8_winsFrom_0 21 rfl rfl)
theorem dX8_winsFrom_22 : decode cX8_winsFrom 22 = .ok (.iastore, 1) := dk_79 (dk_at dksX8_winsFrom_0 22 rfl rfl)
theorem dX8_winsFrom_23 : decode cX8_winsFrom 23 = .ok (.iconst 0, 1) := dk_3 (dk_at dksX8_winsFrom_0 23 rfl rfl)
theorem dX8_winsFrom_24 : decode cX8_winsFrom 24 = .ok (.istore 4, 2) := dk_54 4 (dk_at dksX8_winsFrom_1 0 rfl rfl)
theorem dX8_winsFrom_26 : decode cX8_winsFrom 26 = .ok (.iload 4, 2) := dk_21 4 (dk_at dksX8_winsFrom_1 2 rfl rfl)
theorem dX8_winsFrom_28 : decode cX8_winsFrom 28 = .ok (.bipush 6, 2) := dk_16 6 (dk_at dksX8_winsFrom_1 4 rfl rfl)
theorem dX8_winsFrom_30 : decode cX8_winsFrom 30 = .ok (.if_icmp .ge 54, 3) := dk_162 0 54 (dk_at dksX8_winsFrom_1 6 rfl rfl)
theorem dX8_winsFrom_33 : decode cX8_winsFrom 33 = .ok (.aload_n 0, 1) := dk_42 (dk_at dksX8_winsFrom_1 9 rfl rfl)
theorem dX8_winsFrom_34 : decode cX8_winsFrom 34 = .ok (.getfield 77, 3) := dk_180 0 77 (dk_at dksX8_winsFrom_1 10 rfl rfl)
theorem dX8_winsFrom_37 : decode cX8_winsFrom 37 = .ok (.iload_n 3, 1) := dk_29 (dk_at dksX8_winsFrom_1 13 rfl rfl)
theorem dX8_winsFrom_38 : decode cX8_winsFrom 38 = .ok (.iaload, 1) := dk_46 (dk_at dksX8_winsFrom_1 14 rfl rfl)
theorem dX8_winsFrom_39 : decode cX8_winsFrom 39 = .ok (.iconst 2, 1) := dk_5 (dk_at dksX8_winsFrom_1 15 rfl rfl)
theorem dX8_winsFrom_40 : decode cX8_winsFrom 40 = .ok (.if_icmp .ne 44, 3) := dk_160 0 44 (dk_at dksX8_winsFrom_1 16 rfl rfl)
theorem dX8_winsFrom_43 : decode cX8_winsFrom 43 = .ok (.aload_n 0, 1) := dk_42 (dk_at dksX8_winsFrom_1 19 rfl rfl)
theorem dX8_winsFrom_44 : decode cX8_winsFrom 44 = .ok (.iload_n 1, 1) := dk_27 (dk_at dksX8_winsFrom_1 20 rfl rfl)
theorem dX8_winsFrom_45 : decode cX8_winsFrom 45 = .ok (.iload_n 2, 1) := dk_28 (dk_at dksX8_winsFrom_1 21 rfl rfl)
theorem dX8_winsFrom_46 : decode cX8_winsFrom 46 = .ok (.iload 4, 2) := dk_21 4 (dk_at dksX8_winsFrom_1 22 rfl rfl)
theorem dX8_winsFrom_48 : decode cX8_winsFrom 48 = .ok (.invokevirtual 410, 3) := dk_182 1 154 (dk_at dksX8_winsFrom_2 0 rfl rfl)
theorem dX8_winsFrom_51 : decode cX8_winsFrom 51 = .ok (.ifCond .eq 27, 3) := dk_153 0 27 (dk_at dksX8_winsFrom_2 3 rfl rfl)
theorem dX8_winsFrom_54 : decode cX8_winsFrom 54 = .ok (.aload_n 0, 1) := dk_42 (dk_at dksX8_winsFrom_2 6 rfl rfl)
theorem dX8_winsFrom_55 : decode cX8_winsFrom 55 = .ok (.iload_n 1, 1) := dk_27 (dk_at dksX8_winsFrom_2 7 rfl rfl)
theorem dX8_winsFrom_56 : decode cX8_winsFrom 56 = .ok (.iconst 1, 1) := dk_4 (dk_at dksX8_winsFrom_2 8 rfl rfl)
theorem dX8_winsFrom_57 : decode cX8_winsFrom 57 = .ok (.iconst 2, 1) := dk_5 (dk_at dksX8_winsFrom_2 9 rfl rfl)
theorem dX8_winsFrom_58 : decode cX8_winsFrom 58 = .ok (.iload 4, 2) := dk_21 4 (dk_at dksX8_winsFrom_2 10 rfl rfl)
theorem dX8_winsFrom_60 : decode cX8_winsFrom 60 = .ok (.imul, 1) := dk_104 (dk_at dksX8_winsFrom_2 12 rfl rfl)
theorem dX8_winsFrom_61 : decode cX8_winsFrom 61 = .ok (.ishl, 1) := dk_120 (dk_at dksX8_winsFrom_2 13 rfl rfl)
theorem dX8_winsFrom_62 : decode cX8_winsFrom 62 = .ok (.iadd, 1) := dk_96 (dk_at dksX8_winsFrom_2 14 rfl rfl)
theorem dX8_winsFrom_63 : decode cX8_winsFrom 63 = .ok (.iload 4, 2) := dk_21 4 (dk_at dksX8_winsFrom_2 15 rfl rfl)
theorem dX8_winsFrom_65 : decode cX8_winsFrom 65 = .ok (.invokevirtual 413, 3) := dk_182 1 157 (dk_at dksX8_winsFrom_2 17 rfl rfl)
theorem dX8_winsFrom_68 : decode cX8_winsFrom 68 = .ok (.ifCond .ne 10, 3) := dk_154 0 10 (dk_at dksX8_winsFrom_2 20 rfl rfl)
theorem dX8_winsFrom_71 : decode cX8_winsFrom 71 = .ok (.aload_n 0, 1) := dk_42 (dk_at dksX8_winsFrom_2 23 rfl rfl)
theorem dX8_winsFrom_72 : decode cX8_winsFrom 72 = .ok (.getfield 77, 3) := dk_180 0 77 (dk_at dksX8_winsFrom_3 0 rfl rfl)
theorem dX8_winsFrom_75 : decode cX8_winsFrom 75 = .ok (.iload_n 3, 1) := dk_29 (dk_at dksX8_winsFrom_3 3 rfl rfl)
theorem dX8_winsFrom_76 : decode cX8_winsFrom 76 = .ok (.iconst 1, 1) := dk_4 (dk_at dksX8_winsFrom_3 4 rfl rfl)
theorem dX8_winsFrom_77 : decode cX8_winsFrom 77 = .ok (.iastore, 1) := dk_79 (dk_at dksX8_winsFrom_3 5 rfl rfl)
theorem dX8_winsFrom_78 : decode cX8_winsFrom 78 = .ok (.iinc 4 1, 3) := dk_132 4 1 (dk_at dksX8_winsFrom_3 6 rfl rfl)
theorem dX8_winsFrom_81 : decode cX8_winsFrom 81 = .ok (.goto (-55), 3) := dk_167 255 201 (dk_at dksX8_winsFrom_3 9 rfl rfl)
theorem dX8_winsFrom_84 : decode cX8_winsFrom 84 = .ok (.aload_n 0, 1) := dk_42 (dk_at dksX8_winsFrom_3 12 rfl rfl)
theorem dX8_winsFrom_85 : decode cX8_winsFrom 85 = .ok (.getfield 77, 3) := dk_180 0 77 (dk_at dksX8_winsFrom_3 13 rfl rfl)
theorem dX8_winsFrom_88 : decode cX8_winsFrom 88 = .ok (.iload_n 3, 1) := dk_29 (dk_at dksX8_winsFrom_3 16 rfl rfl)
theorem dX8_winsFrom_89 : decode cX8_winsFrom 89 = .ok (.iaload, 1) := dk_46 (dk_at dksX8_winsFrom_3 17 rfl rfl)
theorem dX8_winsFrom_90 : decode cX8_winsFrom 90 = .ok (.iconst 1, 1) := dk_4 (dk_at dksX8_winsFrom_3 18 rfl rfl)
theorem dX8_winsFrom_91 : decode cX8_winsFrom 91 = .ok (.if_icmp .ne 7, 3) := dk_160 0 7 (dk_at dksX8_winsFrom_3 19 rfl rfl)
theorem dX8_winsFrom_94 : decode cX8_winsFrom 94 = .ok (.iconst 1, 1) := dk_4 (dk_at dksX8_winsFrom_3 22 rfl rfl)
theorem dX8_winsFrom_95 : decode cX8_winsFrom 95 = .ok (.goto 4, 3) := dk_167 0 4 (dk_at dksX8_winsFrom_4 0 rfl rfl)
theorem dX8_winsFrom_98 : decode cX8_winsFrom 98 = .ok (.iconst 0, 1) := dk_3 (dk_at dksX8_winsFrom_4 3 rfl rfl)
theorem dX8_winsFrom_99 : decode cX8_winsFrom 99 = .ok (.ireturn, 1) := dk_172 (dk_at dksX8_winsFrom_4 4 rfl rfl)
abbrev cX8_isPlay : ByteArray := prog_13_method_122_code
def yX8_isPlay : MethodName := ⟨RX8, "isPlay", "(III)Z"⟩
def dkwX8_isPlay_1 : List UInt8 := [4, 167, 0, 4, 3, 172]
abbrev dktX8_isPlay_1 : List UInt8 := dkwX8_isPlay_1 ++ []
def dkwX8_isPlay_0 : List UInt8 := [42, 180, 0, 40, 28, 46, 29, 184, 1, 24, 153, 0, 18, 27, 5, 29, 104, 122, 6, 126, 5, 162, 0, 7]
abbrev dktX8_isPlay_0 : List UInt8 := dkwX8_isPlay_0 ++ dktX8_isPlay_1
theorem dksX8_isPlay_0 : cX8_isPlay.data.toList.drop 0 = dktX8_isPlay_0 := by decide +kernel
theorem dksX8_isPlay_1 : cX8_isPlay.data.toList.drop 24 = dktX8_isPlay_1 := dk_seg dksX8_isPlay_0 24 rfl rfl
theorem dX8_isPlay_0 : decode cX8_isPlay 0 = .ok (.aload_n 0, 1) := dk_42 (dk_at dksX8_isPlay_0 0 rfl rfl)
theorem dX8_isPlay_1 : decode cX8_isPlay 1 = .ok (.getfield 40, 3) := dk_180 0 40 (dk_at dksX8_isPlay_0 1 rfl rfl)
theorem dX8_isPlay_4 : decode cX8_isPlay 4 = .ok (.iload_n 2, 1) := dk_28 (dk_at dksX8_isPlay_0 4 rfl rfl)
theorem dX8_isPlay_5 : decode cX8_isPlay 5 = .ok (.iaload, 1) := dk_46 (dk_at dksX8_isPlay_0 5 rfl rfl)
theorem dX8_isPlay_6 : decode cX8_isPlay 6 = .ok (.iload_n 3, 1) := dk_29 (dk_at dksX8_isPlay_0 6 rfl rfl)
theorem dX8_isPlay_7 : decode cX8_isPlay 7 = .ok (.invokestatic 280, 3) := dk_184 1 24 (dk_at dksX8_isPlay_0 7 rfl rfl)
theorem dX8_isPlay_10 : decode cX8_isPlay 10 = .ok (.ifCond .eq 18, 3) := dk_153 0 18 (dk_at dksX8_isPlay_0 10 rfl rfl)
theorem dX8_isPlay_13 : decode cX8_isPlay 13 = .ok (.iload_n 1, 1) := dk_27 (dk_at dksX8_isPlay_0 13 rfl rfl)
theorem dX8_isPlay_14 : decode cX8_isPlay 14 = .ok (.iconst 2, 1) := dk_5 (dk_at dksX8_isPlay_0 14 rfl rfl)
theorem dX8_isPlay_15 : decode cX8_isPlay 15 = .ok (.iload_n 3, 1) := dk_29 (dk_at dksX8_isPlay_0 15 rfl rfl)
theorem dX8_isPlay_16 : decode cX8_isPlay 16 = .ok (.imul, 1) := dk_104 (dk_at dksX8_isPlay_0 16 rfl rfl)
theorem dX8_isPlay_17 : decode cX8_isPlay 17 = .ok (.ishr, 1) := dk_122 (dk_at dksX8_isPlay_0 17 rfl rfl)
theorem dX8_isPlay_18 : decode cX8_isPlay 18 = .ok (.iconst 3, 1) := dk_6 (dk_at dksX8_isPlay_0 18 rfl rfl)
theorem dX8_isPlay_19 : decode cX8_isPlay 19 = .ok (.iand, 1) := dk_126 (dk_at dksX8_isPlay_0 19 rfl rfl)
theorem dX8_isPlay_20 : decode cX8_isPlay 20 = .ok (.iconst 2, 1) := dk_5 (dk_at dksX8_isPlay_0 20 rfl rfl)
theorem dX8_isPlay_21 : decode cX8_isPlay 21 = .ok (.if_icmp .ge 7, 3) := dk_162 0 7 (dk_at dksX8_isPlay_0 21 rfl rfl)
theorem dX8_isPlay_24 : decode cX8_isPlay 24 = .ok (.iconst 1, 1) := dk_4 (dk_at dksX8_isPlay_1 0 rfl rfl)
theorem dX8_isPlay_25 : decode cX8_isPlay 25 = .ok (.goto 4, 3) := dk_167 0 4 (dk_at dksX8_isPlay_1 1 rfl rfl)
theorem dX8_isPlay_28 : decode cX8_isPlay 28 = .ok (.iconst 0, 1) := dk_3 (dk_at dksX8_isPlay_1 4 rfl rfl)
theorem dX8_isPlay_29 : decode cX8_isPlay 29 = .ok (.ireturn, 1) := dk_172 (dk_at dksX8_isPlay_1 5 rfl rfl)
abbrev cX8_plays : ByteArray := prog_13_method_125_code
def yX8_plays : MethodName := ⟨RX8, "plays", "(I)I"⟩
def dkwX8_plays_3 : List UInt8 := [167, 255, 220, 2, 172]
abbrev dktX8_plays_3 : List UInt8 := dkwX8_plays_3 ++ []
def dkwX8_plays_2 : List UInt8 := [153, 0, 20, 42, 28, 4, 5, 29, 104, 120, 96, 29, 182, 1, 157, 154, 0, 5, 29, 172, 132, 3, 1]
abbrev dktX8_plays_2 : List UInt8 := dkwX8_plays_2 ++ dktX8_plays_3
def dkwX8_plays_1 : List UInt8 := [182, 1, 160, 4, 5, 27, 104, 120, 61, 3, 62, 29, 16, 6, 162, 0, 36, 42, 28, 27, 29, 182, 1, 154]
abbrev dktX8_plays_1 : List UInt8 := dkwX8_plays_1 ++ dktX8_plays_2
def dkwX8_plays_0 : List UInt8 := [42, 3, 181, 0, 80, 42, 182, 0, 254, 153, 0, 11, 27, 133, 184, 1, 11, 154, 0, 6, 16, 254, 172, 42]
abbrev dktX8_plays_0 : List UInt8 := dkwX8_plays_0 ++ dktX8_plays_1
theorem dksX8_plays_0 : cX8_plays.data.toList.drop 0 = dktX8_plays_0 := by decide +kernel
theorem dksX8_plays_1 : cX8_plays.data.toList.drop 24 = dktX8_plays_1 := dk_seg dksX8_plays_0 24 rfl rfl
theorem dksX8_plays_2 : cX8_plays.data.toList.drop 48 = dktX8_plays_2 := dk_seg dksX8_plays_1 24 rfl rfl
theorem dksX8_plays_3 : cX8_plays.data.toList.drop 71 = dktX8_plays_3 := dk_seg dksX8_plays_2 23 rfl rfl
theorem dX8_plays_0 : decode cX8_plays 0 = .ok (.aload_n 0, 1) := dk_42 (dk_at dksX8_plays_0 0 rfl rfl)
theorem dX8_plays_1 : decode cX8_plays 1 = .ok (.iconst 0, 1) := dk_3 (dk_at dksX8_plays_0 1 rfl rfl)
theorem dX8_plays_2 : decode cX8_plays 2 = .ok (.putfield 80, 3) := dk_181 0 80 (dk_at dksX8_plays_0 2 rfl rfl)
theorem dX8_plays_5 : decode cX8_plays 5 = .ok (.aload_n 0, 1) := dk_42 (dk_at dksX8_plays_0 5 rfl rfl)
theorem dX8_plays_6 : decode cX8_plays 6 = .ok (.invokevirtual 254, 3) := dk_182 0 254 (dk_at dksX8_plays_0 6 rfl rfl)
theorem dX8_plays_9 : decode cX8_plays 9 = .ok (.ifCond .eq 11, 3) := dk_153 0 11 (dk_at dksX8_plays_0 9 rfl rfl)
theorem dX8_plays_12 : decode cX8_plays 12 = .ok (.iload_n 1, 1) := dk_27 (dk_at dksX8_plays_0 12 rfl rfl)
theorem dX8_plays_13 : decode cX8_plays 13 = .ok (.i2l, 1) := dk_133 (dk_at dksX8_plays_0 13 rfl rfl)
theorem dX8_plays_14 : decode cX8_plays 14 = .ok (.invokestatic 267, 3) := dk_184 1 11 (dk_at dksX8_plays_0 14 rfl rfl)
theorem dX8_plays_17 : decode cX8_plays 17 = .ok (.ifCond .ne 6, 3) := dk_154 0 6 (dk_at dksX8_plays_0 17 rfl rfl)
theorem dX8_plays_20 : decode cX8_plays 20 = .ok (.bipush (-2), 2) := dk_16 254 (dk_at dksX8_plays_0 20 rfl rfl)
theorem dX8_plays_22 : decode cX8_plays 22 = .ok (.ireturn, 1) := dk_172 (dk_at dksX8_plays_0 22 rfl rfl)
theorem dX8_plays_23 : decode cX8_plays 23 = .ok (.aload_n 0, 1) := dk_42 (dk_at dksX8_plays_0 23 rfl rfl)
theorem dX8_plays_24 : decode cX8_plays 24 = .ok (.invokevirtual 416, 3) := dk_182 1 160 (dk_at dksX8_plays_1 0 rfl rfl)
theorem dX8_plays_27 : decode cX8_plays 27 = .ok (.iconst 1, 1) := dk_4 (dk_at dksX8_plays_1 3 rfl rfl)
theorem dX8_plays_28 : decode cX8_plays 28 = .ok (.iconst 2, 1) := dk_5 (dk_at dksX8_plays_1 4 rfl rfl)
theorem dX8_plays_29 : decode cX8_plays 29 = .ok (.iload_n 1, 1) := dk_27 (dk_at dksX8_plays_1 5 rfl rfl)
theorem dX8_plays_30 : decode cX8_plays 30 = .ok (.imul, 1) := dk_104 (dk_at dksX8_plays_1 6 rfl rfl)
theorem dX8_plays_31 : decode cX8_plays 31 = .ok (.ishl, 1) := dk_120 (dk_at dksX8_plays_1 7 rfl rfl)
theorem dX8_plays_32 : decode cX8_plays 32 = .ok (.istore_n 2, 1) := dk_61 (dk_at dksX8_plays_1 8 rfl rfl)
theorem dX8_plays_33 : decode cX8_plays 33 = .ok (.iconst 0, 1) := dk_3 (dk_at dksX8_plays_1 9 rfl rfl)
theorem dX8_plays_34 : decode cX8_plays 34 = .ok (.istore_n 3, 1) := dk_62 (dk_at dksX8_plays_1 10 rfl rfl)
theorem dX8_plays_35 : decode cX8_plays 35 = .ok (.iload_n 3, 1) := dk_29 (dk_at dksX8_plays_1 11 rfl rfl)
theorem dX8_plays_36 : decode cX8_plays 36 = .ok (.bipush 6, 2) := dk_16 6 (dk_at dksX8_plays_1 12 rfl rfl)
theorem dX8_plays_38 : decode cX8_plays 38 = .ok (.if_icmp .ge 36, 3) := dk_162 0 36 (dk_at dksX8_plays_1 14 rfl rfl)
theorem dX8_plays_41 : decode cX8_plays 41 = .ok (.aload_n 0, 1) := dk_42 (dk_at dksX8_plays_1 17 rfl rfl)
theorem dX8_plays_42 : decode cX8_plays 42 = .ok (.iload_n 2, 1) := dk_28 (dk_at dksX8_plays_1 18 rfl rfl)
theorem dX8_plays_43 : decode cX8_plays 43 = .ok (.iload_n 1, 1) := dk_27 (dk_at dksX8_plays_1 19 rfl rfl)
theorem dX8_plays_44 : decode cX8_plays 44 = .ok (.iload_n 3, 1) := dk_29 (dk_at dksX8_plays_1 20 rfl rfl)
theorem dX8_plays_45 : decode cX8_plays 45 = .ok (.invokevirtual 410, 3) := dk_182 1 154 (dk_at dksX8_plays_1 21 rfl rfl)
theorem dX8_plays_48 : decode cX8_plays 48 = .ok (.ifCond .eq 20, 3) := dk_153 0 20 (dk_at dksX8_plays_2 0 rfl rfl)
theorem dX8_plays_51 : decode cX8_plays 51 = .ok (.aload_n 0, 1) := dk_42 (dk_at dksX8_plays_2 3 rfl rfl)
theorem dX8_plays_52 : decode cX8_plays 52 = .ok (.iload_n 2, 1) := dk_28 (dk_at dksX8_plays_2 4 rfl rfl)
theorem dX8_plays_53 : decode cX8_plays 53 = .ok (.iconst 1, 1) := dk_4 (dk_at dksX8_plays_2 5 rfl rfl)
theorem dX8_plays_54 : decode cX8_plays 54 = .ok (.iconst 2, 1) := dk_5 (dk_at dksX8_plays_2 6 rfl rfl)
theorem dX8_plays_55 : decode cX8_plays 55 = .ok (.iload_n 3, 1) := dk_29 (dk_at dksX8_plays_2 7 rfl rfl)
theorem dX8_plays_56 : decode cX8_plays 56 = .ok (.imul, 1) := dk_104 (dk_at dksX8_plays_2 8 rfl rfl)
theorem dX8_plays_57 : decode cX8_plays 57 = .ok (.ishl, 1) := dk_120 (dk_at dksX8_plays_2 9 rfl rfl)
theorem dX8_plays_58 : decode cX8_plays 58 = .ok (.iadd, 1) := dk_96 (dk_at dksX8_plays_2 10 rfl rfl)
theorem dX8_plays_59 : decode cX8_plays 59 = .ok (.iload_n 3, 1) := dk_29 (dk_at dksX8_plays_2 11 rfl rfl)
theorem dX8_plays_60 : decode cX8_plays 60 = .ok (.invokevirtual 413, 3) := dk_182 1 157 (dk_at dksX8_plays_2 12 rfl rfl)
theorem dX8_plays_63 : decode cX8_plays 63 = .ok (.ifCond .ne 5, 3) := dk_154 0 5 (dk_at dksX8_plays_2 15 rfl rfl)
theorem dX8_plays_66 : decode cX8_plays 66 = .ok (.iload_n 3, 1) := dk_29 (dk_at dksX8_plays_2 18 rfl rfl)
theorem dX8_plays_67 : decode cX8_plays 67 = .ok (.ireturn, 1) := dk_172 (dk_at dksX8_plays_2 19 rfl rfl)
theorem dX8_plays_68 : decode cX8_plays 68 = .ok (.iinc 3 1, 3) := dk_132 3 1 (dk_at dksX8_plays_2 20 rfl rfl)
theorem dX8_plays_71 : decode cX8_plays 71 = .ok (.goto (-36), 3) := dk_167 255 220 (dk_at dksX8_plays_3 0 rfl rfl)
theorem dX8_plays_74 : decode cX8_plays 74 = .ok (.iconst (-1), 1) := dk_2 (dk_at dksX8_plays_3 3 rfl rfl)
theorem dX8_plays_75 : decode cX8_plays 75 = .ok (.ireturn, 1) := dk_172 (dk_at dksX8_plays_3 4 rfl rfl)
abbrev cX8_dry : ByteArray := prog_13_method_129_code
def yX8_dry : MethodName := ⟨RX8, "dry", "(II)J"⟩
def dkwX8_dry_1 : List UInt8 := [101, 27, 184, 1, 170, 20, 1, 168, 27, 184, 1, 170, 28, 184, 1, 173, 167, 0, 6, 20, 1, 142, 173]
abbrev dktX8_dry_1 : List UInt8 := dkwX8_dry_1 ++ []
def dkwX8_dry_0 : List UInt8 := [42, 3, 181, 0, 80, 42, 27, 28, 182, 1, 165, 153, 0, 32, 20, 1, 168, 42, 180, 0, 34, 5, 46, 133]
abbrev dktX8_dry_0 : List UInt8 := dkwX8_dry_0 ++ dktX8_dry_1
theorem dksX8_dry_0 : cX8_dry.data.toList.drop 0 = dktX8_dry_0 := by decide +kernel
theorem dksX8_dry_1 : cX8_dry.data.toList.drop 24 = dktX8_dry_1 := dk_seg dksX8_dry_0 24 rfl rfl
theorem dX8_dry_0 : decode cX8_dry 0 = .ok (.aload_n 0, 1) := dk_42 (dk_at dksX8_dry_0 0 rfl rfl)
theorem dX8_dry_1 : decode cX8_dry 1 = .ok (.iconst 0, 1) := dk_3 (dk_at dksX8_dry_0 1 rfl rfl)
theorem dX8_dry_2 : decode cX8_dry 2 = .ok (.putfield 80, 3) := dk_181 0 80 (dk_at dksX8_dry_0 2 rfl rfl)
theorem dX8_dry_5 : decode cX8_dry 5 = .ok (.aload_n 0, 1) := dk_42 (dk_at dksX8_dry_0 5 rfl rfl)
theorem dX8_dry_6 : decode cX8_dry 6 = .ok (.iload_n 1, 1) := dk_27 (dk_at dksX8_dry_0 6 rfl rfl)
theorem dX8_dry_7 : decode cX8_dry 7 = .ok (.iload_n 2, 1) := dk_28 (dk_at dksX8_dry_0 7 rfl rfl)
theorem dX8_dry_8 : decode cX8_dry 8 = .ok (.invokevirtual 421, 3) := dk_182 1 165 (dk_at dksX8_dry_0 8 rfl rfl)
theorem dX8_dry_11 : decode cX8_dry 11 = .ok (.ifCond .eq 32, 3) := dk_153 0 32 (dk_at dksX8_dry_0 11 rfl rfl)
theorem dX8_dry_14 : decode cX8_dry 14 = .ok (.ldc2_w 424, 3) := dk_20 1 168 (dk_at dksX8_dry_0 14 rfl rfl)
theorem dX8_dry_17 : decode cX8_dry 17 = .ok (.aload_n 0, 1) := dk_42 (dk_at dksX8_dry_0 17 rfl rfl)
theorem dX8_dry_18 : decode cX8_dry 18 = .ok (.getfield 34, 3) := dk_180 0 34 (dk_at dksX8_dry_0 18 rfl rfl)
theorem dX8_dry_21 : decode cX8_dry 21 = .ok (.iconst 2, 1) := dk_5 (dk_at dksX8_dry_0 21 rfl rfl)
theorem dX8_dry_22 : decode cX8_dry 22 = .ok (.iaload, 1) := dk_46 (dk_at dksX8_dry_0 22 rfl rfl)
theorem dX8_dry_23 : decode cX8_dry 23 = .ok (.i2l, 1) := dk_133 (dk_at dksX8_dry_0 23 rfl rfl)
theorem dX8_dry_24 : decode cX8_dry 24 = .ok (.lsub, 1) := dk_101 (dk_at dksX8_dry_1 0 rfl rfl)
theorem dX8_dry_25 : decode cX8_dry 25 = .ok (.iload_n 1, 1) := dk_27 (dk_at dksX8_dry_1 1 rfl rfl)
theorem dX8_dry_26 : decode cX8_dry 26 = .ok (.invokestatic 426, 3) := dk_184 1 170 (dk_at dksX8_dry_1 2 rfl rfl)
theorem dX8_dry_29 : decode cX8_dry 29 = .ok (.ldc2_w 424, 3) := dk_20 1 168 (dk_at dksX8_dry_1 5 rfl rfl)
theorem dX8_dry_32 : decode cX8_dry 32 = .ok (.iload_n 1, 1) := dk_27 (dk_at dksX8_dry_1 8 rfl rfl)
theorem dX8_dry_33 : decode cX8_dry 33 = .ok (.invokestatic 426, 3) := dk_184 1 170 (dk_at dksX8_dry_1 9 rfl rfl)
theorem dX8_dry_36 : decode cX8_dry 36 = .ok (.iload_n 2, 1) := dk_28 (dk_at dksX8_dry_1 12 rfl rfl)
theorem dX8_dry_37 : decode cX8_dry 37 = .ok (.invokestatic 429, 3) := dk_184 1 173 (dk_at dksX8_dry_1 13 rfl rfl)
theorem dX8_dry_40 : decode cX8_dry 40 = .ok (.goto 6, 3) := dk_167 0 6 (dk_at dksX8_dry_1 16 rfl rfl)
theorem dX8_dry_43 : decode cX8_dry 43 = .ok (.ldc2_w 398, 3) := dk_20 1 142 (dk_at dksX8_dry_1 19 rfl rfl)
theorem dX8_dry_46 : decode cX8_dry 46 = .ok (.lreturn, 1) := dk_173 (dk_at dksX8_dry_1 22 rfl rfl)
abbrev cX8_isRain : ByteArray := prog_13_method_128_code
def yX8_isRain : MethodName := ⟨RX8, "isRain", "(II)Z"⟩
def dkwX8_isRain_1 : List UInt8 := [184, 0, 85, 153, 0, 7, 4, 167, 0, 4, 3, 172]
abbrev dktX8_isRain_1 : List UInt8 := dkwX8_isRain_1 ++ []
def dkwX8_isRain_0 : List UInt8 := [42, 182, 0, 254, 153, 0, 29, 27, 133, 10, 20, 1, 163, 184, 0, 85, 153, 0, 17, 28, 133, 9, 10]
abbrev dktX8_isRain_0 : List UInt8 := dkwX8_isRain_0 ++ dktX8_isRain_1
theorem dksX8_isRain_0 : cX8_isRain.data.toList.drop 0 = dktX8_isRain_0 := by decide +kernel
theorem dksX8_isRain_1 : cX8_isRain.data.toList.drop 23 = dktX8_isRain_1 := dk_seg dksX8_isRain_0 23 rfl rfl
theorem dX8_isRain_0 : decode cX8_isRain 0 = .ok (.aload_n 0, 1) := dk_42 (dk_at dksX8_isRain_0 0 rfl rfl)
theorem dX8_isRain_1 : decode cX8_isRain 1 = .ok (.invokevirtual 254, 3) := dk_182 0 254 (dk_at dksX8_isRain_0 1 rfl rfl)
theorem dX8_isRain_4 : decode cX8_isRain 4 = .ok (.ifCond .eq 29, 3) := dk_153 0 29 (dk_at dksX8_isRain_0 4 rfl rfl)
theorem dX8_isRain_7 : decode cX8_isRain 7 = .ok (.iload_n 1, 1) := dk_27 (dk_at dksX8_isRain_0 7 rfl rfl)
theorem dX8_isRain_8 : decode cX8_isRain 8 = .ok (.i2l, 1) := dk_133 (dk_at dksX8_isRain_0 8 rfl rfl)
theorem dX8_isRain_9 : decode cX8_isRain 9 = .ok (.lconst 1, 1) := dk_10 (dk_at dksX8_isRain_0 9 rfl rfl)
theorem dX8_isRain_10 : decode cX8_isRain 10 = .ok (.ldc2_w 419, 3) := dk_20 1 163 (dk_at dksX8_isRain_0 10 rfl rfl)
theorem dX8_isRain_13 : decode cX8_isRain 13 = .ok (.invokestatic 85, 3) := dk_184 0 85 (dk_at dksX8_isRain_0 13 rfl rfl)
theorem dX8_isRain_16 : decode cX8_isRain 16 = .ok (.ifCond .eq 17, 3) := dk_153 0 17 (dk_at dksX8_isRain_0 16 rfl rfl)
theorem dX8_isRain_19 : decode cX8_isRain 19 = .ok (.iload_n 2, 1) := dk_28 (dk_at dksX8_isRain_0 19 rfl rfl)
theorem dX8_isRain_20 : decode cX8_isRain 20 = .ok (.i2l, 1) := dk_133 (dk_at dksX8_isRain_0 20 rfl rfl)
theorem dX8_isRain_21 : decode cX8_isRain 21 = .ok (.lconst 0, 1) := dk_9 (dk_at dksX8_isRain_0 21 rfl rfl)
theorem dX8_isRain_22 : decode cX8_isRain 22 = .ok (.lconst 1, 1) := dk_10 (dk_at dksX8_isRain_0 22 rfl rfl)
theorem dX8_isRain_23 : decode cX8_isRain 23 = .ok (.invokestatic 85, 3) := dk_184 0 85 (dk_at dksX8_isRain_1 0 rfl rfl)
theorem dX8_isRain_26 : decode cX8_isRain 26 = .ok (.ifCond .eq 7, 3) := dk_153 0 7 (dk_at dksX8_isRain_1 3 rfl rfl)
theorem dX8_isRain_29 : decode cX8_isRain 29 = .ok (.iconst 1, 1) := dk_4 (dk_at dksX8_isRain_1 6 rfl rfl)
theorem dX8_isRain_30 : decode cX8_isRain 30 = .ok (.goto 4, 3) := dk_167 0 4 (dk_at dksX8_isRain_1 7 rfl rfl)
theorem dX8_isRain_33 : decode cX8_isRain 33 = .ok (.iconst 0, 1) := dk_3 (dk_at dksX8_isRain_1 10 rfl rfl)
theorem dX8_isRain_34 : decode cX8_isRain 34 = .ok (.ireturn, 1) := dk_172 (dk_at dksX8_isRain_1 11 rfl rfl)
abbrev cX8_power : ByteArray := prog_13_method_126_code
def yX8_power : MethodName := ⟨RX8, "power", "(JI)J"⟩
def dkwX8_power_0 : List UInt8 := [10, 66, 3, 54, 5, 21, 5, 28, 162, 0, 13, 33, 30, 105, 66, 132, 5, 1, 167, 255, 243, 33, 173]
abbrev dktX8_power_0 : List UInt8 := dkwX8_power_0 ++ []
theorem dksX8_power_0 : cX8_power.data.toList.drop 0 = dktX8_power_0 := by decide +kernel
theorem dX8_power_0 : decode cX8_power 0 = .ok (.lconst 1, 1) := dk_10 (dk_at dksX8_power_0 0 rfl rfl)
theorem dX8_power_1 : decode cX8_power 1 = .ok (.lstore_n 3, 1) := dk_66 (dk_at dksX8_power_0 1 rfl rfl)
theorem dX8_power_2 : decode cX8_power 2 = .ok (.iconst 0, 1) := dk_3 (dk_at dksX8_power_0 2 rfl rfl)
theorem dX8_power_3 : decode cX8_power 3 = .ok (.istore 5, 2) := dk_54 5 (dk_at dksX8_power_0 3 rfl rfl)
theorem dX8_power_5 : decode cX8_power 5 = .ok (.iload 5, 2) := dk_21 5 (dk_at dksX8_power_0 5 rfl rfl)
theorem dX8_power_7 : decode cX8_power 7 = .ok (.iload_n 2, 1) := dk_28 (dk_at dksX8_power_0 7 rfl rfl)
theorem dX8_power_8 : decode cX8_power 8 = .ok (.if_icmp .ge 13, 3) := dk_162 0 13 (dk_at dksX8_power_0 8 rfl rfl)
theorem dX8_power_11 : decode cX8_power 11 = .ok (.lload_n 3, 1) := dk_33 (dk_at dksX8_power_0 11 rfl rfl)
theorem dX8_power_12 : decode cX8_power 12 = .ok (.lload_n 0, 1) := dk_30 (dk_at dksX8_power_0 12 rfl rfl)
theorem dX8_power_13 : decode cX8_power 13 = .ok (.lmul, 1) := dk_105 (dk_at dksX8_power_0 13 rfl rfl)
theorem dX8_power_14 : decode cX8_power 14 = .ok (.lstore_n 3, 1) := dk_66 (dk_at dksX8_power_0 14 rfl rfl)
theorem dX8_power_15 : decode cX8_power 15 = .ok (.iinc 5 1, 3) := dk_132 5 1 (dk_at dksX8_power_0 15 rfl rfl)
theorem dX8_power_18 : decode cX8_power 18 = .ok (.goto (-13), 3) := dk_167 255 243 (dk_at dksX8_power_0 18 rfl rfl)
theorem dX8_power_21 : decode cX8_power 21 = .ok (.lload_n 3, 1) := dk_33 (dk_at dksX8_power_0 21 rfl rfl)
theorem dX8_power_22 : decode cX8_power 22 = .ok (.lreturn, 1) := dk_173 (dk_at dksX8_power_0 22 rfl rfl)
abbrev cX8_part : ByteArray := prog_13_method_127_code
def yX8_part : MethodName := ⟨RX8, "part", "(JJI)J"⟩
def dkwX8_part_0 : List UInt8 := [21, 4, 154, 0, 7, 30, 167, 0, 4, 32, 30, 32, 184, 1, 62, 109, 173]
abbrev dktX8_part_0 : List UInt8 := dkwX8_part_0 ++ []
theorem dksX8_part_0 : cX8_part.data.toList.drop 0 = dktX8_part_0 := by decide +kernel
theorem dX8_part_0 : decode cX8_part 0 = .ok (.iload 4, 2) := dk_21 4 (dk_at dksX8_part_0 0 rfl rfl)
theorem dX8_part_2 : decode cX8_part 2 = .ok (.ifCond .ne 7, 3) := dk_154 0 7 (dk_at dksX8_part_0 2 rfl rfl)
theorem dX8_part_5 : decode cX8_part 5 = .ok (.lload_n 0, 1) := dk_30 (dk_at dksX8_part_0 5 rfl rfl)
theorem dX8_part_6 : decode cX8_part 6 = .ok (.goto 4, 3) := dk_167 0 4 (dk_at dksX8_part_0 6 rfl rfl)
theorem dX8_part_9 : decode cX8_part 9 = .ok (.lload_n 2, 1) := dk_32 (dk_at dksX8_part_0 9 rfl rfl)
theorem dX8_part_10 : decode cX8_part 10 = .ok (.lload_n 0, 1) := dk_30 (dk_at dksX8_part_0 10 rfl rfl)
theorem dX8_part_11 : decode cX8_part 11 = .ok (.lload_n 2, 1) := dk_32 (dk_at dksX8_part_0 11 rfl rfl)
theorem dX8_part_12 : decode cX8_part 12 = .ok (.invokestatic 318, 3) := dk_184 1 62 (dk_at dksX8_part_0 12 rfl rfl)
theorem dX8_part_15 : decode cX8_part 15 = .ok (.ldiv, 1) := dk_109 (dk_at dksX8_part_0 15 rfl rfl)
theorem dX8_part_16 : decode cX8_part 16 = .ok (.lreturn, 1) := dk_173 (dk_at dksX8_part_0 16 rfl rfl)
abbrev cX8_wet : ByteArray := prog_13_method_130_code
def yX8_wet : MethodName := ⟨RX8, "wet", "(III)J"⟩
def dkwX8_wet_4 : List UInt8 := [105, 20, 1, 168, 27, 184, 1, 170, 29, 184, 1, 173, 173]
abbrev dktX8_wet_4 : List UInt8 := dkwX8_wet_4 ++ []
def dkwX8_wet_3 : List UInt8 := [46, 133, 28, 184, 1, 170, 105, 20, 1, 168, 42, 180, 0, 34, 5, 46, 133, 101, 27, 28, 100, 184, 1, 170]
abbrev dktX8_wet_3 : List UInt8 := dkwX8_wet_3 ++ dktX8_wet_4
def dkwX8_wet_2 : List UInt8 := [100, 133, 105, 21, 6, 4, 96, 133, 109, 55, 4, 132, 6, 1, 167, 255, 231, 22, 4, 42, 180, 0, 34, 5]
abbrev dktX8_wet_2 : List UInt8 := dkwX8_wet_2 ++ dktX8_wet_3
def dkwX8_wet_1 : List UInt8 := [154, 0, 7, 20, 1, 142, 173, 10, 55, 4, 3, 54, 6, 21, 6, 28, 162, 0, 25, 22, 4, 27, 21, 6]
abbrev dktX8_wet_1 : List UInt8 := dkwX8_wet_1 ++ dktX8_wet_2
def dkwX8_wet_0 : List UInt8 := [42, 3, 181, 0, 80, 42, 27, 29, 182, 1, 165, 153, 0, 14, 28, 133, 9, 27, 133, 184, 0, 85]
abbrev dktX8_wet_0 : List UInt8 := dkwX8_wet_0 ++ dktX8_wet_1
theorem dksX8_wet_0 : cX8_wet.data.toList.drop 0 = dktX8_wet_0 := by decide +kernel
theorem dksX8_wet_1 : cX8_wet.data.toList.drop 22 = dktX8_wet_1 := dk_seg dksX8_wet_0 22 rfl rfl
theorem dksX8_wet_2 : cX8_wet.data.toList.drop 46 = dktX8_wet_2 := dk_seg dksX8_wet_1 24 rfl rfl
theorem dksX8_wet_3 : cX8_wet.data.toList.drop 70 = dktX8_wet_3 := dk_seg dksX8_wet_2 24 rfl rfl
theorem dksX8_wet_4 : cX8_wet.data.toList.drop 94 = dktX8_wet_4 := dk_seg dksX8_wet_3 24 rfl rfl
theorem dX8_wet_0 : decode cX8_wet 0 = .ok (.aload_n 0, 1) := dk_42 (dk_at dksX8_wet_0 0 rfl rfl)
theorem dX8_wet_1 : decode cX8_wet 1 = .ok (.iconst 0, 1) := dk_3 (dk_at dksX8_wet_0 1 rfl rfl)
theorem dX8_wet_2 : decode cX8_wet 2 = .ok (.putfield 80, 3) := dk_181 0 80 (dk_at dksX8_wet_0 2 rfl rfl)
theorem dX8_wet_5 : decode cX8_wet 5 = .ok (.aload_n 0, 1) := dk_42 (dk_at dksX8_wet_0 5 rfl rfl)
theorem dX8_wet_6 : decode cX8_wet 6 = .ok (.iload_n 1, 1) := dk_27 (dk_at dksX8_wet_0 6 rfl rfl)
theorem dX8_wet_7 : decode cX8_wet 7 = .ok (.iload_n 3, 1) := dk_29 (dk_at dksX8_wet_0 7 rfl rfl)
theorem dX8_wet_8 : decode cX8_wet 8 = .ok (.invokevirtual 421, 3) := dk_182 1 165 (dk_at dksX8_wet_0 8 rfl rfl)
theorem dX8_wet_11 : decode cX8_wet 11 = .ok (.ifCond .eq 14, 3) := dk_153 0 14 (dk_at dksX8_wet_0 11 rfl rfl)
theorem dX8_wet_14 : decode cX8_wet 14 = .ok (.iload_n 2, 1) := dk_28 (dk_at dksX8_wet_0 14 rfl rfl)
theorem dX8_wet_15 : decode cX8_wet 15 = .ok (.i2l, 1) := dk_133 (dk_at dksX8_wet_0 15 rfl rfl)
theorem dX8_wet_16 : decode cX8_wet 16 = .ok (.lconst 0, 1) := dk_9 (dk_at dksX8_wet_0 16 rfl rfl)
theorem dX8_wet_17 : decode cX8_wet 17 = .ok (.iload_n 1, 1) := dk_27 (dk_at dksX8_wet_0 17 rfl rfl)
theorem dX8_wet_18 : decode cX8_wet 18 = .ok (.i2l, 1) := dk_133 (dk_at dksX8_wet_0 18 rfl rfl)
theorem dX8_wet_19 : decode cX8_wet 19 = .ok (.invokestatic 85, 3) := dk_184 0 85 (dk_at dksX8_wet_0 19 rfl rfl)
theorem dX8_wet_22 : decode cX8_wet 22 = .ok (.ifCond .ne 7, 3) := dk_154 0 7 (dk_at dksX8_wet_1 0 rfl rfl)
theorem dX8_wet_25 : decode cX8_wet 25 = .ok (.ldc2_w 398, 3) := dk_20 1 142 (dk_at dksX8_wet_1 3 rfl rfl)
theorem dX8_wet_28 : decode cX8_wet 28 = .ok (.lreturn, 1) := dk_173 (dk_at dksX8_wet_1 6 rfl rfl)
theorem dX8_wet_29 : decode cX8_wet 29 = .ok (.lconst 1, 1) := dk_10 (dk_at dksX8_wet_1 7 rfl rfl)
theorem dX8_wet_30 : decode cX8_wet 30 = .ok (.lstore 4, 2) := dk_55 4 (dk_at dksX8_wet_1 8 rfl rfl)
theorem dX8_wet_32 : decode cX8_wet 32 = .ok (.iconst 0, 1) := dk_3 (dk_at dksX8_wet_1 10 rfl rfl)
theorem dX8_wet_33 : decode cX8_wet 33 = .ok (.istore 6, 2) := dk_54 6 (dk_at dksX8_wet_1 11 rfl rfl)
theorem dX8_wet_35 : decode cX8_wet 35 = .ok (.iload 6, 2) := dk_21 6 (dk_at dksX8_wet_1 13 rfl rfl)
theorem dX8_wet_37 : decode cX8_wet 37 = .ok (.iload_n 2, 1) := dk_28 (dk_at dksX8_wet_1 15 rfl rfl)
theorem dX8_wet_38 : decode cX8_wet 38 = .ok (.if_icmp .ge 25, 3) := dk_162 0 25 (dk_at dksX8_wet_1 16 rfl rfl)
theorem dX8_wet_41 : decode cX8_wet 41 = .ok (.lload 4, 2) := dk_22 4 (dk_at dksX8_wet_1 19 rfl rfl)
theorem dX8_wet_43 : decode cX8_wet 43 = .ok (.iload_n 1, 1) := dk_27 (dk_at dksX8_wet_1 21 rfl rfl)
theorem dX8_wet_44 : decode cX8_wet 44 = .ok (.iload 6, 2) := dk_21 6 (dk_at dksX8_wet_1 22 rfl rfl)
theorem dX8_wet_46 : decode cX8_wet 46 = .ok (.isub, 1) := dk_100 (dk_at dksX8_wet_2 0 rfl rfl)
theorem dX8_wet_47 : decode cX8_wet 47 = .ok (.i2l, 1) := dk_133 (dk_at dksX8_wet_2 1 rfl rfl)
theorem dX8_wet_48 : decode cX8_wet 48 = .ok (.lmul, 1) := dk_105 (dk_at dksX8_wet_2 2 rfl rfl)
theorem dX8_wet_49 : decode cX8_wet 49 = .ok (.iload 6, 2) := dk_21 6 (dk_at dksX8_wet_2 3 rfl rfl)
theorem dX8_wet_51 : decode cX8_wet 51 = .ok (.iconst 1, 1) := dk_4 (dk_at dksX8_wet_2 5 rfl rfl)
theorem dX8_wet_52 : decode cX8_wet 52 = .ok (.iadd, 1) := dk_96 (dk_at dksX8_wet_2 6 rfl rfl)
theorem dX8_wet_53 : decode cX8_wet 53 = .ok (.i2l, 1) := dk_133 (dk_at dksX8_wet_2 7 rfl rfl)
theorem dX8_wet_54 : decode cX8_wet 54 = .ok (.ldiv, 1) := dk_109 (dk_at dksX8_wet_2 8 rfl rfl)
theorem dX8_wet_55 : decode cX8_wet 55 = .ok (.lstore 4, 2) := dk_55 4 (dk_at dksX8_wet_2 9 rfl rfl)
theorem dX8_wet_57 : decode cX8_wet 57 = .ok (.iinc 6 1, 3) := dk_132 6 1 (dk_at dksX8_wet_2 11 rfl rfl)
theorem dX8_wet_60 : decode cX8_wet 60 = .ok (.goto (-25), 3) := dk_167 255 231 (dk_at dksX8_wet_2 14 rfl rfl)
theorem dX8_wet_63 : decode cX8_wet 63 = .ok (.lload 4, 2) := dk_22 4 (dk_at dksX8_wet_2 17 rfl rfl)
theorem dX8_wet_65 : decode cX8_wet 65 = .ok (.aload_n 0, 1) := dk_42 (dk_at dksX8_wet_2 19 rfl rfl)
theorem dX8_wet_66 : decode cX8_wet 66 = .ok (.getfield 34, 3) := dk_180 0 34 (dk_at dksX8_wet_2 20 rfl rfl)
theorem dX8_wet_69 : decode cX8_wet 69 = .ok (.iconst 2, 1) := dk_5 (dk_at dksX8_wet_2 23 rfl rfl)
theorem dX8_wet_70 : decode cX8_wet 70 = .ok (.iaload, 1) := dk_46 (dk_at dksX8_wet_3 0 rfl rfl)
theorem dX8_wet_71 : decode cX8_wet 71 = .ok (.i2l, 1) := dk_133 (dk_at dksX8_wet_3 1 rfl rfl)
theorem dX8_wet_72 : decode cX8_wet 72 = .ok (.iload_n 2, 1) := dk_28 (dk_at dksX8_wet_3 2 rfl rfl)
theorem dX8_wet_73 : decode cX8_wet 73 = .ok (.invokestatic 426, 3) := dk_184 1 170 (dk_at dksX8_wet_3 3 rfl rfl)
theorem dX8_wet_76 : decode cX8_wet 76 = .ok (.lmul, 1) := dk_105 (dk_at dksX8_wet_3 6 rfl rfl)
theorem dX8_wet_77 : decode cX8_wet 77 = .ok (.ldc2_w 424, 3) := dk_20 1 168 (dk_at dksX8_wet_3 7 rfl rfl)
theorem dX8_wet_80 : decode cX8_wet 80 = .ok (.aload_n 0, 1) := dk_42 (dk_at dksX8_wet_3 10 rfl rfl)
theorem dX8_wet_81 : decode cX8_wet 81 = .ok (.getfield 34, 3) := dk_180 0 34 (dk_at dksX8_wet_3 11 rfl rfl)
theorem dX8_wet_84 : decode cX8_wet 84 = .ok (.iconst 2, 1) := dk_5 (dk_at dksX8_wet_3 14 rfl rfl)
theorem dX8_wet_85 : decode cX8_wet 85 = .ok (.iaload, 1) := dk_46 (dk_at dksX8_wet_3 15 rfl rfl)
theorem dX8_wet_86 : decode cX8_wet 86 = .ok (.i2l, 1) := dk_133 (dk_at dksX8_wet_3 16 rfl rfl)
theorem dX8_wet_87 : decode cX8_wet 87 = .ok (.lsub, 1) := dk_101 (dk_at dksX8_wet_3 17 rfl rfl)
theorem dX8_wet_88 : decode cX8_wet 88 = .ok (.iload_n 1, 1) := dk_27 (dk_at dksX8_wet_3 18 rfl rfl)
theorem dX8_wet_89 : decode cX8_wet 89 = .ok (.iload_n 2, 1) := dk_28 (dk_at dksX8_wet_3 19 rfl rfl)
theorem dX8_wet_90 : decode cX8_wet 90 = .ok (.isub, 1) := dk_100 (dk_at dksX8_wet_3 20 rfl rfl)
theorem dX8_wet_91 : decode cX8_wet 91 = .ok (.invokestatic 426, 3) := dk_184 1 170 (dk_at dksX8_wet_3 21 rfl rfl)
theorem dX8_wet_94 : decode cX8_wet 94 = .ok (.lmul, 1) := dk_105 (dk_at dksX8_wet_4 0 rfl rfl)
theorem dX8_wet_95 : decode cX8_wet 95 = .ok (.ldc2_w 424, 3) := dk_20 1 168 (dk_at dksX8_wet_4 1 rfl rfl)
theorem dX8_wet_98 : decode cX8_wet 98 = .ok (.iload_n 1, 1) := dk_27 (dk_at dksX8_wet_4 4 rfl rfl)
theorem dX8_wet_99 : decode cX8_wet 99 = .ok (.invokestatic 426, 3) := dk_184 1 170 (dk_at dksX8_wet_4 5 rfl rfl)
theorem dX8_wet_102 : decode cX8_wet 102 = .ok (.iload_n 3, 1) := dk_29 (dk_at dksX8_wet_4 8 rfl rfl)
theorem dX8_wet_103 : decode cX8_wet 103 = .ok (.invokestatic 429, 3) := dk_184 1 173 (dk_at dksX8_wet_4 9 rfl rfl)
theorem dX8_wet_106 : decode cX8_wet 106 = .ok (.lreturn, 1) := dk_173 (dk_at dksX8_wet_4 12 rfl rfl)
abbrev cX8_drawn : ByteArray := prog_13_method_135_code
def yX8_drawn : MethodName := ⟨RX8, "drawn", "(III)I"⟩
def dkwX8_drawn_3 : List UInt8 := [42, 180, 1, 197, 172]
abbrev dktX8_drawn_3 : List UInt8 := dkwX8_drawn_3 ++ []
def dkwX8_drawn_2 : List UInt8 := [29, 4, 160, 0, 10, 42, 180, 1, 191, 167, 0, 19, 29, 5, 160, 0, 10, 42, 180, 1, 194, 167, 0, 7]
abbrev dktX8_drawn_2 : List UInt8 := dkwX8_drawn_2 ++ dktX8_drawn_3
def dkwX8_drawn_1 : List UInt8 := [154, 0, 6, 16, 254, 172, 42, 27, 133, 28, 182, 1, 211, 29, 154, 0, 10, 42, 180, 1, 188, 167, 0, 31]
abbrev dktX8_drawn_1 : List UInt8 := dkwX8_drawn_1 ++ dktX8_drawn_2
def dkwX8_drawn_0 : List UInt8 := [42, 3, 181, 0, 80, 42, 27, 28, 182, 1, 208, 153, 0, 15, 29, 133, 9, 20, 0, 83, 184, 0, 85]
abbrev dktX8_drawn_0 : List UInt8 := dkwX8_drawn_0 ++ dktX8_drawn_1
theorem dksX8_drawn_0 : cX8_drawn.data.toList.drop 0 = dktX8_drawn_0 := by decide +kernel
theorem dksX8_drawn_1 : cX8_drawn.data.toList.drop 23 = dktX8_drawn_1 := dk_seg dksX8_drawn_0 23 rfl rfl
theorem dksX8_drawn_2 : cX8_drawn.data.toList.drop 47 = dktX8_drawn_2 := dk_seg dksX8_drawn_1 24 rfl rfl
theorem dksX8_drawn_3 : cX8_drawn.data.toList.drop 71 = dktX8_drawn_3 := dk_seg dksX8_drawn_2 24 rfl rfl
theorem dX8_drawn_0 : decode cX8_drawn 0 = .ok (.aload_n 0, 1) := dk_42 (dk_at dksX8_drawn_0 0 rfl rfl)
theorem dX8_drawn_1 : decode cX8_drawn 1 = .ok (.iconst 0, 1) := dk_3 (dk_at dksX8_drawn_0 1 rfl rfl)
theorem dX8_drawn_2 : decode cX8_drawn 2 = .ok (.putfield 80, 3) := dk_181 0 80 (dk_at dksX8_drawn_0 2 rfl rfl)
theorem dX8_drawn_5 : decode cX8_drawn 5 = .ok (.aload_n 0, 1) := dk_42 (dk_at dksX8_drawn_0 5 rfl rfl)
theorem dX8_drawn_6 : decode cX8_drawn 6 = .ok (.iload_n 1, 1) := dk_27 (dk_at dksX8_drawn_0 6 rfl rfl)
theorem dX8_drawn_7 : decode cX8_drawn 7 = .ok (.iload_n 2, 1) := dk_28 (dk_at dksX8_drawn_0 7 rfl rfl)
theorem dX8_drawn_8 : decode cX8_drawn 8 = .ok (.invokevirtual 464, 3) := dk_182 1 208 (dk_at dksX8_drawn_0 8 rfl rfl)
theorem dX8_drawn_11 : decode cX8_drawn 11 = .ok (.ifCond .eq 15, 3) := dk_153 0 15 (dk_at dksX8_drawn_0 11 rfl rfl)
theorem dX8_drawn_14 : decode cX8_drawn 14 = .ok (.iload_n 3, 1) := dk_29 (dk_at dksX8_drawn_0 14 rfl rfl)
theorem dX8_drawn_15 : decode cX8_drawn 15 = .ok (.i2l, 1) := dk_133 (dk_at dksX8_drawn_0 15 rfl rfl)
theorem dX8_drawn_16 : decode cX8_drawn 16 = .ok (.lconst 0, 1) := dk_9 (dk_at dksX8_drawn_0 16 rfl rfl)
theorem dX8_drawn_17 : decode cX8_drawn 17 = .ok (.ldc2_w 83, 3) := dk_20 0 83 (dk_at dksX8_drawn_0 17 rfl rfl)
theorem dX8_drawn_20 : decode cX8_drawn 20 = .ok (.invokestatic 85, 3) := dk_184 0 85 (dk_at dksX8_drawn_0 20 rfl rfl)
theorem dX8_drawn_23 : decode cX8_drawn 23 = .ok (.ifCond .ne 6, 3) := dk_154 0 6 (dk_at dksX8_drawn_1 0 rfl rfl)
theorem dX8_drawn_26 : decode cX8_drawn 26 = .ok (.bipush (-2), 2) := dk_16 254 (dk_at dksX8_drawn_1 3 rfl rfl)
theorem dX8_drawn_28 : decode cX8_drawn 28 = .ok (.ireturn, 1) := dk_172 (dk_at dksX8_drawn_1 5 rfl rfl)
theorem dX8_drawn_29 : decode cX8_drawn 29 = .ok (.aload_n 0, 1) := dk_42 (dk_at dksX8_drawn_1 6 rfl rfl)
theorem dX8_drawn_30 : decode cX8_drawn 30 = .ok (.iload_n 1, 1) := dk_27 (dk_at dksX8_drawn_1 7 rfl rfl)
theorem dX8_drawn_31 : decode cX8_drawn 31 = .ok (.i2l, 1) := dk_133 (dk_at dksX8_drawn_1 8 rfl rfl)
theorem dX8_drawn_32 : decode cX8_drawn 32 = .ok (.iload_n 2, 1) := dk_28 (dk_at dksX8_drawn_1 9 rfl rfl)
theorem dX8_drawn_33 : decode cX8_drawn 33 = .ok (.invokevirtual 467, 3) := dk_182 1 211 (dk_at dksX8_drawn_1 10 rfl rfl)
theorem dX8_drawn_36 : decode cX8_drawn 36 = .ok (.iload_n 3, 1) := dk_29 (dk_at dksX8_drawn_1 13 rfl rfl)
theorem dX8_drawn_37 : decode cX8_drawn 37 = .ok (.ifCond .ne 10, 3) := dk_154 0 10 (dk_at dksX8_drawn_1 14 rfl rfl)
theorem dX8_drawn_40 : decode cX8_drawn 40 = .ok (.aload_n 0, 1) := dk_42 (dk_at dksX8_drawn_1 17 rfl rfl)
theorem dX8_drawn_41 : decode cX8_drawn 41 = .ok (.getfield 444, 3) := dk_180 1 188 (dk_at dksX8_drawn_1 18 rfl rfl)
theorem dX8_drawn_44 : decode cX8_drawn 44 = .ok (.goto 31, 3) := dk_167 0 31 (dk_at dksX8_drawn_1 21 rfl rfl)
theorem dX8_drawn_47 : decode cX8_drawn 47 = .ok (.iload_n 3, 1) := dk_29 (dk_at dksX8_drawn_2 0 rfl rfl)
theorem dX8_drawn_48 : decode cX8_drawn 48 = .ok (.iconst 1, 1) := dk_4 (dk_at dksX8_drawn_2 1 rfl rfl)
theorem dX8_drawn_49 : decode cX8_drawn 49 = .ok (.if_icmp .ne 10, 3) := dk_160 0 10 (dk_at dksX8_drawn_2 2 rfl rfl)
theorem dX8_drawn_52 : decode cX8_drawn 52 = .ok (.aload_n 0, 1) := dk_42 (dk_at dksX8_drawn_2 5 rfl rfl)
theorem dX8_drawn_53 : decode cX8_drawn 53 = .ok (.getfield 447, 3) := dk_180 1 191 (dk_at dksX8_drawn_2 6 rfl rfl)
theorem dX8_drawn_56 : decode cX8_drawn 56 = .ok (.goto 19, 3) := dk_167 0 19 (dk_at dksX8_drawn_2 9 rfl rfl)
theorem dX8_drawn_59 : decode cX8_drawn 59 = .ok (.iload_n 3, 1) := dk_29 (dk_at dksX8_drawn_2 12 rfl rfl)
theorem dX8_drawn_60 : decode cX8_drawn 60 = .ok (.iconst 2, 1) := dk_5 (dk_at dksX8_drawn_2 13 rfl rfl)
theorem dX8_drawn_61 : decode cX8_drawn 61 = .ok (.if_icmp .ne 10, 3) := dk_160 0 10 (dk_at dksX8_drawn_2 14 rfl rfl)
theorem dX8_drawn_64 : decode cX8_drawn 64 = .ok (.aload_n 0, 1) := dk_42 (dk_at dksX8_drawn_2 17 rfl rfl)
theorem dX8_drawn_65 : decode cX8_drawn 65 = .ok (.getfield 450, 3) := dk_180 1 194 (dk_at dksX8_drawn_2 18 rfl rfl)
theorem dX8_drawn_68 : decode cX8_drawn 68 = .ok (.goto 7, 3) := dk_167 0 7 (dk_at dksX8_drawn_2 21 rfl rfl)
theorem dX8_drawn_71 : decode cX8_drawn 71 = .ok (.aload_n 0, 1) := dk_42 (dk_at dksX8_drawn_3 0 rfl rfl)
theorem dX8_drawn_72 : decode cX8_drawn 72 = .ok (.getfield 453, 3) := dk_180 1 197 (dk_at dksX8_drawn_3 1 rfl rfl)
theorem dX8_drawn_75 : decode cX8_drawn 75 = .ok (.ireturn, 1) := dk_172 (dk_at dksX8_drawn_3 4 rfl rfl)
abbrev cX8_isDraw : ByteArray := prog_13_method_134_code
def yX8_isDraw : MethodName := ⟨RX8, "isDraw", "(II)Z"⟩
def dkwX8_isDraw_1 : List UInt8 := [20, 1, 168, 184, 0, 85, 153, 0, 7, 4, 167, 0, 4, 3, 172]
abbrev dktX8_isDraw_1 : List UInt8 := dkwX8_isDraw_1 ++ []
def dkwX8_isDraw_0 : List UInt8 := [42, 182, 0, 254, 153, 0, 31, 27, 133, 9, 20, 1, 206, 184, 0, 85, 153, 0, 19, 28, 133, 10]
abbrev dktX8_isDraw_0 : List UInt8 := dkwX8_isDraw_0 ++ dktX8_isDraw_1
theorem dksX8_isDraw_0 : cX8_isDraw.data.toList.drop 0 = dktX8_isDraw_0 := by decide +kernel
theorem dksX8_isDraw_1 : cX8_isDraw.data.toList.drop 22 = dktX8_isDraw_1 := dk_seg dksX8_isDraw_0 22 rfl rfl
theorem dX8_isDraw_0 : decode cX8_isDraw 0 = .ok (.aload_n 0, 1) := dk_42 (dk_at dksX8_isDraw_0 0 rfl rfl)
theorem dX8_isDraw_1 : decode cX8_isDraw 1 = .ok (.invokevirtual 254, 3) := dk_182 0 254 (dk_at dksX8_isDraw_0 1 rfl rfl)
theorem dX8_isDraw_4 : decode cX8_isDraw 4 = .ok (.ifCond .eq 31, 3) := dk_153 0 31 (dk_at dksX8_isDraw_0 4 rfl rfl)
theorem dX8_isDraw_7 : decode cX8_isDraw 7 = .ok (.iload_n 1, 1) := dk_27 (dk_at dksX8_isDraw_0 7 rfl rfl)
theorem dX8_isDraw_8 : decode cX8_isDraw 8 = .ok (.i2l, 1) := dk_133 (dk_at dksX8_isDraw_0 8 rfl rfl)
theorem dX8_isDraw_9 : decode cX8_isDraw 9 = .ok (.lconst 0, 1) := dk_9 (dk_at dksX8_isDraw_0 9 rfl rfl)
theorem dX8_isDraw_10 : decode cX8_isDraw 10 = .ok (.ldc2_w 462, 3) := dk_20 1 206 (dk_at dksX8_isDraw_0 10 rfl rfl)
theorem dX8_isDraw_13 : decode cX8_isDraw 13 = .ok (.invokestatic 85, 3) := dk_184 0 85 (dk_at dksX8_isDraw_0 13 rfl rfl)
theorem dX8_isDraw_16 : decode cX8_isDraw 16 = .ok (.ifCond .eq 19, 3) := dk_153 0 19 (dk_at dksX8_isDraw_0 16 rfl rfl)
theorem dX8_isDraw_19 : decode cX8_isDraw 19 = .ok (.iload_n 2, 1) := dk_28 (dk_at dksX8_isDraw_0 19 rfl rfl)
theorem dX8_isDraw_20 : decode cX8_isDraw 20 = .ok (.i2l, 1) := dk_133 (dk_at dksX8_isDraw_0 20 rfl rfl)
theorem dX8_isDraw_21 : decode cX8_isDraw 21 = .ok (.lconst 1, 1) := dk_10 (dk_at dksX8_isDraw_0 21 rfl rfl)
theorem dX8_isDraw_22 : decode cX8_isDraw 22 = .ok (.ldc2_w 424, 3) := dk_20 1 168 (dk_at dksX8_isDraw_1 0 rfl rfl)
theorem dX8_isDraw_25 : decode cX8_isDraw 25 = .ok (.invokestatic 85, 3) := dk_184 0 85 (dk_at dksX8_isDraw_1 3 rfl rfl)
theorem dX8_isDraw_28 : decode cX8_isDraw 28 = .ok (.ifCond .eq 7, 3) := dk_153 0 7 (dk_at dksX8_isDraw_1 6 rfl rfl)
theorem dX8_isDraw_31 : decode cX8_isDraw 31 = .ok (.iconst 1, 1) := dk_4 (dk_at dksX8_isDraw_1 9 rfl rfl)
theorem dX8_isDraw_32 : decode cX8_isDraw 32 = .ok (.goto 4, 3) := dk_167 0 4 (dk_at dksX8_isDraw_1 10 rfl rfl)
theorem dX8_isDraw_35 : decode cX8_isDraw 35 = .ok (.iconst 0, 1) := dk_3 (dk_at dksX8_isDraw_1 13 rfl rfl)
theorem dX8_isDraw_36 : decode cX8_isDraw 36 = .ok (.ireturn, 1) := dk_172 (dk_at dksX8_isDraw_1 14 rfl rfl)
abbrev cX8_draws : ByteArray := prog_13_method_132_code
def yX8_draws : MethodName := ⟨RX8, "draws", "(JI)V"⟩
def dkwX8_draws_10 : List UInt8 := [180, 1, 191, 2, 160, 0, 9, 42, 21, 6, 181, 1, 191, 132, 6, 1, 167, 255, 55, 177]
abbrev dktX8_draws_10 : List UInt8 := dkwX8_draws_10 ++ []
def dkwX8_draws_9 : List UInt8 := [167, 0, 4, 3, 96, 54, 7, 42, 89, 180, 1, 188, 21, 7, 96, 181, 1, 188, 21, 7, 158, 0, 17, 42]
abbrev dktX8_draws_9 : List UInt8 := dkwX8_draws_9 ++ dktX8_draws_10
def dkwX8_draws_8 : List UInt8 := [182, 1, 37, 153, 0, 7, 4, 167, 0, 4, 3, 42, 4, 21, 6, 182, 1, 37, 153, 0, 7, 4]
abbrev dktX8_draws_8 : List UInt8 := dkwX8_draws_8 ++ dktX8_draws_9
def dkwX8_draws_7 : List UInt8 := [21, 5, 96, 46, 182, 1, 203, 79, 21, 5, 4, 96, 42, 4, 182, 1, 8, 112, 54, 5, 42, 3, 21, 6]
abbrev dktX8_draws_7 : List UInt8 := dkwX8_draws_7 ++ dktX8_draws_8
def dkwX8_draws_6 : List UInt8 := [182, 1, 8, 158, 0, 40, 42, 180, 0, 68, 17, 0, 200, 21, 6, 96, 42, 42, 180, 0, 37, 16, 12]
abbrev dktX8_draws_6 : List UInt8 := dkwX8_draws_6 ++ dktX8_draws_7
def dkwX8_draws_5 : List UInt8 := [180, 0, 37, 21, 4, 46, 182, 1, 203, 79, 21, 4, 4, 96, 42, 3, 182, 1, 8, 112, 54, 4, 42, 4]
abbrev dktX8_draws_5 : List UInt8 := dkwX8_draws_5 ++ dktX8_draws_6
def dkwX8_draws_4 : List UInt8 := [181, 1, 194, 167, 0, 86, 42, 3, 182, 1, 8, 158, 0, 33, 42, 180, 0, 68, 21, 6, 42, 42]
abbrev dktX8_draws_4 : List UInt8 := dkwX8_draws_4 ++ dktX8_draws_5
def dkwX8_draws_3 : List UInt8 := [2, 79, 42, 42, 180, 0, 34, 5, 46, 182, 1, 200, 153, 0, 16, 42, 89, 180, 1, 194, 4, 96]
abbrev dktX8_draws_3 : List UInt8 := dkwX8_draws_3 ++ dktX8_draws_4
def dkwX8_draws_2 : List UInt8 := [21, 6, 29, 162, 0, 201, 42, 180, 0, 68, 21, 6, 2, 79, 42, 180, 0, 68, 17, 0, 200, 21, 6, 96]
abbrev dktX8_draws_2 : List UInt8 := dkwX8_draws_2 ++ dktX8_draws_3
def dkwX8_draws_1 : List UInt8 := [181, 1, 197, 42, 180, 0, 34, 8, 46, 54, 4, 42, 180, 0, 34, 16, 6, 46, 54, 5, 3, 54, 6]
abbrev dktX8_draws_1 : List UInt8 := dkwX8_draws_1 ++ dktX8_draws_2
def dkwX8_draws_0 : List UInt8 := [42, 31, 181, 1, 179, 42, 3, 181, 1, 188, 42, 2, 181, 1, 191, 42, 3, 181, 1, 194, 42, 3]
abbrev dktX8_draws_0 : List UInt8 := dkwX8_draws_0 ++ dktX8_draws_1
theorem dksX8_draws_0 : cX8_draws.data.toList.drop 0 = dktX8_draws_0 := by decide +kernel
theorem dksX8_draws_1 : cX8_draws.data.toList.drop 22 = dktX8_draws_1 := dk_seg dksX8_draws_0 22 rfl rfl
theorem dksX8_draws_2 : cX8_draws.data.toList.drop 45 = dktX8_draws_2 := dk_seg dksX8_draws_1 23 rfl rfl
theorem dksX8_draws_3 : cX8_draws.data.toList.drop 69 = dktX8_draws_3 := dk_seg dksX8_draws_2 24 rfl rfl
theorem dksX8_draws_4 : cX8_draws.data.toList.drop 91 = dktX8_draws_4 := dk_seg dksX8_draws_3 22 rfl rfl
theorem dksX8_draws_5 : cX8_draws.data.toList.drop 113 = dktX8_draws_5 := dk_seg dksX8_draws_4 22 rfl rfl
theorem dksX8_draws_6 : cX8_draws.data.toList.drop 137 = dktX8_draws_6 := dk_seg dksX8_draws_5 24 rfl rfl
theorem dksX8_draws_7 : cX8_draws.data.toList.drop 160 = dktX8_draws_7 := dk_seg dksX8_draws_6 23 rfl rfl
theorem dksX8_draws_8 : cX8_draws.data.toList.drop 184 = dktX8_draws_8 := dk_seg dksX8_draws_7 24 rfl rfl
theorem dksX8_draws_9 : cX8_draws.data.toList.drop 206 = dktX8_draws_9 := dk_seg dksX8_draws_8 22 rfl rfl
theorem dksX8_draws_10 : cX8_draws.data.toList.drop 230 = dktX8_draws_10 := dk_seg dksX8_draws_9 24 rfl rfl
theorem dX8_draws_0 : decode cX8_draws 0 = .ok (.aload_n 0, 1) := dk_42 (dk_at dksX8_draws_0 0 rfl rfl)
theorem dX8_draws_1 : decode cX8_draws 1 = .ok (.lload_n 1, 1) := dk_31 (dk_at dksX8_draws_0 1 rfl rfl)
theorem dX8_draws_2 : decode cX8_draws 2 = .ok (.putfield 435, 3) := dk_181 1 179 (dk_at dksX8_draws_0 2 rfl rfl)
theorem dX8_draws_5 : decode cX8_draws 5 = .ok (.aload_n 0, 1) := dk_42 (dk_at dksX8_draws_0 5 rfl rfl)
theorem dX8_draws_6 : decode cX8_draws 6 = .ok (.iconst 0, 1) := dk_3 (dk_at dksX8_draws_0 6 rfl rfl)
theorem dX8_draws_7 : decode cX8_draws 7 = .ok (.putfield 444, 3) := dk_181 1 188 (dk_at dksX8_draws_0 7 rfl rfl)
theorem dX8_draws_10 : decode cX8_draws 10 = .ok (.aload_n 0, 1) := dk_42 (dk_at dksX8_draws_0 10 rfl rfl)
theorem dX8_draws_11 : decode cX8_draws 11 = .ok (.iconst (-1), 1) := dk_2 (dk_at dksX8_draws_0 11 rfl rfl)
theorem dX8_draws_12 : decode cX8_draws 12 = .ok (.putfield 447, 3) := dk_181 1 191 (dk_at dksX8_draws_0 12 rfl rfl)
theorem dX8_draws_15 : decode cX8_draws 15 = .ok (.aload_n 0, 1) := dk_42 (dk_at dksX8_draws_0 15 rfl rfl)
theorem dX8_draws_16 : decode cX8_draws 16 = .ok (.iconst 0, 1) := dk_3 (dk_at dksX8_draws_0 16 rfl rfl)
theorem dX8_draws_17 : decode cX8_draws 17 = .ok (.putfield 450, 3) := dk_181 1 194 (dk_at dksX8_draws_0 17 rfl rfl)
theorem dX8_draws_20 : decode cX8_draws 20 = .ok (.aload_n 0, 1) := dk_42 (dk_at dksX8_draws_0 20 rfl rfl)
theorem dX8_draws_21 : decode cX8_draws 21 = .ok (.iconst 0, 1) := dk_3 (dk_at dksX8_draws_0 21 rfl rfl)
theorem dX8_draws_22 : decode cX8_draws 22 = .ok (.putfield 453, 3) := dk_181 1 197 (dk_at dksX8_draws_1 0 rfl rfl)
theorem dX8_draws_25 : decode cX8_draws 25 = .ok (.aload_n 0, 1) := dk_42 (dk_at dksX8_draws_1 3 rfl rfl)
theorem dX8_draws_26 : decode cX8_draws 26 = .ok (.getfield 34, 3) := dk_180 0 34 (dk_at dksX8_draws_1 4 rfl rfl)
theorem dX8_draws_29 : decode cX8_draws 29 = .ok (.iconst 5, 1) := dk_8 (dk_at dksX8_draws_1 7 rfl rfl)
theorem dX8_draws_30 : decode cX8_draws 30 = .ok (.iaload, 1) := dk_46 (dk_at dksX8_draws_1 8 rfl rfl)
theorem dX8_draws_31 : decode cX8_draws 31 = .ok (.istore 4, 2) := dk_54 4 (dk_at dksX8_draws_1 9 rfl rfl)
theorem dX8_draws_33 : decode cX8_draws 33 = .ok (.aload_n 0, 1) := dk_42 (dk_at dksX8_draws_1 11 rfl rfl)
theorem dX8_draws_34 : decode cX8_draws 34 = .ok (.getfield 34, 3) := dk_180 0 34 (dk_at dksX8_draws_1 12 rfl rfl)
theorem dX8_draws_37 : decode cX8_draws 37 = .ok (.bipush 6, 2) := dk_16 6 (dk_at dksX8_draws_1 15 rfl rfl)
theorem dX8_draws_39 : decode cX8_draws 39 = .ok (.iaload, 1) := dk_46 (dk_at dksX8_draws_1 17 rfl rfl)
theorem dX8_draws_40 : decode cX8_draws 40 = .ok (.istore 5, 2) := dk_54 5 (dk_at dksX8_draws_1 18 rfl rfl)
theorem dX8_draws_42 : decode cX8_draws 42 = .ok (.iconst 0, 1) := dk_3 (dk_at dksX8_draws_1 20 rfl rfl)
theorem dX8_draws_43 : decode cX8_draws 43 = .ok (.istore 6, 2) := dk_54 6 (dk_at dksX8_draws_1 21 rfl rfl)
theorem dX8_draws_45 : decode cX8_draws 45 = .ok (.iload 6, 2) := dk_21 6 (dk_at dksX8_draws_2 0 rfl rfl)
theorem dX8_draws_47 : decode cX8_draws 47 = .ok (.iload_n 3, 1) := dk_29 (dk_at dksX8_draws_2 2 rfl rfl)
theorem dX8_draws_48 : decode cX8_draws 48 = .ok (.if_icmp .ge 201, 3) := dk_162 0 201 (dk_at dksX8_draws_2 3 rfl rfl)
theorem dX8_draws_51 : decode cX8_draws 51 = .ok (.aload_n 0, 1) := dk_42 (dk_at dksX8_draws_2 6 rfl rfl)
theorem dX8_draws_52 : decode cX8_draws 52 = .ok (.getfield 68, 3) := dk_180 0 68 (dk_at dksX8_draws_2 7 rfl rfl)
theorem dX8_draws_55 : decode cX8_draws 55 = .ok (.iload 6, 2) := dk_21 6 (dk_at dksX8_draws_2 10 rfl rfl)
theorem dX8_draws_57 : decode cX8_draws 57 = .ok (.iconst (-1), 1) := dk_2 (dk_at dksX8_draws_2 12 rfl rfl)
theorem dX8_draws_58 : decode cX8_draws 58 = .ok (.iastore, 1) := dk_79 (dk_at dksX8_draws_2 13 rfl rfl)
theorem dX8_draws_59 : decode cX8_draws 59 = .ok (.aload_n 0, 1) := dk_42 (dk_at dksX8_draws_2 14 rfl rfl)
theorem dX8_draws_60 : decode cX8_draws 60 = .ok (.getfield 68, 3) := dk_180 0 68 (dk_at dksX8_draws_2 15 rfl rfl)
theorem dX8_draws_63 : decode cX8_draws 63 = .ok (.sipush 200, 3) := dk_17 0 200 (dk_at dksX8_draws_2 18 rfl rfl)
theorem dX8_draws_66 : decode cX8_draws 66 = .ok (.iload 6, 2) := dk_21 6 (dk_at dksX8_draws_2 21 rfl rfl)
theorem dX8_draws_68 : decode cX8_draws 68 = .ok (.iadd, 1) := dk_96 (dk_at dksX8_draws_2 23 rfl rfl)
theorem dX8_draws_69 : decode cX8_draws 69 = .ok (.iconst (-1), 1) := dk_2 (dk_at dksX8_draws_3 0 rfl rfl)
theorem dX8_draws_70 : decode cX8_draws 70 = .ok (.iastore, 1) := dk_79 (dk_at dksX8_draws_3 1 rfl rfl)
theorem dX8_draws_71 : decode cX8_draws 71 = .ok (.aload_n 0, 1) := dk_42 (dk_at dksX8_draws_3 2 rfl rfl)
theorem dX8_draws_72 : decode cX8_draws 72 = .ok (.aload_n 0, 1) := dk_42 (dk_at dksX8_draws_3 3 rfl rfl)
theorem dX8_draws_73 : decode cX8_draws 73 = .ok (.getfield 34, 3) := dk_180 0 34 (dk_at dksX8_draws_3 4 rfl rfl)
theorem dX8_draws_76 : decode cX8_draws 76 = .ok (.iconst 2, 1) := dk_5 (dk_at dksX8_draws_3 7 rfl rfl)
theorem dX8_draws_77 : decode cX8_draws 77 = .ok (.iaload, 1) := dk_46 (dk_at dksX8_draws_3 8 rfl rfl)
theorem dX8_draws_78 : decode cX8_draws 78 = .ok (.invokevirtual 456, 3) := dk_182 1 200 (dk_at dksX8_draws_3 9 rfl rfl)
theorem dX8_draws_81 : decode cX8_draws 81 = .ok (.ifCond .eq 16, 3) := dk_153 0 16 (dk_at dksX8_draws_3 12 rfl rfl)
theorem dX8_draws_84 : decode cX8_draws 84 = .ok (.aload_n 0, 1) := dk_42 (dk_at dksX8_draws_3 15 rfl rfl)
theorem dX8_draws_85 : decode cX8_draws 85 = .ok (.dup, 1) := dk_89 (dk_at dksX8_draws_3 16 rfl rfl)
theorem dX8_draws_86 : decode cX8_draws 86 = .ok (.getfield 450, 3) := dk_180 1 194 (dk_at dksX8_draws_3 17 rfl rfl)
theorem dX8_draws_89 : decode cX8_draws 89 = .ok (.iconst 1, 1) := dk_4 (dk_at dksX8_draws_3 20 rfl rfl)
theorem dX8_draws_90 : decode cX8_draws 90 = .ok (.iadd, 1) := dk_96 (dk_at dksX8_draws_3 21 rfl rfl)
theorem dX8_draws_91 : decode cX8_draws 91 = .ok (.putfield 450, 3) := dk_181 1 194 (dk_at dksX8_draws_4 0 rfl rfl)
theorem dX8_draws_94 : decode cX8_draws 94 = .ok (.goto 86, 3) := dk_167 0 86 (dk_at dksX8_draws_4 3 rfl rfl)
theorem dX8_draws_97 : decode cX8_draws 97 = .ok (.aload_n 0, 1) := dk_42 (dk_at dksX8_draws_4 6 rfl rfl)
theorem dX8_draws_98 : decode cX8_draws 98 = .ok (.iconst 0, 1) := dk_3 (dk_at dksX8_draws_4 7 rfl rfl)
theorem dX8_draws_99 : decode cX8_draws 99 = .ok (.invokevirtual 264, 3) := dk_182 1 8 (dk_at dksX8_draws_4 8 rfl rfl)
theorem dX8_draws_102 : decode cX8_draws 102 = .ok (.ifCond .le 33, 3) := dk_158 0 33 (dk_at dksX8_draws_4 11 rfl rfl)
theorem dX8_draws_105 : decode cX8_draws 105 = .ok (.aload_n 0, 1) := dk_42 (dk_at dksX8_draws_4 14 rfl rfl)
theorem dX8_draws_106 : decode cX8_draws 106 = .ok (.getfield 68, 3) := dk_180 0 68 (dk_at dksX8_draws_4 15 rfl rfl)
theorem dX8_draws_109 : decode cX8_draws 109 = .ok (.iload 6, 2) := dk_21 6 (dk_at dksX8_draws_4 18 rfl rfl)
theorem dX8_draws_111 : decode cX8_draws 111 = .ok (.aload_n 0, 1) := dk_42 (dk_at dksX8_draws_4 20 rfl rfl)
theorem dX8_draws_112 : decode cX8_draws 112 = .ok (.aload_n 0, 1) := dk_42 (dk_at dksX8_draws_4 21 rfl rfl)
theorem dX8_draws_113 : decode cX8_draws 113 = .ok (.getfield 37, 3) := dk_180 0 37 (dk_at dksX8_draws_5 0 rfl rfl)
theorem dX8_draws_116 : decode cX8_draws 116 = .ok (.iload 4, 2) := dk_21 4 (dk_at dksX8_draws_5 3 rfl rfl)
theorem dX8_draws_118 : decode cX8_draws 118 = .ok (.iaload, 1) := dk_46 (dk_at dksX8_draws_5 5 rfl rfl)
theorem dX8_draws_119 : decode cX8_draws 119 = .ok (.invokevirtual 459, 3) := dk_182 1 203 (dk_at dksX8_draws_5 6 rfl rfl)
theorem dX8_draws_122 : decode cX8_draws 122 = .ok (.iastore, 1) := dk_79 (dk_at dksX8_draws_5 9 rfl rfl)
theorem dX8_draws_123 : decode cX8_draws 123 = .ok (.iload 4, 2) := dk_21 4 (dk_at dksX8_draws_5 10 rfl rfl)
theorem dX8_draws_125 : decode cX8_draws 125 = .ok (.iconst 1, 1) := dk_4 (dk_at dksX8_draws_5 12 rfl rfl)
theorem dX8_draws_126 : decode cX8_draws 126 = .ok (.iadd, 1) := dk_96 (dk_at dksX8_draws_5 13 rfl rfl)
theorem dX8_draws_127 : decode cX8_draws 127 = .ok (.aload_n 0, 1) := dk_42 (dk_at dksX8_draws_5 14 rfl rfl)
theorem dX8_draws_128 : decode cX8_draws 128 = .ok (.iconst 0, 1) := dk_3 (dk_at dksX8_draws_5 15 rfl rfl)
theorem dX8_draws_129 : decode cX8_draws 129 = .ok (.invokevirtual 264, 3) := dk_182 1 8 (dk_at dksX8_draws_5 16 rfl rfl)
theorem dX8_draws_132 : decode cX8_draws 132 = .ok (.irem, 1) := dk_112 (dk_at dksX8_draws_5 19 rfl rfl)
theorem dX8_draws_133 : decode cX8_draws 133 = .ok (.istore 4, 2) := dk_54 4 (dk_at dksX8_draws_5 20 rfl rfl)
theorem dX8_draws_135 : decode cX8_draws 135 = .ok (.aload_n 0, 1) := dk_42 (dk_at dksX8_draws_5 22 rfl rfl)
theorem dX8_draws_136 : decode cX8_draws 136 = .ok (.iconst 1, 1) := dk_4 (dk_at dksX8_draws_5 23 rfl rfl)
theorem dX8_draws_137 : decode cX8_draws 137 = .ok (.invokevirtual 264, 3) := dk_182 1 8 (dk_at dksX8_draws_6 0 rfl rfl)
theorem dX8_draws_140 : decode cX8_draws 140 = .ok (.ifCond .le 40, 3) := dk_158 0 40 (dk_at dksX8_draws_6 3 rfl rfl)
theorem dX8_draws_143 : decode cX8_draws 143 = .ok (.aload_n 0, 1) := dk_42 (dk_at dksX8_draws_6 6 rfl rfl)
theorem dX8_draws_144 : decode cX8_draws 144 = .ok (.getfield 68, 3) := dk_180 0 68 (dk_at dksX8_draws_6 7 rfl rfl)
theorem dX8_draws_147 : decode cX8_draws 147 = .ok (.sipush 200, 3) := dk_17 0 200 (dk_at dksX8_draws_6 10 rfl rfl)
theorem dX8_draws_150 : decode cX8_draws 150 = .ok (.iload 6, 2) := dk_21 6 (dk_at dksX8_draws_6 13 rfl rfl)
theorem dX8_draws_152 : decode cX8_draws 152 = .ok (.iadd, 1) := dk_96 (dk_at dksX8_draws_6 15 rfl rfl)
theorem dX8_draws_153 : decode cX8_draws 153 = .ok (.aload_n 0, 1) := dk_42 (dk_at dksX8_draws_6 16 rfl rfl)
theorem dX8_draws_154 : decode cX8_draws 154 = .ok (.aload_n 0, 1) := dk_42 (dk_at dksX8_draws_6 17 rfl rfl)
theorem dX8_draws_155 : decode cX8_draws 155 = .ok (.getfield 37, 3) := dk_180 0 37 (dk_at dksX8_draws_6 18 rfl rfl)
theorem dX8_draws_158 : decode cX8_draws 158 = .ok (.bipush 12, 2) := dk_16 12 (dk_at dksX8_draws_6 21 rfl rfl)
theorem dX8_draws_160 : decode cX8_draws 160 = .ok (.iload 5, 2) := dk_21 5 (dk_at dksX8_draws_7 0 rfl rfl)
theorem dX8_draws_162 : decode cX8_draws 162 = .ok (.iadd, 1) := dk_96 (dk_at dksX8_draws_7 2 rfl rfl)
theorem dX8_draws_163 : decode cX8_draws 163 = .ok (.iaload, 1) := dk_46 (dk_at dksX8_draws_7 3 rfl rfl)
theorem dX8_draws_164 : decode cX8_draws 164 = .ok (.invokevirtual 459, 3) := dk_182 1 203 (dk_at dksX8_draws_7 4 rfl rfl)
theorem dX8_draws_167 : decode cX8_draws 167 = .ok (.iastore, 1) := dk_79 (dk_at dksX8_draws_7 7 rfl rfl)
theorem dX8_draws_168 : decode cX8_draws 168 = .ok (.iload 5, 2) := dk_21 5 (dk_at dksX8_draws_7 8 rfl rfl)
theorem dX8_draws_170 : decode cX8_draws 170 = .ok (.iconst 1, 1) := dk_4 (dk_at dksX8_draws_7 10 rfl rfl)
theorem dX8_draws_171 : decode cX8_draws 171 = .ok (.iadd, 1) := dk_96 (dk_at dksX8_draws_7 11 rfl rfl)
theorem dX8_draws_172 : decode cX8_draws 172 = .ok (.aload_n 0, 1) := dk_42 (dk_at dksX8_draws_7 12 rfl rfl)
theorem dX8_draws_173 : decode cX8_draws 173 = .ok (.iconst 1, 1) := dk_4 (dk_at dksX8_draws_7 13 rfl rfl)
theorem dX8_draws_174 : decode cX8_draws 174 = .ok (.invokevirtual 264, 3) := dk_182 1 8 (dk_at dksX8_draws_7 14 rfl rfl)
theorem dX8_draws_177 : decode cX8_draws 177 = .ok (.irem, 1) := dk_112 (dk_at dksX8_draws_7 17 rfl rfl)
theorem dX8_draws_178 : decode cX8_draws 178 = .ok (.istore 5, 2) := dk_54 5 (dk_at dksX8_draws_7 18 rfl rfl)
theorem dX8_draws_180 : decode cX8_draws 180 = .ok (.aload_n 0, 1) := dk_42 (dk_at dksX8_draws_7 20 rfl rfl)
theorem dX8_draws_181 : decode cX8_draws 181 = .ok (.iconst 0, 1) := dk_3 (dk_at dksX8_draws_7 21 rfl rfl)
theorem dX8_draws_182 : decode cX8_draws 182 = .ok (.iload 6, 2) := dk_21 6 (dk_at dksX8_draws_7 22 rfl rfl)
theorem dX8_draws_184 : decode cX8_draws 184 = .ok (.invokevirtual 293, 3) := dk_182 1 37 (dk_at dksX8_draws_8 0 rfl rfl)
theorem dX8_draws_187 : decode cX8_draws 187 = .ok (.ifCond .eq 7, 3) := dk_153 0 7 (dk_at dksX8_draws_8 3 rfl rfl)
theorem dX8_draws_190 : decode cX8_draws 190 = .ok (.iconst 1, 1) := dk_4 (dk_at dksX8_draws_8 6 rfl rfl)
theorem dX8_draws_191 : decode cX8_draws 191 = .ok (.goto 4, 3) := dk_167 0 4 (dk_at dksX8_draws_8 7 rfl rfl)
theorem dX8_draws_194 : decode cX8_draws 194 = .ok (.iconst 0, 1) := dk_3 (dk_at dksX8_draws_8 10 rfl rfl)
theorem dX8_draws_195 : decode cX8_draws 195 = .ok (.aload_n 0, 1) := dk_42 (dk_at dksX8_draws_8 11 rfl rfl)
theorem dX8_draws_196 : decode cX8_draws 196 = .ok (.iconst 1, 1) := dk_4 (dk_at dksX8_draws_8 12 rfl rfl)
theorem dX8_draws_197 : decode cX8_draws 197 = .ok (.iload 6, 2) := dk_21 6 (dk_at dksX8_draws_8 13 rfl rfl)
theorem dX8_draws_199 : decode cX8_draws 199 = .ok (.invokevirtual 293, 3) := dk_182 1 37 (dk_at dksX8_draws_8 15 rfl rfl)
theorem dX8_draws_202 : decode cX8_draws 202 = .ok (.ifCond .eq 7, 3) := dk_153 0 7 (dk_at dksX8_draws_8 18 rfl rfl)
theorem dX8_draws_205 : decode cX8_draws 205 = .ok (.iconst 1, 1) := dk_4 (dk_at dksX8_draws_8 21 rfl rfl)
theorem dX8_draws_206 : decode cX8_draws 206 = .ok (.goto 4, 3) := dk_167 0 4 (dk_at dksX8_draws_9 0 rfl rfl)
theorem dX8_draws_209 : decode cX8_draws 209 = .ok (.iconst 0, 1) := dk_3 (dk_at dksX8_draws_9 3 rfl rfl)
theorem dX8_draws_210 : decode cX8_draws 210 = .ok (.iadd, 1) := dk_96 (dk_at dksX8_draws_9 4 rfl rfl)
theorem dX8_draws_211 : decode cX8_draws 211 = .ok (.istore 7, 2) := dk_54 7 (dk_at dksX8_draws_9 5 rfl rfl)
theorem dX8_draws_213 : decode cX8_draws 213 = .ok (.aload_n 0, 1) := dk_42 (dk_at dksX8_draws_9 7 rfl rfl)
theorem dX8_draws_214 : decode cX8_draws 214 = .ok (.dup, 1) := dk_89 (dk_at dksX8_draws_9 8 rfl rfl)
theorem dX8_draws_215 : decode cX8_draws 215 = .ok (.getfield 444, 3) := dk_180 1 188 (dk_at dksX8_draws_9 9 rfl rfl)
theorem dX8_draws_218 : decode cX8_draws 218 = .ok (.iload 7, 2) := dk_21 7 (dk_at dksX8_draws_9 12 rfl rfl)
theorem dX8_draws_220 : decode cX8_draws 220 = .ok (.iadd, 1) := dk_96 (dk_at dksX8_draws_9 14 rfl rfl)
theorem dX8_draws_221 : decode cX8_draws 221 = .ok (.putfield 444, 3) := dk_181 1 188 (dk_at dksX8_draws_9 15 rfl rfl)
theorem dX8_draws_224 : decode cX8_draws 224 = .ok (.iload 7, 2) := dk_21 7 (dk_at dksX8_draws_9 18 rfl rfl)
theorem dX8_draws_226 : decode cX8_draws 226 = .ok (.ifCond .le 17, 3) := dk_158 0 17 (dk_at dksX8_draws_9 20 rfl rfl)
theorem dX8_draws_229 : decode cX8_draws 229 = .ok (.aload_n 0, 1) := dk_42 (dk_at dksX8_draws_9 23 rfl rfl)
theorem dX8_draws_230 : decode cX8_draws 230 = .ok (.getfield 447, 3) := dk_180 1 191 (dk_at dksX8_draws_10 0 rfl rfl)
theorem dX8_draws_233 : decode cX8_draws 233 = .ok (.iconst (-1), 1) := dk_2 (dk_at dksX8_draws_10 3 rfl rfl)
theorem dX8_draws_234 : decode cX8_draws 234 = .ok (.if_icmp .ne 9, 3) := dk_160 0 9 (dk_at dksX8_draws_10 4 rfl rfl)
theorem dX8_draws_237 : decode cX8_draws 237 = .ok (.aload_n 0, 1) := dk_42 (dk_at dksX8_draws_10 7 rfl rfl)
theorem dX8_draws_238 : decode cX8_draws 238 = .ok (.iload 6, 2) := dk_21 6 (dk_at dksX8_draws_10 8 rfl rfl)
theorem dX8_draws_240 : decode cX8_draws 240 = .ok (.putfield 447, 3) := dk_181 1 191 (dk_at dksX8_draws_10 10 rfl rfl)
theorem dX8_draws_243 : decode cX8_draws 243 = .ok (.iinc 6 1, 3) := dk_132 6 1 (dk_at dksX8_draws_10 13 rfl rfl)
theorem dX8_draws_246 : decode cX8_draws 246 = .ok (.goto (-201), 3) := dk_167 255 55 (dk_at dksX8_draws_10 16 rfl rfl)
theorem dX8_draws_249 : decode cX8_draws 249 = .ok (.return_, 1) := dk_177 (dk_at dksX8_draws_10 19 rfl rfl)
abbrev cX8_isBelow : ByteArray := prog_13_method_131_code
def yX8_isBelow : MethodName := ⟨RX8, "isBelow", "(I)Z"⟩
def dkwX8_isBelow_1 : List UInt8 := [20, 1, 186, 109, 20, 1, 168, 113, 27, 133, 148, 156, 0, 7, 4, 167, 0, 4, 3, 172]
abbrev dktX8_isBelow_1 : List UInt8 := dkwX8_isBelow_1 ++ []
def dkwX8_isBelow_0 : List UInt8 := [42, 20, 1, 177, 42, 180, 1, 179, 105, 20, 1, 182, 97, 20, 1, 184, 113, 181, 1, 179, 42, 180, 1, 179]
abbrev dktX8_isBelow_0 : List UInt8 := dkwX8_isBelow_0 ++ dktX8_isBelow_1
theorem dksX8_isBelow_0 : cX8_isBelow.data.toList.drop 0 = dktX8_isBelow_0 := by decide +kernel
theorem dksX8_isBelow_1 : cX8_isBelow.data.toList.drop 24 = dktX8_isBelow_1 := dk_seg dksX8_isBelow_0 24 rfl rfl
theorem dX8_isBelow_0 : decode cX8_isBelow 0 = .ok (.aload_n 0, 1) := dk_42 (dk_at dksX8_isBelow_0 0 rfl rfl)
theorem dX8_isBelow_1 : decode cX8_isBelow 1 = .ok (.ldc2_w 433, 3) := dk_20 1 177 (dk_at dksX8_isBelow_0 1 rfl rfl)
theorem dX8_isBelow_4 : decode cX8_isBelow 4 = .ok (.aload_n 0, 1) := dk_42 (dk_at dksX8_isBelow_0 4 rfl rfl)
theorem dX8_isBelow_5 : decode cX8_isBelow 5 = .ok (.getfield 435, 3) := dk_180 1 179 (dk_at dksX8_isBelow_0 5 rfl rfl)
theorem dX8_isBelow_8 : decode cX8_isBelow 8 = .ok (.lmul, 1) := dk_105 (dk_at dksX8_isBelow_0 8 rfl rfl)
theorem dX8_isBelow_9 : decode cX8_isBelow 9 = .ok (.ldc2_w 438, 3) := dk_20 1 182 (dk_at dksX8_isBelow_0 9 rfl rfl)
theorem dX8_isBelow_12 : decode cX8_isBelow 12 = .ok (.ladd, 1) := dk_97 (dk_at dksX8_isBelow_0 12 rfl rfl)
theorem dX8_isBelow_13 : decode cX8_isBelow 13 = .ok (.ldc2_w 440, 3) := dk_20 1 184 (dk_at dksX8_isBelow_0 13 rfl rfl)
theorem dX8_isBelow_16 : decode cX8_isBelow 16 = .ok (.lrem, 1) := dk_113 (dk_at dksX8_isBelow_0 16 rfl rfl)
theorem dX8_isBelow_17 : decode cX8_isBelow 17 = .ok (.putfield 435, 3) := dk_181 1 179 (dk_at dksX8_isBelow_0 17 rfl rfl)
theorem dX8_isBelow_20 : decode cX8_isBelow 20 = .ok (.aload_n 0, 1) := dk_42 (dk_at dksX8_isBelow_0 20 rfl rfl)
theorem dX8_isBelow_21 : decode cX8_isBelow 21 = .ok (.getfield 435, 3) := dk_180 1 179 (dk_at dksX8_isBelow_0 21 rfl rfl)
theorem dX8_isBelow_24 : decode cX8_isBelow 24 = .ok (.ldc2_w 442, 3) := dk_20 1 186 (dk_at dksX8_isBelow_1 0 rfl rfl)
theorem dX8_isBelow_27 : decode cX8_isBelow 27 = .ok (.ldiv, 1) := dk_109 (dk_at dksX8_isBelow_1 3 rfl rfl)
theorem dX8_isBelow_28 : decode cX8_isBelow 28 = .ok (.ldc2_w 424, 3) := dk_20 1 168 (dk_at dksX8_isBelow_1 4 rfl rfl)
theorem dX8_isBelow_31 : decode cX8_isBelow 31 = .ok (.lrem, 1) := dk_113 (dk_at dksX8_isBelow_1 7 rfl rfl)
theorem dX8_isBelow_32 : decode cX8_isBelow 32 = .ok (.iload_n 1, 1) := dk_27 (dk_at dksX8_isBelow_1 8 rfl rfl)
theorem dX8_isBelow_33 : decode cX8_isBelow 33 = .ok (.i2l, 1) := dk_133 (dk_at dksX8_isBelow_1 9 rfl rfl)
theorem dX8_isBelow_34 : decode cX8_isBelow 34 = .ok (.lcmp, 1) := dk_148 (dk_at dksX8_isBelow_1 10 rfl rfl)
theorem dX8_isBelow_35 : decode cX8_isBelow 35 = .ok (.ifCond .ge 7, 3) := dk_156 0 7 (dk_at dksX8_isBelow_1 11 rfl rfl)
theorem dX8_isBelow_38 : decode cX8_isBelow 38 = .ok (.iconst 1, 1) := dk_4 (dk_at dksX8_isBelow_1 14 rfl rfl)
theorem dX8_isBelow_39 : decode cX8_isBelow 39 = .ok (.goto 4, 3) := dk_167 0 4 (dk_at dksX8_isBelow_1 15 rfl rfl)
theorem dX8_isBelow_42 : decode cX8_isBelow 42 = .ok (.iconst 0, 1) := dk_3 (dk_at dksX8_isBelow_1 18 rfl rfl)
theorem dX8_isBelow_43 : decode cX8_isBelow 43 = .ok (.ireturn, 1) := dk_172 (dk_at dksX8_isBelow_1 19 rfl rfl)
abbrev cX8_slips : ByteArray := prog_13_method_133_code
def yX8_slips : MethodName := ⟨RX8, "slips", "(I)I"⟩
def dkwX8_slips_1 : List UInt8 := [181, 1, 197, 27, 4, 96, 16, 6, 112, 172]
abbrev dktX8_slips_1 : List UInt8 := dkwX8_slips_1 ++ []
def dkwX8_slips_0 : List UInt8 := [42, 42, 180, 0, 34, 4, 46, 182, 1, 200, 154, 0, 5, 27, 172, 42, 89, 180, 1, 197, 4, 96]
abbrev dktX8_slips_0 : List UInt8 := dkwX8_slips_0 ++ dktX8_slips_1
theorem dksX8_slips_0 : cX8_slips.data.toList.drop 0 = dktX8_slips_0 := by decide +kernel
theorem dksX8_slips_1 : cX8_slips.data.toList.drop 22 = dktX8_slips_1 := dk_seg dksX8_slips_0 22 rfl rfl
theorem dX8_slips_0 : decode cX8_slips 0 = .ok (.aload_n 0, 1) := dk_42 (dk_at dksX8_slips_0 0 rfl rfl)
theorem dX8_slips_1 : decode cX8_slips 1 = .ok (.aload_n 0, 1) := dk_42 (dk_at dksX8_slips_0 1 rfl rfl)
theorem dX8_slips_2 : decode cX8_slips 2 = .ok (.getfield 34, 3) := dk_180 0 34 (dk_at dksX8_slips_0 2 rfl rfl)
theorem dX8_slips_5 : decode cX8_slips 5 = .ok (.iconst 1, 1) := dk_4 (dk_at dksX8_slips_0 5 rfl rfl)
theorem dX8_slips_6 : decode cX8_slips 6 = .ok (.iaload, 1) := dk_46 (dk_at dksX8_slips_0 6 rfl rfl)
theorem dX8_slips_7 : decode cX8_slips 7 = .ok (.invokevirtual 456, 3) := dk_182 1 200 (dk_at dksX8_slips_0 7 rfl rfl)
theorem dX8_slips_10 : decode cX8_slips 10 = .ok (.ifCond .ne 5, 3) := dk_154 0 5 (dk_at dksX8_slips_0 10 rfl rfl)
theorem dX8_slips_13 : decode cX8_slips 13 = .ok (.iload_n 1, 1) := dk_27 (dk_at dksX8_slips_0 13 rfl rfl)
theorem dX8_slips_14 : decode cX8_slips 14 = .ok (.ireturn, 1) := dk_172 (dk_at dksX8_slips_0 14 rfl rfl)
theorem dX8_slips_15 : decode cX8_slips 15 = .ok (.aload_n 0, 1) := dk_42 (dk_at dksX8_slips_0 15 rfl rfl)
theorem dX8_slips_16 : decode cX8_slips 16 = .ok (.dup, 1) := dk_89 (dk_at dksX8_slips_0 16 rfl rfl)
theorem dX8_slips_17 : decode cX8_slips 17 = .ok (.getfield 453, 3) := dk_180 1 197 (dk_at dksX8_slips_0 17 rfl rfl)
theorem dX8_slips_20 : decode cX8_slips 20 = .ok (.iconst 1, 1) := dk_4 (dk_at dksX8_slips_0 20 rfl rfl)
theorem dX8_slips_21 : decode cX8_slips 21 = .ok (.iadd, 1) := dk_96 (dk_at dksX8_slips_0 21 rfl rfl)
theorem dX8_slips_22 : decode cX8_slips 22 = .ok (.putfield 453, 3) := dk_181 1 197 (dk_at dksX8_slips_1 0 rfl rfl)
theorem dX8_slips_25 : decode cX8_slips 25 = .ok (.iload_n 1, 1) := dk_27 (dk_at dksX8_slips_1 3 rfl rfl)
theorem dX8_slips_26 : decode cX8_slips 26 = .ok (.iconst 1, 1) := dk_4 (dk_at dksX8_slips_1 4 rfl rfl)
theorem dX8_slips_27 : decode cX8_slips 27 = .ok (.iadd, 1) := dk_96 (dk_at dksX8_slips_1 5 rfl rfl)
theorem dX8_slips_28 : decode cX8_slips 28 = .ok (.bipush 6, 2) := dk_16 6 (dk_at dksX8_slips_1 6 rfl rfl)
theorem dX8_slips_30 : decode cX8_slips 30 = .ok (.irem, 1) := dk_112 (dk_at dksX8_slips_1 8 rfl rfl)
theorem dX8_slips_31 : decode cX8_slips 31 = .ok (.ireturn, 1) := dk_172 (dk_at dksX8_slips_1 9 rfl rfl)
abbrev cX8_nights : ByteArray := prog_13_method_136_code
def yX8_nights : MethodName := ⟨RX8, "nights", "(III)I"⟩
def dkwX8_nights_3 : List UInt8 := [132, 5, 1, 167, 255, 219, 21, 4, 172]
abbrev dktX8_nights_3 : List UInt8 := dkwX8_nights_3 ++ []
def dkwX8_nights_2 : List UInt8 := [97, 29, 182, 1, 211, 21, 4, 42, 180, 1, 188, 154, 0, 7, 4, 167, 0, 4, 3, 96, 54, 4]
abbrev dktX8_nights_2 : List UInt8 := dkwX8_nights_2 ++ dktX8_nights_3
def dkwX8_nights_1 : List UInt8 := [154, 0, 6, 16, 254, 172, 3, 54, 4, 3, 54, 5, 21, 5, 28, 162, 0, 37, 42, 27, 133, 21, 5, 133]
abbrev dktX8_nights_1 : List UInt8 := dkwX8_nights_1 ++ dktX8_nights_2
def dkwX8_nights_0 : List UInt8 := [42, 3, 181, 0, 80, 42, 27, 29, 182, 1, 208, 153, 0, 15, 28, 133, 10, 20, 1, 215, 184, 0, 85]
abbrev dktX8_nights_0 : List UInt8 := dkwX8_nights_0 ++ dktX8_nights_1
theorem dksX8_nights_0 : cX8_nights.data.toList.drop 0 = dktX8_nights_0 := by decide +kernel
theorem dksX8_nights_1 : cX8_nights.data.toList.drop 23 = dktX8_nights_1 := dk_seg dksX8_nights_0 23 rfl rfl
theorem dksX8_nights_2 : cX8_nights.data.toList.drop 47 = dktX8_nights_2 := dk_seg dksX8_nights_1 24 rfl rfl
theorem dksX8_nights_3 : cX8_nights.data.toList.drop 69 = dktX8_nights_3 := dk_seg dksX8_nights_2 22 rfl rfl
theorem dX8_nights_0 : decode cX8_nights 0 = .ok (.aload_n 0, 1) := dk_42 (dk_at dksX8_nights_0 0 rfl rfl)
theorem dX8_nights_1 : decode cX8_nights 1 = .ok (.iconst 0, 1) := dk_3 (dk_at dksX8_nights_0 1 rfl rfl)
theorem dX8_nights_2 : decode cX8_nights 2 = .ok (.putfield 80, 3) := dk_181 0 80 (dk_at dksX8_nights_0 2 rfl rfl)
theorem dX8_nights_5 : decode cX8_nights 5 = .ok (.aload_n 0, 1) := dk_42 (dk_at dksX8_nights_0 5 rfl rfl)
theorem dX8_nights_6 : decode cX8_nights 6 = .ok (.iload_n 1, 1) := dk_27 (dk_at dksX8_nights_0 6 rfl rfl)
theorem dX8_nights_7 : decode cX8_nights 7 = .ok (.iload_n 3, 1) := dk_29 (dk_at dksX8_nights_0 7 rfl rfl)
theorem dX8_nights_8 : decode cX8_nights 8 = .ok (.invokevirtual 464, 3) := dk_182 1 208 (dk_at dksX8_nights_0 8 rfl rfl)
theorem dX8_nights_11 : decode cX8_nights 11 = .ok (.ifCond .eq 15, 3) := dk_153 0 15 (dk_at dksX8_nights_0 11 rfl rfl)
theorem dX8_nights_14 : decode cX8_nights 14 = .ok (.iload_n 2, 1) := dk_28 (dk_at dksX8_nights_0 14 rfl rfl)
theorem dX8_nights_15 : decode cX8_nights 15 = .ok (.i2l, 1) := dk_133 (dk_at dksX8_nights_0 15 rfl rfl)
theorem dX8_nights_16 : decode cX8_nights 16 = .ok (.lconst 1, 1) := dk_10 (dk_at dksX8_nights_0 16 rfl rfl)
theorem dX8_nights_17 : decode cX8_nights 17 = .ok (.ldc2_w 471, 3) := dk_20 1 215 (dk_at dksX8_nights_0 17 rfl rfl)
theorem dX8_nights_20 : decode cX8_nights 20 = .ok (.invokestatic 85, 3) := dk_184 0 85 (dk_at dksX8_nights_0 20 rfl rfl)
theorem dX8_nights_23 : decode cX8_nights 23 = .ok (.ifCond .ne 6, 3) := dk_154 0 6 (dk_at dksX8_nights_1 0 rfl rfl)
theorem dX8_nights_26 : decode cX8_nights 26 = .ok (.bipush (-2), 2) := dk_16 254 (dk_at dksX8_nights_1 3 rfl rfl)
theorem dX8_nights_28 : decode cX8_nights 28 = .ok (.ireturn, 1) := dk_172 (dk_at dksX8_nights_1 5 rfl rfl)
theorem dX8_nights_29 : decode cX8_nights 29 = .ok (.iconst 0, 1) := dk_3 (dk_at dksX8_nights_1 6 rfl rfl)
theorem dX8_nights_30 : decode cX8_nights 30 = .ok (.istore 4, 2) := dk_54 4 (dk_at dksX8_nights_1 7 rfl rfl)
theorem dX8_nights_32 : decode cX8_nights 32 = .ok (.iconst 0, 1) := dk_3 (dk_at dksX8_nights_1 9 rfl rfl)
theorem dX8_nights_33 : decode cX8_nights 33 = .ok (.istore 5, 2) := dk_54 5 (dk_at dksX8_nights_1 10 rfl rfl)
theorem dX8_nights_35 : decode cX8_nights 35 = .ok (.iload 5, 2) := dk_21 5 (dk_at dksX8_nights_1 12 rfl rfl)
theorem dX8_nights_37 : decode cX8_nights 37 = .ok (.iload_n 2, 1) := dk_28 (dk_at dksX8_nights_1 14 rfl rfl)
theorem dX8_nights_38 : decode cX8_nights 38 = .ok (.if_icmp .ge 37, 3) := dk_162 0 37 (dk_at dksX8_nights_1 15 rfl rfl)
theorem dX8_nights_41 : decode cX8_nights 41 = .ok (.aload_n 0, 1) := dk_42 (dk_at dksX8_nights_1 18 rfl rfl)
theorem dX8_nights_42 : decode cX8_nights 42 = .ok (.iload_n 1, 1) := dk_27 (dk_at dksX8_nights_1 19 rfl rfl)
theorem dX8_nights_43 : decode cX8_nights 43 = .ok (.i2l, 1) := dk_133 (dk_at dksX8_nights_1 20 rfl rfl)
theorem dX8_nights_44 : decode cX8_nights 44 = .ok (.iload 5, 2) := dk_21 5 (dk_at dksX8_nights_1 21 rfl rfl)
theorem dX8_nights_46 : decode cX8_nights 46 = .ok (.i2l, 1) := dk_133 (dk_at dksX8_nights_1 23 rfl rfl)
theorem dX8_nights_47 : decode cX8_nights 47 = .ok (.ladd, 1) := dk_97 (dk_at dksX8_nights_2 0 rfl rfl)
theorem dX8_nights_48 : decode cX8_nights 48 = .ok (.iload_n 3, 1) := dk_29 (dk_at dksX8_nights_2 1 rfl rfl)
theorem dX8_nights_49 : decode cX8_nights 49 = .ok (.invokevirtual 467, 3) := dk_182 1 211 (dk_at dksX8_nights_2 2 rfl rfl)
theorem dX8_nights_52 : decode cX8_nights 52 = .ok (.iload 4, 2) := dk_21 4 (dk_at dksX8_nights_2 5 rfl rfl)
theorem dX8_nights_54 : decode cX8_nights 54 = .ok (.aload_n 0, 1) := dk_42 (dk_at dksX8_nights_2 7 rfl rfl)
theorem dX8_nights_55 : decode cX8_nights 55 = .ok (.getfield 444, 3) := dk_180 1 188 (dk_at dksX8_nights_2 8 rfl rfl)
theorem dX8_nights_58 : decode cX8_nights 58 = .ok (.ifCond .ne 7, 3) := dk_154 0 7 (dk_at dksX8_nights_2 11 rfl rfl)
theorem dX8_nights_61 : decode cX8_nights 61 = .ok (.iconst 1, 1) := dk_4 (dk_at dksX8_nights_2 14 rfl rfl)
theorem dX8_nights_62 : decode cX8_nights 62 = .ok (.goto 4, 3) := dk_167 0 4 (dk_at dksX8_nights_2 15 rfl rfl)
theorem dX8_nights_65 : decode cX8_nights 65 = .ok (.iconst 0, 1) := dk_3 (dk_at dksX8_nights_2 18 rfl rfl)
theorem dX8_nights_66 : decode cX8_nights 66 = .ok (.iadd, 1) := dk_96 (dk_at dksX8_nights_2 19 rfl rfl)
theorem dX8_nights_67 : decode cX8_nights 67 = .ok (.istore 4, 2) := dk_54 4 (dk_at dksX8_nights_2 20 rfl rfl)
theorem dX8_nights_69 : decode cX8_nights 69 = .ok (.iinc 5 1, 3) := dk_132 5 1 (dk_at dksX8_nights_3 0 rfl rfl)
theorem dX8_nights_72 : decode cX8_nights 72 = .ok (.goto (-37), 3) := dk_167 255 219 (dk_at dksX8_nights_3 3 rfl rfl)
theorem dX8_nights_75 : decode cX8_nights 75 = .ok (.iload 4, 2) := dk_21 4 (dk_at dksX8_nights_3 6 rfl rfl)
theorem dX8_nights_77 : decode cX8_nights 77 = .ok (.ireturn, 1) := dk_172 (dk_at dksX8_nights_3 8 rfl rfl)
abbrev cX8_stumble : ByteArray := prog_13_method_138_code
def yX8_stumble : MethodName := ⟨RX8, "stumble", "(IIII)I"⟩
def dkwX8_stumble_6 : List UInt8 := [182, 1, 217, 42, 180, 0, 34, 16, 7, 92, 46, 4, 96, 79, 42, 180, 0, 34, 16, 7, 46, 4, 100, 172]
abbrev dktX8_stumble_6 : List UInt8 := dkwX8_stumble_6 ++ []
def dkwX8_stumble_5 : List UInt8 := [21, 5, 5, 96, 29, 79, 42, 180, 0, 43, 21, 5, 6, 96, 21, 4, 79, 42, 3, 3, 3, 3]
abbrev dktX8_stumble_5 : List UInt8 := dkwX8_stumble_5 ++ dktX8_stumble_6
def dkwX8_stumble_4 : List UInt8 := [54, 5, 42, 180, 0, 43, 21, 5, 27, 79, 42, 180, 0, 43, 21, 5, 4, 96, 28, 79, 42, 180, 0, 43]
abbrev dktX8_stumble_4 : List UInt8 := dkwX8_stumble_4 ++ dktX8_stumble_5
def dkwX8_stumble_3 : List UInt8 := [180, 0, 34, 16, 10, 46, 16, 40, 160, 0, 6, 16, 251, 172, 7, 42, 180, 0, 34, 16, 7, 46, 104]
abbrev dktX8_stumble_3 : List UInt8 := dkwX8_stumble_3 ++ dktX8_stumble_4
def dkwX8_stumble_2 : List UInt8 := [180, 0, 34, 16, 7, 46, 16, 8, 159, 0, 25, 42, 3, 27, 28, 182, 0, 187, 154, 0, 15, 42]
abbrev dktX8_stumble_2 : List UInt8 := dkwX8_stumble_2 ++ dktX8_stumble_3
def dkwX8_stumble_1 : List UInt8 := [184, 1, 11, 153, 0, 16, 21, 4, 133, 9, 20, 1, 163, 184, 0, 85, 154, 0, 6, 16, 254, 172, 42]
abbrev dktX8_stumble_1 : List UInt8 := dkwX8_stumble_1 ++ dktX8_stumble_2
def dkwX8_stumble_0 : List UInt8 := [42, 3, 181, 0, 80, 42, 27, 182, 1, 5, 153, 0, 32, 28, 133, 184, 1, 14, 153, 0, 24, 29, 133]
abbrev dktX8_stumble_0 : List UInt8 := dkwX8_stumble_0 ++ dktX8_stumble_1
theorem dksX8_stumble_0 : cX8_stumble.data.toList.drop 0 = dktX8_stumble_0 := by decide +kernel
theorem dksX8_stumble_1 : cX8_stumble.data.toList.drop 23 = dktX8_stumble_1 := dk_seg dksX8_stumble_0 23 rfl rfl
theorem dksX8_stumble_2 : cX8_stumble.data.toList.drop 46 = dktX8_stumble_2 := dk_seg dksX8_stumble_1 23 rfl rfl
theorem dksX8_stumble_3 : cX8_stumble.data.toList.drop 68 = dktX8_stumble_3 := dk_seg dksX8_stumble_2 22 rfl rfl
theorem dksX8_stumble_4 : cX8_stumble.data.toList.drop 91 = dktX8_stumble_4 := dk_seg dksX8_stumble_3 23 rfl rfl
theorem dksX8_stumble_5 : cX8_stumble.data.toList.drop 115 = dktX8_stumble_5 := dk_seg dksX8_stumble_4 24 rfl rfl
theorem dksX8_stumble_6 : cX8_stumble.data.toList.drop 137 = dktX8_stumble_6 := dk_seg dksX8_stumble_5 22 rfl rfl
theorem dX8_stumble_0 : decode cX8_stumble 0 = .ok (.aload_n 0, 1) := dk_42 (dk_at dksX8_stumble_0 0 rfl rfl)
theorem dX8_stumble_1 : decode cX8_stumble 1 = .ok (.iconst 0, 1) := dk_3 (dk_at dksX8_stumble_0 1 rfl rfl)
theorem dX8_stumble_2 : decode cX8_stumble 2 = .ok (.putfield 80, 3) := dk_181 0 80 (dk_at dksX8_stumble_0 2 rfl rfl)
theorem dX8_stumble_5 : decode cX8_stumble 5 = .ok (.aload_n 0, 1) := dk_42 (dk_at dksX8_stumble_0 5 rfl rfl)
theorem dX8_stumble_6 : decode cX8_stumble 6 = .ok (.iload_n 1, 1) := dk_27 (dk_at dksX8_stumble_0 6 rfl rfl)
theorem dX8_stumble_7 : decode cX8_stumble 7 = .ok (.invokevirtual 261, 3) := dk_182 1 5 (dk_at dksX8_stumble_0 7 rfl rfl)
theorem dX8_stumble_10 : decode cX8_stumble 10 = .ok (.ifCond .eq 32, 3) := dk_153 0 32 (dk_at dksX8_stumble_0 10 rfl rfl)
theorem dX8_stumble_13 : decode cX8_stumble 13 = .ok (.iload_n 2, 1) := dk_28 (dk_at dksX8_stumble_0 13 rfl rfl)
theorem dX8_stumble_14 : decode cX8_stumble 14 = .ok (.i2l, 1) := dk_133 (dk_at dksX8_stumble_0 14 rfl rfl)
theorem dX8_stumble_15 : decode cX8_stumble 15 = .ok (.invokestatic 270, 3) := dk_184 1 14 (dk_at dksX8_stumble_0 15 rfl rfl)
theorem dX8_stumble_18 : decode cX8_stumble 18 = .ok (.ifCond .eq 24, 3) := dk_153 0 24 (dk_at dksX8_stumble_0 18 rfl rfl)
theorem dX8_stumble_21 : decode cX8_stumble 21 = .ok (.iload_n 3, 1) := dk_29 (dk_at dksX8_stumble_0 21 rfl rfl)
theorem dX8_stumble_22 : decode cX8_stumble 22 = .ok (.i2l, 1) := dk_133 (dk_at dksX8_stumble_0 22 rfl rfl)
theorem dX8_stumble_23 : decode cX8_stumble 23 = .ok (.invokestatic 267, 3) := dk_184 1 11 (dk_at dksX8_stumble_1 0 rfl rfl)
theorem dX8_stumble_26 : decode cX8_stumble 26 = .ok (.ifCond .eq 16, 3) := dk_153 0 16 (dk_at dksX8_stumble_1 3 rfl rfl)
theorem dX8_stumble_29 : decode cX8_stumble 29 = .ok (.iload 4, 2) := dk_21 4 (dk_at dksX8_stumble_1 6 rfl rfl)
theorem dX8_stumble_31 : decode cX8_stumble 31 = .ok (.i2l, 1) := dk_133 (dk_at dksX8_stumble_1 8 rfl rfl)
theorem dX8_stumble_32 : decode cX8_stumble 32 = .ok (.lconst 0, 1) := dk_9 (dk_at dksX8_stumble_1 9 rfl rfl)
theorem dX8_stumble_33 : decode cX8_stumble 33 = .ok (.ldc2_w 419, 3) := dk_20 1 163 (dk_at dksX8_stumble_1 10 rfl rfl)
theorem dX8_stumble_36 : decode cX8_stumble 36 = .ok (.invokestatic 85, 3) := dk_184 0 85 (dk_at dksX8_stumble_1 13 rfl rfl)
theorem dX8_stumble_39 : decode cX8_stumble 39 = .ok (.ifCond .ne 6, 3) := dk_154 0 6 (dk_at dksX8_stumble_1 16 rfl rfl)
theorem dX8_stumble_42 : decode cX8_stumble 42 = .ok (.bipush (-2), 2) := dk_16 254 (dk_at dksX8_stumble_1 19 rfl rfl)
theorem dX8_stumble_44 : decode cX8_stumble 44 = .ok (.ireturn, 1) := dk_172 (dk_at dksX8_stumble_1 21 rfl rfl)
theorem dX8_stumble_45 : decode cX8_stumble 45 = .ok (.aload_n 0, 1) := dk_42 (dk_at dksX8_stumble_1 22 rfl rfl)
theorem dX8_stumble_46 : decode cX8_stumble 46 = .ok (.getfield 34, 3) := dk_180 0 34 (dk_at dksX8_stumble_2 0 rfl rfl)
theorem dX8_stumble_49 : decode cX8_stumble 49 = .ok (.bipush 7, 2) := dk_16 7 (dk_at dksX8_stumble_2 3 rfl rfl)
theorem dX8_stumble_51 : decode cX8_stumble 51 = .ok (.iaload, 1) := dk_46 (dk_at dksX8_stumble_2 5 rfl rfl)
theorem dX8_stumble_52 : decode cX8_stumble 52 = .ok (.bipush 8, 2) := dk_16 8 (dk_at dksX8_stumble_2 6 rfl rfl)
theorem dX8_stumble_54 : decode cX8_stumble 54 = .ok (.if_icmp .eq 25, 3) := dk_159 0 25 (dk_at dksX8_stumble_2 8 rfl rfl)
theorem dX8_stumble_57 : decode cX8_stumble 57 = .ok (.aload_n 0, 1) := dk_42 (dk_at dksX8_stumble_2 11 rfl rfl)
theorem dX8_stumble_58 : decode cX8_stumble 58 = .ok (.iconst 0, 1) := dk_3 (dk_at dksX8_stumble_2 12 rfl rfl)
theorem dX8_stumble_59 : decode cX8_stumble 59 = .ok (.iload_n 1, 1) := dk_27 (dk_at dksX8_stumble_2 13 rfl rfl)
theorem dX8_stumble_60 : decode cX8_stumble 60 = .ok (.iload_n 2, 1) := dk_28 (dk_at dksX8_stumble_2 14 rfl rfl)
theorem dX8_stumble_61 : decode cX8_stumble 61 = .ok (.invokevirtual 187, 3) := dk_182 0 187 (dk_at dksX8_stumble_2 15 rfl rfl)
theorem dX8_stumble_64 : decode cX8_stumble 64 = .ok (.ifCond .ne 15, 3) := dk_154 0 15 (dk_at dksX8_stumble_2 18 rfl rfl)
theorem dX8_stumble_67 : decode cX8_stumble 67 = .ok (.aload_n 0, 1) := dk_42 (dk_at dksX8_stumble_2 21 rfl rfl)
theorem dX8_stumble_68 : decode cX8_stumble 68 = .ok (.getfield 34, 3) := dk_180 0 34 (dk_at dksX8_stumble_3 0 rfl rfl)
theorem dX8_stumble_71 : decode cX8_stumble 71 = .ok (.bipush 10, 2) := dk_16 10 (dk_at dksX8_stumble_3 3 rfl rfl)
theorem dX8_stumble_73 : decode cX8_stumble 73 = .ok (.iaload, 1) := dk_46 (dk_at dksX8_stumble_3 5 rfl rfl)
theorem dX8_stumble_74 : decode cX8_stumble 74 = .ok (.bipush 40, 2) := dk_16 40 (dk_at dksX8_stumble_3 6 rfl rfl)
theorem dX8_stumble_76 : decode cX8_stumble 76 = .ok (.if_icmp .ne 6, 3) := dk_160 0 6 (dk_at dksX8_stumble_3 8 rfl rfl)
theorem dX8_stumble_79 : decode cX8_stumble 79 = .ok (.bipush (-5), 2) := dk_16 251 (dk_at dksX8_stumble_3 11 rfl rfl)
theorem dX8_stumble_81 : decode cX8_stumble 81 = .ok (.ireturn, 1) := dk_172 (dk_at dksX8_stumble_3 13 rfl rfl)
theorem dX8_stumble_82 : decode cX8_stumble 82 = .ok (.iconst 4, 1) := dk_7 (dk_at dksX8_stumble_3 14 rfl rfl)
theorem dX8_stumble_83 : decode cX8_stumble 83 = .ok (.aload_n 0, 1) := dk_42 (dk_at dksX8_stumble_3 15 rfl rfl)
theorem dX8_stumble_84 : decode cX8_stumble 84 = .ok (.getfield 34, 3) := dk_180 0 34 (dk_at dksX8_stumble_3 16 rfl rfl)
theorem dX8_stumble_87 : decode cX8_stumble 87 = .ok (.bipush 7, 2) := dk_16 7 (dk_at dksX8_stumble_3 19 rfl rfl)
theorem dX8_stumble_89 : decode cX8_stumble 89 = .ok (.iaload, 1) := dk_46 (dk_at dksX8_stumble_3 21 rfl rfl)
theorem dX8_stumble_90 : decode cX8_stumble 90 = .ok (.imul, 1) := dk_104 (dk_at dksX8_stumble_3 22 rfl rfl)
theorem dX8_stumble_91 : decode cX8_stumble 91 = .ok (.istore 5, 2) := dk_54 5 (dk_at dksX8_stumble_4 0 rfl rfl)
theorem dX8_stumble_93 : decode cX8_stumble 93 = .ok (.aload_n 0, 1) := dk_42 (dk_at dksX8_stumble_4 2 rfl rfl)
theorem dX8_stumble_94 : decode cX8_stumble 94 = .ok (.getfield 43, 3) := dk_180 0 43 (dk_at dksX8_stumble_4 3 rfl rfl)
theorem dX8_stumble_97 : decode cX8_stumble 97 = .ok (.iload 5, 2) := dk_21 5 (dk_at dksX8_stumble_4 6 rfl rfl)
theorem dX8_stumble_99 : decode cX8_stumble 99 = .ok (.iload_n 1, 1) := dk_27 (dk_at dksX8_stumble_4 8 rfl rfl)
theorem dX8_stumble_100 : decode cX8_stumble 100 = .ok (.iastore, 1) := dk_79 (dk_at dksX8_stumble_4 9 rfl rfl)
theorem dX8_stumble_101 : decode cX8_stumble 101 = .ok (.aload_n 0, 1) := dk_42 (dk_at dksX8_stumble_4 10 rfl rfl)
theorem dX8_stumble_102 : decode cX8_stumble 102 = .ok (.getfield 43, 3) := dk_180 0 43 (dk_at dksX8_stumble_4 11 rfl rfl)
theorem dX8_stumble_105 : decode cX8_stumble 105 = .ok (.iload 5, 2) := dk_21 5 (dk_at dksX8_stumble_4 14 rfl rfl)
theorem dX8_stumble_107 : decode cX8_stumble 107 = .ok (.iconst 1, 1) := dk_4 (dk_at dksX8_stumble_4 16 rfl rfl)
theorem dX8_stumble_108 : decode cX8_stumble 108 = .ok (.iadd, 1) := dk_96 (dk_at dksX8_stumble_4 17 rfl rfl)
theorem dX8_stumble_109 : decode cX8_stumble 109 = .ok (.iload_n 2, 1) := dk_28 (dk_at dksX8_stumble_4 18 rfl rfl)
theorem dX8_stumble_110 : decode cX8_stumble 110 = .ok (.iastore, 1) := dk_79 (dk_at dksX8_stumble_4 19 rfl rfl)
theorem dX8_stumble_111 : decode cX8_stumble 111 = .ok (.aload_n 0, 1) := dk_42 (dk_at dksX8_stumble_4 20 rfl rfl)
theorem dX8_stumble_112 : decode cX8_stumble 112 = .ok (.getfield 43, 3) := dk_180 0 43 (dk_at dksX8_stumble_4 21 rfl rfl)
theorem dX8_stumble_115 : decode cX8_stumble 115 = .ok (.iload 5, 2) := dk_21 5 (dk_at dksX8_stumble_5 0 rfl rfl)
theorem dX8_stumble_117 : decode cX8_stumble 117 = .ok (.iconst 2, 1) := dk_5 (dk_at dksX8_stumble_5 2 rfl rfl)
theorem dX8_stumble_118 : decode cX8_stumble 118 = .ok (.iadd, 1) := dk_96 (dk_at dksX8_stumble_5 3 rfl rfl)
theorem dX8_stumble_119 : decode cX8_stumble 119 = .ok (.iload_n 3, 1) := dk_29 (dk_at dksX8_stumble_5 4 rfl rfl)
theorem dX8_stumble_120 : decode cX8_stumble 120 = .ok (.iastore, 1) := dk_79 (dk_at dksX8_stumble_5 5 rfl rfl)
theorem dX8_stumble_121 : decode cX8_stumble 121 = .ok (.aload_n 0, 1) := dk_42 (dk_at dksX8_stumble_5 6 rfl rfl)
theorem dX8_stumble_122 : decode cX8_stumble 122 = .ok (.getfield 43, 3) := dk_180 0 43 (dk_at dksX8_stumble_5 7 rfl rfl)
theorem dX8_stumble_125 : decode cX8_stumble 125 = .ok (.iload 5, 2) := dk_21 5 (dk_at dksX8_stumble_5 10 rfl rfl)
theorem dX8_stumble_127 : decode cX8_stumble 127 = .ok (.iconst 3, 1) := dk_6 (dk_at dksX8_stumble_5 12 rfl rfl)
theorem dX8_stumble_128 : decode cX8_stumble 128 = .ok (.iadd, 1) := dk_96 (dk_at dksX8_stumble_5 13 rfl rfl)
theorem dX8_stumble_129 : decode cX8_stumble 129 = .ok (.iload 4, 2) := dk_21 4 (dk_at dksX8_stumble_5 14 rfl rfl)
theorem dX8_stumble_131 : decode cX8_stumble 131 = .ok (.iastore, 1) := dk_79 (dk_at dksX8_stumble_5 16 rfl rfl)
theorem dX8_stumble_132 : decode cX8_stumble 132 = .ok (.aload_n 0, 1) := dk_42 (dk_at dksX8_stumble_5 17 rfl rfl)
theorem dX8_stumble_133 : decode cX8_stumble 133 = .ok (.iconst 0, 1) := dk_3 (dk_at dksX8_stumble_5 18 rfl rfl)
theorem dX8_stumble_134 : decode cX8_stumble 134 = .ok (.iconst 0, 1) := dk_3 (dk_at dksX8_stumble_5 19 rfl rfl)
theorem dX8_stumble_135 : decode cX8_stumble 135 = .ok (.iconst 0, 1) := dk_3 (dk_at dksX8_stumble_5 20 rfl rfl)
theorem dX8_stumble_136 : decode cX8_stumble 136 = .ok (.iconst 0, 1) := dk_3 (dk_at dksX8_stumble_5 21 rfl rfl)
theorem dX8_stumble_137 : decode cX8_stumble 137 = .ok (.invokevirtual 473, 3) := dk_182 1 217 (dk_at dksX8_stumble_6 0 rfl rfl)
theorem dX8_stumble_140 : decode cX8_stumble 140 = .ok (.aload_n 0, 1) := dk_42 (dk_at dksX8_stumble_6 3 rfl rfl)
theorem dX8_stumble_141 : decode cX8_stumble 141 = .ok (.getfield 34, 3) := dk_180 0 34 (dk_at dksX8_stumble_6 4 rfl rfl)
theorem dX8_stumble_144 : decode cX8_stumble 144 = .ok (.bipush 7, 2) := dk_16 7 (dk_at dksX8_stumble_6 7 rfl rfl)
theorem dX8_stumble_146 : decode cX8_stumble 146 = .ok (.dup2, 1) := dk_92 (dk_at dksX8_stumble_6 9 rfl rfl)
theorem dX8_stumble_147 : decode cX8_stumble 147 = .ok (.iaload, 1) := dk_46 (dk_at dksX8_stumble_6 10 rfl rfl)
theorem dX8_stumble_148 : decode cX8_stumble 148 = .ok (.iconst 1, 1) := dk_4 (dk_at dksX8_stumble_6 11 rfl rfl)
theorem dX8_stumble_149 : decode cX8_stumble 149 = .ok (.iadd, 1) := dk_96 (dk_at dksX8_stumble_6 12 rfl rfl)
theorem dX8_stumble_150 : decode cX8_stumble 150 = .ok (.iastore, 1) := dk_79 (dk_at dksX8_stumble_6 13 rfl rfl)
theorem dX8_stumble_151 : decode cX8_stumble 151 = .ok (.aload_n 0, 1) := dk_42 (dk_at dksX8_stumble_6 14 rfl rfl)
theorem dX8_stumble_152 : decode cX8_stumble 152 = .ok (.getfield 34, 3) := dk_180 0 34 (dk_at dksX8_stumble_6 15 rfl rfl)
theorem dX8_stumble_155 : decode cX8_stumble 155 = .ok (.bipush 7, 2) := dk_16 7 (dk_at dksX8_stumble_6 18 rfl rfl)
theorem dX8_stumble_157 : decode cX8_stumble 157 = .ok (.iaload, 1) := dk_46 (dk_at dksX8_stumble_6 20 rfl rfl)
theorem dX8_stumble_158 : decode cX8_stumble 158 = .ok (.iconst 1, 1) := dk_4 (dk_at dksX8_stumble_6 21 rfl rfl)
theorem dX8_stumble_159 : decode cX8_stumble 159 = .ok (.isub, 1) := dk_100 (dk_at dksX8_stumble_6 22 rfl rfl)
theorem dX8_stumble_160 : decode cX8_stumble 160 = .ok (.ireturn, 1) := dk_172 (dk_at dksX8_stumble_6 23 rfl rfl)
abbrev cX8_changes : ByteArray := prog_13_method_137_code
def yX8_changes : MethodName := ⟨RX8, "changes", "(IIII)V"⟩
def dkwX8_changes_2 : List UInt8 := [21, 4, 79, 42, 180, 0, 34, 16, 10, 92, 46, 4, 96, 79, 177]
abbrev dktX8_changes_2 : List UInt8 := dkwX8_changes_2 ++ []
def dkwX8_changes_1 : List UInt8 := [21, 5, 4, 96, 28, 79, 42, 180, 0, 56, 21, 5, 5, 96, 29, 79, 42, 180, 0, 56, 21, 5, 6, 96]
abbrev dktX8_changes_1 : List UInt8 := dkwX8_changes_1 ++ dktX8_changes_2
def dkwX8_changes_0 : List UInt8 := [7, 42, 180, 0, 34, 16, 10, 46, 104, 54, 5, 42, 180, 0, 56, 21, 5, 27, 79, 42, 180, 0, 56]
abbrev dktX8_changes_0 : List UInt8 := dkwX8_changes_0 ++ dktX8_changes_1
theorem dksX8_changes_0 : cX8_changes.data.toList.drop 0 = dktX8_changes_0 := by decide +kernel
theorem dksX8_changes_1 : cX8_changes.data.toList.drop 23 = dktX8_changes_1 := dk_seg dksX8_changes_0 23 rfl rfl
theorem dksX8_changes_2 : cX8_changes.data.toList.drop 47 = dktX8_changes_2 := dk_seg dksX8_changes_1 24 rfl rfl
theorem dX8_changes_0 : decode cX8_changes 0 = .ok (.iconst 4, 1) := dk_7 (dk_at dksX8_changes_0 0 rfl rfl)
theorem dX8_changes_1 : decode cX8_changes 1 = .ok (.aload_n 0, 1) := dk_42 (dk_at dksX8_changes_0 1 rfl rfl)
theorem dX8_changes_2 : decode cX8_changes 2 = .ok (.getfield 34, 3) := dk_180 0 34 (dk_at dksX8_changes_0 2 rfl rfl)
theorem dX8_changes_5 : decode cX8_changes 5 = .ok (.bipush 10, 2) := dk_16 10 (dk_at dksX8_changes_0 5 rfl rfl)
theorem dX8_changes_7 : decode cX8_changes 7 = .ok (.iaload, 1) := dk_46 (dk_at dksX8_changes_0 7 rfl rfl)
theorem dX8_changes_8 : decode cX8_changes 8 = .ok (.imul, 1) := dk_104 (dk_at dksX8_changes_0 8 rfl rfl)
theorem dX8_changes_9 : decode cX8_changes 9 = .ok (.istore 5, 2) := dk_54 5 (dk_at dksX8_changes_0 9 rfl rfl)
theorem dX8_changes_11 : decode cX8_changes 11 = .ok (.aload_n 0, 1) := dk_42 (dk_at dksX8_changes_0 11 rfl rfl)
theorem dX8_changes_12 : decode cX8_changes 12 = .ok (.getfield 56, 3) := dk_180 0 56 (dk_at dksX8_changes_0 12 rfl rfl)
theorem dX8_changes_15 : decode cX8_changes 15 = .ok (.iload 5, 2) := dk_21 5 (dk_at dksX8_changes_0 15 rfl rfl)
theorem dX8_changes_17 : decode cX8_changes 17 = .ok (.iload_n 1, 1) := dk_27 (dk_at dksX8_changes_0 17 rfl rfl)
theorem dX8_changes_18 : decode cX8_changes 18 = .ok (.iastore, 1) := dk_79 (dk_at dksX8_changes_0 18 rfl rfl)
theorem dX8_changes_19 : decode cX8_changes 19 = .ok (.aload_n 0, 1) := dk_42 (dk_at dksX8_changes_0 19 rfl rfl)
theorem dX8_changes_20 : decode cX8_changes 20 = .ok (.getfield 56, 3) := dk_180 0 56 (dk_at dksX8_changes_0 20 rfl rfl)
theorem dX8_changes_23 : decode cX8_changes 23 = .ok (.iload 5, 2) := dk_21 5 (dk_at dksX8_changes_1 0 rfl rfl)
theorem dX8_changes_25 : decode cX8_changes 25 = .ok (.iconst 1, 1) := dk_4 (dk_at dksX8_changes_1 2 rfl rfl)
theorem dX8_changes_26 : decode cX8_changes 26 = .ok (.iadd, 1) := dk_96 (dk_at dksX8_changes_1 3 rfl rfl)
theorem dX8_changes_27 : decode cX8_changes 27 = .ok (.iload_n 2, 1) := dk_28 (dk_at dksX8_changes_1 4 rfl rfl)
theorem dX8_changes_28 : decode cX8_changes 28 = .ok (.iastore, 1) := dk_79 (dk_at dksX8_changes_1 5 rfl rfl)
theorem dX8_changes_29 : decode cX8_changes 29 = .ok (.aload_n 0, 1) := dk_42 (dk_at dksX8_changes_1 6 rfl rfl)
theorem dX8_changes_30 : decode cX8_changes 30 = .ok (.getfield 56, 3) := dk_180 0 56 (dk_at dksX8_changes_1 7 rfl rfl)
theorem dX8_changes_33 : decode cX8_changes 33 = .ok (.iload 5, 2) := dk_21 5 (dk_at dksX8_changes_1 10 rfl rfl)
theorem dX8_changes_35 : decode cX8_changes 35 = .ok (.iconst 2, 1) := dk_5 (dk_at dksX8_changes_1 12 rfl rfl)
theorem dX8_changes_36 : decode cX8_changes 36 = .ok (.iadd, 1) := dk_96 (dk_at dksX8_changes_1 13 rfl rfl)
theorem dX8_changes_37 : decode cX8_changes 37 = .ok (.iload_n 3, 1) := dk_29 (dk_at dksX8_changes_1 14 rfl rfl)
theorem dX8_changes_38 : decode cX8_changes 38 = .ok (.iastore, 1) := dk_79 (dk_at dksX8_changes_1 15 rfl rfl)
theorem dX8_changes_39 : decode cX8_changes 39 = .ok (.aload_n 0, 1) := dk_42 (dk_at dksX8_changes_1 16 rfl rfl)
theorem dX8_changes_40 : decode cX8_changes 40 = .ok (.getfield 56, 3) := dk_180 0 56 (dk_at dksX8_changes_1 17 rfl rfl)
theorem dX8_changes_43 : decode cX8_changes 43 = .ok (.iload 5, 2) := dk_21 5 (dk_at dksX8_changes_1 20 rfl rfl)
theorem dX8_changes_45 : decode cX8_changes 45 = .ok (.iconst 3, 1) := dk_6 (dk_at dksX8_changes_1 22 rfl rfl)
theorem dX8_changes_46 : decode cX8_changes 46 = .ok (.iadd, 1) := dk_96 (dk_at dksX8_changes_1 23 rfl rfl)
theorem dX8_changes_47 : decode cX8_changes 47 = .ok (.iload 4, 2) := dk_21 4 (dk_at dksX8_changes_2 0 rfl rfl)
theorem dX8_changes_49 : decode cX8_changes 49 = .ok (.iastore, 1) := dk_79 (dk_at dksX8_changes_2 2 rfl rfl)
theorem dX8_changes_50 : decode cX8_changes 50 = .ok (.aload_n 0, 1) := dk_42 (dk_at dksX8_changes_2 3 rfl rfl)
theorem dX8_changes_51 : decode cX8_changes 51 = .ok (.getfield 34, 3) := dk_180 0 34 (dk_at dksX8_changes_2 4 rfl rfl)
theorem dX8_changes_54 : decode cX8_changes 54 = .ok (.bipush 10, 2) := dk_16 10 (dk_at dksX8_changes_2 7 rfl rfl)
theorem dX8_changes_56 : decode cX8_changes 56 = .ok (.dup2, 1) := dk_92 (dk_at dksX8_changes_2 9 rfl rfl)
theorem dX8_changes_57 : decode cX8_changes 57 = .ok (.iaload, 1) := dk_46 (dk_at dksX8_changes_2 10 rfl rfl)
theorem dX8_changes_58 : decode cX8_changes 58 = .ok (.iconst 1, 1) := dk_4 (dk_at dksX8_changes_2 11 rfl rfl)
theorem dX8_changes_59 : decode cX8_changes 59 = .ok (.iadd, 1) := dk_96 (dk_at dksX8_changes_2 12 rfl rfl)
theorem dX8_changes_60 : decode cX8_changes 60 = .ok (.iastore, 1) := dk_79 (dk_at dksX8_changes_2 13 rfl rfl)
theorem dX8_changes_61 : decode cX8_changes 61 = .ok (.return_, 1) := dk_177 (dk_at dksX8_changes_2 14 rfl rfl)
abbrev cX8_mud : ByteArray := prog_13_method_139_code
def yX8_mud : MethodName := ⟨RX8, "mud", "(II)I"⟩
def dkwX8_mud_3 : List UInt8 := [180, 0, 46, 27, 28, 4, 160, 0, 7, 4, 167, 0, 4, 3, 84, 29, 172]
abbrev dktX8_mud_3 : List UInt8 := dkwX8_mud_3 ++ []
def dkwX8_mud_2 : List UInt8 := [42, 180, 0, 46, 27, 51, 153, 0, 7, 4, 167, 0, 4, 3, 62, 42, 4, 3, 27, 29, 182, 1, 217, 42]
abbrev dktX8_mud_2 : List UInt8 := dkwX8_mud_2 ++ dktX8_mud_3
def dkwX8_mud_1 : List UInt8 := [184, 0, 85, 154, 0, 6, 16, 254, 172, 42, 180, 0, 34, 16, 10, 46, 16, 40, 160, 0, 6, 16, 251, 172]
abbrev dktX8_mud_1 : List UInt8 := dkwX8_mud_1 ++ dktX8_mud_2
def dkwX8_mud_0 : List UInt8 := [42, 3, 181, 0, 80, 42, 182, 0, 254, 153, 0, 21, 27, 133, 184, 1, 14, 153, 0, 13, 28, 133, 9, 10]
abbrev dktX8_mud_0 : List UInt8 := dkwX8_mud_0 ++ dktX8_mud_1
theorem dksX8_mud_0 : cX8_mud.data.toList.drop 0 = dktX8_mud_0 := by decide +kernel
theorem dksX8_mud_1 : cX8_mud.data.toList.drop 24 = dktX8_mud_1 := dk_seg dksX8_mud_0 24 rfl rfl
theorem dksX8_mud_2 : cX8_mud.data.toList.drop 48 = dktX8_mud_2 := dk_seg dksX8_mud_1 24 rfl rfl
theorem dksX8_mud_3 : cX8_mud.data.toList.drop 72 = dktX8_mud_3 := dk_seg dksX8_mud_2 24 rfl rfl
theorem dX8_mud_0 : decode cX8_mud 0 = .ok (.aload_n 0, 1) := dk_42 (dk_at dksX8_mud_0 0 rfl rfl)
theorem dX8_mud_1 : decode cX8_mud 1 = .ok (.iconst 0, 1) := dk_3 (dk_at dksX8_mud_0 1 rfl rfl)
theorem dX8_mud_2 : decode cX8_mud 2 = .ok (.putfield 80, 3) := dk_181 0 80 (dk_at dksX8_mud_0 2 rfl rfl)
theorem dX8_mud_5 : decode cX8_mud 5 = .ok (.aload_n 0, 1) := dk_42 (dk_at dksX8_mud_0 5 rfl rfl)
theorem dX8_mud_6 : decode cX8_mud 6 = .ok (.invokevirtual 254, 3) := dk_182 0 254 (dk_at dksX8_mud_0 6 rfl rfl)
theorem dX8_mud_9 : decode cX8_mud 9 = .ok (.ifCond .eq 21, 3) := dk_153 0 21 (dk_at dksX8_mud_0 9 rfl rfl)
theorem dX8_mud_12 : decode cX8_mud 12 = .ok (.iload_n 1, 1) := dk_27 (dk_at dksX8_mud_0 12 rfl rfl)
theorem dX8_mud_13 : decode cX8_mud 13 = .ok (.i2l, 1) := dk_133 (dk_at dksX8_mud_0 13 rfl rfl)
theorem dX8_mud_14 : decode cX8_mud 14 = .ok (.invokestatic 270, 3) := dk_184 1 14 (dk_at dksX8_mud_0 14 rfl rfl)
theorem dX8_mud_17 : decode cX8_mud 17 = .ok (.ifCond .eq 13, 3) := dk_153 0 13 (dk_at dksX8_mud_0 17 rfl rfl)
theorem dX8_mud_20 : decode cX8_mud 20 = .ok (.iload_n 2, 1) := dk_28 (dk_at dksX8_mud_0 20 rfl rfl)
theorem dX8_mud_21 : decode cX8_mud 21 = .ok (.i2l, 1) := dk_133 (dk_at dksX8_mud_0 21 rfl rfl)
theorem dX8_mud_22 : decode cX8_mud 22 = .ok (.lconst 0, 1) := dk_9 (dk_at dksX8_mud_0 22 rfl rfl)
theorem dX8_mud_23 : decode cX8_mud 23 = .ok (.lconst 1, 1) := dk_10 (dk_at dksX8_mud_0 23 rfl rfl)
theorem dX8_mud_24 : decode cX8_mud 24 = .ok (.invokestatic 85, 3) := dk_184 0 85 (dk_at dksX8_mud_1 0 rfl rfl)
theorem dX8_mud_27 : decode cX8_mud 27 = .ok (.ifCond .ne 6, 3) := dk_154 0 6 (dk_at dksX8_mud_1 3 rfl rfl)
theorem dX8_mud_30 : decode cX8_mud 30 = .ok (.bipush (-2), 2) := dk_16 254 (dk_at dksX8_mud_1 6 rfl rfl)
theorem dX8_mud_32 : decode cX8_mud 32 = .ok (.ireturn, 1) := dk_172 (dk_at dksX8_mud_1 8 rfl rfl)
theorem dX8_mud_33 : decode cX8_mud 33 = .ok (.aload_n 0, 1) := dk_42 (dk_at dksX8_mud_1 9 rfl rfl)
theorem dX8_mud_34 : decode cX8_mud 34 = .ok (.getfield 34, 3) := dk_180 0 34 (dk_at dksX8_mud_1 10 rfl rfl)
theorem dX8_mud_37 : decode cX8_mud 37 = .ok (.bipush 10, 2) := dk_16 10 (dk_at dksX8_mud_1 13 rfl rfl)
theorem dX8_mud_39 : decode cX8_mud 39 = .ok (.iaload, 1) := dk_46 (dk_at dksX8_mud_1 15 rfl rfl)
theorem dX8_mud_40 : decode cX8_mud 40 = .ok (.bipush 40, 2) := dk_16 40 (dk_at dksX8_mud_1 16 rfl rfl)
theorem dX8_mud_42 : decode cX8_mud 42 = .ok (.if_icmp .ne 6, 3) := dk_160 0 6 (dk_at dksX8_mud_1 18 rfl rfl)
theorem dX8_mud_45 : decode cX8_mud 45 = .ok (.bipush (-5), 2) := dk_16 251 (dk_at dksX8_mud_1 21 rfl rfl)
theorem dX8_mud_47 : decode cX8_mud 47 = .ok (.ireturn, 1) := dk_172 (dk_at dksX8_mud_1 23 rfl rfl)
theorem dX8_mud_48 : decode cX8_mud 48 = .ok (.aload_n 0, 1) := dk_42 (dk_at dksX8_mud_2 0 rfl rfl)
theorem dX8_mud_49 : decode cX8_mud 49 = .ok (.getfield 46, 3) := dk_180 0 46 (dk_at dksX8_mud_2 1 rfl rfl)
theorem dX8_mud_52 : decode cX8_mud 52 = .ok (.iload_n 1, 1) := dk_27 (dk_at dksX8_mud_2 4 rfl rfl)
theorem dX8_mud_53 : decode cX8_mud 53 = .ok (.baload, 1) := dk_51 (dk_at dksX8_mud_2 5 rfl rfl)
theorem dX8_mud_54 : decode cX8_mud 54 = .ok (.ifCond .eq 7, 3) := dk_153 0 7 (dk_at dksX8_mud_2 6 rfl rfl)
theorem dX8_mud_57 : decode cX8_mud 57 = .ok (.iconst 1, 1) := dk_4 (dk_at dksX8_mud_2 9 rfl rfl)
theorem dX8_mud_58 : decode cX8_mud 58 = .ok (.goto 4, 3) := dk_167 0 4 (dk_at dksX8_mud_2 10 rfl rfl)
theorem dX8_mud_61 : decode cX8_mud 61 = .ok (.iconst 0, 1) := dk_3 (dk_at dksX8_mud_2 13 rfl rfl)
theorem dX8_mud_62 : decode cX8_mud 62 = .ok (.istore_n 3, 1) := dk_62 (dk_at dksX8_mud_2 14 rfl rfl)
theorem dX8_mud_63 : decode cX8_mud 63 = .ok (.aload_n 0, 1) := dk_42 (dk_at dksX8_mud_2 15 rfl rfl)
theorem dX8_mud_64 : decode cX8_mud 64 = .ok (.iconst 1, 1) := dk_4 (dk_at dksX8_mud_2 16 rfl rfl)
theorem dX8_mud_65 : decode cX8_mud 65 = .ok (.iconst 0, 1) := dk_3 (dk_at dksX8_mud_2 17 rfl rfl)
theorem dX8_mud_66 : decode cX8_mud 66 = .ok (.iload_n 1, 1) := dk_27 (dk_at dksX8_mud_2 18 rfl rfl)
theorem dX8_mud_67 : decode cX8_mud 67 = .ok (.iload_n 3, 1) := dk_29 (dk_at dksX8_mud_2 19 rfl rfl)
theorem dX8_mud_68 : decode cX8_mud 68 = .ok (.invokevirtual 473, 3) := dk_182 1 217 (dk_at dksX8_mud_2 20 rfl rfl)
theorem dX8_mud_71 : decode cX8_mud 71 = .ok (.aload_n 0, 1) := dk_42 (dk_at dksX8_mud_2 23 rfl rfl)
theorem dX8_mud_72 : decode cX8_mud 72 = .ok (.getfield 46, 3) := dk_180 0 46 (dk_at dksX8_mud_3 0 rfl rfl)
theorem dX8_mud_75 : decode cX8_mud 75 = .ok (.iload_n 1, 1) := dk_27 (dk_at dksX8_mud_3 3 rfl rfl)
theorem dX8_mud_76 : decode cX8_mud 76 = .ok (.iload_n 2, 1) := dk_28 (dk_at dksX8_mud_3 4 rfl rfl)
theorem dX8_mud_77 : decode cX8_mud 77 = .ok (.iconst 1, 1) := dk_4 (dk_at dksX8_mud_3 5 rfl rfl)
theorem dX8_mud_78 : decode cX8_mud 78 = .ok (.if_icmp .ne 7, 3) := dk_160 0 7 (dk_at dksX8_mud_3 6 rfl rfl)
theorem dX8_mud_81 : decode cX8_mud 81 = .ok (.iconst 1, 1) := dk_4 (dk_at dksX8_mud_3 9 rfl rfl)
theorem dX8_mud_82 : decode cX8_mud 82 = .ok (.goto 4, 3) := dk_167 0 4 (dk_at dksX8_mud_3 10 rfl rfl)
theorem dX8_mud_85 : decode cX8_mud 85 = .ok (.iconst 0, 1) := dk_3 (dk_at dksX8_mud_3 13 rfl rfl)
theorem dX8_mud_86 : decode cX8_mud 86 = .ok (.bastore, 1) := dk_84 (dk_at dksX8_mud_3 14 rfl rfl)
theorem dX8_mud_87 : decode cX8_mud 87 = .ok (.iload_n 3, 1) := dk_29 (dk_at dksX8_mud_3 15 rfl rfl)
theorem dX8_mud_88 : decode cX8_mud 88 = .ok (.ireturn, 1) := dk_172 (dk_at dksX8_mud_3 16 rfl rfl)
abbrev cX8_teach : ByteArray := prog_13_method_140_code
def yX8_teach : MethodName := ⟨RX8, "teach", "(III)I"⟩
def dkwX8_teach_3 : List UInt8 := [28, 21, 4, 182, 1, 217, 42, 180, 0, 37, 16, 12, 27, 104, 28, 96, 29, 79, 21, 4, 172]
abbrev dktX8_teach_3 : List UInt8 := dkwX8_teach_3 ++ []
def dkwX8_teach_2 : List UInt8 := [16, 40, 160, 0, 6, 16, 251, 172, 42, 180, 0, 37, 16, 12, 27, 104, 28, 96, 46, 54, 4, 42, 5, 27]
abbrev dktX8_teach_2 : List UInt8 := dkwX8_teach_2 ++ dktX8_teach_3
def dkwX8_teach_1 : List UInt8 := [184, 0, 85, 153, 0, 11, 29, 133, 184, 1, 11, 154, 0, 6, 16, 254, 172, 42, 180, 0, 34, 16, 10, 46]
abbrev dktX8_teach_1 : List UInt8 := dkwX8_teach_1 ++ dktX8_teach_2
def dkwX8_teach_0 : List UInt8 := [42, 3, 181, 0, 80, 42, 27, 182, 1, 5, 153, 0, 28, 28, 133, 9, 42, 27, 182, 1, 8, 4, 100, 133]
abbrev dktX8_teach_0 : List UInt8 := dkwX8_teach_0 ++ dktX8_teach_1
theorem dksX8_teach_0 : cX8_teach.data.toList.drop 0 = dktX8_teach_0 := by decide +kernel
theorem dksX8_teach_1 : cX8_teach.data.toList.drop 24 = dktX8_teach_1 := dk_seg dksX8_teach_0 24 rfl rfl
theorem dksX8_teach_2 : cX8_teach.data.toList.drop 48 = dktX8_teach_2 := dk_seg dksX8_teach_1 24 rfl rfl
theorem dksX8_teach_3 : cX8_teach.data.toList.drop 72 = dktX8_teach_3 := dk_seg dksX8_teach_2 24 rfl rfl
theorem dX8_teach_0 : decode cX8_teach 0 = .ok (.aload_n 0, 1) := dk_42 (dk_at dksX8_teach_0 0 rfl rfl)
theorem dX8_teach_1 : decode cX8_teach 1 = .ok (.iconst 0, 1) := dk_3 (dk_at dksX8_teach_0 1 rfl rfl)
theorem dX8_teach_2 : decode cX8_teach 2 = .ok (.putfield 80, 3) := dk_181 0 80 (dk_at dksX8_teach_0 2 rfl rfl)
theorem dX8_teach_5 : decode cX8_teach 5 = .ok (.aload_n 0, 1) := dk_42 (dk_at dksX8_teach_0 5 rfl rfl)
theorem dX8_teach_6 : decode cX8_teach 6 = .ok (.iload_n 1, 1) := dk_27 (dk_at dksX8_teach_0 6 rfl rfl)
theorem dX8_teach_7 : decode cX8_teach 7 = .ok (.invokevirtual 261, 3) := dk_182 1 5 (dk_at dksX8_teach_0 7 rfl rfl)
theorem dX8_teach_10 : decode cX8_teach 10 = .ok (.ifCond .eq 28, 3) := dk_153 0 28 (dk_at dksX8_teach_0 10 rfl rfl)
theorem dX8_teach_13 : decode cX8_teach 13 = .ok (.iload_n 2, 1) := dk_28 (dk_at dksX8_teach_0 13 rfl rfl)
theorem dX8_teach_14 : decode cX8_teach 14 = .ok (.i2l, 1) := dk_133 (dk_at dksX8_teach_0 14 rfl rfl)
theorem dX8_teach_15 : decode cX8_teach 15 = .ok (.lconst 0, 1) := dk_9 (dk_at dksX8_teach_0 15 rfl rfl)
theorem dX8_teach_16 : decode cX8_teach 16 = .ok (.aload_n 0, 1) := dk_42 (dk_at dksX8_teach_0 16 rfl rfl)
theorem dX8_teach_17 : decode cX8_teach 17 = .ok (.iload_n 1, 1) := dk_27 (dk_at dksX8_teach_0 17 rfl rfl)
theorem dX8_teach_18 : decode cX8_teach 18 = .ok (.invokevirtual 264, 3) := dk_182 1 8 (dk_at dksX8_teach_0 18 rfl rfl)
theorem dX8_teach_21 : decode cX8_teach 21 = .ok (.iconst 1, 1) := dk_4 (dk_at dksX8_teach_0 21 rfl rfl)
theorem dX8_teach_22 : decode cX8_teach 22 = .ok (.isub, 1) := dk_100 (dk_at dksX8_teach_0 22 rfl rfl)
theorem dX8_teach_23 : decode cX8_teach 23 = .ok (.i2l, 1) := dk_133 (dk_at dksX8_teach_0 23 rfl rfl)
theorem dX8_teach_24 : decode cX8_teach 24 = .ok (.invokestatic 85, 3) := dk_184 0 85 (dk_at dksX8_teach_1 0 rfl rfl)
theorem dX8_teach_27 : decode cX8_teach 27 = .ok (.ifCond .eq 11, 3) := dk_153 0 11 (dk_at dksX8_teach_1 3 rfl rfl)
theorem dX8_teach_30 : decode cX8_teach 30 = .ok (.iload_n 3, 1) := dk_29 (dk_at dksX8_teach_1 6 rfl rfl)
theorem dX8_teach_31 : decode cX8_teach 31 = .ok (.i2l, 1) := dk_133 (dk_at dksX8_teach_1 7 rfl rfl)
theorem dX8_teach_32 : decode cX8_teach 32 = .ok (.invokestatic 267, 3) := dk_184 1 11 (dk_at dksX8_teach_1 8 rfl rfl)
theorem dX8_teach_35 : decode cX8_teach 35 = .ok (.ifCond .ne 6, 3) := dk_154 0 6 (dk_at dksX8_teach_1 11 rfl rfl)
theorem dX8_teach_38 : decode cX8_teach 38 = .ok (.bipush (-2), 2) := dk_16 254 (dk_at dksX8_teach_1 14 rfl rfl)
theorem dX8_teach_40 : decode cX8_teach 40 = .ok (.ireturn, 1) := dk_172 (dk_at dksX8_teach_1 16 rfl rfl)
theorem dX8_teach_41 : decode cX8_teach 41 = .ok (.aload_n 0, 1) := dk_42 (dk_at dksX8_teach_1 17 rfl rfl)
theorem dX8_teach_42 : decode cX8_teach 42 = .ok (.getfield 34, 3) := dk_180 0 34 (dk_at dksX8_teach_1 18 rfl rfl)
theorem dX8_teach_45 : decode cX8_teach 45 = .ok (.bipush 10, 2) := dk_16 10 (dk_at dksX8_teach_1 21 rfl rfl)
theorem dX8_teach_47 : decode cX8_teach 47 = .ok (.iaload, 1) := dk_46 (dk_at dksX8_teach_1 23 rfl rfl)
theorem dX8_teach_48 : decode cX8_teach 48 = .ok (.bipush 40, 2) := dk_16 40 (dk_at dksX8_teach_2 0 rfl rfl)
theorem dX8_teach_50 : decode cX8_teach 50 = .ok (.if_icmp .ne 6, 3) := dk_160 0 6 (dk_at dksX8_teach_2 2 rfl rfl)
theorem dX8_teach_53 : decode cX8_teach 53 = .ok (.bipush (-5), 2) := dk_16 251 (dk_at dksX8_teach_2 5 rfl rfl)
theorem dX8_teach_55 : decode cX8_teach 55 = .ok (.ireturn, 1) := dk_172 (dk_at dksX8_teach_2 7 rfl rfl)
theorem dX8_teach_56 : decode cX8_teach 56 = .ok (.aload_n 0, 1) := dk_42 (dk_at dksX8_teach_2 8 rfl rfl)
theorem dX8_teach_57 : decode cX8_teach 57 = .ok (.getfield 37, 3) := dk_180 0 37 (dk_at dksX8_teach_2 9 rfl rfl)
theorem dX8_teach_60 : decode cX8_teach 60 = .ok (.bipush 12, 2) := dk_16 12 (dk_at dksX8_teach_2 12 rfl rfl)
theorem dX8_teach_62 : decode cX8_teach 62 = .ok (.iload_n 1, 1) := dk_27 (dk_at dksX8_teach_2 14 rfl rfl)
theorem dX8_teach_63 : decode cX8_teach 63 = .ok (.imul, 1) := dk_104 (dk_at dksX8_teach_2 15 rfl rfl)
theorem dX8_teach_64 : decode cX8_teach 64 = .ok (.iload_n 2, 1) := dk_28 (dk_at dksX8_teach_2 16 rfl rfl)
theorem dX8_teach_65 : decode cX8_teach 65 = .ok (.iadd, 1) := dk_96 (dk_at dksX8_teach_2 17 rfl rfl)
theorem dX8_teach_66 : decode cX8_teach 66 = .ok (.iaload, 1) := dk_46 (dk_at dksX8_teach_2 18 rfl rfl)
theorem dX8_teach_67 : decode cX8_teach 67 = .ok (.istore 4, 2) := dk_54 4 (dk_at dksX8_teach_2 19 rfl rfl)
theorem dX8_teach_69 : decode cX8_teach 69 = .ok (.aload_n 0, 1) := dk_42 (dk_at dksX8_teach_2 21 rfl rfl)
theorem dX8_teach_70 : decode cX8_teach 70 = .ok (.iconst 2, 1) := dk_5 (dk_at dksX8_teach_2 22 rfl rfl)
theorem dX8_teach_71 : decode cX8_teach 71 = .ok (.iload_n 1, 1) := dk_27 (dk_at dksX8_teach_2 23 rfl rfl)
theorem dX8_teach_72 : decode cX8_teach 72 = .ok (.iload_n 2, 1) := dk_28 (dk_at dksX8_teach_3 0 rfl rfl)
theorem dX8_teach_73 : decode cX8_teach 73 = .ok (.iload 4, 2) := dk_21 4 (dk_at dksX8_teach_3 1 rfl rfl)
theorem dX8_teach_75 : decode cX8_teach 75 = .ok (.invokevirtual 473, 3) := dk_182 1 217 (dk_at dksX8_teach_3 3 rfl rfl)
theorem dX8_teach_78 : decode cX8_teach 78 = .ok (.aload_n 0, 1) := dk_42 (dk_at dksX8_teach_3 6 rfl rfl)
theorem dX8_teach_79 : decode cX8_teach 79 = .ok (.getfield 37, 3) := dk_180 0 37 (dk_at dksX8_teach_3 7 rfl rfl)
theorem dX8_teach_82 : decode cX8_teach 82 = .ok (.bipush 12, 2) := dk_16 12 (dk_at dksX8_teach_3 10 rfl rfl)
theorem dX8_teach_84 : decode cX8_teach 84 = .ok (.iload_n 1, 1) := dk_27 (dk_at dksX8_teach_3 12 rfl rfl)
theorem dX8_teach_85 : decode cX8_teach 85 = .ok (.imul, 1) := dk_104 (dk_at dksX8_teach_3 13 rfl rfl)
theorem dX8_teach_86 : decode cX8_teach 86 = .ok (.iload_n 2, 1) := dk_28 (dk_at dksX8_teach_3 14 rfl rfl)
theorem dX8_teach_87 : decode cX8_teach 87 = .ok (.iadd, 1) := dk_96 (dk_at dksX8_teach_3 15 rfl rfl)
theorem dX8_teach_88 : decode cX8_teach 88 = .ok (.iload_n 3, 1) := dk_29 (dk_at dksX8_teach_3 16 rfl rfl)
theorem dX8_teach_89 : decode cX8_teach 89 = .ok (.iastore, 1) := dk_79 (dk_at dksX8_teach_3 17 rfl rfl)
theorem dX8_teach_90 : decode cX8_teach 90 = .ok (.iload 4, 2) := dk_21 4 (dk_at dksX8_teach_3 18 rfl rfl)
theorem dX8_teach_92 : decode cX8_teach 92 = .ok (.ireturn, 1) := dk_172 (dk_at dksX8_teach_3 20 rfl rfl)
abbrev cX8_undo : ByteArray := prog_13_method_141_code
def yX8_undo : MethodName := ⟨RX8, "undo", "()I"⟩
def dkwX8_undo_6 : List UInt8 := [180, 0, 56, 27, 6, 96, 46, 79, 42, 180, 0, 34, 16, 10, 46, 172]
abbrev dktX8_undo_6 : List UInt8 := dkwX8_undo_6 ++ []
def dkwX8_undo_5 : List UInt8 := [180, 0, 37, 16, 12, 42, 180, 0, 56, 27, 4, 96, 46, 104, 42, 180, 0, 56, 27, 5, 96, 46, 96, 42]
abbrev dktX8_undo_5 : List UInt8 := dkwX8_undo_5 ++ dktX8_undo_6
def dkwX8_undo_4 : List UInt8 := [46, 42, 180, 0, 56, 27, 6, 96, 46, 4, 160, 0, 7, 4, 167, 0, 4, 3, 84, 167, 0, 36, 42]
abbrev dktX8_undo_4 : List UInt8 := dkwX8_undo_4 ++ dktX8_undo_5
def dkwX8_undo_3 : List UInt8 := [167, 0, 79, 42, 180, 0, 56, 27, 46, 4, 160, 0, 36, 42, 180, 0, 46, 42, 180, 0, 56, 27, 5, 96]
abbrev dktX8_undo_3 : List UInt8 := dkwX8_undo_3 ++ dktX8_undo_4
def dkwX8_undo_2 : List UInt8 := [46, 104, 60, 42, 180, 0, 56, 27, 46, 154, 0, 17, 42, 180, 0, 34, 16, 7, 92, 46, 4, 100, 79]
abbrev dktX8_undo_2 : List UInt8 := dkwX8_undo_2 ++ dktX8_undo_3
def dkwX8_undo_1 : List UInt8 := [154, 0, 6, 16, 251, 172, 42, 180, 0, 34, 16, 10, 92, 46, 4, 100, 79, 7, 42, 180, 0, 34, 16, 10]
abbrev dktX8_undo_1 : List UInt8 := dkwX8_undo_1 ++ dktX8_undo_2
def dkwX8_undo_0 : List UInt8 := [42, 3, 181, 0, 80, 42, 182, 0, 254, 154, 0, 6, 16, 254, 172, 42, 180, 0, 34, 16, 10, 46]
abbrev dktX8_undo_0 : List UInt8 := dkwX8_undo_0 ++ dktX8_undo_1
theorem dksX8_undo_0 : cX8_undo.data.toList.drop 0 = dktX8_undo_0 := by decide +kernel
theorem dksX8_undo_1 : cX8_undo.data.toList.drop 22 = dktX8_undo_1 := dk_seg dksX8_undo_0 22 rfl rfl
theorem dksX8_undo_2 : cX8_undo.data.toList.drop 46 = dktX8_undo_2 := dk_seg dksX8_undo_1 24 rfl rfl
theorem dksX8_undo_3 : cX8_undo.data.toList.drop 69 = dktX8_undo_3 := dk_seg dksX8_undo_2 23 rfl rfl
theorem dksX8_undo_4 : cX8_undo.data.toList.drop 93 = dktX8_undo_4 := dk_seg dksX8_undo_3 24 rfl rfl
theorem dksX8_undo_5 : cX8_undo.data.toList.drop 116 = dktX8_undo_5 := dk_seg dksX8_undo_4 23 rfl rfl
theorem dksX8_undo_6 : cX8_undo.data.toList.drop 140 = dktX8_undo_6 := dk_seg dksX8_undo_5 24 rfl rfl
theorem dX8_undo_0 : decode cX8_undo 0 = .ok (.aload_n 0, 1) := dk_42 (dk_at dksX8_undo_0 0 rfl rfl)
theorem dX8_undo_1 : decode cX8_undo 1 = .ok (.iconst 0, 1) := dk_3 (dk_at dksX8_undo_0 1 rfl rfl)
theorem dX8_undo_2 : decode cX8_undo 2 = .ok (.putfield 80, 3) := dk_181 0 80 (dk_at dksX8_undo_0 2 rfl rfl)
theorem dX8_undo_5 : decode cX8_undo 5 = .ok (.aload_n 0, 1) := dk_42 (dk_at dksX8_undo_0 5 rfl rfl)
theorem dX8_undo_6 : decode cX8_undo 6 = .ok (.invokevirtual 254, 3) := dk_182 0 254 (dk_at dksX8_undo_0 6 rfl rfl)
theorem dX8_undo_9 : decode cX8_undo 9 = .ok (.ifCond .ne 6, 3) := dk_154 0 6 (dk_at dksX8_undo_0 9 rfl rfl)
theorem dX8_undo_12 : decode cX8_undo 12 = .ok (.bipush (-2), 2) := dk_16 254 (dk_at dksX8_undo_0 12 rfl rfl)
theorem dX8_undo_14 : decode cX8_undo 14 = .ok (.ireturn, 1) := dk_172 (dk_at dksX8_undo_0 14 rfl rfl)
theorem dX8_undo_15 : decode cX8_undo 15 = .ok (.aload_n 0, 1) := dk_42 (dk_at dksX8_undo_0 15 rfl rfl)
theorem dX8_undo_16 : decode cX8_undo 16 = .ok (.getfield 34, 3) := dk_180 0 34 (dk_at dksX8_undo_0 16 rfl rfl)
theorem dX8_undo_19 : decode cX8_undo 19 = .ok (.bipush 10, 2) := dk_16 10 (dk_at dksX8_undo_0 19 rfl rfl)
theorem dX8_undo_21 : decode cX8_undo 21 = .ok (.iaload, 1) := dk_46 (dk_at dksX8_undo_0 21 rfl rfl)
theorem dX8_undo_22 : decode cX8_undo 22 = .ok (.ifCond .ne 6, 3) := dk_154 0 6 (dk_at dksX8_undo_1 0 rfl rfl)
theorem dX8_undo_25 : decode cX8_undo 25 = .ok (.bipush (-5), 2) := dk_16 251 (dk_at dksX8_undo_1 3 rfl rfl)
theorem dX8_undo_27 : decode cX8_undo 27 = .ok (.ireturn, 1) := dk_172 (dk_at dksX8_undo_1 5 rfl rfl)
theorem dX8_undo_28 : decode cX8_undo 28 = .ok (.aload_n 0, 1) := dk_42 (dk_at dksX8_undo_1 6 rfl rfl)
theorem dX8_undo_29 : decode cX8_undo 29 = .ok (.getfield 34, 3) := dk_180 0 34 (dk_at dksX8_undo_1 7 rfl rfl)
theorem dX8_undo_32 : decode cX8_undo 32 = .ok (.bipush 10, 2) := dk_16 10 (dk_at dksX8_undo_1 10 rfl rfl)
theorem dX8_undo_34 : decode cX8_undo 34 = .ok (.dup2, 1) := dk_92 (dk_at dksX8_undo_1 12 rfl rfl)
theorem dX8_undo_35 : decode cX8_undo 35 = .ok (.iaload, 1) := dk_46 (dk_at dksX8_undo_1 13 rfl rfl)
theorem dX8_undo_36 : decode cX8_undo 36 = .ok (.iconst 1, 1) := dk_4 (dk_at dksX8_undo_1 14 rfl rfl)
theorem dX8_undo_37 : decode cX8_undo 37 = .ok (.isub, 1) := dk_100 (dk_at dksX8_undo_1 15 rfl rfl)
theorem dX8_undo_38 : decode cX8_undo 38 = .ok (.iastore, 1) := dk_79 (dk_at dksX8_undo_1 16 rfl rfl)
theorem dX8_undo_39 : decode cX8_undo 39 = .ok (.iconst 4, 1) := dk_7 (dk_at dksX8_undo_1 17 rfl rfl)
theorem dX8_undo_40 : decode cX8_undo 40 = .ok (.aload_n 0, 1) := dk_42 (dk_at dksX8_undo_1 18 rfl rfl)
theorem dX8_undo_41 : decode cX8_undo 41 = .ok (.getfield 34, 3) := dk_180 0 34 (dk_at dksX8_undo_1 19 rfl rfl)
theorem dX8_undo_44 : decode cX8_undo 44 = .ok (.bipush 10, 2) := dk_16 10 (dk_at dksX8_undo_1 22 rfl rfl)
theorem dX8_undo_46 : decode cX8_undo 46 = .ok (.iaload, 1) := dk_46 (dk_at dksX8_undo_2 0 rfl rfl)
theorem dX8_undo_47 : decode cX8_undo 47 = .ok (.imul, 1) := dk_104 (dk_at dksX8_undo_2 1 rfl rfl)
theorem dX8_undo_48 : decode cX8_undo 48 = .ok (.istore_n 1, 1) := dk_60 (dk_at dksX8_undo_2 2 rfl rfl)
theorem dX8_undo_49 : decode cX8_undo 49 = .ok (.aload_n 0, 1) := dk_42 (dk_at dksX8_undo_2 3 rfl rfl)
theorem dX8_undo_50 : decode cX8_undo 50 = .ok (.getfield 56, 3) := dk_180 0 56 (dk_at dksX8_undo_2 4 rfl rfl)
theorem dX8_undo_53 : decode cX8_undo 53 = .ok (.iload_n 1, 1) := dk_27 (dk_at dksX8_undo_2 7 rfl rfl)
theorem dX8_undo_54 : decode cX8_undo 54 = .ok (.iaload, 1) := dk_46 (dk_at dksX8_undo_2 8 rfl rfl)
theorem dX8_undo_55 : decode cX8_undo 55 = .ok (.ifCond .ne 17, 3) := dk_154 0 17 (dk_at dksX8_undo_2 9 rfl rfl)
theorem dX8_undo_58 : decode cX8_undo 58 = .ok (.aload_n 0, 1) := dk_42 (dk_at dksX8_undo_2 12 rfl rfl)
theorem dX8_undo_59 : decode cX8_undo 59 = .ok (.getfield 34, 3) := dk_180 0 34 (dk_at dksX8_undo_2 13 rfl rfl)
theorem dX8_undo_62 : decode cX8_undo 62 = .ok (.bipush 7, 2) := dk_16 7 (dk_at dksX8_undo_2 16 rfl rfl)
theorem dX8_undo_64 : decode cX8_undo 64 = .ok (.dup2, 1) := dk_92 (dk_at dksX8_undo_2 18 rfl rfl)
theorem dX8_undo_65 : decode cX8_undo 65 = .ok (.iaload, 1) := dk_46 (dk_at dksX8_undo_2 19 rfl rfl)
theorem dX8_undo_66 : decode cX8_undo 66 = .ok (.iconst 1, 1) := dk_4 (dk_at dksX8_undo_2 20 rfl rfl)
theorem dX8_undo_67 : decode cX8_undo 67 = .ok (.isub, 1) := dk_100 (dk_at dksX8_undo_2 21 rfl rfl)
theorem dX8_undo_68 : decode cX8_undo 68 = .ok (.iastore, 1) := dk_79 (dk_at dksX8_undo_2 22 rfl rfl)
theorem dX8_undo_69 : decode cX8_undo 69 = .ok (.goto 79, 3) := dk_167 0 79 (dk_at dksX8_undo_3 0 rfl rfl)
theorem dX8_undo_72 : decode cX8_undo 72 = .ok (.aload_n 0, 1) := dk_42 (dk_at dksX8_undo_3 3 rfl rfl)
theorem dX8_undo_73 : decode cX8_undo 73 = .ok (.getfield 56, 3) := dk_180 0 56 (dk_at dksX8_undo_3 4 rfl rfl)
theorem dX8_undo_76 : decode cX8_undo 76 = .ok (.iload_n 1, 1) := dk_27 (dk_at dksX8_undo_3 7 rfl rfl)
theorem dX8_undo_77 : decode cX8_undo 77 = .ok (.iaload, 1) := dk_46 (dk_at dksX8_undo_3 8 rfl rfl)
theorem dX8_undo_78 : decode cX8_undo 78 = .ok (.iconst 1, 1) := dk_4 (dk_at dksX8_undo_3 9 rfl rfl)
theorem dX8_undo_79 : decode cX8_undo 79 = .ok (.if_icmp .ne 36, 3) := dk_160 0 36 (dk_at dksX8_undo_3 10 rfl rfl)
theorem dX8_undo_82 : decode cX8_undo 82 = .ok (.aload_n 0, 1) := dk_42 (dk_at dksX8_undo_3 13 rfl rfl)
theorem dX8_undo_83 : decode cX8_undo 83 = .ok (.getfield 46, 3) := dk_180 0 46 (dk_at dksX8_undo_3 14 rfl rfl)
theorem dX8_undo_86 : decode cX8_undo 86 = .ok (.aload_n 0, 1) := dk_42 (dk_at dksX8_undo_3 17 rfl rfl)
theorem dX8_undo_87 : decode cX8_undo 87 = .ok (.getfield 56, 3) := dk_180 0 56 (dk_at dksX8_undo_3 18 rfl rfl)
theorem dX8_undo_90 : decode cX8_undo 90 = .ok (.iload_n 1, 1) := dk_27 (dk_at dksX8_undo_3 21 rfl rfl)
theorem dX8_undo_91 : decode cX8_undo 91 = .ok (.iconst 2, 1) := dk_5 (dk_at dksX8_undo_3 22 rfl rfl)
theorem dX8_undo_92 : decode cX8_undo 92 = .ok (.iadd, 1) := dk_96 (dk_at dksX8_undo_3 23 rfl rfl)
theorem dX8_undo_93 : decode cX8_undo 93 = .ok (.iaload, 1) := dk_46 (dk_at dksX8_undo_4 0 rfl rfl)
theorem dX8_undo_94 : decode cX8_undo 94 = .ok (.aload_n 0, 1) := dk_42 (dk_at dksX8_undo_4 1 rfl rfl)
theorem dX8_undo_95 : decode cX8_undo 95 = .ok (.getfield 56, 3) := dk_180 0 56 (dk_at dksX8_undo_4 2 rfl rfl)
theorem dX8_undo_98 : decode cX8_undo 98 = .ok (.iload_n 1, 1) := dk_27 (dk_at dksX8_undo_4 5 rfl rfl)
theorem dX8_undo_99 : decode cX8_undo 99 = .ok (.iconst 3, 1) := dk_6 (dk_at dksX8_undo_4 6 rfl rfl)
theorem dX8_undo_100 : decode cX8_undo 100 = .ok (.iadd, 1) := dk_96 (dk_at dksX8_undo_4 7 rfl rfl)
theorem dX8_undo_101 : decode cX8_undo 101 = .ok (.iaload, 1) := dk_46 (dk_at dksX8_undo_4 8 rfl rfl)
theorem dX8_undo_102 : decode cX8_undo 102 = .ok (.iconst 1, 1) := dk_4 (dk_at dksX8_undo_4 9 rfl rfl)
theorem dX8_undo_103 : decode cX8_undo 103 = .ok (.if_icmp .ne 7, 3) := dk_160 0 7 (dk_at dksX8_undo_4 10 rfl rfl)
theorem dX8_undo_106 : decode cX8_undo 106 = .ok (.iconst 1, 1) := dk_4 (dk_at dksX8_undo_4 13 rfl rfl)
theorem dX8_undo_107 : decode cX8_undo 107 = .ok (.goto 4, 3) := dk_167 0 4 (dk_at dksX8_undo_4 14 rfl rfl)
theorem dX8_undo_110 : decode cX8_undo 110 = .ok (.iconst 0, 1) := dk_3 (dk_at dksX8_undo_4 17 rfl rfl)
theorem dX8_undo_111 : decode cX8_undo 111 = .ok (.bastore, 1) := dk_84 (dk_at dksX8_undo_4 18 rfl rfl)
theorem dX8_undo_112 : decode cX8_undo 112 = .ok (.goto 36, 3) := dk_167 0 36 (dk_at dksX8_undo_4 19 rfl rfl)
theorem dX8_undo_115 : decode cX8_undo 115 = .ok (.aload_n 0, 1) := dk_42 (dk_at dksX8_undo_4 22 rfl rfl)
theorem dX8_undo_116 : decode cX8_undo 116 = .ok (.getfield 37, 3) := dk_180 0 37 (dk_at dksX8_undo_5 0 rfl rfl)
theorem dX8_undo_119 : decode cX8_undo 119 = .ok (.bipush 12, 2) := dk_16 12 (dk_at dksX8_undo_5 3 rfl rfl)
theorem dX8_undo_121 : decode cX8_undo 121 = .ok (.aload_n 0, 1) := dk_42 (dk_at dksX8_undo_5 5 rfl rfl)
theorem dX8_undo_122 : decode cX8_undo 122 = .ok (.getfield 56, 3) := dk_180 0 56 (dk_at dksX8_undo_5 6 rfl rfl)
theorem dX8_undo_125 : decode cX8_undo 125 = .ok (.iload_n 1, 1) := dk_27 (dk_at dksX8_undo_5 9 rfl rfl)
theorem dX8_undo_126 : decode cX8_undo 126 = .ok (.iconst 1, 1) := dk_4 (dk_at dksX8_undo_5 10 rfl rfl)
theorem dX8_undo_127 : decode cX8_undo 127 = .ok (.iadd, 1) := dk_96 (dk_at dksX8_undo_5 11 rfl rfl)
theorem dX8_undo_128 : decode cX8_undo 128 = .ok (.iaload, 1) := dk_46 (dk_at dksX8_undo_5 12 rfl rfl)
theorem dX8_undo_129 : decode cX8_undo 129 = .ok (.imul, 1) := dk_104 (dk_at dksX8_undo_5 13 rfl rfl)
theorem dX8_undo_130 : decode cX8_undo 130 = .ok (.aload_n 0, 1) := dk_42 (dk_at dksX8_undo_5 14 rfl rfl)
theorem dX8_undo_131 : decode cX8_undo 131 = .ok (.getfield 56, 3) := dk_180 0 56 (dk_at dksX8_undo_5 15 rfl rfl)
theorem dX8_undo_134 : decode cX8_undo 134 = .ok (.iload_n 1, 1) := dk_27 (dk_at dksX8_undo_5 18 rfl rfl)
theorem dX8_undo_135 : decode cX8_undo 135 = .ok (.iconst 2, 1) := dk_5 (dk_at dksX8_undo_5 19 rfl rfl)
theorem dX8_undo_136 : decode cX8_undo 136 = .ok (.iadd, 1) := dk_96 (dk_at dksX8_undo_5 20 rfl rfl)
theorem dX8_undo_137 : decode cX8_undo 137 = .ok (.iaload, 1) := dk_46 (dk_at dksX8_undo_5 21 rfl rfl)
theorem dX8_undo_138 : decode cX8_undo 138 = .ok (.iadd, 1) := dk_96 (dk_at dksX8_undo_5 22 rfl rfl)
theorem dX8_undo_139 : decode cX8_undo 139 = .ok (.aload_n 0, 1) := dk_42 (dk_at dksX8_undo_5 23 rfl rfl)
theorem dX8_undo_140 : decode cX8_undo 140 = .ok (.getfield 56, 3) := dk_180 0 56 (dk_at dksX8_undo_6 0 rfl rfl)
theorem dX8_undo_143 : decode cX8_undo 143 = .ok (.iload_n 1, 1) := dk_27 (dk_at dksX8_undo_6 3 rfl rfl)
theorem dX8_undo_144 : decode cX8_undo 144 = .ok (.iconst 3, 1) := dk_6 (dk_at dksX8_undo_6 4 rfl rfl)
theorem dX8_undo_145 : decode cX8_undo 145 = .ok (.iadd, 1) := dk_96 (dk_at dksX8_undo_6 5 rfl rfl)
theorem dX8_undo_146 : decode cX8_undo 146 = .ok (.iaload, 1) := dk_46 (dk_at dksX8_undo_6 6 rfl rfl)
theorem dX8_undo_147 : decode cX8_undo 147 = .ok (.iastore, 1) := dk_79 (dk_at dksX8_undo_6 7 rfl rfl)
theorem dX8_undo_148 : decode cX8_undo 148 = .ok (.aload_n 0, 1) := dk_42 (dk_at dksX8_undo_6 8 rfl rfl)
theorem dX8_undo_149 : decode cX8_undo 149 = .ok (.getfield 34, 3) := dk_180 0 34 (dk_at dksX8_undo_6 9 rfl rfl)
theorem dX8_undo_152 : decode cX8_undo 152 = .ok (.bipush 10, 2) := dk_16 10 (dk_at dksX8_undo_6 12 rfl rfl)
theorem dX8_undo_154 : decode cX8_undo 154 = .ok (.iaload, 1) := dk_46 (dk_at dksX8_undo_6 14 rfl rfl)
theorem dX8_undo_155 : decode cX8_undo 155 = .ok (.ireturn, 1) := dk_172 (dk_at dksX8_undo_6 15 rfl rfl)
abbrev cX8_count : ByteArray := prog_13_method_142_code
def yX8_count : MethodName := ⟨RX8, "count", "(I)I"⟩
def dkwX8_count_8 : List UInt8 := [167, 255, 230, 28, 172, 2, 172]
abbrev dktX8_count_8 : List UInt8 := dkwX8_count_8 ++ []
def dkwX8_count_7 : List UInt8 := [162, 0, 27, 28, 42, 180, 0, 7, 29, 46, 2, 160, 0, 7, 3, 167, 0, 4, 4, 96, 61, 132, 3, 1]
abbrev dktX8_count_7 : List UInt8 := dkwX8_count_7 ++ dktX8_count_8
def dkwX8_count_6 : List UInt8 := [180, 0, 34, 16, 10, 46, 172, 42, 180, 0, 31, 3, 46, 172, 42, 180, 0, 97, 172, 3, 62, 29, 7]
abbrev dktX8_count_6 : List UInt8 := dkwX8_count_6 ++ dktX8_count_7
def dkwX8_count_5 : List UInt8 := [167, 255, 229, 28, 172, 42, 180, 0, 34, 16, 8, 46, 172, 42, 180, 0, 34, 16, 9, 46, 172, 42]
abbrev dktX8_count_5 : List UInt8 := dkwX8_count_5 ++ dktX8_count_6
def dkwX8_count_4 : List UInt8 := [162, 0, 26, 28, 42, 180, 0, 46, 29, 51, 153, 0, 7, 4, 167, 0, 4, 3, 96, 61, 132, 3, 1]
abbrev dktX8_count_4 : List UInt8 := dkwX8_count_4 ++ dktX8_count_5
def dkwX8_count_3 : List UInt8 := [182, 1, 8, 172, 42, 4, 182, 1, 8, 172, 42, 180, 0, 34, 16, 7, 46, 172, 3, 62, 29, 17, 0, 200]
abbrev dktX8_count_3 : List UInt8 := dkwX8_count_3 ++ dktX8_count_4
def dkwX8_count_2 : List UInt8 := [42, 180, 0, 34, 3, 46, 172, 42, 180, 0, 34, 4, 46, 172, 42, 180, 0, 34, 5, 46, 172, 42, 3]
abbrev dktX8_count_2 : List UInt8 := dkwX8_count_2 ++ dktX8_count_3
def dkwX8_count_1 : List UInt8 := [170, 0, 0, 0, 0, 0, 0, 212, 0, 0, 0, 0, 0, 0, 0, 12, 0, 0, 0, 68, 0, 0, 0, 75, 0, 0, 0, 82, 0, 0, 0, 89, 0, 0, 0, 95, 0, 0, 0, 101, 0, 0, 0, 109, 0, 0, 0, 143, 0, 0, 0, 151, 0, 0, 0, 159, 0, 0, 0, 167, 0, 0, 0, 174, 0, 0, 0, 179]
abbrev dktX8_count_1 : List UInt8 := dkwX8_count_1 ++ dktX8_count_2
def dkwX8_count_0 : List UInt8 := [42, 3, 181, 0, 80, 3, 61, 27]
abbrev dktX8_count_0 : List UInt8 := dkwX8_count_0 ++ dktX8_count_1
theorem dksX8_count_0 : cX8_count.data.toList.drop 0 = dktX8_count_0 := by decide +kernel
theorem dksX8_count_1 : cX8_count.data.toList.drop 8 = dktX8_count_1 := dk_seg dksX8_count_0 8 rfl rfl
theorem dksX8_count_2 : cX8_count.data.toList.drop 76 = dktX8_count_2 := dk_seg dksX8_count_1 68 rfl rfl
theorem dksX8_count_3 : cX8_count.data.toList.drop 99 = dktX8_count_3 := dk_seg dksX8_count_2 23 rfl rfl
theorem dksX8_count_4 : cX8_count.data.toList.drop 123 = dktX8_count_4 := dk_seg dksX8_count_3 24 rfl rfl
theorem dksX8_count_5 : cX8_count.data.toList.drop 146 = dktX8_count_5 := dk_seg dksX8_count_4 23 rfl rfl
theorem dksX8_count_6 : cX8_count.data.toList.drop 168 = dktX8_count_6 := dk_seg dksX8_count_5 22 rfl rfl
theorem dksX8_count_7 : cX8_count.data.toList.drop 191 = dktX8_count_7 := dk_seg dksX8_count_6 23 rfl rfl
theorem dksX8_count_8 : cX8_count.data.toList.drop 215 = dktX8_count_8 := dk_seg dksX8_count_7 24 rfl rfl
theorem dX8_count_0 : decode cX8_count 0 = .ok (.aload_n 0, 1) := dk_42 (dk_at dksX8_count_0 0 rfl rfl)
theorem dX8_count_1 : decode cX8_count 1 = .ok (.iconst 0, 1) := dk_3 (dk_at dksX8_count_0 1 rfl rfl)
theorem dX8_count_2 : decode cX8_count 2 = .ok (.putfield 80, 3) := dk_181 0 80 (dk_at dksX8_count_0 2 rfl rfl)
theorem dX8_count_5 : decode cX8_count 5 = .ok (.iconst 0, 1) := dk_3 (dk_at dksX8_count_0 5 rfl rfl)
theorem dX8_count_6 : decode cX8_count 6 = .ok (.istore_n 2, 1) := dk_61 (dk_at dksX8_count_0 6 rfl rfl)
theorem dX8_count_7 : decode cX8_count 7 = .ok (.iload_n 1, 1) := dk_27 (dk_at dksX8_count_0 7 rfl rfl)
theorem dX8_count_8 : decode cX8_count 8 = .ok (.tableswitch 212 0 12 #[68, 75, 82, 89, 95, 101, 109, 143, 151, 159, 167, 174, 179], 68) := by decide +kernel
theorem dX8_count_76 : decode cX8_count 76 = .ok (.aload_n 0, 1) := dk_42 (dk_at dksX8_count_2 0 rfl rfl)
theorem dX8_count_77 : decode cX8_count 77 = .ok (.getfield 34, 3) := dk_180 0 34 (dk_at dksX8_count_2 1 rfl rfl)
theorem dX8_count_80 : decode cX8_count 80 = .ok (.iconst 0, 1) := dk_3 (dk_at dksX8_count_2 4 rfl rfl)
theorem dX8_count_81 : decode cX8_count 81 = .ok (.iaload, 1) := dk_46 (dk_at dksX8_count_2 5 rfl rfl)
theorem dX8_count_82 : decode cX8_count 82 = .ok (.ireturn, 1) := dk_172 (dk_at dksX8_count_2 6 rfl rfl)
theorem dX8_count_83 : decode cX8_count 83 = .ok (.aload_n 0, 1) := dk_42 (dk_at dksX8_count_2 7 rfl rfl)
theorem dX8_count_84 : decode cX8_count 84 = .ok (.getfield 34, 3) := dk_180 0 34 (dk_at dksX8_count_2 8 rfl rfl)
theorem dX8_count_87 : decode cX8_count 87 = .ok (.iconst 1, 1) := dk_4 (dk_at dksX8_count_2 11 rfl rfl)
theorem dX8_count_88 : decode cX8_count 88 = .ok (.iaload, 1) := dk_46 (dk_at dksX8_count_2 12 rfl rfl)
theorem dX8_count_89 : decode cX8_count 89 = .ok (.ireturn, 1) := dk_172 (dk_at dksX8_count_2 13 rfl rfl)
theorem dX8_count_90 : decode cX8_count 90 = .ok (.aload_n 0, 1) := dk_42 (dk_at dksX8_count_2 14 rfl rfl)
theorem dX8_count_91 : decode cX8_count 91 = .ok (.getfield 34, 3) := dk_180 0 34 (dk_at dksX8_count_2 15 rfl rfl)
theorem dX8_count_94 : decode cX8_count 94 = .ok (.iconst 2, 1) := dk_5 (dk_at dksX8_count_2 18 rfl rfl)
theorem dX8_count_95 : decode cX8_count 95 = .ok (.iaload, 1) := dk_46 (dk_at dksX8_count_2 19 rfl rfl)
theorem dX8_count_96 : decode cX8_count 96 = .ok (.ireturn, 1) := dk_172 (dk_at dksX8_count_2 20 rfl rfl)
theorem dX8_count_97 : decode cX8_count 97 = .ok (.aload_n 0, 1) := dk_42 (dk_at dksX8_count_2 21 rfl rfl)
theorem dX8_count_98 : decode cX8_count 98 = .ok (.iconst 0, 1) := dk_3 (dk_at dksX8_count_2 22 rfl rfl)
theorem dX8_count_99 : decode cX8_count 99 = .ok (.invokevirtual 264, 3) := dk_182 1 8 (dk_at dksX8_count_3 0 rfl rfl)
theorem dX8_count_102 : decode cX8_count 102 = .ok (.ireturn, 1) := dk_172 (dk_at dksX8_count_3 3 rfl rfl)
theorem dX8_count_103 : decode cX8_count 103 = .ok (.aload_n 0, 1) := dk_42 (dk_at dksX8_count_3 4 rfl rfl)
theorem dX8_count_104 : decode cX8_count 104 = .ok (.iconst 1, 1) := dk_4 (dk_at dksX8_count_3 5 rfl rfl)
theorem dX8_count_105 : decode cX8_count 105 = .ok (.invokevirtual 264, 3) := dk_182 1 8 (dk_at dksX8_count_3 6 rfl rfl)
theorem dX8_count_108 : decode cX8_count 108 = .ok (.ireturn, 1) := dk_172 (dk_at dksX8_count_3 9 rfl rfl)
theorem dX8_count_109 : decode cX8_count 109 = .ok (.aload_n 0, 1) := dk_42 (dk_at dksX8_count_3 10 rfl rfl)
theorem dX8_count_110 : decode cX8_count 110 = .ok (.getfield 34, 3) := dk_180 0 34 (dk_at dksX8_count_3 11 rfl rfl)
theorem dX8_count_113 : decode cX8_count 113 = .ok (.bipush 7, 2) := dk_16 7 (dk_at dksX8_count_3 14 rfl rfl)
theorem dX8_count_115 : decode cX8_count 115 = .ok (.iaload, 1) := dk_46 (dk_at dksX8_count_3 16 rfl rfl)
theorem dX8_count_116 : decode cX8_count 116 = .ok (.ireturn, 1) := dk_172 (dk_at dksX8_count_3 17 rfl rfl)
theorem dX8_count_117 : decode cX8_count 117 = .ok (.iconst 0, 1) := dk_3 (dk_at dksX8_count_3 18 rfl rfl)
theorem dX8_count_118 : decode cX8_count 118 = .ok (.istore_n 3, 1) := dk_62 (dk_at dksX8_count_3 19 rfl rfl)
theorem dX8_count_119 : decode cX8_count 119 = .ok (.iload_n 3, 1) := dk_29 (dk_at dksX8_count_3 20 rfl rfl)
theorem dX8_count_120 : decode cX8_count 120 = .ok (.sipush 200, 3) := dk_17 0 200 (dk_at dksX8_count_3 21 rfl rfl)
theorem dX8_count_123 : decode cX8_count 123 = .ok (.if_icmp .ge 26, 3) := dk_162 0 26 (dk_at dksX8_count_4 0 rfl rfl)
theorem dX8_count_126 : decode cX8_count 126 = .ok (.iload_n 2, 1) := dk_28 (dk_at dksX8_count_4 3 rfl rfl)
theorem dX8_count_127 : decode cX8_count 127 = .ok (.aload_n 0, 1) := dk_42 (dk_at dksX8_count_4 4 rfl rfl)
theorem dX8_count_128 : decode cX8_count 128 = .ok (.getfield 46, 3) := dk_180 0 46 (dk_at dksX8_count_4 5 rfl rfl)
theorem dX8_count_131 : decode cX8_count 131 = .ok (.iload_n 3, 1) := dk_29 (dk_at dksX8_count_4 8 rfl rfl)
theorem dX8_count_132 : decode cX8_count 132 = .ok (.baload, 1) := dk_51 (dk_at dksX8_count_4 9 rfl rfl)
theorem dX8_count_133 : decode cX8_count 133 = .ok (.ifCond .eq 7, 3) := dk_153 0 7 (dk_at dksX8_count_4 10 rfl rfl)
theorem dX8_count_136 : decode cX8_count 136 = .ok (.iconst 1, 1) := dk_4 (dk_at dksX8_count_4 13 rfl rfl)
theorem dX8_count_137 : decode cX8_count 137 = .ok (.goto 4, 3) := dk_167 0 4 (dk_at dksX8_count_4 14 rfl rfl)
theorem dX8_count_140 : decode cX8_count 140 = .ok (.iconst 0, 1) := dk_3 (dk_at dksX8_count_4 17 rfl rfl)
theorem dX8_count_141 : decode cX8_count 141 = .ok (.iadd, 1) := dk_96 (dk_at dksX8_count_4 18 rfl rfl)
theorem dX8_count_142 : decode cX8_count 142 = .ok (.istore_n 2, 1) := dk_61 (dk_at dksX8_count_4 19 rfl rfl)
theorem dX8_count_143 : decode cX8_count 143 = .ok (.iinc 3 1, 3) := dk_132 3 1 (dk_at dksX8_count_4 20 rfl rfl)
theorem dX8_count_146 : decode cX8_count 146 = .ok (.goto (-27), 3) := dk_167 255 229 (dk_at dksX8_count_5 0 rfl rfl)
theorem dX8_count_149 : decode cX8_count 149 = .ok (.iload_n 2, 1) := dk_28 (dk_at dksX8_count_5 3 rfl rfl)
theorem dX8_count_150 : decode cX8_count 150 = .ok (.ireturn, 1) := dk_172 (dk_at dksX8_count_5 4 rfl rfl)
theorem dX8_count_151 : decode cX8_count 151 = .ok (.aload_n 0, 1) := dk_42 (dk_at dksX8_count_5 5 rfl rfl)
theorem dX8_count_152 : decode cX8_count 152 = .ok (.getfield 34, 3) := dk_180 0 34 (dk_at dksX8_count_5 6 rfl rfl)
theorem dX8_count_155 : decode cX8_count 155 = .ok (.bipush 8, 2) := dk_16 8 (dk_at dksX8_count_5 9 rfl rfl)
theorem dX8_count_157 : decode cX8_count 157 = .ok (.iaload, 1) := dk_46 (dk_at dksX8_count_5 11 rfl rfl)
theorem dX8_count_158 : decode cX8_count 158 = .ok (.ireturn, 1) := dk_172 (dk_at dksX8_count_5 12 rfl rfl)
theorem dX8_count_159 : decode cX8_count 159 = .ok (.aload_n 0, 1) := dk_42 (dk_at dksX8_count_5 13 rfl rfl)
theorem dX8_count_160 : decode cX8_count 160 = .ok (.getfield 34, 3) := dk_180 0 34 (dk_at dksX8_count_5 14 rfl rfl)
theorem dX8_count_163 : decode cX8_count 163 = .ok (.bipush 9, 2) := dk_16 9 (dk_at dksX8_count_5 17 rfl rfl)
theorem dX8_count_165 : decode cX8_count 165 = .ok (.iaload, 1) := dk_46 (dk_at dksX8_count_5 19 rfl rfl)
theorem dX8_count_166 : decode cX8_count 166 = .ok (.ireturn, 1) := dk_172 (dk_at dksX8_count_5 20 rfl rfl)
theorem dX8_count_167 : decode cX8_count 167 = .ok (.aload_n 0, 1) := dk_42 (dk_at dksX8_count_5 21 rfl rfl)
theorem dX8_count_168 : decode cX8_count 168 = .ok (.getfield 34, 3) := dk_180 0 34 (dk_at dksX8_count_6 0 rfl rfl)
theorem dX8_count_171 : decode cX8_count 171 = .ok (.bipush 10, 2) := dk_16 10 (dk_at dksX8_count_6 3 rfl rfl)
theorem dX8_count_173 : decode cX8_count 173 = .ok (.iaload, 1) := dk_46 (dk_at dksX8_count_6 5 rfl rfl)
theorem dX8_count_174 : decode cX8_count 174 = .ok (.ireturn, 1) := dk_172 (dk_at dksX8_count_6 6 rfl rfl)
theorem dX8_count_175 : decode cX8_count 175 = .ok (.aload_n 0, 1) := dk_42 (dk_at dksX8_count_6 7 rfl rfl)
theorem dX8_count_176 : decode cX8_count 176 = .ok (.getfield 31, 3) := dk_180 0 31 (dk_at dksX8_count_6 8 rfl rfl)
theorem dX8_count_179 : decode cX8_count 179 = .ok (.iconst 0, 1) := dk_3 (dk_at dksX8_count_6 11 rfl rfl)
theorem dX8_count_180 : decode cX8_count 180 = .ok (.iaload, 1) := dk_46 (dk_at dksX8_count_6 12 rfl rfl)
theorem dX8_count_181 : decode cX8_count 181 = .ok (.ireturn, 1) := dk_172 (dk_at dksX8_count_6 13 rfl rfl)
theorem dX8_count_182 : decode cX8_count 182 = .ok (.aload_n 0, 1) := dk_42 (dk_at dksX8_count_6 14 rfl rfl)
theorem dX8_count_183 : decode cX8_count 183 = .ok (.getfield 97, 3) := dk_180 0 97 (dk_at dksX8_count_6 15 rfl rfl)
theorem dX8_count_186 : decode cX8_count 186 = .ok (.ireturn, 1) := dk_172 (dk_at dksX8_count_6 18 rfl rfl)
theorem dX8_count_187 : decode cX8_count 187 = .ok (.iconst 0, 1) := dk_3 (dk_at dksX8_count_6 19 rfl rfl)
theorem dX8_count_188 : decode cX8_count 188 = .ok (.istore_n 3, 1) := dk_62 (dk_at dksX8_count_6 20 rfl rfl)
theorem dX8_count_189 : decode cX8_count 189 = .ok (.iload_n 3, 1) := dk_29 (dk_at dksX8_count_6 21 rfl rfl)
theorem dX8_count_190 : decode cX8_count 190 = .ok (.iconst 4, 1) := dk_7 (dk_at dksX8_count_6 22 rfl rfl)
theorem dX8_count_191 : decode cX8_count 191 = .ok (.if_icmp .ge 27, 3) := dk_162 0 27 (dk_at dksX8_count_7 0 rfl rfl)
theorem dX8_count_194 : decode cX8_count 194 = .ok (.iload_n 2, 1) := dk_28 (dk_at dksX8_count_7 3 rfl rfl)
theorem dX8_count_195 : decode cX8_count 195 = .ok (.aload_n 0, 1) := dk_42 (dk_at dksX8_count_7 4 rfl rfl)
theorem dX8_count_196 : decode cX8_count 196 = .ok (.getfield 7, 3) := dk_180 0 7 (dk_at dksX8_count_7 5 rfl rfl)
theorem dX8_count_199 : decode cX8_count 199 = .ok (.iload_n 3, 1) := dk_29 (dk_at dksX8_count_7 8 rfl rfl)
theorem dX8_count_200 : decode cX8_count 200 = .ok (.iaload, 1) := dk_46 (dk_at dksX8_count_7 9 rfl rfl)
theorem dX8_count_201 : decode cX8_count 201 = .ok (.iconst (-1), 1) := dk_2 (dk_at dksX8_count_7 10 rfl rfl)
theorem dX8_count_202 : decode cX8_count 202 = .ok (.if_icmp .ne 7, 3) := dk_160 0 7 (dk_at dksX8_count_7 11 rfl rfl)
theorem dX8_count_205 : decode cX8_count 205 = .ok (.iconst 0, 1) := dk_3 (dk_at dksX8_count_7 14 rfl rfl)
theorem dX8_count_206 : decode cX8_count 206 = .ok (.goto 4, 3) := dk_167 0 4 (dk_at dksX8_count_7 15 rfl rfl)
theorem dX8_count_209 : decode cX8_count 209 = .ok (.iconst 1, 1) := dk_4 (dk_at dksX8_count_7 18 rfl rfl)
theorem dX8_count_210 : decode cX8_count 210 = .ok (.iadd, 1) := dk_96 (dk_at dksX8_count_7 19 rfl rfl)
theorem dX8_count_211 : decode cX8_count 211 = .ok (.istore_n 2, 1) := dk_61 (dk_at dksX8_count_7 20 rfl rfl)
theorem dX8_count_212 : decode cX8_count 212 = .ok (.iinc 3 1, 3) := dk_132 3 1 (dk_at dksX8_count_7 21 rfl rfl)
theorem dX8_count_215 : decode cX8_count 215 = .ok (.goto (-26), 3) := dk_167 255 230 (dk_at dksX8_count_8 0 rfl rfl)
theorem dX8_count_218 : decode cX8_count 218 = .ok (.iload_n 2, 1) := dk_28 (dk_at dksX8_count_8 3 rfl rfl)
theorem dX8_count_219 : decode cX8_count 219 = .ok (.ireturn, 1) := dk_172 (dk_at dksX8_count_8 4 rfl rfl)
theorem dX8_count_220 : decode cX8_count 220 = .ok (.iconst (-1), 1) := dk_2 (dk_at dksX8_count_8 5 rfl rfl)
theorem dX8_count_221 : decode cX8_count 221 = .ok (.ireturn, 1) := dk_172 (dk_at dksX8_count_8 6 rfl rfl)
abbrev cX8_image : ByteArray := prog_13_method_143_code
def yX8_image : MethodName := ⟨RX8, "image", "(I)I"⟩
def dkwX8_image_1 : List UInt8 := [96, 182, 0, 247, 42, 180, 0, 59, 27, 4, 84, 3, 172]
abbrev dktX8_image_1 : List UInt8 := dkwX8_image_1 ++ []
def dkwX8_image_0 : List UInt8 := [42, 3, 181, 0, 80, 27, 133, 9, 20, 1, 221, 184, 0, 85, 154, 0, 6, 16, 254, 172, 42, 3, 4, 27]
abbrev dktX8_image_0 : List UInt8 := dkwX8_image_0 ++ dktX8_image_1
theorem dksX8_image_0 : cX8_image.data.toList.drop 0 = dktX8_image_0 := by decide +kernel
theorem dksX8_image_1 : cX8_image.data.toList.drop 24 = dktX8_image_1 := dk_seg dksX8_image_0 24 rfl rfl
theorem dX8_image_0 : decode cX8_image 0 = .ok (.aload_n 0, 1) := dk_42 (dk_at dksX8_image_0 0 rfl rfl)
theorem dX8_image_1 : decode cX8_image 1 = .ok (.iconst 0, 1) := dk_3 (dk_at dksX8_image_0 1 rfl rfl)
theorem dX8_image_2 : decode cX8_image 2 = .ok (.putfield 80, 3) := dk_181 0 80 (dk_at dksX8_image_0 2 rfl rfl)
theorem dX8_image_5 : decode cX8_image 5 = .ok (.iload_n 1, 1) := dk_27 (dk_at dksX8_image_0 5 rfl rfl)
theorem dX8_image_6 : decode cX8_image 6 = .ok (.i2l, 1) := dk_133 (dk_at dksX8_image_0 6 rfl rfl)
theorem dX8_image_7 : decode cX8_image 7 = .ok (.lconst 0, 1) := dk_9 (dk_at dksX8_image_0 7 rfl rfl)
theorem dX8_image_8 : decode cX8_image 8 = .ok (.ldc2_w 477, 3) := dk_20 1 221 (dk_at dksX8_image_0 8 rfl rfl)
theorem dX8_image_11 : decode cX8_image 11 = .ok (.invokestatic 85, 3) := dk_184 0 85 (dk_at dksX8_image_0 11 rfl rfl)
theorem dX8_image_14 : decode cX8_image 14 = .ok (.ifCond .ne 6, 3) := dk_154 0 6 (dk_at dksX8_image_0 14 rfl rfl)
theorem dX8_image_17 : decode cX8_image 17 = .ok (.bipush (-2), 2) := dk_16 254 (dk_at dksX8_image_0 17 rfl rfl)
theorem dX8_image_19 : decode cX8_image 19 = .ok (.ireturn, 1) := dk_172 (dk_at dksX8_image_0 19 rfl rfl)
theorem dX8_image_20 : decode cX8_image 20 = .ok (.aload_n 0, 1) := dk_42 (dk_at dksX8_image_0 20 rfl rfl)
theorem dX8_image_21 : decode cX8_image 21 = .ok (.iconst 0, 1) := dk_3 (dk_at dksX8_image_0 21 rfl rfl)
theorem dX8_image_22 : decode cX8_image 22 = .ok (.iconst 1, 1) := dk_4 (dk_at dksX8_image_0 22 rfl rfl)
theorem dX8_image_23 : decode cX8_image 23 = .ok (.iload_n 1, 1) := dk_27 (dk_at dksX8_image_0 23 rfl rfl)
theorem dX8_image_24 : decode cX8_image 24 = .ok (.iadd, 1) := dk_96 (dk_at dksX8_image_1 0 rfl rfl)
theorem dX8_image_25 : decode cX8_image 25 = .ok (.invokevirtual 247, 3) := dk_182 0 247 (dk_at dksX8_image_1 1 rfl rfl)
theorem dX8_image_28 : decode cX8_image 28 = .ok (.aload_n 0, 1) := dk_42 (dk_at dksX8_image_1 4 rfl rfl)
theorem dX8_image_29 : decode cX8_image 29 = .ok (.getfield 59, 3) := dk_180 0 59 (dk_at dksX8_image_1 5 rfl rfl)
theorem dX8_image_32 : decode cX8_image 32 = .ok (.iload_n 1, 1) := dk_27 (dk_at dksX8_image_1 8 rfl rfl)
theorem dX8_image_33 : decode cX8_image 33 = .ok (.iconst 1, 1) := dk_4 (dk_at dksX8_image_1 9 rfl rfl)
theorem dX8_image_34 : decode cX8_image 34 = .ok (.bastore, 1) := dk_84 (dk_at dksX8_image_1 10 rfl rfl)
theorem dX8_image_35 : decode cX8_image 35 = .ok (.iconst 0, 1) := dk_3 (dk_at dksX8_image_1 11 rfl rfl)
theorem dX8_image_36 : decode cX8_image 36 = .ok (.ireturn, 1) := dk_172 (dk_at dksX8_image_1 12 rfl rfl)
abbrev cX8_back : ByteArray := prog_13_method_144_code
def yX8_back : MethodName := ⟨RX8, "back", "(I)I"⟩
def dkwX8_back_1 : List UInt8 := [27, 51, 154, 0, 6, 16, 250, 172, 42, 4, 27, 96, 3, 182, 0, 247, 3, 172]
abbrev dktX8_back_1 : List UInt8 := dkwX8_back_1 ++ []
def dkwX8_back_0 : List UInt8 := [42, 3, 181, 0, 80, 27, 133, 9, 20, 1, 221, 184, 0, 85, 154, 0, 6, 16, 254, 172, 42, 180, 0, 59]
abbrev dktX8_back_0 : List UInt8 := dkwX8_back_0 ++ dktX8_back_1
theorem dksX8_back_0 : cX8_back.data.toList.drop 0 = dktX8_back_0 := by decide +kernel
theorem dksX8_back_1 : cX8_back.data.toList.drop 24 = dktX8_back_1 := dk_seg dksX8_back_0 24 rfl rfl
theorem dX8_back_0 : decode cX8_back 0 = .ok (.aload_n 0, 1) := dk_42 (dk_at dksX8_back_0 0 rfl rfl)
theorem dX8_back_1 : decode cX8_back 1 = .ok (.iconst 0, 1) := dk_3 (dk_at dksX8_back_0 1 rfl rfl)
theorem dX8_back_2 : decode cX8_back 2 = .ok (.putfield 80, 3) := dk_181 0 80 (dk_at dksX8_back_0 2 rfl rfl)
theorem dX8_back_5 : decode cX8_back 5 = .ok (.iload_n 1, 1) := dk_27 (dk_at dksX8_back_0 5 rfl rfl)
theorem dX8_back_6 : decode cX8_back 6 = .ok (.i2l, 1) := dk_133 (dk_at dksX8_back_0 6 rfl rfl)
theorem dX8_back_7 : decode cX8_back 7 = .ok (.lconst 0, 1) := dk_9 (dk_at dksX8_back_0 7 rfl rfl)
theorem dX8_back_8 : decode cX8_back 8 = .ok (.ldc2_w 477, 3) := dk_20 1 221 (dk_at dksX8_back_0 8 rfl rfl)
theorem dX8_back_11 : decode cX8_back 11 = .ok (.invokestatic 85, 3) := dk_184 0 85 (dk_at dksX8_back_0 11 rfl rfl)
theorem dX8_back_14 : decode cX8_back 14 = .ok (.ifCond .ne 6, 3) := dk_154 0 6 (dk_at dksX8_back_0 14 rfl rfl)
theorem dX8_back_17 : decode cX8_back 17 = .ok (.bipush (-2), 2) := dk_16 254 (dk_at dksX8_back_0 17 rfl rfl)
theorem dX8_back_19 : decode cX8_back 19 = .ok (.ireturn, 1) := dk_172 (dk_at dksX8_back_0 19 rfl rfl)
theorem dX8_back_20 : decode cX8_back 20 = .ok (.aload_n 0, 1) := dk_42 (dk_at dksX8_back_0 20 rfl rfl)
theorem dX8_back_21 : decode cX8_back 21 = .ok (.getfield 59, 3) := dk_180 0 59 (dk_at dksX8_back_0 21 rfl rfl)
theorem dX8_back_24 : decode cX8_back 24 = .ok (.iload_n 1, 1) := dk_27 (dk_at dksX8_back_1 0 rfl rfl)
theorem dX8_back_25 : decode cX8_back 25 = .ok (.baload, 1) := dk_51 (dk_at dksX8_back_1 1 rfl rfl)
theorem dX8_back_26 : decode cX8_back 26 = .ok (.ifCond .ne 6, 3) := dk_154 0 6 (dk_at dksX8_back_1 2 rfl rfl)
theorem dX8_back_29 : decode cX8_back 29 = .ok (.bipush (-6), 2) := dk_16 250 (dk_at dksX8_back_1 5 rfl rfl)
theorem dX8_back_31 : decode cX8_back 31 = .ok (.ireturn, 1) := dk_172 (dk_at dksX8_back_1 7 rfl rfl)
theorem dX8_back_32 : decode cX8_back 32 = .ok (.aload_n 0, 1) := dk_42 (dk_at dksX8_back_1 8 rfl rfl)
theorem dX8_back_33 : decode cX8_back 33 = .ok (.iconst 1, 1) := dk_4 (dk_at dksX8_back_1 9 rfl rfl)
theorem dX8_back_34 : decode cX8_back 34 = .ok (.iload_n 1, 1) := dk_27 (dk_at dksX8_back_1 10 rfl rfl)
theorem dX8_back_35 : decode cX8_back 35 = .ok (.iadd, 1) := dk_96 (dk_at dksX8_back_1 11 rfl rfl)
theorem dX8_back_36 : decode cX8_back 36 = .ok (.iconst 0, 1) := dk_3 (dk_at dksX8_back_1 12 rfl rfl)
theorem dX8_back_37 : decode cX8_back 37 = .ok (.invokevirtual 247, 3) := dk_182 0 247 (dk_at dksX8_back_1 13 rfl rfl)
theorem dX8_back_40 : decode cX8_back 40 = .ok (.iconst 0, 1) := dk_3 (dk_at dksX8_back_1 16 rfl rfl)
theorem dX8_back_41 : decode cX8_back 41 = .ok (.ireturn, 1) := dk_172 (dk_at dksX8_back_1 17 rfl rfl)
theorem q150 : (Jvm.Cond.initialized "OverHillModel") ∈ lw_all := lw_g (lw_at lw_m1 12 rfl) rfl
theorem q1429 : (Jvm.Cond.selects "OverHillModel" ({ cls := "java/lang/Object", name := "getClass", desc := "()Ljava/lang/Class;" } : Jvm.MethodName) ({ cls := "java/lang/Object", name := "getClass", desc := "()Ljava/lang/Class;" } : Jvm.MethodName)) ∈ lw_all := lw_g (lw_at lw_m6 91 rfl) rfl
theorem q1561 : (Jvm.Cond.instantiable "OverHillModel" (45 : Nat)) ∈ lw_all := lw_g (lw_at lw_m6 223 rfl) rfl
theorem q1563 : (Jvm.Cond.instanceMethod ({ cls := "OverHillModel", name := "<init>", desc := "()V" } : Jvm.MethodName)) ∈ lw_all := lw_g (lw_at lw_m6 225 rfl) rfl
theorem q1564 : (Jvm.Cond.code ({ cls := "OverHillModel", name := "<init>", desc := "()V" } : Jvm.MethodName) prog_13_method_1_code (2 : Nat) (Option.none : Option Jvm.ClassFile.FieldType)) ∈ lw_all := lw_g (lw_at lw_m6 226 rfl) rfl
theorem q1565 : (Jvm.Cond.methodLink "OverHillModel" (1 : Nat) ({ cls := "java/lang/Object", name := "<init>", desc := "()V" } : Jvm.MethodName)) ∈ lw_all := lw_g (lw_at lw_m6 227 rfl) rfl
theorem q1566 : (Jvm.Cond.fieldLink "OverHillModel" (80 : Nat) "OverHillModel" "thrown" "I") ∈ lw_all := lw_g (lw_at lw_m6 228 rfl) rfl
theorem q1567 : (Jvm.Cond.fieldLink "OverHillModel" (7 : Nat) "OverHillModel" "width" "[I") ∈ lw_all := lw_g (lw_at lw_m6 229 rfl) rfl
theorem q1568 : (Jvm.Cond.fieldLink "OverHillModel" (13 : Nat) "OverHillModel" "many" "[I") ∈ lw_all := lw_g (lw_at lw_m6 230 rfl) rfl
theorem q1569 : (Jvm.Cond.fieldLink "OverHillModel" (16 : Nat) "OverHillModel" "cells" "[J") ∈ lw_all := lw_g (lw_at lw_m6 231 rfl) rfl
theorem q1570 : (Jvm.Cond.fieldLink "OverHillModel" (20 : Nat) "OverHillModel" "moved" "[J") ∈ lw_all := lw_g (lw_at lw_m6 232 rfl) rfl
theorem q1571 : (Jvm.Cond.fieldLink "OverHillModel" (23 : Nat) "OverHillModel" "tape" "[B") ∈ lw_all := lw_g (lw_at lw_m6 233 rfl) rfl
theorem q1572 : (Jvm.Cond.fieldLink "OverHillModel" (97 : Nat) "OverHillModel" "taped" "I") ∈ lw_all := lw_g (lw_at lw_m6 234 rfl) rfl
theorem q1573 : (Jvm.Cond.fieldLink "OverHillModel" (104 : Nat) "OverHillModel" "at" "I") ∈ lw_all := lw_g (lw_at lw_m6 235 rfl) rfl
theorem q1574 : (Jvm.Cond.fieldLink "OverHillModel" (121 : Nat) "OverHillModel" "token" "I") ∈ lw_all := lw_g (lw_at lw_m6 236 rfl) rfl
theorem q1575 : (Jvm.Cond.fieldLink "OverHillModel" (111 : Nat) "OverHillModel" "place" "I") ∈ lw_all := lw_g (lw_at lw_m6 237 rfl) rfl
theorem q1576 : (Jvm.Cond.fieldLink "OverHillModel" (114 : Nat) "OverHillModel" "value" "I") ∈ lw_all := lw_g (lw_at lw_m6 238 rfl) rfl
theorem q1577 : (Jvm.Cond.fieldLink "OverHillModel" (117 : Nat) "OverHillModel" "word" "J") ∈ lw_all := lw_g (lw_at lw_m6 239 rfl) rfl
theorem q1578 : (Jvm.Cond.fieldLink "OverHillModel" (132 : Nat) "OverHillModel" "bad" "I") ∈ lw_all := lw_g (lw_at lw_m7 0 rfl) rfl
theorem q1579 : (Jvm.Cond.fieldLink "OverHillModel" (135 : Nat) "OverHillModel" "badPlace" "I") ∈ lw_all := lw_g (lw_at lw_m7 1 rfl) rfl
theorem q1580 : (Jvm.Cond.fieldLink "OverHillModel" (159 : Nat) "OverHillModel" "fault" "I") ∈ lw_all := lw_g (lw_at lw_m7 2 rfl) rfl
theorem q1581 : (Jvm.Cond.fieldLink "OverHillModel" (27 : Nat) "OverHillModel" "faultPlace" "I") ∈ lw_all := lw_g (lw_at lw_m7 3 rfl) rfl
theorem q1582 : (Jvm.Cond.fieldLink "OverHillModel" (31 : Nat) "OverHillModel" "lines" "[I") ∈ lw_all := lw_g (lw_at lw_m7 4 rfl) rfl
theorem q1583 : (Jvm.Cond.fieldLink "OverHillModel" (34 : Nat) "OverHillModel" "has" "[I") ∈ lw_all := lw_g (lw_at lw_m7 5 rfl) rfl
theorem q1584 : (Jvm.Cond.fieldLink "OverHillModel" (37 : Nat) "OverHillModel" "round" "[I") ∈ lw_all := lw_g (lw_at lw_m7 6 rfl) rfl
theorem q1585 : (Jvm.Cond.fieldLink "OverHillModel" (40 : Nat) "OverHillModel" "meets" "[I") ∈ lw_all := lw_g (lw_at lw_m7 7 rfl) rfl
theorem q1586 : (Jvm.Cond.fieldLink "OverHillModel" (43 : Nat) "OverHillModel" "stumble" "[I") ∈ lw_all := lw_g (lw_at lw_m7 8 rfl) rfl
theorem q1587 : (Jvm.Cond.fieldLink "OverHillModel" (46 : Nat) "OverHillModel" "isMud" "[Z") ∈ lw_all := lw_g (lw_at lw_m7 9 rfl) rfl
theorem q1588 : (Jvm.Cond.fieldLink "OverHillModel" (50 : Nat) "OverHillModel" "cell" "[I") ∈ lw_all := lw_g (lw_at lw_m7 10 rfl) rfl
theorem q1589 : (Jvm.Cond.fieldLink "OverHillModel" (53 : Nat) "OverHillModel" "tune" "[I") ∈ lw_all := lw_g (lw_at lw_m7 11 rfl) rfl
theorem q1590 : (Jvm.Cond.fieldLink "OverHillModel" (56 : Nat) "OverHillModel" "change" "[I") ∈ lw_all := lw_g (lw_at lw_m7 12 rfl) rfl
theorem q1591 : (Jvm.Cond.fieldLink "OverHillModel" (59 : Nat) "OverHillModel" "isKept" "[Z") ∈ lw_all := lw_g (lw_at lw_m7 13 rfl) rfl
theorem q1592 : (Jvm.Cond.fieldLink "OverHillModel" (62 : Nat) "OverHillModel" "steps" "[I") ∈ lw_all := lw_g (lw_at lw_m7 14 rfl) rfl
theorem q1593 : (Jvm.Cond.fieldLink "OverHillModel" (65 : Nat) "OverHillModel" "places" "[I") ∈ lw_all := lw_g (lw_at lw_m7 15 rfl) rfl
theorem q1594 : (Jvm.Cond.fieldLink "OverHillModel" (68 : Nat) "OverHillModel" "danced" "[I") ∈ lw_all := lw_g (lw_at lw_m7 16 rfl) rfl
theorem q1595 : (Jvm.Cond.fieldLink "OverHillModel" (303 : Nat) "OverHillModel" "runMost" "I") ∈ lw_all := lw_g (lw_at lw_m7 17 rfl) rfl
theorem q1596 : (Jvm.Cond.fieldLink "OverHillModel" (306 : Nat) "OverHillModel" "runBegins" "I") ∈ lw_all := lw_g (lw_at lw_m7 18 rfl) rfl
theorem q1597 : (Jvm.Cond.fieldLink "OverHillModel" (71 : Nat) "OverHillModel" "heardBy" "[I") ∈ lw_all := lw_g (lw_at lw_m7 19 rfl) rfl
theorem q1598 : (Jvm.Cond.fieldLink "OverHillModel" (343 : Nat) "OverHillModel" "fitMany" "I") ∈ lw_all := lw_g (lw_at lw_m7 20 rfl) rfl
theorem q1599 : (Jvm.Cond.fieldLink "OverHillModel" (346 : Nat) "OverHillModel" "fitFirst" "I") ∈ lw_all := lw_g (lw_at lw_m7 21 rfl) rfl
theorem q1600 : (Jvm.Cond.fieldLink "OverHillModel" (349 : Nat) "OverHillModel" "fitBeats" "J") ∈ lw_all := lw_g (lw_at lw_m7 22 rfl) rfl
theorem q1601 : (Jvm.Cond.fieldLink "OverHillModel" (361 : Nat) "OverHillModel" "listenLeaves" "I") ∈ lw_all := lw_g (lw_at lw_m7 23 rfl) rfl
theorem q1602 : (Jvm.Cond.fieldLink "OverHillModel" (74 : Nat) "OverHillModel" "there" "[I") ∈ lw_all := lw_g (lw_at lw_m7 24 rfl) rfl
theorem q1603 : (Jvm.Cond.fieldLink "OverHillModel" (373 : Nat) "OverHillModel" "metAt" "I") ∈ lw_all := lw_g (lw_at lw_m7 25 rfl) rfl
theorem q1604 : (Jvm.Cond.fieldLink "OverHillModel" (376 : Nat) "OverHillModel" "metIn" "I") ∈ lw_all := lw_g (lw_at lw_m7 26 rfl) rfl
theorem q1605 : (Jvm.Cond.fieldLink "OverHillModel" (77 : Nat) "OverHillModel" "wins" "[I") ∈ lw_all := lw_g (lw_at lw_m7 27 rfl) rfl
theorem q1606 : (Jvm.Cond.fieldLink "OverHillModel" (444 : Nat) "OverHillModel" "nightHoles" "I") ∈ lw_all := lw_g (lw_at lw_m7 28 rfl) rfl
theorem q1607 : (Jvm.Cond.fieldLink "OverHillModel" (447 : Nat) "OverHillModel" "nightFirst" "I") ∈ lw_all := lw_g (lw_at lw_m7 29 rfl) rfl
theorem q1608 : (Jvm.Cond.fieldLink "OverHillModel" (450 : Nat) "OverHillModel" "nightMud" "I") ∈ lw_all := lw_g (lw_at lw_m7 30 rfl) rfl
theorem q1609 : (Jvm.Cond.fieldLink "OverHillModel" (453 : Nat) "OverHillModel" "nightSlips" "I") ∈ lw_all := lw_g (lw_at lw_m7 31 rfl) rfl
theorem q1610 : (Jvm.Cond.fieldLink "OverHillModel" (435 : Nat) "OverHillModel" "drawnNow" "J") ∈ lw_all := lw_g (lw_at lw_m7 32 rfl) rfl
theorem q1611 : (Jvm.Cond.lays "OverHillModel" "OverHillModel" "thrown" "I") ∈ lw_all := lw_g (lw_at lw_m7 33 rfl) rfl
theorem q1612 : (Jvm.Cond.soleField "OverHillModel" "thrown") ∈ lw_all := lw_g (lw_at lw_m7 34 rfl) rfl
theorem q1613 : (Jvm.Cond.laysFinal "OverHillModel" "OverHillModel" "width" "[I") ∈ lw_all := lw_g (lw_at lw_m7 35 rfl) rfl
theorem q1614 : (Jvm.Cond.soleField "OverHillModel" "width") ∈ lw_all := lw_g (lw_at lw_m7 36 rfl) rfl
theorem q1615 : (Jvm.Cond.laysFinal "OverHillModel" "OverHillModel" "many" "[I") ∈ lw_all := lw_g (lw_at lw_m7 37 rfl) rfl
theorem q1616 : (Jvm.Cond.soleField "OverHillModel" "many") ∈ lw_all := lw_g (lw_at lw_m7 38 rfl) rfl
theorem q1617 : (Jvm.Cond.laysFinal "OverHillModel" "OverHillModel" "cells" "[J") ∈ lw_all := lw_g (lw_at lw_m7 39 rfl) rfl
theorem q1618 : (Jvm.Cond.soleField "OverHillModel" "cells") ∈ lw_all := lw_g (lw_at lw_m7 40 rfl) rfl
theorem q1619 : (Jvm.Cond.laysFinal "OverHillModel" "OverHillModel" "moved" "[J") ∈ lw_all := lw_g (lw_at lw_m7 41 rfl) rfl
theorem q1620 : (Jvm.Cond.soleField "OverHillModel" "moved") ∈ lw_all := lw_g (lw_at lw_m7 42 rfl) rfl
theorem q1621 : (Jvm.Cond.laysFinal "OverHillModel" "OverHillModel" "tape" "[B") ∈ lw_all := lw_g (lw_at lw_m7 43 rfl) rfl
theorem q1622 : (Jvm.Cond.soleField "OverHillModel" "tape") ∈ lw_all := lw_g (lw_at lw_m7 44 rfl) rfl
theorem q1623 : (Jvm.Cond.lays "OverHillModel" "OverHillModel" "taped" "I") ∈ lw_all := lw_g (lw_at lw_m7 45 rfl) rfl
theorem q1624 : (Jvm.Cond.soleField "OverHillModel" "taped") ∈ lw_all := lw_g (lw_at lw_m7 46 rfl) rfl
theorem q1625 : (Jvm.Cond.lays "OverHillModel" "OverHillModel" "at" "I") ∈ lw_all := lw_g (lw_at lw_m7 47 rfl) rfl
theorem q1626 : (Jvm.Cond.soleField "OverHillModel" "at") ∈ lw_all := lw_g (lw_at lw_m7 48 rfl) rfl
theorem q1627 : (Jvm.Cond.lays "OverHillModel" "OverHillModel" "token" "I") ∈ lw_all := lw_g (lw_at lw_m7 49 rfl) rfl
theorem q1628 : (Jvm.Cond.soleField "OverHillModel" "token") ∈ lw_all := lw_g (lw_at lw_m7 50 rfl) rfl
theorem q1629 : (Jvm.Cond.lays "OverHillModel" "OverHillModel" "place" "I") ∈ lw_all := lw_g (lw_at lw_m7 51 rfl) rfl
theorem q1630 : (Jvm.Cond.soleField "OverHillModel" "place") ∈ lw_all := lw_g (lw_at lw_m7 52 rfl) rfl
theorem q1631 : (Jvm.Cond.lays "OverHillModel" "OverHillModel" "value" "I") ∈ lw_all := lw_g (lw_at lw_m7 53 rfl) rfl
theorem q1632 : (Jvm.Cond.soleField "OverHillModel" "value") ∈ lw_all := lw_g (lw_at lw_m7 54 rfl) rfl
theorem q1633 : (Jvm.Cond.lays "OverHillModel" "OverHillModel" "word" "J") ∈ lw_all := lw_g (lw_at lw_m7 55 rfl) rfl
theorem q1634 : (Jvm.Cond.soleField "OverHillModel" "word") ∈ lw_all := lw_g (lw_at lw_m7 56 rfl) rfl
theorem q1635 : (Jvm.Cond.lays "OverHillModel" "OverHillModel" "bad" "I") ∈ lw_all := lw_g (lw_at lw_m7 57 rfl) rfl
theorem q1636 : (Jvm.Cond.soleField "OverHillModel" "bad") ∈ lw_all := lw_g (lw_at lw_m7 58 rfl) rfl
theorem q1637 : (Jvm.Cond.lays "OverHillModel" "OverHillModel" "badPlace" "I") ∈ lw_all := lw_g (lw_at lw_m7 59 rfl) rfl
theorem q1638 : (Jvm.Cond.soleField "OverHillModel" "badPlace") ∈ lw_all := lw_g (lw_at lw_m7 60 rfl) rfl
theorem q1639 : (Jvm.Cond.lays "OverHillModel" "OverHillModel" "fault" "I") ∈ lw_all := lw_g (lw_at lw_m7 61 rfl) rfl
theorem q1640 : (Jvm.Cond.soleField "OverHillModel" "fault") ∈ lw_all := lw_g (lw_at lw_m7 62 rfl) rfl
theorem q1641 : (Jvm.Cond.lays "OverHillModel" "OverHillModel" "faultPlace" "I") ∈ lw_all := lw_g (lw_at lw_m7 63 rfl) rfl
theorem q1642 : (Jvm.Cond.soleField "OverHillModel" "faultPlace") ∈ lw_all := lw_g (lw_at lw_m7 64 rfl) rfl
theorem q1643 : (Jvm.Cond.laysFinal "OverHillModel" "OverHillModel" "lines" "[I") ∈ lw_all := lw_g (lw_at lw_m7 65 rfl) rfl
theorem q1644 : (Jvm.Cond.soleField "OverHillModel" "lines") ∈ lw_all := lw_g (lw_at lw_m7 66 rfl) rfl
theorem q1645 : (Jvm.Cond.laysFinal "OverHillModel" "OverHillModel" "has" "[I") ∈ lw_all := lw_g (lw_at lw_m7 67 rfl) rfl
theorem q1646 : (Jvm.Cond.soleField "OverHillModel" "has") ∈ lw_all := lw_g (lw_at lw_m7 68 rfl) rfl
theorem q1647 : (Jvm.Cond.laysFinal "OverHillModel" "OverHillModel" "round" "[I") ∈ lw_all := lw_g (lw_at lw_m7 69 rfl) rfl
theorem q1648 : (Jvm.Cond.soleField "OverHillModel" "round") ∈ lw_all := lw_g (lw_at lw_m7 70 rfl) rfl
theorem q1649 : (Jvm.Cond.laysFinal "OverHillModel" "OverHillModel" "meets" "[I") ∈ lw_all := lw_g (lw_at lw_m7 71 rfl) rfl
theorem q1650 : (Jvm.Cond.soleField "OverHillModel" "meets") ∈ lw_all := lw_g (lw_at lw_m7 72 rfl) rfl
theorem q1651 : (Jvm.Cond.laysFinal "OverHillModel" "OverHillModel" "stumble" "[I") ∈ lw_all := lw_g (lw_at lw_m7 73 rfl) rfl
theorem q1652 : (Jvm.Cond.soleField "OverHillModel" "stumble") ∈ lw_all := lw_g (lw_at lw_m7 74 rfl) rfl
theorem q1653 : (Jvm.Cond.laysFinal "OverHillModel" "OverHillModel" "isMud" "[Z") ∈ lw_all := lw_g (lw_at lw_m7 75 rfl) rfl
theorem q1654 : (Jvm.Cond.soleField "OverHillModel" "isMud") ∈ lw_all := lw_g (lw_at lw_m7 76 rfl) rfl
theorem q1655 : (Jvm.Cond.laysFinal "OverHillModel" "OverHillModel" "cell" "[I") ∈ lw_all := lw_g (lw_at lw_m7 77 rfl) rfl
theorem q1656 : (Jvm.Cond.soleField "OverHillModel" "cell") ∈ lw_all := lw_g (lw_at lw_m7 78 rfl) rfl
theorem q1657 : (Jvm.Cond.laysFinal "OverHillModel" "OverHillModel" "tune" "[I") ∈ lw_all := lw_g (lw_at lw_m7 79 rfl) rfl
theorem q1658 : (Jvm.Cond.soleField "OverHillModel" "tune") ∈ lw_all := lw_g (lw_at lw_m7 80 rfl) rfl
theorem q1659 : (Jvm.Cond.laysFinal "OverHillModel" "OverHillModel" "change" "[I") ∈ lw_all := lw_g (lw_at lw_m7 81 rfl) rfl
theorem q1660 : (Jvm.Cond.soleField "OverHillModel" "change") ∈ lw_all := lw_g (lw_at lw_m7 82 rfl) rfl
theorem q1661 : (Jvm.Cond.laysFinal "OverHillModel" "OverHillModel" "isKept" "[Z") ∈ lw_all := lw_g (lw_at lw_m7 83 rfl) rfl
theorem q1662 : (Jvm.Cond.soleField "OverHillModel" "isKept") ∈ lw_all := lw_g (lw_at lw_m7 84 rfl) rfl
theorem q1663 : (Jvm.Cond.laysFinal "OverHillModel" "OverHillModel" "steps" "[I") ∈ lw_all := lw_g (lw_at lw_m7 85 rfl) rfl
theorem q1664 : (Jvm.Cond.soleField "OverHillModel" "steps") ∈ lw_all := lw_g (lw_at lw_m7 86 rfl) rfl
theorem q1665 : (Jvm.Cond.laysFinal "OverHillModel" "OverHillModel" "places" "[I") ∈ lw_all := lw_g (lw_at lw_m7 87 rfl) rfl
theorem q1666 : (Jvm.Cond.soleField "OverHillModel" "places") ∈ lw_all := lw_g (lw_at lw_m7 88 rfl) rfl
theorem q1667 : (Jvm.Cond.laysFinal "OverHillModel" "OverHillModel" "danced" "[I") ∈ lw_all := lw_g (lw_at lw_m7 89 rfl) rfl
theorem q1668 : (Jvm.Cond.soleField "OverHillModel" "danced") ∈ lw_all := lw_g (lw_at lw_m7 90 rfl) rfl
theorem q1669 : (Jvm.Cond.lays "OverHillModel" "OverHillModel" "runMost" "I") ∈ lw_all := lw_g (lw_at lw_m7 91 rfl) rfl
theorem q1670 : (Jvm.Cond.soleField "OverHillModel" "runMost") ∈ lw_all := lw_g (lw_at lw_m7 92 rfl) rfl
theorem q1671 : (Jvm.Cond.lays "OverHillModel" "OverHillModel" "runBegins" "I") ∈ lw_all := lw_g (lw_at lw_m7 93 rfl) rfl
theorem q1672 : (Jvm.Cond.soleField "OverHillModel" "runBegins") ∈ lw_all := lw_g (lw_at lw_m7 94 rfl) rfl
theorem q1673 : (Jvm.Cond.laysFinal "OverHillModel" "OverHillModel" "heardBy" "[I") ∈ lw_all := lw_g (lw_at lw_m7 95 rfl) rfl
theorem q1674 : (Jvm.Cond.soleField "OverHillModel" "heardBy") ∈ lw_all := lw_g (lw_at lw_m7 96 rfl) rfl
theorem q1675 : (Jvm.Cond.lays "OverHillModel" "OverHillModel" "fitMany" "I") ∈ lw_all := lw_g (lw_at lw_m7 97 rfl) rfl
theorem q1676 : (Jvm.Cond.soleField "OverHillModel" "fitMany") ∈ lw_all := lw_g (lw_at lw_m7 98 rfl) rfl
theorem q1677 : (Jvm.Cond.lays "OverHillModel" "OverHillModel" "fitFirst" "I") ∈ lw_all := lw_g (lw_at lw_m7 99 rfl) rfl
theorem q1678 : (Jvm.Cond.soleField "OverHillModel" "fitFirst") ∈ lw_all := lw_g (lw_at lw_m7 100 rfl) rfl
theorem q1679 : (Jvm.Cond.lays "OverHillModel" "OverHillModel" "fitBeats" "J") ∈ lw_all := lw_g (lw_at lw_m7 101 rfl) rfl
theorem q1680 : (Jvm.Cond.soleField "OverHillModel" "fitBeats") ∈ lw_all := lw_g (lw_at lw_m7 102 rfl) rfl
theorem q1681 : (Jvm.Cond.lays "OverHillModel" "OverHillModel" "listenLeaves" "I") ∈ lw_all := lw_g (lw_at lw_m7 103 rfl) rfl
theorem q1682 : (Jvm.Cond.soleField "OverHillModel" "listenLeaves") ∈ lw_all := lw_g (lw_at lw_m7 104 rfl) rfl
theorem q1683 : (Jvm.Cond.laysFinal "OverHillModel" "OverHillModel" "there" "[I") ∈ lw_all := lw_g (lw_at lw_m7 105 rfl) rfl
theorem q1684 : (Jvm.Cond.soleField "OverHillModel" "there") ∈ lw_all := lw_g (lw_at lw_m7 106 rfl) rfl
theorem q1685 : (Jvm.Cond.lays "OverHillModel" "OverHillModel" "metAt" "I") ∈ lw_all := lw_g (lw_at lw_m7 107 rfl) rfl
theorem q1686 : (Jvm.Cond.soleField "OverHillModel" "metAt") ∈ lw_all := lw_g (lw_at lw_m7 108 rfl) rfl
theorem q1687 : (Jvm.Cond.lays "OverHillModel" "OverHillModel" "metIn" "I") ∈ lw_all := lw_g (lw_at lw_m7 109 rfl) rfl
theorem q1688 : (Jvm.Cond.soleField "OverHillModel" "metIn") ∈ lw_all := lw_g (lw_at lw_m7 110 rfl) rfl
theorem q1689 : (Jvm.Cond.laysFinal "OverHillModel" "OverHillModel" "wins" "[I") ∈ lw_all := lw_g (lw_at lw_m7 111 rfl) rfl
theorem q1690 : (Jvm.Cond.soleField "OverHillModel" "wins") ∈ lw_all := lw_g (lw_at lw_m7 112 rfl) rfl
theorem q1691 : (Jvm.Cond.lays "OverHillModel" "OverHillModel" "nightHoles" "I") ∈ lw_all := lw_g (lw_at lw_m7 113 rfl) rfl
theorem q1692 : (Jvm.Cond.soleField "OverHillModel" "nightHoles") ∈ lw_all := lw_g (lw_at lw_m7 114 rfl) rfl
theorem q1693 : (Jvm.Cond.lays "OverHillModel" "OverHillModel" "nightFirst" "I") ∈ lw_all := lw_g (lw_at lw_m7 115 rfl) rfl
theorem q1694 : (Jvm.Cond.soleField "OverHillModel" "nightFirst") ∈ lw_all := lw_g (lw_at lw_m7 116 rfl) rfl
theorem q1695 : (Jvm.Cond.lays "OverHillModel" "OverHillModel" "nightMud" "I") ∈ lw_all := lw_g (lw_at lw_m7 117 rfl) rfl
theorem q1696 : (Jvm.Cond.soleField "OverHillModel" "nightMud") ∈ lw_all := lw_g (lw_at lw_m7 118 rfl) rfl
theorem q1697 : (Jvm.Cond.lays "OverHillModel" "OverHillModel" "nightSlips" "I") ∈ lw_all := lw_g (lw_at lw_m7 119 rfl) rfl
theorem q1698 : (Jvm.Cond.soleField "OverHillModel" "nightSlips") ∈ lw_all := lw_g (lw_at lw_m7 120 rfl) rfl
theorem q1699 : (Jvm.Cond.lays "OverHillModel" "OverHillModel" "drawnNow" "J") ∈ lw_all := lw_g (lw_at lw_m7 121 rfl) rfl
theorem q1700 : (Jvm.Cond.soleField "OverHillModel" "drawnNow") ∈ lw_all := lw_g (lw_at lw_m7 122 rfl) rfl
theorem q1701 : (Jvm.Cond.superclass "OverHillModel" "java/lang/Object") ∈ lw_all := lw_g (lw_at lw_m7 123 rfl) rfl
theorem q1703 : (Jvm.Cond.instanceMethod ({ cls := "OverHillModel", name := "row", desc := "(III)I" } : Jvm.MethodName)) ∈ lw_all := lw_g (lw_at lw_m7 125 rfl) rfl
theorem q1704 : (Jvm.Cond.selects "OverHillModel" ({ cls := "OverHillModel", name := "row", desc := "(III)I" } : Jvm.MethodName) ({ cls := "OverHillModel", name := "row", desc := "(III)I" } : Jvm.MethodName)) ∈ lw_all := lw_g (lw_at lw_m7 126 rfl) rfl
theorem q1705 : (Jvm.Cond.code ({ cls := "OverHillModel", name := "row", desc := "(III)I" } : Jvm.MethodName) prog_13_method_5_code (5 : Nat) (Option.some Jvm.ClassFile.FieldType.int)) ∈ lw_all := lw_g (lw_at lw_m7 127 rfl) rfl
theorem q1706 : (Jvm.Cond.methodLink "OverHillModel" (89 : Nat) ({ cls := "OverHillModel", name := "isSlot", desc := "(I)Z" } : Jvm.MethodName)) ∈ lw_all := lw_g (lw_at lw_m7 128 rfl) rfl
theorem q1707 : (Jvm.Cond.static ({ cls := "OverHillModel", name := "isSlot", desc := "(I)Z" } : Jvm.MethodName)) ∈ lw_all := lw_g (lw_at lw_m7 129 rfl) rfl
theorem q1708 : (Jvm.Cond.code ({ cls := "OverHillModel", name := "isSlot", desc := "(I)Z" } : Jvm.MethodName) prog_13_method_4_code (1 : Nat) (Option.some Jvm.ClassFile.FieldType.boolean)) ∈ lw_all := lw_g (lw_at lw_m7 130 rfl) rfl
theorem q1709 : (Jvm.Cond.constantLong "OverHillModel" (83 : Nat) (3 : Int64)) ∈ lw_all := lw_g (lw_at lw_m7 131 rfl) rfl
theorem q1710 : (Jvm.Cond.methodLink "OverHillModel" (85 : Nat) ({ cls := "OverHillModel", name := "in", desc := "(JJJ)Z" } : Jvm.MethodName)) ∈ lw_all := lw_g (lw_at lw_m7 132 rfl) rfl
theorem q1711 : (Jvm.Cond.static ({ cls := "OverHillModel", name := "in", desc := "(JJJ)Z" } : Jvm.MethodName)) ∈ lw_all := lw_g (lw_at lw_m7 133 rfl) rfl
theorem q1712 : (Jvm.Cond.code ({ cls := "OverHillModel", name := "in", desc := "(JJJ)Z" } : Jvm.MethodName) prog_13_method_3_code (6 : Nat) (Option.some Jvm.ClassFile.FieldType.boolean)) ∈ lw_all := lw_g (lw_at lw_m7 134 rfl) rfl
theorem q1714 : (Jvm.Cond.instanceMethod ({ cls := "OverHillModel", name := "write", desc := "(IIJ)I" } : Jvm.MethodName)) ∈ lw_all := lw_g (lw_at lw_m7 136 rfl) rfl
theorem q1715 : (Jvm.Cond.selects "OverHillModel" ({ cls := "OverHillModel", name := "write", desc := "(IIJ)I" } : Jvm.MethodName) ({ cls := "OverHillModel", name := "write", desc := "(IIJ)I" } : Jvm.MethodName)) ∈ lw_all := lw_g (lw_at lw_m7 137 rfl) rfl
theorem q1716 : (Jvm.Cond.code ({ cls := "OverHillModel", name := "write", desc := "(IIJ)I" } : Jvm.MethodName) prog_13_method_7_code (5 : Nat) (Option.some Jvm.ClassFile.FieldType.int)) ∈ lw_all := lw_g (lw_at lw_m7 138 rfl) rfl
theorem q1717 : (Jvm.Cond.methodLink "OverHillModel" (93 : Nat) ({ cls := "OverHillModel", name := "cut", desc := "(JI)J" } : Jvm.MethodName)) ∈ lw_all := lw_g (lw_at lw_m7 139 rfl) rfl
theorem q1718 : (Jvm.Cond.static ({ cls := "OverHillModel", name := "cut", desc := "(JI)J" } : Jvm.MethodName)) ∈ lw_all := lw_g (lw_at lw_m7 140 rfl) rfl
theorem q1719 : (Jvm.Cond.code ({ cls := "OverHillModel", name := "cut", desc := "(JI)J" } : Jvm.MethodName) prog_13_method_6_code (3 : Nat) (Option.some Jvm.ClassFile.FieldType.long)) ∈ lw_all := lw_g (lw_at lw_m7 141 rfl) rfl
theorem q1721 : (Jvm.Cond.instanceMethod ({ cls := "OverHillModel", name := "paste", desc := "(IIIII)I" } : Jvm.MethodName)) ∈ lw_all := lw_g (lw_at lw_m7 143 rfl) rfl
theorem q1722 : (Jvm.Cond.selects "OverHillModel" ({ cls := "OverHillModel", name := "paste", desc := "(IIIII)I" } : Jvm.MethodName) ({ cls := "OverHillModel", name := "paste", desc := "(IIIII)I" } : Jvm.MethodName)) ∈ lw_all := lw_g (lw_at lw_m7 144 rfl) rfl
theorem q1723 : (Jvm.Cond.code ({ cls := "OverHillModel", name := "paste", desc := "(IIIII)I" } : Jvm.MethodName) prog_13_method_8_code (7 : Nat) (Option.some Jvm.ClassFile.FieldType.int)) ∈ lw_all := lw_g (lw_at lw_m7 145 rfl) rfl
theorem q1725 : (Jvm.Cond.instanceMethod ({ cls := "OverHillModel", name := "feed", desc := "(IIIII)I" } : Jvm.MethodName)) ∈ lw_all := lw_g (lw_at lw_m7 147 rfl) rfl
theorem q1726 : (Jvm.Cond.selects "OverHillModel" ({ cls := "OverHillModel", name := "feed", desc := "(IIIII)I" } : Jvm.MethodName) ({ cls := "OverHillModel", name := "feed", desc := "(IIIII)I" } : Jvm.MethodName)) ∈ lw_all := lw_g (lw_at lw_m7 148 rfl) rfl
theorem q1727 : (Jvm.Cond.code ({ cls := "OverHillModel", name := "feed", desc := "(IIIII)I" } : Jvm.MethodName) prog_13_method_9_code (6 : Nat) (Option.some Jvm.ClassFile.FieldType.int)) ∈ lw_all := lw_g (lw_at lw_m7 149 rfl) rfl
theorem q1728 : (Jvm.Cond.methodLink "OverHillModel" (100 : Nat) ({ cls := "OverHillModel", name := "four", desc := "(I)V" } : Jvm.MethodName)) ∈ lw_all := lw_g (lw_at lw_m7 150 rfl) rfl
theorem q1729 : (Jvm.Cond.privateMethod ({ cls := "OverHillModel", name := "four", desc := "(I)V" } : Jvm.MethodName)) ∈ lw_tbl := lw_at lw_m7 151 rfl
theorem q1730 : (Jvm.Cond.instanceMethod ({ cls := "OverHillModel", name := "four", desc := "(I)V" } : Jvm.MethodName)) ∈ lw_all := lw_g (lw_at lw_m7 152 rfl) rfl
theorem q1731 : (Jvm.Cond.code ({ cls := "OverHillModel", name := "four", desc := "(I)V" } : Jvm.MethodName) prog_13_method_10_code (3 : Nat) (Option.none : Option Jvm.ClassFile.FieldType)) ∈ lw_all := lw_g (lw_at lw_m7 153 rfl) rfl
theorem q1733 : (Jvm.Cond.instanceMethod ({ cls := "OverHillModel", name := "end", desc := "(I)I" } : Jvm.MethodName)) ∈ lw_all := lw_g (lw_at lw_m7 155 rfl) rfl
theorem q1734 : (Jvm.Cond.selects "OverHillModel" ({ cls := "OverHillModel", name := "end", desc := "(I)I" } : Jvm.MethodName) ({ cls := "OverHillModel", name := "end", desc := "(I)I" } : Jvm.MethodName)) ∈ lw_all := lw_g (lw_at lw_m7 156 rfl) rfl
theorem q1735 : (Jvm.Cond.code ({ cls := "OverHillModel", name := "end", desc := "(I)I" } : Jvm.MethodName) prog_13_method_11_code (2 : Nat) (Option.some Jvm.ClassFile.FieldType.int)) ∈ lw_all := lw_g (lw_at lw_m7 157 rfl) rfl
theorem q1737 : (Jvm.Cond.instanceMethod ({ cls := "OverHillModel", name := "fault", desc := "(I)I" } : Jvm.MethodName)) ∈ lw_all := lw_g (lw_at lw_m7 159 rfl) rfl
theorem q1738 : (Jvm.Cond.selects "OverHillModel" ({ cls := "OverHillModel", name := "fault", desc := "(I)I" } : Jvm.MethodName) ({ cls := "OverHillModel", name := "fault", desc := "(I)I" } : Jvm.MethodName)) ∈ lw_all := lw_g (lw_at lw_m7 160 rfl) rfl
theorem q1739 : (Jvm.Cond.code ({ cls := "OverHillModel", name := "fault", desc := "(I)I" } : Jvm.MethodName) prog_13_method_24_code (2 : Nat) (Option.some Jvm.ClassFile.FieldType.int)) ∈ lw_all := lw_g (lw_at lw_m7 161 rfl) rfl
theorem q1741 : (Jvm.Cond.instanceMethod ({ cls := "OverHillModel", name := "dance", desc := "()I" } : Jvm.MethodName)) ∈ lw_all := lw_g (lw_at lw_m7 163 rfl) rfl
theorem q1742 : (Jvm.Cond.selects "OverHillModel" ({ cls := "OverHillModel", name := "dance", desc := "()I" } : Jvm.MethodName) ({ cls := "OverHillModel", name := "dance", desc := "()I" } : Jvm.MethodName)) ∈ lw_all := lw_g (lw_at lw_m7 164 rfl) rfl
theorem q1743 : (Jvm.Cond.code ({ cls := "OverHillModel", name := "dance", desc := "()I" } : Jvm.MethodName) prog_13_method_36_code (1 : Nat) (Option.some Jvm.ClassFile.FieldType.int)) ∈ lw_all := lw_g (lw_at lw_m7 165 rfl) rfl
theorem q1744 : (Jvm.Cond.methodLink "OverHillModel" (224 : Nat) ({ cls := "OverHillModel", name := "clears", desc := "()V" } : Jvm.MethodName)) ∈ lw_all := lw_g (lw_at lw_m7 166 rfl) rfl
theorem q1745 : (Jvm.Cond.privateMethod ({ cls := "OverHillModel", name := "clears", desc := "()V" } : Jvm.MethodName)) ∈ lw_tbl := lw_at lw_m7 167 rfl
theorem q1746 : (Jvm.Cond.instanceMethod ({ cls := "OverHillModel", name := "clears", desc := "()V" } : Jvm.MethodName)) ∈ lw_all := lw_g (lw_at lw_m7 168 rfl) rfl
theorem q1747 : (Jvm.Cond.code ({ cls := "OverHillModel", name := "clears", desc := "()V" } : Jvm.MethodName) prog_13_method_35_code (2 : Nat) (Option.none : Option Jvm.ClassFile.FieldType)) ∈ lw_all := lw_g (lw_at lw_m7 169 rfl) rfl
theorem q1748 : (Jvm.Cond.methodLink "OverHillModel" (177 : Nat) ({ cls := "OverHillModel", name := "reads", desc := "(II)V" } : Jvm.MethodName)) ∈ lw_all := lw_g (lw_at lw_m7 170 rfl) rfl
theorem q1749 : (Jvm.Cond.privateMethod ({ cls := "OverHillModel", name := "reads", desc := "(II)V" } : Jvm.MethodName)) ∈ lw_tbl := lw_at lw_m7 171 rfl
theorem q1750 : (Jvm.Cond.instanceMethod ({ cls := "OverHillModel", name := "reads", desc := "(II)V" } : Jvm.MethodName)) ∈ lw_all := lw_g (lw_at lw_m7 172 rfl) rfl
theorem q1751 : (Jvm.Cond.code ({ cls := "OverHillModel", name := "reads", desc := "(II)V" } : Jvm.MethodName) prog_13_method_26_code (3 : Nat) (Option.none : Option Jvm.ClassFile.FieldType)) ∈ lw_all := lw_g (lw_at lw_m7 173 rfl) rfl
theorem q1752 : (Jvm.Cond.methodLink "OverHillModel" (227 : Nat) ({ cls := "OverHillModel", name := "begins", desc := "()V" } : Jvm.MethodName)) ∈ lw_all := lw_g (lw_at lw_m7 174 rfl) rfl
theorem q1753 : (Jvm.Cond.privateMethod ({ cls := "OverHillModel", name := "begins", desc := "()V" } : Jvm.MethodName)) ∈ lw_tbl := lw_at lw_m7 175 rfl
theorem q1754 : (Jvm.Cond.instanceMethod ({ cls := "OverHillModel", name := "begins", desc := "()V" } : Jvm.MethodName)) ∈ lw_all := lw_g (lw_at lw_m7 176 rfl) rfl
theorem q1755 : (Jvm.Cond.code ({ cls := "OverHillModel", name := "begins", desc := "()V" } : Jvm.MethodName) prog_13_method_22_code (1 : Nat) (Option.none : Option Jvm.ClassFile.FieldType)) ∈ lw_all := lw_g (lw_at lw_m7 177 rfl) rfl
theorem q1756 : (Jvm.Cond.methodLink "OverHillModel" (142 : Nat) ({ cls := "OverHillModel", name := "next", desc := "()V" } : Jvm.MethodName)) ∈ lw_all := lw_g (lw_at lw_m7 178 rfl) rfl
theorem q1757 : (Jvm.Cond.privateMethod ({ cls := "OverHillModel", name := "next", desc := "()V" } : Jvm.MethodName)) ∈ lw_tbl := lw_at lw_m7 179 rfl
theorem q1758 : (Jvm.Cond.instanceMethod ({ cls := "OverHillModel", name := "next", desc := "()V" } : Jvm.MethodName)) ∈ lw_all := lw_g (lw_at lw_m7 180 rfl) rfl
theorem q1759 : (Jvm.Cond.code ({ cls := "OverHillModel", name := "next", desc := "()V" } : Jvm.MethodName) prog_13_method_13_code (2 : Nat) (Option.none : Option Jvm.ClassFile.FieldType)) ∈ lw_all := lw_g (lw_at lw_m7 181 rfl) rfl
theorem q1760 : (Jvm.Cond.methodLink "OverHillModel" (107 : Nat) ({ cls := "OverHillModel", name := "isByte", desc := "(III)Z" } : Jvm.MethodName)) ∈ lw_all := lw_g (lw_at lw_m7 182 rfl) rfl
theorem q1761 : (Jvm.Cond.privateMethod ({ cls := "OverHillModel", name := "isByte", desc := "(III)Z" } : Jvm.MethodName)) ∈ lw_tbl := lw_at lw_m7 183 rfl
theorem q1762 : (Jvm.Cond.instanceMethod ({ cls := "OverHillModel", name := "isByte", desc := "(III)Z" } : Jvm.MethodName)) ∈ lw_all := lw_g (lw_at lw_m7 184 rfl) rfl
theorem q1763 : (Jvm.Cond.code ({ cls := "OverHillModel", name := "isByte", desc := "(III)Z" } : Jvm.MethodName) prog_13_method_12_code (4 : Nat) (Option.some Jvm.ClassFile.FieldType.boolean)) ∈ lw_all := lw_g (lw_at lw_m7 185 rfl) rfl
theorem q1764 : (Jvm.Cond.constantLong "OverHillModel" (124 : Nat) (-1 : Int64)) ∈ lw_all := lw_g (lw_at lw_m7 186 rfl) rfl
theorem q1765 : (Jvm.Cond.constantLong "OverHillModel" (126 : Nat) (27 : Int64)) ∈ lw_all := lw_g (lw_at lw_m7 187 rfl) rfl
theorem q1766 : (Jvm.Cond.constantLong "OverHillModel" (128 : Nat) (96 : Int64)) ∈ lw_all := lw_g (lw_at lw_m7 188 rfl) rfl
theorem q1767 : (Jvm.Cond.constant "OverHillModel" (130 : Nat) (100000 : Int32)) ∈ lw_all := lw_g (lw_at lw_m7 189 rfl) rfl
theorem q1768 : (Jvm.Cond.constant "OverHillModel" (131 : Nat) (1000000 : Int32)) ∈ lw_all := lw_g (lw_at lw_m7 190 rfl) rfl
theorem q1769 : (Jvm.Cond.methodLink "OverHillModel" (168 : Nat) ({ cls := "OverHillModel", name := "isGood", desc := "()Z" } : Jvm.MethodName)) ∈ lw_all := lw_g (lw_at lw_m7 191 rfl) rfl
theorem q1770 : (Jvm.Cond.privateMethod ({ cls := "OverHillModel", name := "isGood", desc := "()Z" } : Jvm.MethodName)) ∈ lw_tbl := lw_at lw_m7 192 rfl
theorem q1771 : (Jvm.Cond.instanceMethod ({ cls := "OverHillModel", name := "isGood", desc := "()Z" } : Jvm.MethodName)) ∈ lw_all := lw_g (lw_at lw_m7 193 rfl) rfl
theorem q1772 : (Jvm.Cond.code ({ cls := "OverHillModel", name := "isGood", desc := "()Z" } : Jvm.MethodName) prog_13_method_14_code (1 : Nat) (Option.some Jvm.ClassFile.FieldType.boolean)) ∈ lw_all := lw_g (lw_at lw_m7 194 rfl) rfl
theorem q1773 : (Jvm.Cond.constantLong "OverHillModel" (230 : Nat) (2155739 : Int64)) ∈ lw_all := lw_g (lw_at lw_m7 195 rfl) rfl
theorem q1774 : (Jvm.Cond.methodLink "OverHillModel" (151 : Nat) ({ cls := "OverHillModel", name := "asks", desc := "(J)V" } : Jvm.MethodName)) ∈ lw_all := lw_g (lw_at lw_m7 196 rfl) rfl
theorem q1775 : (Jvm.Cond.privateMethod ({ cls := "OverHillModel", name := "asks", desc := "(J)V" } : Jvm.MethodName)) ∈ lw_tbl := lw_at lw_m7 197 rfl
theorem q1776 : (Jvm.Cond.instanceMethod ({ cls := "OverHillModel", name := "asks", desc := "(J)V" } : Jvm.MethodName)) ∈ lw_all := lw_g (lw_at lw_m7 198 rfl) rfl
theorem q1777 : (Jvm.Cond.code ({ cls := "OverHillModel", name := "asks", desc := "(J)V" } : Jvm.MethodName) prog_13_method_18_code (3 : Nat) (Option.none : Option Jvm.ClassFile.FieldType)) ∈ lw_all := lw_g (lw_at lw_m7 199 rfl) rfl
theorem q1778 : (Jvm.Cond.methodLink "OverHillModel" (145 : Nat) ({ cls := "OverHillModel", name := "takes", desc := "(J)Z" } : Jvm.MethodName)) ∈ lw_all := lw_g (lw_at lw_m7 200 rfl) rfl
theorem q1779 : (Jvm.Cond.privateMethod ({ cls := "OverHillModel", name := "takes", desc := "(J)Z" } : Jvm.MethodName)) ∈ lw_tbl := lw_at lw_m7 201 rfl
theorem q1780 : (Jvm.Cond.instanceMethod ({ cls := "OverHillModel", name := "takes", desc := "(J)Z" } : Jvm.MethodName)) ∈ lw_all := lw_g (lw_at lw_m7 202 rfl) rfl
theorem q1781 : (Jvm.Cond.code ({ cls := "OverHillModel", name := "takes", desc := "(J)Z" } : Jvm.MethodName) prog_13_method_17_code (3 : Nat) (Option.some Jvm.ClassFile.FieldType.boolean)) ∈ lw_all := lw_g (lw_at lw_m7 203 rfl) rfl
theorem q1782 : (Jvm.Cond.methodLink "OverHillModel" (138 : Nat) ({ cls := "OverHillModel", name := "is", desc := "(J)Z" } : Jvm.MethodName)) ∈ lw_all := lw_g (lw_at lw_m7 204 rfl) rfl
theorem q1783 : (Jvm.Cond.privateMethod ({ cls := "OverHillModel", name := "is", desc := "(J)Z" } : Jvm.MethodName)) ∈ lw_tbl := lw_at lw_m7 205 rfl
theorem q1784 : (Jvm.Cond.instanceMethod ({ cls := "OverHillModel", name := "is", desc := "(J)Z" } : Jvm.MethodName)) ∈ lw_all := lw_g (lw_at lw_m7 206 rfl) rfl
theorem q1785 : (Jvm.Cond.code ({ cls := "OverHillModel", name := "is", desc := "(J)Z" } : Jvm.MethodName) prog_13_method_16_code (3 : Nat) (Option.some Jvm.ClassFile.FieldType.boolean)) ∈ lw_all := lw_g (lw_at lw_m7 207 rfl) rfl
theorem q1786 : (Jvm.Cond.methodLink "OverHillModel" (148 : Nat) ({ cls := "OverHillModel", name := "fails", desc := "(I)V" } : Jvm.MethodName)) ∈ lw_all := lw_g (lw_at lw_m7 208 rfl) rfl
theorem q1787 : (Jvm.Cond.privateMethod ({ cls := "OverHillModel", name := "fails", desc := "(I)V" } : Jvm.MethodName)) ∈ lw_tbl := lw_at lw_m7 209 rfl
theorem q1788 : (Jvm.Cond.instanceMethod ({ cls := "OverHillModel", name := "fails", desc := "(I)V" } : Jvm.MethodName)) ∈ lw_all := lw_g (lw_at lw_m7 210 rfl) rfl
theorem q1789 : (Jvm.Cond.code ({ cls := "OverHillModel", name := "fails", desc := "(I)V" } : Jvm.MethodName) prog_13_method_15_code (2 : Nat) (Option.none : Option Jvm.ClassFile.FieldType)) ∈ lw_all := lw_g (lw_at lw_m7 211 rfl) rfl
theorem q1790 : (Jvm.Cond.constantLong "OverHillModel" (232 : Nat) (5146 : Int64)) ∈ lw_all := lw_g (lw_at lw_m7 212 rfl) rfl
theorem q1791 : (Jvm.Cond.methodLink "OverHillModel" (174 : Nat) ({ cls := "OverHillModel", name := "number", desc := "(JII)I" } : Jvm.MethodName)) ∈ lw_all := lw_g (lw_at lw_m7 213 rfl) rfl
theorem q1792 : (Jvm.Cond.privateMethod ({ cls := "OverHillModel", name := "number", desc := "(JII)I" } : Jvm.MethodName)) ∈ lw_tbl := lw_at lw_m7 214 rfl
theorem q1793 : (Jvm.Cond.instanceMethod ({ cls := "OverHillModel", name := "number", desc := "(JII)I" } : Jvm.MethodName)) ∈ lw_all := lw_g (lw_at lw_m7 215 rfl) rfl
theorem q1794 : (Jvm.Cond.code ({ cls := "OverHillModel", name := "number", desc := "(JII)I" } : Jvm.MethodName) prog_13_method_20_code (5 : Nat) (Option.some Jvm.ClassFile.FieldType.int)) ∈ lw_all := lw_g (lw_at lw_m7 216 rfl) rfl
theorem q1795 : (Jvm.Cond.methodLink "OverHillModel" (155 : Nat) ({ cls := "OverHillModel", name := "number", desc := "(II)I" } : Jvm.MethodName)) ∈ lw_all := lw_g (lw_at lw_m7 217 rfl) rfl
theorem q1796 : (Jvm.Cond.privateMethod ({ cls := "OverHillModel", name := "number", desc := "(II)I" } : Jvm.MethodName)) ∈ lw_tbl := lw_at lw_m7 218 rfl
theorem q1797 : (Jvm.Cond.instanceMethod ({ cls := "OverHillModel", name := "number", desc := "(II)I" } : Jvm.MethodName)) ∈ lw_all := lw_g (lw_at lw_m7 219 rfl) rfl
theorem q1798 : (Jvm.Cond.code ({ cls := "OverHillModel", name := "number", desc := "(II)I" } : Jvm.MethodName) prog_13_method_19_code (4 : Nat) (Option.some Jvm.ClassFile.FieldType.int)) ∈ lw_all := lw_g (lw_at lw_m7 220 rfl) rfl
theorem q1799 : (Jvm.Cond.constantLong "OverHillModel" (234 : Nat) (298288 : Int64)) ∈ lw_all := lw_g (lw_at lw_m7 221 rfl) rfl
theorem q1800 : (Jvm.Cond.constantLong "OverHillModel" (236 : Nat) (355280 : Int64)) ∈ lw_all := lw_g (lw_at lw_m7 222 rfl) rfl
theorem q1801 : (Jvm.Cond.methodLink "OverHillModel" (238 : Nat) ({ cls := "OverHillModel", name := "line", desc := "()V" } : Jvm.MethodName)) ∈ lw_all := lw_g (lw_at lw_m7 223 rfl) rfl
theorem q1802 : (Jvm.Cond.privateMethod ({ cls := "OverHillModel", name := "line", desc := "()V" } : Jvm.MethodName)) ∈ lw_tbl := lw_at lw_m7 224 rfl
theorem q1803 : (Jvm.Cond.instanceMethod ({ cls := "OverHillModel", name := "line", desc := "()V" } : Jvm.MethodName)) ∈ lw_all := lw_g (lw_at lw_m7 225 rfl) rfl
theorem q1804 : (Jvm.Cond.code ({ cls := "OverHillModel", name := "line", desc := "()V" } : Jvm.MethodName) prog_13_method_34_code (5 : Nat) (Option.none : Option Jvm.ClassFile.FieldType)) ∈ lw_all := lw_g (lw_at lw_m7 226 rfl) rfl
theorem q1805 : (Jvm.Cond.constantLong "OverHillModel" (197 : Nat) (7659385358 : Int64)) ∈ lw_all := lw_g (lw_at lw_m7 227 rfl) rfl
theorem q1806 : (Jvm.Cond.constantLong "OverHillModel" (199 : Nat) (464053 : Int64)) ∈ lw_all := lw_g (lw_at lw_m7 228 rfl) rfl
theorem q1807 : (Jvm.Cond.constantLong "OverHillModel" (201 : Nat) (409352 : Int64)) ∈ lw_all := lw_g (lw_at lw_m7 229 rfl) rfl
theorem q1808 : (Jvm.Cond.methodLink "OverHillModel" (181 : Nat) ({ cls := "OverHillModel", name := "hasRead", desc := "(I)I" } : Jvm.MethodName)) ∈ lw_all := lw_g (lw_at lw_m7 230 rfl) rfl
theorem q1809 : (Jvm.Cond.privateMethod ({ cls := "OverHillModel", name := "hasRead", desc := "(I)I" } : Jvm.MethodName)) ∈ lw_tbl := lw_at lw_m7 231 rfl
theorem q1810 : (Jvm.Cond.instanceMethod ({ cls := "OverHillModel", name := "hasRead", desc := "(I)I" } : Jvm.MethodName)) ∈ lw_all := lw_g (lw_at lw_m7 232 rfl) rfl
theorem q1811 : (Jvm.Cond.code ({ cls := "OverHillModel", name := "hasRead", desc := "(I)I" } : Jvm.MethodName) prog_13_method_25_code (2 : Nat) (Option.some Jvm.ClassFile.FieldType.int)) ∈ lw_all := lw_g (lw_at lw_m7 233 rfl) rfl
theorem q1812 : (Jvm.Cond.methodLink "OverHillModel" (203 : Nat) ({ cls := "OverHillModel", name := "stumbleLine", desc := "()V" } : Jvm.MethodName)) ∈ lw_all := lw_g (lw_at lw_m7 234 rfl) rfl
theorem q1813 : (Jvm.Cond.privateMethod ({ cls := "OverHillModel", name := "stumbleLine", desc := "()V" } : Jvm.MethodName)) ∈ lw_tbl := lw_at lw_m7 235 rfl
theorem q1814 : (Jvm.Cond.instanceMethod ({ cls := "OverHillModel", name := "stumbleLine", desc := "()V" } : Jvm.MethodName)) ∈ lw_all := lw_g (lw_at lw_m7 236 rfl) rfl
theorem q1815 : (Jvm.Cond.code ({ cls := "OverHillModel", name := "stumbleLine", desc := "()V" } : Jvm.MethodName) prog_13_method_32_code (3 : Nat) (Option.none : Option Jvm.ClassFile.FieldType)) ∈ lw_all := lw_g (lw_at lw_m7 237 rfl) rfl
theorem q1816 : (Jvm.Cond.constantLong "OverHillModel" (185 : Nat) (47 : Int64)) ∈ lw_all := lw_g (lw_at lw_m7 238 rfl) rfl
theorem q1817 : (Jvm.Cond.methodLink "OverHillModel" (187 : Nat) ({ cls := "OverHillModel", name := "isStumbled", desc := "(III)Z" } : Jvm.MethodName)) ∈ lw_all := lw_g (lw_at lw_m7 239 rfl) rfl
theorem q1818 : (Jvm.Cond.privateMethod ({ cls := "OverHillModel", name := "isStumbled", desc := "(III)Z" } : Jvm.MethodName)) ∈ lw_tbl := lw_at lw_m8 0 rfl
theorem q1819 : (Jvm.Cond.instanceMethod ({ cls := "OverHillModel", name := "isStumbled", desc := "(III)Z" } : Jvm.MethodName)) ∈ lw_all := lw_g (lw_at lw_m8 1 rfl) rfl
theorem q1820 : (Jvm.Cond.code ({ cls := "OverHillModel", name := "isStumbled", desc := "(III)Z" } : Jvm.MethodName) prog_13_method_31_code (5 : Nat) (Option.some Jvm.ClassFile.FieldType.boolean)) ∈ lw_all := lw_g (lw_at lw_m8 2 rfl) rfl
theorem q1821 : (Jvm.Cond.methodLink "OverHillModel" (190 : Nat) ({ cls := "OverHillModel", name := "beatHere", desc := "()I" } : Jvm.MethodName)) ∈ lw_all := lw_g (lw_at lw_m8 3 rfl) rfl
theorem q1822 : (Jvm.Cond.privateMethod ({ cls := "OverHillModel", name := "beatHere", desc := "()I" } : Jvm.MethodName)) ∈ lw_tbl := lw_at lw_m8 4 rfl
theorem q1823 : (Jvm.Cond.instanceMethod ({ cls := "OverHillModel", name := "beatHere", desc := "()I" } : Jvm.MethodName)) ∈ lw_all := lw_g (lw_at lw_m8 5 rfl) rfl
theorem q1824 : (Jvm.Cond.code ({ cls := "OverHillModel", name := "beatHere", desc := "()I" } : Jvm.MethodName) prog_13_method_28_code (1 : Nat) (Option.some Jvm.ClassFile.FieldType.int)) ∈ lw_all := lw_g (lw_at lw_m8 6 rfl) rfl
theorem q1825 : (Jvm.Cond.constantLong "OverHillModel" (193 : Nat) (89821 : Int64)) ∈ lw_all := lw_g (lw_at lw_m8 7 rfl) rfl
theorem q1826 : (Jvm.Cond.constantLong "OverHillModel" (195 : Nat) (8782 : Int64)) ∈ lw_all := lw_g (lw_at lw_m8 8 rfl) rfl
theorem q1827 : (Jvm.Cond.constantLong "OverHillModel" (206 : Nat) (3094387 : Int64)) ∈ lw_all := lw_g (lw_at lw_m8 9 rfl) rfl
theorem q1828 : (Jvm.Cond.methodLink "OverHillModel" (208 : Nat) ({ cls := "OverHillModel", name := "everyLine", desc := "([III)V" } : Jvm.MethodName)) ∈ lw_all := lw_g (lw_at lw_m8 10 rfl) rfl
theorem q1829 : (Jvm.Cond.privateMethod ({ cls := "OverHillModel", name := "everyLine", desc := "([III)V" } : Jvm.MethodName)) ∈ lw_tbl := lw_at lw_m8 11 rfl
theorem q1830 : (Jvm.Cond.instanceMethod ({ cls := "OverHillModel", name := "everyLine", desc := "([III)V" } : Jvm.MethodName)) ∈ lw_all := lw_g (lw_at lw_m8 12 rfl) rfl
theorem q1831 : (Jvm.Cond.code ({ cls := "OverHillModel", name := "everyLine", desc := "([III)V" } : Jvm.MethodName) prog_13_method_33_code (4 : Nat) (Option.none : Option Jvm.ClassFile.FieldType)) ∈ lw_all := lw_g (lw_at lw_m8 13 rfl) rfl
theorem q1832 : (Jvm.Cond.constantLong "OverHillModel" (212 : Nat) (9876874 : Int64)) ∈ lw_all := lw_g (lw_at lw_m8 14 rfl) rfl
theorem q1833 : (Jvm.Cond.methodLink "OverHillModel" (214 : Nat) ({ cls := "OverHillModel", name := "roundLine", desc := "()V" } : Jvm.MethodName)) ∈ lw_all := lw_g (lw_at lw_m8 15 rfl) rfl
theorem q1834 : (Jvm.Cond.privateMethod ({ cls := "OverHillModel", name := "roundLine", desc := "()V" } : Jvm.MethodName)) ∈ lw_tbl := lw_at lw_m8 16 rfl
theorem q1835 : (Jvm.Cond.instanceMethod ({ cls := "OverHillModel", name := "roundLine", desc := "()V" } : Jvm.MethodName)) ∈ lw_all := lw_g (lw_at lw_m8 17 rfl) rfl
theorem q1836 : (Jvm.Cond.code ({ cls := "OverHillModel", name := "roundLine", desc := "()V" } : Jvm.MethodName) prog_13_method_29_code (5 : Nat) (Option.none : Option Jvm.ClassFile.FieldType)) ∈ lw_all := lw_g (lw_at lw_m8 18 rfl) rfl
theorem q1837 : (Jvm.Cond.constantLong "OverHillModel" (162 : Nat) (411 : Int64)) ∈ lw_all := lw_g (lw_at lw_m8 19 rfl) rfl
theorem q1838 : (Jvm.Cond.methodLink "OverHillModel" (164 : Nat) ({ cls := "OverHillModel", name := "stepHere", desc := "()I" } : Jvm.MethodName)) ∈ lw_all := lw_g (lw_at lw_m8 20 rfl) rfl
theorem q1839 : (Jvm.Cond.privateMethod ({ cls := "OverHillModel", name := "stepHere", desc := "()I" } : Jvm.MethodName)) ∈ lw_tbl := lw_at lw_m8 21 rfl
theorem q1840 : (Jvm.Cond.instanceMethod ({ cls := "OverHillModel", name := "stepHere", desc := "()I" } : Jvm.MethodName)) ∈ lw_all := lw_g (lw_at lw_m8 22 rfl) rfl
theorem q1841 : (Jvm.Cond.code ({ cls := "OverHillModel", name := "stepHere", desc := "()I" } : Jvm.MethodName) prog_13_method_27_code (1 : Nat) (Option.some Jvm.ClassFile.FieldType.int)) ∈ lw_all := lw_g (lw_at lw_m8 23 rfl) rfl
theorem q1842 : (Jvm.Cond.constantLong "OverHillModel" (172 : Nat) (31499758 : Int64)) ∈ lw_all := lw_g (lw_at lw_m8 24 rfl) rfl
theorem q1843 : (Jvm.Cond.constantLong "OverHillModel" (217 : Nat) (598859425 : Int64)) ∈ lw_all := lw_g (lw_at lw_m8 25 rfl) rfl
theorem q1844 : (Jvm.Cond.methodLink "OverHillModel" (219 : Nat) ({ cls := "OverHillModel", name := "answersLine", desc := "()V" } : Jvm.MethodName)) ∈ lw_all := lw_g (lw_at lw_m8 26 rfl) rfl
theorem q1845 : (Jvm.Cond.privateMethod ({ cls := "OverHillModel", name := "answersLine", desc := "()V" } : Jvm.MethodName)) ∈ lw_tbl := lw_at lw_m8 27 rfl
theorem q1846 : (Jvm.Cond.instanceMethod ({ cls := "OverHillModel", name := "answersLine", desc := "()V" } : Jvm.MethodName)) ∈ lw_all := lw_g (lw_at lw_m8 28 rfl) rfl
theorem q1847 : (Jvm.Cond.code ({ cls := "OverHillModel", name := "answersLine", desc := "()V" } : Jvm.MethodName) prog_13_method_30_code (3 : Nat) (Option.none : Option Jvm.ClassFile.FieldType)) ∈ lw_all := lw_g (lw_at lw_m8 29 rfl) rfl
theorem q1848 : (Jvm.Cond.constantLong "OverHillModel" (222 : Nat) (10048 : Int64)) ∈ lw_all := lw_g (lw_at lw_m8 30 rfl) rfl
theorem q1849 : (Jvm.Cond.methodLink "OverHillModel" (241 : Nat) ({ cls := "OverHillModel", name := "ends", desc := "()V" } : Jvm.MethodName)) ∈ lw_all := lw_g (lw_at lw_m8 31 rfl) rfl
theorem q1850 : (Jvm.Cond.privateMethod ({ cls := "OverHillModel", name := "ends", desc := "()V" } : Jvm.MethodName)) ∈ lw_tbl := lw_at lw_m8 32 rfl
theorem q1851 : (Jvm.Cond.instanceMethod ({ cls := "OverHillModel", name := "ends", desc := "()V" } : Jvm.MethodName)) ∈ lw_all := lw_g (lw_at lw_m8 33 rfl) rfl
theorem q1852 : (Jvm.Cond.code ({ cls := "OverHillModel", name := "ends", desc := "()V" } : Jvm.MethodName) prog_13_method_21_code (1 : Nat) (Option.none : Option Jvm.ClassFile.FieldType)) ∈ lw_all := lw_g (lw_at lw_m8 34 rfl) rfl
theorem q1853 : (Jvm.Cond.methodLink "OverHillModel" (244 : Nat) ({ cls := "OverHillModel", name := "isOver", desc := "()V" } : Jvm.MethodName)) ∈ lw_all := lw_g (lw_at lw_m8 35 rfl) rfl
theorem q1854 : (Jvm.Cond.privateMethod ({ cls := "OverHillModel", name := "isOver", desc := "()V" } : Jvm.MethodName)) ∈ lw_tbl := lw_at lw_m8 36 rfl
theorem q1855 : (Jvm.Cond.instanceMethod ({ cls := "OverHillModel", name := "isOver", desc := "()V" } : Jvm.MethodName)) ∈ lw_all := lw_g (lw_at lw_m8 37 rfl) rfl
theorem q1856 : (Jvm.Cond.code ({ cls := "OverHillModel", name := "isOver", desc := "()V" } : Jvm.MethodName) prog_13_method_23_code (1 : Nat) (Option.none : Option Jvm.ClassFile.FieldType)) ∈ lw_all := lw_g (lw_at lw_m8 38 rfl) rfl
theorem q1857 : (Jvm.Cond.methodLink "OverHillModel" (247 : Nat) ({ cls := "OverHillModel", name := "copyDance", desc := "(II)V" } : Jvm.MethodName)) ∈ lw_all := lw_g (lw_at lw_m8 39 rfl) rfl
theorem q1858 : (Jvm.Cond.privateMethod ({ cls := "OverHillModel", name := "copyDance", desc := "(II)V" } : Jvm.MethodName)) ∈ lw_tbl := lw_at lw_m8 40 rfl
theorem q1859 : (Jvm.Cond.instanceMethod ({ cls := "OverHillModel", name := "copyDance", desc := "(II)V" } : Jvm.MethodName)) ∈ lw_all := lw_g (lw_at lw_m8 41 rfl) rfl
theorem q1860 : (Jvm.Cond.code ({ cls := "OverHillModel", name := "copyDance", desc := "(II)V" } : Jvm.MethodName) prog_13_method_38_code (4 : Nat) (Option.none : Option Jvm.ClassFile.FieldType)) ∈ lw_all := lw_g (lw_at lw_m8 42 rfl) rfl
theorem q1861 : (Jvm.Cond.methodLink "OverHillModel" (250 : Nat) ({ cls := "OverHillModel", name := "copyRow", desc := "([IIII)V" } : Jvm.MethodName)) ∈ lw_all := lw_g (lw_at lw_m8 43 rfl) rfl
theorem q1862 : (Jvm.Cond.static ({ cls := "OverHillModel", name := "copyRow", desc := "([IIII)V" } : Jvm.MethodName)) ∈ lw_all := lw_g (lw_at lw_m8 44 rfl) rfl
theorem q1863 : (Jvm.Cond.code ({ cls := "OverHillModel", name := "copyRow", desc := "([IIII)V" } : Jvm.MethodName) prog_13_method_37_code (5 : Nat) (Option.none : Option Jvm.ClassFile.FieldType)) ∈ lw_all := lw_g (lw_at lw_m8 45 rfl) rfl
theorem q1865 : (Jvm.Cond.instanceMethod ({ cls := "OverHillModel", name := "step", desc := "(II)I" } : Jvm.MethodName)) ∈ lw_all := lw_g (lw_at lw_m8 47 rfl) rfl
theorem q1866 : (Jvm.Cond.selects "OverHillModel" ({ cls := "OverHillModel", name := "step", desc := "(II)I" } : Jvm.MethodName) ({ cls := "OverHillModel", name := "step", desc := "(II)I" } : Jvm.MethodName)) ∈ lw_all := lw_g (lw_at lw_m8 48 rfl) rfl
theorem q1867 : (Jvm.Cond.code ({ cls := "OverHillModel", name := "step", desc := "(II)I" } : Jvm.MethodName) prog_13_method_47_code (3 : Nat) (Option.some Jvm.ClassFile.FieldType.int)) ∈ lw_all := lw_g (lw_at lw_m8 49 rfl) rfl
theorem q1868 : (Jvm.Cond.methodLink "OverHillModel" (261 : Nat) ({ cls := "OverHillModel", name := "isSide", desc := "(I)Z" } : Jvm.MethodName)) ∈ lw_all := lw_g (lw_at lw_m8 50 rfl) rfl
theorem q1869 : (Jvm.Cond.privateMethod ({ cls := "OverHillModel", name := "isSide", desc := "(I)Z" } : Jvm.MethodName)) ∈ lw_tbl := lw_at lw_m8 51 rfl
theorem q1870 : (Jvm.Cond.instanceMethod ({ cls := "OverHillModel", name := "isSide", desc := "(I)Z" } : Jvm.MethodName)) ∈ lw_all := lw_g (lw_at lw_m8 52 rfl) rfl
theorem q1871 : (Jvm.Cond.code ({ cls := "OverHillModel", name := "isSide", desc := "(I)Z" } : Jvm.MethodName) prog_13_method_40_code (2 : Nat) (Option.some Jvm.ClassFile.FieldType.boolean)) ∈ lw_all := lw_g (lw_at lw_m8 53 rfl) rfl
theorem q1872 : (Jvm.Cond.methodLink "OverHillModel" (254 : Nat) ({ cls := "OverHillModel", name := "isDance", desc := "()Z" } : Jvm.MethodName)) ∈ lw_all := lw_g (lw_at lw_m8 54 rfl) rfl
theorem q1873 : (Jvm.Cond.privateMethod ({ cls := "OverHillModel", name := "isDance", desc := "()Z" } : Jvm.MethodName)) ∈ lw_tbl := lw_at lw_m8 55 rfl
theorem q1874 : (Jvm.Cond.instanceMethod ({ cls := "OverHillModel", name := "isDance", desc := "()Z" } : Jvm.MethodName)) ∈ lw_all := lw_g (lw_at lw_m8 56 rfl) rfl
theorem q1875 : (Jvm.Cond.code ({ cls := "OverHillModel", name := "isDance", desc := "()Z" } : Jvm.MethodName) prog_13_method_39_code (1 : Nat) (Option.some Jvm.ClassFile.FieldType.boolean)) ∈ lw_all := lw_g (lw_at lw_m8 57 rfl) rfl
theorem q1876 : (Jvm.Cond.methodLink "OverHillModel" (264 : Nat) ({ cls := "OverHillModel", name := "lengthOf", desc := "(I)I" } : Jvm.MethodName)) ∈ lw_all := lw_g (lw_at lw_m8 58 rfl) rfl
theorem q1877 : (Jvm.Cond.privateMethod ({ cls := "OverHillModel", name := "lengthOf", desc := "(I)I" } : Jvm.MethodName)) ∈ lw_tbl := lw_at lw_m8 59 rfl
theorem q1878 : (Jvm.Cond.instanceMethod ({ cls := "OverHillModel", name := "lengthOf", desc := "(I)I" } : Jvm.MethodName)) ∈ lw_all := lw_g (lw_at lw_m8 60 rfl) rfl
theorem q1879 : (Jvm.Cond.code ({ cls := "OverHillModel", name := "lengthOf", desc := "(I)I" } : Jvm.MethodName) prog_13_method_44_code (2 : Nat) (Option.some Jvm.ClassFile.FieldType.int)) ∈ lw_all := lw_g (lw_at lw_m8 61 rfl) rfl
theorem q1881 : (Jvm.Cond.instanceMethod ({ cls := "OverHillModel", name := "answers", desc := "(I)I" } : Jvm.MethodName)) ∈ lw_all := lw_g (lw_at lw_m8 63 rfl) rfl
theorem q1882 : (Jvm.Cond.selects "OverHillModel" ({ cls := "OverHillModel", name := "answers", desc := "(I)I" } : Jvm.MethodName) ({ cls := "OverHillModel", name := "answers", desc := "(I)I" } : Jvm.MethodName)) ∈ lw_all := lw_g (lw_at lw_m8 64 rfl) rfl
theorem q1883 : (Jvm.Cond.code ({ cls := "OverHillModel", name := "answers", desc := "(I)I" } : Jvm.MethodName) prog_13_method_48_code (2 : Nat) (Option.some Jvm.ClassFile.FieldType.int)) ∈ lw_all := lw_g (lw_at lw_m8 65 rfl) rfl
theorem q1884 : (Jvm.Cond.methodLink "OverHillModel" (267 : Nat) ({ cls := "OverHillModel", name := "isStep", desc := "(J)Z" } : Jvm.MethodName)) ∈ lw_all := lw_g (lw_at lw_m8 66 rfl) rfl
theorem q1885 : (Jvm.Cond.static ({ cls := "OverHillModel", name := "isStep", desc := "(J)Z" } : Jvm.MethodName)) ∈ lw_all := lw_g (lw_at lw_m8 67 rfl) rfl
theorem q1886 : (Jvm.Cond.code ({ cls := "OverHillModel", name := "isStep", desc := "(J)Z" } : Jvm.MethodName) prog_13_method_42_code (2 : Nat) (Option.some Jvm.ClassFile.FieldType.boolean)) ∈ lw_all := lw_g (lw_at lw_m8 68 rfl) rfl
theorem q1887 : (Jvm.Cond.constantLong "OverHillModel" (259 : Nat) (5 : Int64)) ∈ lw_all := lw_g (lw_at lw_m8 69 rfl) rfl
theorem q1889 : (Jvm.Cond.instanceMethod ({ cls := "OverHillModel", name := "stumbled", desc := "(II)I" } : Jvm.MethodName)) ∈ lw_all := lw_g (lw_at lw_m8 71 rfl) rfl
theorem q1890 : (Jvm.Cond.selects "OverHillModel" ({ cls := "OverHillModel", name := "stumbled", desc := "(II)I" } : Jvm.MethodName) ({ cls := "OverHillModel", name := "stumbled", desc := "(II)I" } : Jvm.MethodName)) ∈ lw_all := lw_g (lw_at lw_m8 72 rfl) rfl
theorem q1891 : (Jvm.Cond.code ({ cls := "OverHillModel", name := "stumbled", desc := "(II)I" } : Jvm.MethodName) prog_13_method_49_code (3 : Nat) (Option.some Jvm.ClassFile.FieldType.int)) ∈ lw_all := lw_g (lw_at lw_m8 73 rfl) rfl
theorem q1893 : (Jvm.Cond.instanceMethod ({ cls := "OverHillModel", name := "muddy", desc := "(I)I" } : Jvm.MethodName)) ∈ lw_all := lw_g (lw_at lw_m8 75 rfl) rfl
theorem q1894 : (Jvm.Cond.selects "OverHillModel" ({ cls := "OverHillModel", name := "muddy", desc := "(I)I" } : Jvm.MethodName) ({ cls := "OverHillModel", name := "muddy", desc := "(I)I" } : Jvm.MethodName)) ∈ lw_all := lw_g (lw_at lw_m8 76 rfl) rfl
theorem q1895 : (Jvm.Cond.code ({ cls := "OverHillModel", name := "muddy", desc := "(I)I" } : Jvm.MethodName) prog_13_method_50_code (2 : Nat) (Option.some Jvm.ClassFile.FieldType.int)) ∈ lw_all := lw_g (lw_at lw_m8 77 rfl) rfl
theorem q1896 : (Jvm.Cond.methodLink "OverHillModel" (270 : Nat) ({ cls := "OverHillModel", name := "isBeat", desc := "(J)Z" } : Jvm.MethodName)) ∈ lw_all := lw_g (lw_at lw_m8 78 rfl) rfl
theorem q1897 : (Jvm.Cond.static ({ cls := "OverHillModel", name := "isBeat", desc := "(J)Z" } : Jvm.MethodName)) ∈ lw_all := lw_g (lw_at lw_m8 79 rfl) rfl
theorem q1898 : (Jvm.Cond.code ({ cls := "OverHillModel", name := "isBeat", desc := "(J)Z" } : Jvm.MethodName) prog_13_method_41_code (2 : Nat) (Option.some Jvm.ClassFile.FieldType.boolean)) ∈ lw_all := lw_g (lw_at lw_m8 80 rfl) rfl
theorem q1899 : (Jvm.Cond.constantLong "OverHillModel" (257 : Nat) (199 : Int64)) ∈ lw_all := lw_g (lw_at lw_m8 81 rfl) rfl
theorem q1901 : (Jvm.Cond.instanceMethod ({ cls := "OverHillModel", name := "place", desc := "(II)I" } : Jvm.MethodName)) ∈ lw_all := lw_g (lw_at lw_m8 83 rfl) rfl
theorem q1902 : (Jvm.Cond.selects "OverHillModel" ({ cls := "OverHillModel", name := "place", desc := "(II)I" } : Jvm.MethodName) ({ cls := "OverHillModel", name := "place", desc := "(II)I" } : Jvm.MethodName)) ∈ lw_all := lw_g (lw_at lw_m8 84 rfl) rfl
theorem q1903 : (Jvm.Cond.code ({ cls := "OverHillModel", name := "place", desc := "(II)I" } : Jvm.MethodName) prog_13_method_57_code (3 : Nat) (Option.some Jvm.ClassFile.FieldType.int)) ∈ lw_all := lw_g (lw_at lw_m8 85 rfl) rfl
theorem q1904 : (Jvm.Cond.methodLink "OverHillModel" (290 : Nat) ({ cls := "OverHillModel", name := "lays", desc := "()V" } : Jvm.MethodName)) ∈ lw_all := lw_g (lw_at lw_m8 86 rfl) rfl
theorem q1905 : (Jvm.Cond.privateMethod ({ cls := "OverHillModel", name := "lays", desc := "()V" } : Jvm.MethodName)) ∈ lw_tbl := lw_at lw_m8 87 rfl
theorem q1906 : (Jvm.Cond.instanceMethod ({ cls := "OverHillModel", name := "lays", desc := "()V" } : Jvm.MethodName)) ∈ lw_all := lw_g (lw_at lw_m8 88 rfl) rfl
theorem q1907 : (Jvm.Cond.code ({ cls := "OverHillModel", name := "lays", desc := "()V" } : Jvm.MethodName) prog_13_method_53_code (1 : Nat) (Option.none : Option Jvm.ClassFile.FieldType)) ∈ lw_all := lw_g (lw_at lw_m8 89 rfl) rfl
theorem q1908 : (Jvm.Cond.methodLink "OverHillModel" (277 : Nat) ({ cls := "OverHillModel", name := "laysBut", desc := "(I)V" } : Jvm.MethodName)) ∈ lw_all := lw_g (lw_at lw_m8 90 rfl) rfl
theorem q1909 : (Jvm.Cond.privateMethod ({ cls := "OverHillModel", name := "laysBut", desc := "(I)V" } : Jvm.MethodName)) ∈ lw_tbl := lw_at lw_m8 91 rfl
theorem q1910 : (Jvm.Cond.instanceMethod ({ cls := "OverHillModel", name := "laysBut", desc := "(I)V" } : Jvm.MethodName)) ∈ lw_all := lw_g (lw_at lw_m8 92 rfl) rfl
theorem q1911 : (Jvm.Cond.code ({ cls := "OverHillModel", name := "laysBut", desc := "(I)V" } : Jvm.MethodName) prog_13_method_52_code (2 : Nat) (Option.none : Option Jvm.ClassFile.FieldType)) ∈ lw_all := lw_g (lw_at lw_m8 93 rfl) rfl
theorem q1912 : (Jvm.Cond.methodLink "OverHillModel" (273 : Nat) ({ cls := "OverHillModel", name := "dances", desc := "(IIIII)V" } : Jvm.MethodName)) ∈ lw_all := lw_g (lw_at lw_m8 94 rfl) rfl
theorem q1913 : (Jvm.Cond.privateMethod ({ cls := "OverHillModel", name := "dances", desc := "(IIIII)V" } : Jvm.MethodName)) ∈ lw_tbl := lw_at lw_m8 95 rfl
theorem q1914 : (Jvm.Cond.instanceMethod ({ cls := "OverHillModel", name := "dances", desc := "(IIIII)V" } : Jvm.MethodName)) ∈ lw_all := lw_g (lw_at lw_m8 96 rfl) rfl
theorem q1915 : (Jvm.Cond.code ({ cls := "OverHillModel", name := "dances", desc := "(IIIII)V" } : Jvm.MethodName) prog_13_method_51_code (13 : Nat) (Option.none : Option Jvm.ClassFile.FieldType)) ∈ lw_all := lw_g (lw_at lw_m8 97 rfl) rfl
theorem q1917 : (Jvm.Cond.instanceMethod ({ cls := "OverHillModel", name := "danced", desc := "(II)I" } : Jvm.MethodName)) ∈ lw_all := lw_g (lw_at lw_m8 99 rfl) rfl
theorem q1918 : (Jvm.Cond.selects "OverHillModel" ({ cls := "OverHillModel", name := "danced", desc := "(II)I" } : Jvm.MethodName) ({ cls := "OverHillModel", name := "danced", desc := "(II)I" } : Jvm.MethodName)) ∈ lw_all := lw_g (lw_at lw_m8 100 rfl) rfl
theorem q1919 : (Jvm.Cond.code ({ cls := "OverHillModel", name := "danced", desc := "(II)I" } : Jvm.MethodName) prog_13_method_58_code (3 : Nat) (Option.some Jvm.ClassFile.FieldType.int)) ∈ lw_all := lw_g (lw_at lw_m8 101 rfl) rfl
theorem q1921 : (Jvm.Cond.instanceMethod ({ cls := "OverHillModel", name := "hears", desc := "(II)I" } : Jvm.MethodName)) ∈ lw_all := lw_g (lw_at lw_m8 103 rfl) rfl
theorem q1922 : (Jvm.Cond.selects "OverHillModel" ({ cls := "OverHillModel", name := "hears", desc := "(II)I" } : Jvm.MethodName) ({ cls := "OverHillModel", name := "hears", desc := "(II)I" } : Jvm.MethodName)) ∈ lw_all := lw_g (lw_at lw_m8 104 rfl) rfl
theorem q1923 : (Jvm.Cond.code ({ cls := "OverHillModel", name := "hears", desc := "(II)I" } : Jvm.MethodName) prog_13_method_59_code (3 : Nat) (Option.some Jvm.ClassFile.FieldType.int)) ∈ lw_all := lw_g (lw_at lw_m8 105 rfl) rfl
theorem q1924 : (Jvm.Cond.methodLink "OverHillModel" (284 : Nat) ({ cls := "OverHillModel", name := "hearsAt", desc := "(II)I" } : Jvm.MethodName)) ∈ lw_all := lw_g (lw_at lw_m8 106 rfl) rfl
theorem q1925 : (Jvm.Cond.privateMethod ({ cls := "OverHillModel", name := "hearsAt", desc := "(II)I" } : Jvm.MethodName)) ∈ lw_tbl := lw_at lw_m8 107 rfl
theorem q1926 : (Jvm.Cond.instanceMethod ({ cls := "OverHillModel", name := "hearsAt", desc := "(II)I" } : Jvm.MethodName)) ∈ lw_all := lw_g (lw_at lw_m8 108 rfl) rfl
theorem q1927 : (Jvm.Cond.code ({ cls := "OverHillModel", name := "hearsAt", desc := "(II)I" } : Jvm.MethodName) prog_13_method_54_code (3 : Nat) (Option.some Jvm.ClassFile.FieldType.int)) ∈ lw_all := lw_g (lw_at lw_m8 109 rfl) rfl
theorem q1929 : (Jvm.Cond.instanceMethod ({ cls := "OverHillModel", name := "late", desc := "(II)I" } : Jvm.MethodName)) ∈ lw_all := lw_g (lw_at lw_m8 111 rfl) rfl
theorem q1930 : (Jvm.Cond.selects "OverHillModel" ({ cls := "OverHillModel", name := "late", desc := "(II)I" } : Jvm.MethodName) ({ cls := "OverHillModel", name := "late", desc := "(II)I" } : Jvm.MethodName)) ∈ lw_all := lw_g (lw_at lw_m8 112 rfl) rfl
theorem q1931 : (Jvm.Cond.code ({ cls := "OverHillModel", name := "late", desc := "(II)I" } : Jvm.MethodName) prog_13_method_60_code (4 : Nat) (Option.some Jvm.ClassFile.FieldType.int)) ∈ lw_all := lw_g (lw_at lw_m8 113 rfl) rfl
theorem q1933 : (Jvm.Cond.instanceMethod ({ cls := "OverHillModel", name := "hole", desc := "(II)I" } : Jvm.MethodName)) ∈ lw_all := lw_g (lw_at lw_m8 115 rfl) rfl
theorem q1934 : (Jvm.Cond.selects "OverHillModel" ({ cls := "OverHillModel", name := "hole", desc := "(II)I" } : Jvm.MethodName) ({ cls := "OverHillModel", name := "hole", desc := "(II)I" } : Jvm.MethodName)) ∈ lw_all := lw_g (lw_at lw_m8 116 rfl) rfl
theorem q1935 : (Jvm.Cond.code ({ cls := "OverHillModel", name := "hole", desc := "(II)I" } : Jvm.MethodName) prog_13_method_61_code (3 : Nat) (Option.some Jvm.ClassFile.FieldType.int)) ∈ lw_all := lw_g (lw_at lw_m8 117 rfl) rfl
theorem q1936 : (Jvm.Cond.methodLink "OverHillModel" (293 : Nat) ({ cls := "OverHillModel", name := "isHole", desc := "(II)Z" } : Jvm.MethodName)) ∈ lw_all := lw_g (lw_at lw_m8 118 rfl) rfl
theorem q1937 : (Jvm.Cond.privateMethod ({ cls := "OverHillModel", name := "isHole", desc := "(II)Z" } : Jvm.MethodName)) ∈ lw_tbl := lw_at lw_m8 119 rfl
theorem q1938 : (Jvm.Cond.instanceMethod ({ cls := "OverHillModel", name := "isHole", desc := "(II)Z" } : Jvm.MethodName)) ∈ lw_all := lw_g (lw_at lw_m8 120 rfl) rfl
theorem q1939 : (Jvm.Cond.code ({ cls := "OverHillModel", name := "isHole", desc := "(II)Z" } : Jvm.MethodName) prog_13_method_56_code (3 : Nat) (Option.some Jvm.ClassFile.FieldType.boolean)) ∈ lw_all := lw_g (lw_at lw_m8 121 rfl) rfl
theorem q1940 : (Jvm.Cond.methodLink "OverHillModel" (287 : Nat) ({ cls := "OverHillModel", name := "clashes", desc := "(II)Z" } : Jvm.MethodName)) ∈ lw_all := lw_g (lw_at lw_m8 122 rfl) rfl
theorem q1941 : (Jvm.Cond.privateMethod ({ cls := "OverHillModel", name := "clashes", desc := "(II)Z" } : Jvm.MethodName)) ∈ lw_tbl := lw_at lw_m8 123 rfl
theorem q1942 : (Jvm.Cond.instanceMethod ({ cls := "OverHillModel", name := "clashes", desc := "(II)Z" } : Jvm.MethodName)) ∈ lw_all := lw_g (lw_at lw_m8 124 rfl) rfl
theorem q1943 : (Jvm.Cond.code ({ cls := "OverHillModel", name := "clashes", desc := "(II)Z" } : Jvm.MethodName) prog_13_method_55_code (3 : Nat) (Option.some Jvm.ClassFile.FieldType.boolean)) ∈ lw_all := lw_g (lw_at lw_m8 125 rfl) rfl
theorem q1944 : (Jvm.Cond.methodLink "OverHillModel" (280 : Nat) ({ cls := "OverHillModel", name := "isBit", desc := "(II)Z" } : Jvm.MethodName)) ∈ lw_all := lw_g (lw_at lw_m8 126 rfl) rfl
theorem q1945 : (Jvm.Cond.static ({ cls := "OverHillModel", name := "isBit", desc := "(II)Z" } : Jvm.MethodName)) ∈ lw_all := lw_g (lw_at lw_m8 127 rfl) rfl
theorem q1946 : (Jvm.Cond.code ({ cls := "OverHillModel", name := "isBit", desc := "(II)Z" } : Jvm.MethodName) prog_13_method_45_code (2 : Nat) (Option.some Jvm.ClassFile.FieldType.boolean)) ∈ lw_all := lw_g (lw_at lw_m8 128 rfl) rfl
theorem q1948 : (Jvm.Cond.instanceMethod ({ cls := "OverHillModel", name := "next", desc := "(II)I" } : Jvm.MethodName)) ∈ lw_all := lw_g (lw_at lw_m8 130 rfl) rfl
theorem q1949 : (Jvm.Cond.selects "OverHillModel" ({ cls := "OverHillModel", name := "next", desc := "(II)I" } : Jvm.MethodName) ({ cls := "OverHillModel", name := "next", desc := "(II)I" } : Jvm.MethodName)) ∈ lw_all := lw_g (lw_at lw_m8 131 rfl) rfl
theorem q1950 : (Jvm.Cond.code ({ cls := "OverHillModel", name := "next", desc := "(II)I" } : Jvm.MethodName) prog_13_method_62_code (4 : Nat) (Option.some Jvm.ClassFile.FieldType.int)) ∈ lw_all := lw_g (lw_at lw_m8 132 rfl) rfl
theorem q1952 : (Jvm.Cond.instanceMethod ({ cls := "OverHillModel", name := "holes", desc := "(III)I" } : Jvm.MethodName)) ∈ lw_all := lw_g (lw_at lw_m8 134 rfl) rfl
theorem q1953 : (Jvm.Cond.selects "OverHillModel" ({ cls := "OverHillModel", name := "holes", desc := "(III)I" } : Jvm.MethodName) ({ cls := "OverHillModel", name := "holes", desc := "(III)I" } : Jvm.MethodName)) ∈ lw_all := lw_g (lw_at lw_m8 135 rfl) rfl
theorem q1954 : (Jvm.Cond.code ({ cls := "OverHillModel", name := "holes", desc := "(III)I" } : Jvm.MethodName) prog_13_method_65_code (4 : Nat) (Option.some Jvm.ClassFile.FieldType.int)) ∈ lw_all := lw_g (lw_at lw_m8 136 rfl) rfl
theorem q1955 : (Jvm.Cond.methodLink "OverHillModel" (296 : Nat) ({ cls := "OverHillModel", name := "isSpan", desc := "(II)Z" } : Jvm.MethodName)) ∈ lw_all := lw_g (lw_at lw_m8 137 rfl) rfl
theorem q1956 : (Jvm.Cond.privateMethod ({ cls := "OverHillModel", name := "isSpan", desc := "(II)Z" } : Jvm.MethodName)) ∈ lw_tbl := lw_at lw_m8 138 rfl
theorem q1957 : (Jvm.Cond.instanceMethod ({ cls := "OverHillModel", name := "isSpan", desc := "(II)Z" } : Jvm.MethodName)) ∈ lw_all := lw_g (lw_at lw_m8 139 rfl) rfl
theorem q1958 : (Jvm.Cond.code ({ cls := "OverHillModel", name := "isSpan", desc := "(II)Z" } : Jvm.MethodName) prog_13_method_64_code (3 : Nat) (Option.some Jvm.ClassFile.FieldType.boolean)) ∈ lw_all := lw_g (lw_at lw_m8 140 rfl) rfl
theorem q1959 : (Jvm.Cond.methodLink "OverHillModel" (299 : Nat) ({ cls := "OverHillModel", name := "holesOf", desc := "(III)I" } : Jvm.MethodName)) ∈ lw_all := lw_g (lw_at lw_m8 141 rfl) rfl
theorem q1960 : (Jvm.Cond.privateMethod ({ cls := "OverHillModel", name := "holesOf", desc := "(III)I" } : Jvm.MethodName)) ∈ lw_tbl := lw_at lw_m8 142 rfl
theorem q1961 : (Jvm.Cond.instanceMethod ({ cls := "OverHillModel", name := "holesOf", desc := "(III)I" } : Jvm.MethodName)) ∈ lw_all := lw_g (lw_at lw_m8 143 rfl) rfl
theorem q1962 : (Jvm.Cond.code ({ cls := "OverHillModel", name := "holesOf", desc := "(III)I" } : Jvm.MethodName) prog_13_method_63_code (6 : Nat) (Option.some Jvm.ClassFile.FieldType.int)) ∈ lw_all := lw_g (lw_at lw_m8 144 rfl) rfl
theorem q1964 : (Jvm.Cond.instanceMethod ({ cls := "OverHillModel", name := "run", desc := "(II)I" } : Jvm.MethodName)) ∈ lw_all := lw_g (lw_at lw_m8 146 rfl) rfl
theorem q1965 : (Jvm.Cond.selects "OverHillModel" ({ cls := "OverHillModel", name := "run", desc := "(II)I" } : Jvm.MethodName) ({ cls := "OverHillModel", name := "run", desc := "(II)I" } : Jvm.MethodName)) ∈ lw_all := lw_g (lw_at lw_m8 147 rfl) rfl
theorem q1966 : (Jvm.Cond.code ({ cls := "OverHillModel", name := "run", desc := "(II)I" } : Jvm.MethodName) prog_13_method_67_code (3 : Nat) (Option.some Jvm.ClassFile.FieldType.int)) ∈ lw_all := lw_g (lw_at lw_m8 148 rfl) rfl
theorem q1967 : (Jvm.Cond.methodLink "OverHillModel" (309 : Nat) ({ cls := "OverHillModel", name := "laysRun", desc := "(II)V" } : Jvm.MethodName)) ∈ lw_all := lw_g (lw_at lw_m8 149 rfl) rfl
theorem q1968 : (Jvm.Cond.privateMethod ({ cls := "OverHillModel", name := "laysRun", desc := "(II)V" } : Jvm.MethodName)) ∈ lw_tbl := lw_at lw_m8 150 rfl
theorem q1969 : (Jvm.Cond.instanceMethod ({ cls := "OverHillModel", name := "laysRun", desc := "(II)V" } : Jvm.MethodName)) ∈ lw_all := lw_g (lw_at lw_m8 151 rfl) rfl
theorem q1970 : (Jvm.Cond.code ({ cls := "OverHillModel", name := "laysRun", desc := "(II)V" } : Jvm.MethodName) prog_13_method_66_code (5 : Nat) (Option.none : Option Jvm.ClassFile.FieldType)) ∈ lw_all := lw_g (lw_at lw_m8 152 rfl) rfl
theorem q1972 : (Jvm.Cond.instanceMethod ({ cls := "OverHillModel", name := "begins", desc := "(II)I" } : Jvm.MethodName)) ∈ lw_all := lw_g (lw_at lw_m8 154 rfl) rfl
theorem q1973 : (Jvm.Cond.selects "OverHillModel" ({ cls := "OverHillModel", name := "begins", desc := "(II)I" } : Jvm.MethodName) ({ cls := "OverHillModel", name := "begins", desc := "(II)I" } : Jvm.MethodName)) ∈ lw_all := lw_g (lw_at lw_m8 155 rfl) rfl
theorem q1974 : (Jvm.Cond.code ({ cls := "OverHillModel", name := "begins", desc := "(II)I" } : Jvm.MethodName) prog_13_method_68_code (3 : Nat) (Option.some Jvm.ClassFile.FieldType.int)) ∈ lw_all := lw_g (lw_at lw_m8 156 rfl) rfl
theorem q1976 : (Jvm.Cond.instanceMethod ({ cls := "OverHillModel", name := "undoes", desc := "(I)I" } : Jvm.MethodName)) ∈ lw_all := lw_g (lw_at lw_m8 158 rfl) rfl
theorem q1977 : (Jvm.Cond.selects "OverHillModel" ({ cls := "OverHillModel", name := "undoes", desc := "(I)I" } : Jvm.MethodName) ({ cls := "OverHillModel", name := "undoes", desc := "(I)I" } : Jvm.MethodName)) ∈ lw_all := lw_g (lw_at lw_m8 159 rfl) rfl
theorem q1978 : (Jvm.Cond.code ({ cls := "OverHillModel", name := "undoes", desc := "(I)I" } : Jvm.MethodName) prog_13_method_70_code (3 : Nat) (Option.some Jvm.ClassFile.FieldType.int)) ∈ lw_all := lw_g (lw_at lw_m8 160 rfl) rfl
theorem q1979 : (Jvm.Cond.methodLink "OverHillModel" (312 : Nat) ({ cls := "OverHillModel", name := "allHoles", desc := "()I" } : Jvm.MethodName)) ∈ lw_all := lw_g (lw_at lw_m8 161 rfl) rfl
theorem q1980 : (Jvm.Cond.privateMethod ({ cls := "OverHillModel", name := "allHoles", desc := "()I" } : Jvm.MethodName)) ∈ lw_tbl := lw_at lw_m8 162 rfl
theorem q1981 : (Jvm.Cond.instanceMethod ({ cls := "OverHillModel", name := "allHoles", desc := "()I" } : Jvm.MethodName)) ∈ lw_all := lw_g (lw_at lw_m8 163 rfl) rfl
theorem q1982 : (Jvm.Cond.code ({ cls := "OverHillModel", name := "allHoles", desc := "()I" } : Jvm.MethodName) prog_13_method_69_code (1 : Nat) (Option.some Jvm.ClassFile.FieldType.int)) ∈ lw_all := lw_g (lw_at lw_m8 164 rfl) rfl
theorem q1984 : (Jvm.Cond.instanceMethod ({ cls := "OverHillModel", name := "causes", desc := "(II)I" } : Jvm.MethodName)) ∈ lw_all := lw_g (lw_at lw_m8 166 rfl) rfl
theorem q1985 : (Jvm.Cond.selects "OverHillModel" ({ cls := "OverHillModel", name := "causes", desc := "(II)I" } : Jvm.MethodName) ({ cls := "OverHillModel", name := "causes", desc := "(II)I" } : Jvm.MethodName)) ∈ lw_all := lw_g (lw_at lw_m8 167 rfl) rfl
theorem q1986 : (Jvm.Cond.code ({ cls := "OverHillModel", name := "causes", desc := "(II)I" } : Jvm.MethodName) prog_13_method_71_code (5 : Nat) (Option.some Jvm.ClassFile.FieldType.int)) ∈ lw_all := lw_g (lw_at lw_m8 168 rfl) rfl
theorem q1988 : (Jvm.Cond.instanceMethod ({ cls := "OverHillModel", name := "period", desc := "()I" } : Jvm.MethodName)) ∈ lw_all := lw_g (lw_at lw_m8 170 rfl) rfl
theorem q1989 : (Jvm.Cond.selects "OverHillModel" ({ cls := "OverHillModel", name := "period", desc := "()I" } : Jvm.MethodName) ({ cls := "OverHillModel", name := "period", desc := "()I" } : Jvm.MethodName)) ∈ lw_all := lw_g (lw_at lw_m8 171 rfl) rfl
theorem q1990 : (Jvm.Cond.code ({ cls := "OverHillModel", name := "period", desc := "()I" } : Jvm.MethodName) prog_13_method_75_code (1 : Nat) (Option.some Jvm.ClassFile.FieldType.int)) ∈ lw_all := lw_g (lw_at lw_m8 172 rfl) rfl
theorem q1991 : (Jvm.Cond.methodLink "OverHillModel" (322 : Nat) ({ cls := "OverHillModel", name := "areRounds", desc := "()Z" } : Jvm.MethodName)) ∈ lw_all := lw_g (lw_at lw_m8 173 rfl) rfl
theorem q1992 : (Jvm.Cond.privateMethod ({ cls := "OverHillModel", name := "areRounds", desc := "()Z" } : Jvm.MethodName)) ∈ lw_tbl := lw_at lw_m8 174 rfl
theorem q1993 : (Jvm.Cond.instanceMethod ({ cls := "OverHillModel", name := "areRounds", desc := "()Z" } : Jvm.MethodName)) ∈ lw_all := lw_g (lw_at lw_m8 175 rfl) rfl
theorem q1994 : (Jvm.Cond.code ({ cls := "OverHillModel", name := "areRounds", desc := "()Z" } : Jvm.MethodName) prog_13_method_43_code (1 : Nat) (Option.some Jvm.ClassFile.FieldType.boolean)) ∈ lw_all := lw_g (lw_at lw_m8 176 rfl) rfl
theorem q1995 : (Jvm.Cond.methodLink "OverHillModel" (325 : Nat) ({ cls := "OverHillModel", name := "periodOf", desc := "()I" } : Jvm.MethodName)) ∈ lw_all := lw_g (lw_at lw_m8 177 rfl) rfl
theorem q1996 : (Jvm.Cond.privateMethod ({ cls := "OverHillModel", name := "periodOf", desc := "()I" } : Jvm.MethodName)) ∈ lw_tbl := lw_at lw_m8 178 rfl
theorem q1997 : (Jvm.Cond.instanceMethod ({ cls := "OverHillModel", name := "periodOf", desc := "()I" } : Jvm.MethodName)) ∈ lw_all := lw_g (lw_at lw_m8 179 rfl) rfl
theorem q1998 : (Jvm.Cond.code ({ cls := "OverHillModel", name := "periodOf", desc := "()I" } : Jvm.MethodName) prog_13_method_74_code (1 : Nat) (Option.some Jvm.ClassFile.FieldType.int)) ∈ lw_all := lw_g (lw_at lw_m8 180 rfl) rfl
theorem q1999 : (Jvm.Cond.methodLink "OverHillModel" (315 : Nat) ({ cls := "OverHillModel", name := "common", desc := "(II)I" } : Jvm.MethodName)) ∈ lw_all := lw_g (lw_at lw_m8 181 rfl) rfl
theorem q2000 : (Jvm.Cond.static ({ cls := "OverHillModel", name := "common", desc := "(II)I" } : Jvm.MethodName)) ∈ lw_all := lw_g (lw_at lw_m8 182 rfl) rfl
theorem q2001 : (Jvm.Cond.code ({ cls := "OverHillModel", name := "common", desc := "(II)I" } : Jvm.MethodName) prog_13_method_72_code (2 : Nat) (Option.some Jvm.ClassFile.FieldType.int)) ∈ lw_all := lw_g (lw_at lw_m8 183 rfl) rfl
theorem q2003 : (Jvm.Cond.instanceMethod ({ cls := "OverHillModel", name := "meets", desc := "(III)I" } : Jvm.MethodName)) ∈ lw_all := lw_g (lw_at lw_m8 185 rfl) rfl
theorem q2004 : (Jvm.Cond.selects "OverHillModel" ({ cls := "OverHillModel", name := "meets", desc := "(III)I" } : Jvm.MethodName) ({ cls := "OverHillModel", name := "meets", desc := "(III)I" } : Jvm.MethodName)) ∈ lw_all := lw_g (lw_at lw_m8 186 rfl) rfl
theorem q2005 : (Jvm.Cond.code ({ cls := "OverHillModel", name := "meets", desc := "(III)I" } : Jvm.MethodName) prog_13_method_77_code (5 : Nat) (Option.some Jvm.ClassFile.FieldType.int)) ∈ lw_all := lw_g (lw_at lw_m8 187 rfl) rfl
theorem q2007 : (Jvm.Cond.instanceMethod ({ cls := "OverHillModel", name := "shifted", desc := "(I)I" } : Jvm.MethodName)) ∈ lw_all := lw_g (lw_at lw_m8 189 rfl) rfl
theorem q2008 : (Jvm.Cond.selects "OverHillModel" ({ cls := "OverHillModel", name := "shifted", desc := "(I)I" } : Jvm.MethodName) ({ cls := "OverHillModel", name := "shifted", desc := "(I)I" } : Jvm.MethodName)) ∈ lw_all := lw_g (lw_at lw_m8 190 rfl) rfl
theorem q2009 : (Jvm.Cond.code ({ cls := "OverHillModel", name := "shifted", desc := "(I)I" } : Jvm.MethodName) prog_13_method_79_code (2 : Nat) (Option.some Jvm.ClassFile.FieldType.int)) ∈ lw_all := lw_g (lw_at lw_m8 191 rfl) rfl
theorem q2010 : (Jvm.Cond.methodLink "OverHillModel" (331 : Nat) ({ cls := "OverHillModel", name := "shiftedOf", desc := "(I)I" } : Jvm.MethodName)) ∈ lw_all := lw_g (lw_at lw_m8 192 rfl) rfl
theorem q2011 : (Jvm.Cond.privateMethod ({ cls := "OverHillModel", name := "shiftedOf", desc := "(I)I" } : Jvm.MethodName)) ∈ lw_tbl := lw_at lw_m8 193 rfl
theorem q2012 : (Jvm.Cond.instanceMethod ({ cls := "OverHillModel", name := "shiftedOf", desc := "(I)I" } : Jvm.MethodName)) ∈ lw_all := lw_g (lw_at lw_m8 194 rfl) rfl
theorem q2013 : (Jvm.Cond.code ({ cls := "OverHillModel", name := "shiftedOf", desc := "(I)I" } : Jvm.MethodName) prog_13_method_78_code (5 : Nat) (Option.some Jvm.ClassFile.FieldType.int)) ∈ lw_all := lw_g (lw_at lw_m8 195 rfl) rfl
theorem q2014 : (Jvm.Cond.methodLink "OverHillModel" (328 : Nat) ({ cls := "OverHillModel", name := "plain", desc := "(III)I" } : Jvm.MethodName)) ∈ lw_all := lw_g (lw_at lw_m8 196 rfl) rfl
theorem q2015 : (Jvm.Cond.privateMethod ({ cls := "OverHillModel", name := "plain", desc := "(III)I" } : Jvm.MethodName)) ∈ lw_tbl := lw_at lw_m8 197 rfl
theorem q2016 : (Jvm.Cond.instanceMethod ({ cls := "OverHillModel", name := "plain", desc := "(III)I" } : Jvm.MethodName)) ∈ lw_all := lw_g (lw_at lw_m8 198 rfl) rfl
theorem q2017 : (Jvm.Cond.code ({ cls := "OverHillModel", name := "plain", desc := "(III)I" } : Jvm.MethodName) prog_13_method_76_code (4 : Nat) (Option.some Jvm.ClassFile.FieldType.int)) ∈ lw_all := lw_g (lw_at lw_m8 199 rfl) rfl
theorem q2019 : (Jvm.Cond.instanceMethod ({ cls := "OverHillModel", name := "shift", desc := "()I" } : Jvm.MethodName)) ∈ lw_all := lw_g (lw_at lw_m8 201 rfl) rfl
theorem q2020 : (Jvm.Cond.selects "OverHillModel" ({ cls := "OverHillModel", name := "shift", desc := "()I" } : Jvm.MethodName) ({ cls := "OverHillModel", name := "shift", desc := "()I" } : Jvm.MethodName)) ∈ lw_all := lw_g (lw_at lw_m8 202 rfl) rfl
theorem q2021 : (Jvm.Cond.code ({ cls := "OverHillModel", name := "shift", desc := "()I" } : Jvm.MethodName) prog_13_method_80_code (2 : Nat) (Option.some Jvm.ClassFile.FieldType.int)) ∈ lw_all := lw_g (lw_at lw_m8 203 rfl) rfl
theorem q2023 : (Jvm.Cond.instanceMethod ({ cls := "OverHillModel", name := "least", desc := "()I" } : Jvm.MethodName)) ∈ lw_all := lw_g (lw_at lw_m8 205 rfl) rfl
theorem q2024 : (Jvm.Cond.selects "OverHillModel" ({ cls := "OverHillModel", name := "least", desc := "()I" } : Jvm.MethodName) ({ cls := "OverHillModel", name := "least", desc := "()I" } : Jvm.MethodName)) ∈ lw_all := lw_g (lw_at lw_m8 206 rfl) rfl
theorem q2025 : (Jvm.Cond.code ({ cls := "OverHillModel", name := "least", desc := "()I" } : Jvm.MethodName) prog_13_method_81_code (3 : Nat) (Option.some Jvm.ClassFile.FieldType.int)) ∈ lw_all := lw_g (lw_at lw_m8 207 rfl) rfl
theorem q2027 : (Jvm.Cond.instanceMethod ({ cls := "OverHillModel", name := "mend", desc := "(I)I" } : Jvm.MethodName)) ∈ lw_all := lw_g (lw_at lw_m8 209 rfl) rfl
theorem q2028 : (Jvm.Cond.selects "OverHillModel" ({ cls := "OverHillModel", name := "mend", desc := "(I)I" } : Jvm.MethodName) ({ cls := "OverHillModel", name := "mend", desc := "(I)I" } : Jvm.MethodName)) ∈ lw_all := lw_g (lw_at lw_m8 210 rfl) rfl
theorem q2029 : (Jvm.Cond.code ({ cls := "OverHillModel", name := "mend", desc := "(I)I" } : Jvm.MethodName) prog_13_method_85_code (4 : Nat) (Option.some Jvm.ClassFile.FieldType.int)) ∈ lw_all := lw_g (lw_at lw_m8 211 rfl) rfl
theorem q2030 : (Jvm.Cond.methodLink "OverHillModel" (340 : Nat) ({ cls := "OverHillModel", name := "stuckOf", desc := "(I)I" } : Jvm.MethodName)) ∈ lw_all := lw_g (lw_at lw_m8 212 rfl) rfl
theorem q2031 : (Jvm.Cond.privateMethod ({ cls := "OverHillModel", name := "stuckOf", desc := "(I)I" } : Jvm.MethodName)) ∈ lw_tbl := lw_at lw_m8 213 rfl
theorem q2032 : (Jvm.Cond.instanceMethod ({ cls := "OverHillModel", name := "stuckOf", desc := "(I)I" } : Jvm.MethodName)) ∈ lw_all := lw_g (lw_at lw_m8 214 rfl) rfl
theorem q2033 : (Jvm.Cond.code ({ cls := "OverHillModel", name := "stuckOf", desc := "(I)I" } : Jvm.MethodName) prog_13_method_84_code (3 : Nat) (Option.some Jvm.ClassFile.FieldType.int)) ∈ lw_all := lw_g (lw_at lw_m8 215 rfl) rfl
theorem q2034 : (Jvm.Cond.methodLink "OverHillModel" (337 : Nat) ({ cls := "OverHillModel", name := "mendedOf", desc := "(II)I" } : Jvm.MethodName)) ∈ lw_all := lw_g (lw_at lw_m8 216 rfl) rfl
theorem q2035 : (Jvm.Cond.privateMethod ({ cls := "OverHillModel", name := "mendedOf", desc := "(II)I" } : Jvm.MethodName)) ∈ lw_tbl := lw_at lw_m8 217 rfl
theorem q2036 : (Jvm.Cond.instanceMethod ({ cls := "OverHillModel", name := "mendedOf", desc := "(II)I" } : Jvm.MethodName)) ∈ lw_all := lw_g (lw_at lw_m8 218 rfl) rfl
theorem q2037 : (Jvm.Cond.code ({ cls := "OverHillModel", name := "mendedOf", desc := "(II)I" } : Jvm.MethodName) prog_13_method_83_code (6 : Nat) (Option.some Jvm.ClassFile.FieldType.int)) ∈ lw_all := lw_g (lw_at lw_m8 219 rfl) rfl
theorem q2038 : (Jvm.Cond.methodLink "OverHillModel" (334 : Nat) ({ cls := "OverHillModel", name := "mayBe", desc := "(II)I" } : Jvm.MethodName)) ∈ lw_all := lw_g (lw_at lw_m8 220 rfl) rfl
theorem q2039 : (Jvm.Cond.privateMethod ({ cls := "OverHillModel", name := "mayBe", desc := "(II)I" } : Jvm.MethodName)) ∈ lw_tbl := lw_at lw_m8 221 rfl
theorem q2040 : (Jvm.Cond.instanceMethod ({ cls := "OverHillModel", name := "mayBe", desc := "(II)I" } : Jvm.MethodName)) ∈ lw_all := lw_g (lw_at lw_m8 222 rfl) rfl
theorem q2041 : (Jvm.Cond.code ({ cls := "OverHillModel", name := "mayBe", desc := "(II)I" } : Jvm.MethodName) prog_13_method_82_code (9 : Nat) (Option.some Jvm.ClassFile.FieldType.int)) ∈ lw_all := lw_g (lw_at lw_m8 223 rfl) rfl
theorem q2043 : (Jvm.Cond.instanceMethod ({ cls := "OverHillModel", name := "mended", desc := "(II)I" } : Jvm.MethodName)) ∈ lw_all := lw_g (lw_at lw_m8 225 rfl) rfl
theorem q2044 : (Jvm.Cond.selects "OverHillModel" ({ cls := "OverHillModel", name := "mended", desc := "(II)I" } : Jvm.MethodName) ({ cls := "OverHillModel", name := "mended", desc := "(II)I" } : Jvm.MethodName)) ∈ lw_all := lw_g (lw_at lw_m8 226 rfl) rfl
theorem q2045 : (Jvm.Cond.code ({ cls := "OverHillModel", name := "mended", desc := "(II)I" } : Jvm.MethodName) prog_13_method_86_code (3 : Nat) (Option.some Jvm.ClassFile.FieldType.int)) ∈ lw_all := lw_g (lw_at lw_m8 227 rfl) rfl
theorem q2047 : (Jvm.Cond.instanceMethod ({ cls := "OverHillModel", name := "stuck", desc := "(I)I" } : Jvm.MethodName)) ∈ lw_all := lw_g (lw_at lw_m8 229 rfl) rfl
theorem q2048 : (Jvm.Cond.selects "OverHillModel" ({ cls := "OverHillModel", name := "stuck", desc := "(I)I" } : Jvm.MethodName) ({ cls := "OverHillModel", name := "stuck", desc := "(I)I" } : Jvm.MethodName)) ∈ lw_all := lw_g (lw_at lw_m8 230 rfl) rfl
theorem q2049 : (Jvm.Cond.code ({ cls := "OverHillModel", name := "stuck", desc := "(I)I" } : Jvm.MethodName) prog_13_method_87_code (2 : Nat) (Option.some Jvm.ClassFile.FieldType.int)) ∈ lw_all := lw_g (lw_at lw_m8 231 rfl) rfl
theorem q2051 : (Jvm.Cond.instanceMethod ({ cls := "OverHillModel", name := "heard", desc := "(II)I" } : Jvm.MethodName)) ∈ lw_all := lw_g (lw_at lw_m8 233 rfl) rfl
theorem q2052 : (Jvm.Cond.selects "OverHillModel" ({ cls := "OverHillModel", name := "heard", desc := "(II)I" } : Jvm.MethodName) ({ cls := "OverHillModel", name := "heard", desc := "(II)I" } : Jvm.MethodName)) ∈ lw_all := lw_g (lw_at lw_m8 234 rfl) rfl
theorem q2053 : (Jvm.Cond.code ({ cls := "OverHillModel", name := "heard", desc := "(II)I" } : Jvm.MethodName) prog_13_method_91_code (4 : Nat) (Option.some Jvm.ClassFile.FieldType.int)) ∈ lw_all := lw_g (lw_at lw_m8 235 rfl) rfl
theorem q2054 : (Jvm.Cond.methodLink "OverHillModel" (355 : Nat) ({ cls := "OverHillModel", name := "whyNot", desc := "(II)I" } : Jvm.MethodName)) ∈ lw_all := lw_g (lw_at lw_m8 236 rfl) rfl
theorem q2055 : (Jvm.Cond.privateMethod ({ cls := "OverHillModel", name := "whyNot", desc := "(II)I" } : Jvm.MethodName)) ∈ lw_tbl := lw_at lw_m8 237 rfl
theorem q2056 : (Jvm.Cond.instanceMethod ({ cls := "OverHillModel", name := "whyNot", desc := "(II)I" } : Jvm.MethodName)) ∈ lw_all := lw_g (lw_at lw_m8 238 rfl) rfl
theorem q2057 : (Jvm.Cond.code ({ cls := "OverHillModel", name := "whyNot", desc := "(II)I" } : Jvm.MethodName) prog_13_method_88_code (4 : Nat) (Option.some Jvm.ClassFile.FieldType.int)) ∈ lw_all := lw_g (lw_at lw_m8 239 rfl) rfl
theorem q2058 : (Jvm.Cond.methodLink "OverHillModel" (358 : Nat) ({ cls := "OverHillModel", name := "laysFits", desc := "(II)V" } : Jvm.MethodName)) ∈ lw_all := lw_g (lw_at lw_m9 0 rfl) rfl
theorem q2059 : (Jvm.Cond.privateMethod ({ cls := "OverHillModel", name := "laysFits", desc := "(II)V" } : Jvm.MethodName)) ∈ lw_tbl := lw_at lw_m9 1 rfl
theorem q2060 : (Jvm.Cond.instanceMethod ({ cls := "OverHillModel", name := "laysFits", desc := "(II)V" } : Jvm.MethodName)) ∈ lw_all := lw_g (lw_at lw_m9 2 rfl) rfl
theorem q2061 : (Jvm.Cond.code ({ cls := "OverHillModel", name := "laysFits", desc := "(II)V" } : Jvm.MethodName) prog_13_method_90_code (6 : Nat) (Option.none : Option Jvm.ClassFile.FieldType)) ∈ lw_all := lw_g (lw_at lw_m9 3 rfl) rfl
theorem q2062 : (Jvm.Cond.methodLink "OverHillModel" (352 : Nat) ({ cls := "OverHillModel", name := "isHeard", desc := "(II)Z" } : Jvm.MethodName)) ∈ lw_all := lw_g (lw_at lw_m9 4 rfl) rfl
theorem q2063 : (Jvm.Cond.privateMethod ({ cls := "OverHillModel", name := "isHeard", desc := "(II)Z" } : Jvm.MethodName)) ∈ lw_tbl := lw_at lw_m9 5 rfl
theorem q2064 : (Jvm.Cond.instanceMethod ({ cls := "OverHillModel", name := "isHeard", desc := "(II)Z" } : Jvm.MethodName)) ∈ lw_all := lw_g (lw_at lw_m9 6 rfl) rfl
theorem q2065 : (Jvm.Cond.code ({ cls := "OverHillModel", name := "isHeard", desc := "(II)Z" } : Jvm.MethodName) prog_13_method_89_code (4 : Nat) (Option.some Jvm.ClassFile.FieldType.boolean)) ∈ lw_all := lw_g (lw_at lw_m9 7 rfl) rfl
theorem q2067 : (Jvm.Cond.instanceMethod ({ cls := "OverHillModel", name := "first", desc := "(II)I" } : Jvm.MethodName)) ∈ lw_all := lw_g (lw_at lw_m9 9 rfl) rfl
theorem q2068 : (Jvm.Cond.selects "OverHillModel" ({ cls := "OverHillModel", name := "first", desc := "(II)I" } : Jvm.MethodName) ({ cls := "OverHillModel", name := "first", desc := "(II)I" } : Jvm.MethodName)) ∈ lw_all := lw_g (lw_at lw_m9 10 rfl) rfl
theorem q2069 : (Jvm.Cond.code ({ cls := "OverHillModel", name := "first", desc := "(II)I" } : Jvm.MethodName) prog_13_method_92_code (4 : Nat) (Option.some Jvm.ClassFile.FieldType.int)) ∈ lw_all := lw_g (lw_at lw_m9 11 rfl) rfl
theorem q2071 : (Jvm.Cond.instanceMethod ({ cls := "OverHillModel", name := "when", desc := "(II)J" } : Jvm.MethodName)) ∈ lw_all := lw_g (lw_at lw_m9 13 rfl) rfl
theorem q2072 : (Jvm.Cond.selects "OverHillModel" ({ cls := "OverHillModel", name := "when", desc := "(II)J" } : Jvm.MethodName) ({ cls := "OverHillModel", name := "when", desc := "(II)J" } : Jvm.MethodName)) ∈ lw_all := lw_g (lw_at lw_m9 14 rfl) rfl
theorem q2073 : (Jvm.Cond.code ({ cls := "OverHillModel", name := "when", desc := "(II)J" } : Jvm.MethodName) prog_13_method_93_code (4 : Nat) (Option.some Jvm.ClassFile.FieldType.long)) ∈ lw_all := lw_g (lw_at lw_m9 15 rfl) rfl
theorem q2075 : (Jvm.Cond.instanceMethod ({ cls := "OverHillModel", name := "listen", desc := "(II)I" } : Jvm.MethodName)) ∈ lw_all := lw_g (lw_at lw_m9 17 rfl) rfl
theorem q2076 : (Jvm.Cond.selects "OverHillModel" ({ cls := "OverHillModel", name := "listen", desc := "(II)I" } : Jvm.MethodName) ({ cls := "OverHillModel", name := "listen", desc := "(II)I" } : Jvm.MethodName)) ∈ lw_all := lw_g (lw_at lw_m9 18 rfl) rfl
theorem q2077 : (Jvm.Cond.code ({ cls := "OverHillModel", name := "listen", desc := "(II)I" } : Jvm.MethodName) prog_13_method_95_code (4 : Nat) (Option.some Jvm.ClassFile.FieldType.int)) ∈ lw_all := lw_g (lw_at lw_m9 19 rfl) rfl
theorem q2078 : (Jvm.Cond.methodLink "OverHillModel" (364 : Nat) ({ cls := "OverHillModel", name := "listens", desc := "(II)I" } : Jvm.MethodName)) ∈ lw_all := lw_g (lw_at lw_m9 20 rfl) rfl
theorem q2079 : (Jvm.Cond.privateMethod ({ cls := "OverHillModel", name := "listens", desc := "(II)I" } : Jvm.MethodName)) ∈ lw_tbl := lw_at lw_m9 21 rfl
theorem q2080 : (Jvm.Cond.instanceMethod ({ cls := "OverHillModel", name := "listens", desc := "(II)I" } : Jvm.MethodName)) ∈ lw_all := lw_g (lw_at lw_m9 22 rfl) rfl
theorem q2081 : (Jvm.Cond.code ({ cls := "OverHillModel", name := "listens", desc := "(II)I" } : Jvm.MethodName) prog_13_method_94_code (7 : Nat) (Option.some Jvm.ClassFile.FieldType.int)) ∈ lw_all := lw_g (lw_at lw_m9 23 rfl) rfl
theorem q2083 : (Jvm.Cond.instanceMethod ({ cls := "OverHillModel", name := "leaves", desc := "(II)I" } : Jvm.MethodName)) ∈ lw_all := lw_g (lw_at lw_m9 25 rfl) rfl
theorem q2084 : (Jvm.Cond.selects "OverHillModel" ({ cls := "OverHillModel", name := "leaves", desc := "(II)I" } : Jvm.MethodName) ({ cls := "OverHillModel", name := "leaves", desc := "(II)I" } : Jvm.MethodName)) ∈ lw_all := lw_g (lw_at lw_m9 26 rfl) rfl
theorem q2085 : (Jvm.Cond.code ({ cls := "OverHillModel", name := "leaves", desc := "(II)I" } : Jvm.MethodName) prog_13_method_96_code (4 : Nat) (Option.some Jvm.ClassFile.FieldType.int)) ∈ lw_all := lw_g (lw_at lw_m9 27 rfl) rfl
theorem q2087 : (Jvm.Cond.instanceMethod ({ cls := "OverHillModel", name := "crosses", desc := "(I)I" } : Jvm.MethodName)) ∈ lw_all := lw_g (lw_at lw_m9 29 rfl) rfl
theorem q2088 : (Jvm.Cond.selects "OverHillModel" ({ cls := "OverHillModel", name := "crosses", desc := "(I)I" } : Jvm.MethodName) ({ cls := "OverHillModel", name := "crosses", desc := "(I)I" } : Jvm.MethodName)) ∈ lw_all := lw_g (lw_at lw_m9 30 rfl) rfl
theorem q2089 : (Jvm.Cond.code ({ cls := "OverHillModel", name := "crosses", desc := "(I)I" } : Jvm.MethodName) prog_13_method_99_code (2 : Nat) (Option.some Jvm.ClassFile.FieldType.int)) ∈ lw_all := lw_g (lw_at lw_m9 31 rfl) rfl
theorem q2090 : (Jvm.Cond.methodLink "OverHillModel" (367 : Nat) ({ cls := "OverHillModel", name := "walks", desc := "(II)I" } : Jvm.MethodName)) ∈ lw_all := lw_g (lw_at lw_m9 32 rfl) rfl
theorem q2091 : (Jvm.Cond.privateMethod ({ cls := "OverHillModel", name := "walks", desc := "(II)I" } : Jvm.MethodName)) ∈ lw_tbl := lw_at lw_m9 33 rfl
theorem q2092 : (Jvm.Cond.instanceMethod ({ cls := "OverHillModel", name := "walks", desc := "(II)I" } : Jvm.MethodName)) ∈ lw_all := lw_g (lw_at lw_m9 34 rfl) rfl
theorem q2093 : (Jvm.Cond.code ({ cls := "OverHillModel", name := "walks", desc := "(II)I" } : Jvm.MethodName) prog_13_method_97_code (6 : Nat) (Option.some Jvm.ClassFile.FieldType.int)) ∈ lw_all := lw_g (lw_at lw_m9 35 rfl) rfl
theorem q2094 : (Jvm.Cond.methodLink "OverHillModel" (370 : Nat) ({ cls := "OverHillModel", name := "known", desc := "(I)I" } : Jvm.MethodName)) ∈ lw_all := lw_g (lw_at lw_m9 36 rfl) rfl
theorem q2095 : (Jvm.Cond.static ({ cls := "OverHillModel", name := "known", desc := "(I)I" } : Jvm.MethodName)) ∈ lw_all := lw_g (lw_at lw_m9 37 rfl) rfl
theorem q2096 : (Jvm.Cond.code ({ cls := "OverHillModel", name := "known", desc := "(I)I" } : Jvm.MethodName) prog_13_method_98_code (1 : Nat) (Option.some Jvm.ClassFile.FieldType.int)) ∈ lw_all := lw_g (lw_at lw_m9 38 rfl) rfl
theorem q2098 : (Jvm.Cond.instanceMethod ({ cls := "OverHillModel", name := "returns", desc := "(I)I" } : Jvm.MethodName)) ∈ lw_all := lw_g (lw_at lw_m9 40 rfl) rfl
theorem q2099 : (Jvm.Cond.selects "OverHillModel" ({ cls := "OverHillModel", name := "returns", desc := "(I)I" } : Jvm.MethodName) ({ cls := "OverHillModel", name := "returns", desc := "(I)I" } : Jvm.MethodName)) ∈ lw_all := lw_g (lw_at lw_m9 41 rfl) rfl
theorem q2100 : (Jvm.Cond.code ({ cls := "OverHillModel", name := "returns", desc := "(I)I" } : Jvm.MethodName) prog_13_method_100_code (2 : Nat) (Option.some Jvm.ClassFile.FieldType.int)) ∈ lw_all := lw_g (lw_at lw_m9 42 rfl) rfl
theorem q2102 : (Jvm.Cond.instanceMethod ({ cls := "OverHillModel", name := "meet", desc := "(II)I" } : Jvm.MethodName)) ∈ lw_all := lw_g (lw_at lw_m9 44 rfl) rfl
theorem q2103 : (Jvm.Cond.selects "OverHillModel" ({ cls := "OverHillModel", name := "meet", desc := "(II)I" } : Jvm.MethodName) ({ cls := "OverHillModel", name := "meet", desc := "(II)I" } : Jvm.MethodName)) ∈ lw_all := lw_g (lw_at lw_m9 45 rfl) rfl
theorem q2104 : (Jvm.Cond.code ({ cls := "OverHillModel", name := "meet", desc := "(II)I" } : Jvm.MethodName) prog_13_method_102_code (3 : Nat) (Option.some Jvm.ClassFile.FieldType.int)) ∈ lw_all := lw_g (lw_at lw_m9 46 rfl) rfl
theorem q2105 : (Jvm.Cond.methodLink "OverHillModel" (379 : Nat) ({ cls := "OverHillModel", name := "laysMeet", desc := "(II)V" } : Jvm.MethodName)) ∈ lw_all := lw_g (lw_at lw_m9 47 rfl) rfl
theorem q2106 : (Jvm.Cond.privateMethod ({ cls := "OverHillModel", name := "laysMeet", desc := "(II)V" } : Jvm.MethodName)) ∈ lw_tbl := lw_at lw_m9 48 rfl
theorem q2107 : (Jvm.Cond.instanceMethod ({ cls := "OverHillModel", name := "laysMeet", desc := "(II)V" } : Jvm.MethodName)) ∈ lw_all := lw_g (lw_at lw_m9 49 rfl) rfl
theorem q2108 : (Jvm.Cond.code ({ cls := "OverHillModel", name := "laysMeet", desc := "(II)V" } : Jvm.MethodName) prog_13_method_101_code (5 : Nat) (Option.none : Option Jvm.ClassFile.FieldType)) ∈ lw_all := lw_g (lw_at lw_m9 50 rfl) rfl
theorem q2110 : (Jvm.Cond.instanceMethod ({ cls := "OverHillModel", name := "cell", desc := "(II)I" } : Jvm.MethodName)) ∈ lw_all := lw_g (lw_at lw_m9 52 rfl) rfl
theorem q2111 : (Jvm.Cond.selects "OverHillModel" ({ cls := "OverHillModel", name := "cell", desc := "(II)I" } : Jvm.MethodName) ({ cls := "OverHillModel", name := "cell", desc := "(II)I" } : Jvm.MethodName)) ∈ lw_all := lw_g (lw_at lw_m9 53 rfl) rfl
theorem q2112 : (Jvm.Cond.code ({ cls := "OverHillModel", name := "cell", desc := "(II)I" } : Jvm.MethodName) prog_13_method_103_code (3 : Nat) (Option.some Jvm.ClassFile.FieldType.int)) ∈ lw_all := lw_g (lw_at lw_m9 54 rfl) rfl
theorem q2114 : (Jvm.Cond.instanceMethod ({ cls := "OverHillModel", name := "longest", desc := "()I" } : Jvm.MethodName)) ∈ lw_all := lw_g (lw_at lw_m9 56 rfl) rfl
theorem q2115 : (Jvm.Cond.selects "OverHillModel" ({ cls := "OverHillModel", name := "longest", desc := "()I" } : Jvm.MethodName) ({ cls := "OverHillModel", name := "longest", desc := "()I" } : Jvm.MethodName)) ∈ lw_all := lw_g (lw_at lw_m9 57 rfl) rfl
theorem q2116 : (Jvm.Cond.code ({ cls := "OverHillModel", name := "longest", desc := "()I" } : Jvm.MethodName) prog_13_method_104_code (4 : Nat) (Option.some Jvm.ClassFile.FieldType.int)) ∈ lw_all := lw_g (lw_at lw_m9 58 rfl) rfl
theorem q2118 : (Jvm.Cond.instanceMethod ({ cls := "OverHillModel", name := "half", desc := "(I)I" } : Jvm.MethodName)) ∈ lw_all := lw_g (lw_at lw_m9 60 rfl) rfl
theorem q2119 : (Jvm.Cond.selects "OverHillModel" ({ cls := "OverHillModel", name := "half", desc := "(I)I" } : Jvm.MethodName) ({ cls := "OverHillModel", name := "half", desc := "(I)I" } : Jvm.MethodName)) ∈ lw_all := lw_g (lw_at lw_m9 61 rfl) rfl
theorem q2120 : (Jvm.Cond.code ({ cls := "OverHillModel", name := "half", desc := "(I)I" } : Jvm.MethodName) prog_13_method_108_code (3 : Nat) (Option.some Jvm.ClassFile.FieldType.int)) ∈ lw_all := lw_g (lw_at lw_m9 62 rfl) rfl
theorem q2121 : (Jvm.Cond.methodLink "OverHillModel" (385 : Nat) ({ cls := "OverHillModel", name := "whyNotHalf", desc := "(I)I" } : Jvm.MethodName)) ∈ lw_all := lw_g (lw_at lw_m9 63 rfl) rfl
theorem q2122 : (Jvm.Cond.privateMethod ({ cls := "OverHillModel", name := "whyNotHalf", desc := "(I)I" } : Jvm.MethodName)) ∈ lw_tbl := lw_at lw_m9 64 rfl
theorem q2123 : (Jvm.Cond.instanceMethod ({ cls := "OverHillModel", name := "whyNotHalf", desc := "(I)I" } : Jvm.MethodName)) ∈ lw_all := lw_g (lw_at lw_m9 65 rfl) rfl
theorem q2124 : (Jvm.Cond.code ({ cls := "OverHillModel", name := "whyNotHalf", desc := "(I)I" } : Jvm.MethodName) prog_13_method_105_code (3 : Nat) (Option.some Jvm.ClassFile.FieldType.int)) ∈ lw_all := lw_g (lw_at lw_m9 66 rfl) rfl
theorem q2125 : (Jvm.Cond.methodLink "OverHillModel" (388 : Nat) ({ cls := "OverHillModel", name := "halfOf", desc := "(I)I" } : Jvm.MethodName)) ∈ lw_all := lw_g (lw_at lw_m9 67 rfl) rfl
theorem q2126 : (Jvm.Cond.privateMethod ({ cls := "OverHillModel", name := "halfOf", desc := "(I)I" } : Jvm.MethodName)) ∈ lw_tbl := lw_at lw_m9 68 rfl
theorem q2127 : (Jvm.Cond.instanceMethod ({ cls := "OverHillModel", name := "halfOf", desc := "(I)I" } : Jvm.MethodName)) ∈ lw_all := lw_g (lw_at lw_m9 69 rfl) rfl
theorem q2128 : (Jvm.Cond.code ({ cls := "OverHillModel", name := "halfOf", desc := "(I)I" } : Jvm.MethodName) prog_13_method_107_code (3 : Nat) (Option.some Jvm.ClassFile.FieldType.int)) ∈ lw_all := lw_g (lw_at lw_m9 70 rfl) rfl
theorem q2129 : (Jvm.Cond.methodLink "OverHillModel" (382 : Nat) ({ cls := "OverHillModel", name := "isHalf", desc := "(II)Z" } : Jvm.MethodName)) ∈ lw_all := lw_g (lw_at lw_m9 71 rfl) rfl
theorem q2130 : (Jvm.Cond.privateMethod ({ cls := "OverHillModel", name := "isHalf", desc := "(II)Z" } : Jvm.MethodName)) ∈ lw_tbl := lw_at lw_m9 72 rfl
theorem q2131 : (Jvm.Cond.instanceMethod ({ cls := "OverHillModel", name := "isHalf", desc := "(II)Z" } : Jvm.MethodName)) ∈ lw_all := lw_g (lw_at lw_m9 73 rfl) rfl
theorem q2132 : (Jvm.Cond.code ({ cls := "OverHillModel", name := "isHalf", desc := "(II)Z" } : Jvm.MethodName) prog_13_method_106_code (5 : Nat) (Option.some Jvm.ClassFile.FieldType.boolean)) ∈ lw_all := lw_g (lw_at lw_m9 74 rfl) rfl
theorem q2134 : (Jvm.Cond.instanceMethod ({ cls := "OverHillModel", name := "fills", desc := "(II)I" } : Jvm.MethodName)) ∈ lw_all := lw_g (lw_at lw_m9 76 rfl) rfl
theorem q2135 : (Jvm.Cond.selects "OverHillModel" ({ cls := "OverHillModel", name := "fills", desc := "(II)I" } : Jvm.MethodName) ({ cls := "OverHillModel", name := "fills", desc := "(II)I" } : Jvm.MethodName)) ∈ lw_all := lw_g (lw_at lw_m9 77 rfl) rfl
theorem q2136 : (Jvm.Cond.code ({ cls := "OverHillModel", name := "fills", desc := "(II)I" } : Jvm.MethodName) prog_13_method_109_code (4 : Nat) (Option.some Jvm.ClassFile.FieldType.int)) ∈ lw_all := lw_g (lw_at lw_m9 78 rfl) rfl
theorem q2138 : (Jvm.Cond.instanceMethod ({ cls := "OverHillModel", name := "open", desc := "(I)I" } : Jvm.MethodName)) ∈ lw_all := lw_g (lw_at lw_m9 80 rfl) rfl
theorem q2139 : (Jvm.Cond.selects "OverHillModel" ({ cls := "OverHillModel", name := "open", desc := "(I)I" } : Jvm.MethodName) ({ cls := "OverHillModel", name := "open", desc := "(I)I" } : Jvm.MethodName)) ∈ lw_all := lw_g (lw_at lw_m9 81 rfl) rfl
theorem q2140 : (Jvm.Cond.code ({ cls := "OverHillModel", name := "open", desc := "(I)I" } : Jvm.MethodName) prog_13_method_110_code (6 : Nat) (Option.some Jvm.ClassFile.FieldType.int)) ∈ lw_all := lw_g (lw_at lw_m9 82 rfl) rfl
theorem q2142 : (Jvm.Cond.instanceMethod ({ cls := "OverHillModel", name := "together", desc := "(II)J" } : Jvm.MethodName)) ∈ lw_all := lw_g (lw_at lw_m9 84 rfl) rfl
theorem q2143 : (Jvm.Cond.selects "OverHillModel" ({ cls := "OverHillModel", name := "together", desc := "(II)J" } : Jvm.MethodName) ({ cls := "OverHillModel", name := "together", desc := "(II)J" } : Jvm.MethodName)) ∈ lw_all := lw_g (lw_at lw_m9 85 rfl) rfl
theorem q2144 : (Jvm.Cond.code ({ cls := "OverHillModel", name := "together", desc := "(II)J" } : Jvm.MethodName) prog_13_method_114_code (3 : Nat) (Option.some Jvm.ClassFile.FieldType.long)) ∈ lw_all := lw_g (lw_at lw_m9 86 rfl) rfl
theorem q2145 : (Jvm.Cond.methodLink "OverHillModel" (391 : Nat) ({ cls := "OverHillModel", name := "isSet", desc := "(I)Z" } : Jvm.MethodName)) ∈ lw_all := lw_g (lw_at lw_m9 87 rfl) rfl
theorem q2146 : (Jvm.Cond.privateMethod ({ cls := "OverHillModel", name := "isSet", desc := "(I)Z" } : Jvm.MethodName)) ∈ lw_tbl := lw_at lw_m9 88 rfl
theorem q2147 : (Jvm.Cond.instanceMethod ({ cls := "OverHillModel", name := "isSet", desc := "(I)Z" } : Jvm.MethodName)) ∈ lw_all := lw_g (lw_at lw_m9 89 rfl) rfl
theorem q2148 : (Jvm.Cond.code ({ cls := "OverHillModel", name := "isSet", desc := "(I)Z" } : Jvm.MethodName) prog_13_method_111_code (2 : Nat) (Option.some Jvm.ClassFile.FieldType.boolean)) ∈ lw_all := lw_g (lw_at lw_m9 90 rfl) rfl
theorem q2149 : (Jvm.Cond.methodLink "OverHillModel" (394 : Nat) ({ cls := "OverHillModel", name := "togetherOf", desc := "(II)J" } : Jvm.MethodName)) ∈ lw_all := lw_g (lw_at lw_m9 91 rfl) rfl
theorem q2150 : (Jvm.Cond.privateMethod ({ cls := "OverHillModel", name := "togetherOf", desc := "(II)J" } : Jvm.MethodName)) ∈ lw_tbl := lw_at lw_m9 92 rfl
theorem q2151 : (Jvm.Cond.instanceMethod ({ cls := "OverHillModel", name := "togetherOf", desc := "(II)J" } : Jvm.MethodName)) ∈ lw_all := lw_g (lw_at lw_m9 93 rfl) rfl
theorem q2152 : (Jvm.Cond.code ({ cls := "OverHillModel", name := "togetherOf", desc := "(II)J" } : Jvm.MethodName) prog_13_method_113_code (9 : Nat) (Option.some Jvm.ClassFile.FieldType.long)) ∈ lw_all := lw_g (lw_at lw_m9 94 rfl) rfl
theorem q2153 : (Jvm.Cond.methodLink "OverHillModel" (318 : Nat) ({ cls := "OverHillModel", name := "commonLong", desc := "(JJ)J" } : Jvm.MethodName)) ∈ lw_all := lw_g (lw_at lw_m9 95 rfl) rfl
theorem q2154 : (Jvm.Cond.static ({ cls := "OverHillModel", name := "commonLong", desc := "(JJ)J" } : Jvm.MethodName)) ∈ lw_all := lw_g (lw_at lw_m9 96 rfl) rfl
theorem q2155 : (Jvm.Cond.code ({ cls := "OverHillModel", name := "commonLong", desc := "(JJ)J" } : Jvm.MethodName) prog_13_method_73_code (4 : Nat) (Option.some Jvm.ClassFile.FieldType.long)) ∈ lw_all := lw_g (lw_at lw_m9 97 rfl) rfl
theorem q2156 : (Jvm.Cond.constantLong "OverHillModel" (398 : Nat) (-2 : Int64)) ∈ lw_all := lw_g (lw_at lw_m9 98 rfl) rfl
theorem q2158 : (Jvm.Cond.instanceMethod ({ cls := "OverHillModel", name := "again", desc := "(I)J" } : Jvm.MethodName)) ∈ lw_all := lw_g (lw_at lw_m9 100 rfl) rfl
theorem q2159 : (Jvm.Cond.selects "OverHillModel" ({ cls := "OverHillModel", name := "again", desc := "(I)J" } : Jvm.MethodName) ({ cls := "OverHillModel", name := "again", desc := "(I)J" } : Jvm.MethodName)) ∈ lw_all := lw_g (lw_at lw_m9 101 rfl) rfl
theorem q2160 : (Jvm.Cond.code ({ cls := "OverHillModel", name := "again", desc := "(I)J" } : Jvm.MethodName) prog_13_method_115_code (2 : Nat) (Option.some Jvm.ClassFile.FieldType.long)) ∈ lw_all := lw_g (lw_at lw_m9 102 rfl) rfl
theorem q2161 : (Jvm.Cond.methodLink "OverHillModel" (400 : Nat) ({ cls := "OverHillModel", name := "againOf", desc := "(I)J" } : Jvm.MethodName)) ∈ lw_all := lw_g (lw_at lw_m9 103 rfl) rfl
theorem q2162 : (Jvm.Cond.privateMethod ({ cls := "OverHillModel", name := "againOf", desc := "(I)J" } : Jvm.MethodName)) ∈ lw_tbl := lw_at lw_m9 104 rfl
theorem q2163 : (Jvm.Cond.instanceMethod ({ cls := "OverHillModel", name := "againOf", desc := "(I)J" } : Jvm.MethodName)) ∈ lw_all := lw_g (lw_at lw_m9 105 rfl) rfl
theorem q2164 : (Jvm.Cond.code ({ cls := "OverHillModel", name := "againOf", desc := "(I)J" } : Jvm.MethodName) prog_13_method_112_code (5 : Nat) (Option.some Jvm.ClassFile.FieldType.long)) ∈ lw_all := lw_g (lw_at lw_m9 106 rfl) rfl
theorem q2166 : (Jvm.Cond.instanceMethod ({ cls := "OverHillModel", name := "most", desc := "()I" } : Jvm.MethodName)) ∈ lw_all := lw_g (lw_at lw_m9 108 rfl) rfl
theorem q2167 : (Jvm.Cond.selects "OverHillModel" ({ cls := "OverHillModel", name := "most", desc := "()I" } : Jvm.MethodName) ({ cls := "OverHillModel", name := "most", desc := "()I" } : Jvm.MethodName)) ∈ lw_all := lw_g (lw_at lw_m9 109 rfl) rfl
theorem q2168 : (Jvm.Cond.code ({ cls := "OverHillModel", name := "most", desc := "()I" } : Jvm.MethodName) prog_13_method_117_code (1 : Nat) (Option.some Jvm.ClassFile.FieldType.int)) ∈ lw_all := lw_g (lw_at lw_m9 110 rfl) rfl
theorem q2169 : (Jvm.Cond.methodLink "OverHillModel" (407 : Nat) ({ cls := "OverHillModel", name := "chorusOf", desc := "()I" } : Jvm.MethodName)) ∈ lw_all := lw_g (lw_at lw_m9 111 rfl) rfl
theorem q2170 : (Jvm.Cond.privateMethod ({ cls := "OverHillModel", name := "chorusOf", desc := "()I" } : Jvm.MethodName)) ∈ lw_tbl := lw_at lw_m9 112 rfl
theorem q2171 : (Jvm.Cond.instanceMethod ({ cls := "OverHillModel", name := "chorusOf", desc := "()I" } : Jvm.MethodName)) ∈ lw_all := lw_g (lw_at lw_m9 113 rfl) rfl
theorem q2172 : (Jvm.Cond.code ({ cls := "OverHillModel", name := "chorusOf", desc := "()I" } : Jvm.MethodName) prog_13_method_116_code (3 : Nat) (Option.some Jvm.ClassFile.FieldType.int)) ∈ lw_all := lw_g (lw_at lw_m9 114 rfl) rfl
theorem q2173 : (Jvm.Cond.methodLink "OverHillModel" (404 : Nat) ({ cls := "OverHillModel", name := "sizeOf", desc := "(I)I" } : Jvm.MethodName)) ∈ lw_all := lw_g (lw_at lw_m9 115 rfl) rfl
theorem q2174 : (Jvm.Cond.static ({ cls := "OverHillModel", name := "sizeOf", desc := "(I)I" } : Jvm.MethodName)) ∈ lw_all := lw_g (lw_at lw_m9 116 rfl) rfl
theorem q2175 : (Jvm.Cond.code ({ cls := "OverHillModel", name := "sizeOf", desc := "(I)I" } : Jvm.MethodName) prog_13_method_46_code (3 : Nat) (Option.some Jvm.ClassFile.FieldType.int)) ∈ lw_all := lw_g (lw_at lw_m9 117 rfl) rfl
theorem q2177 : (Jvm.Cond.instanceMethod ({ cls := "OverHillModel", name := "chorus", desc := "()I" } : Jvm.MethodName)) ∈ lw_all := lw_g (lw_at lw_m9 119 rfl) rfl
theorem q2178 : (Jvm.Cond.selects "OverHillModel" ({ cls := "OverHillModel", name := "chorus", desc := "()I" } : Jvm.MethodName) ({ cls := "OverHillModel", name := "chorus", desc := "()I" } : Jvm.MethodName)) ∈ lw_all := lw_g (lw_at lw_m9 120 rfl) rfl
theorem q2179 : (Jvm.Cond.code ({ cls := "OverHillModel", name := "chorus", desc := "()I" } : Jvm.MethodName) prog_13_method_118_code (1 : Nat) (Option.some Jvm.ClassFile.FieldType.int)) ∈ lw_all := lw_g (lw_at lw_m9 121 rfl) rfl
theorem q2181 : (Jvm.Cond.instanceMethod ({ cls := "OverHillModel", name := "treaties", desc := "()I" } : Jvm.MethodName)) ∈ lw_all := lw_g (lw_at lw_m9 123 rfl) rfl
theorem q2182 : (Jvm.Cond.selects "OverHillModel" ({ cls := "OverHillModel", name := "treaties", desc := "()I" } : Jvm.MethodName) ({ cls := "OverHillModel", name := "treaties", desc := "()I" } : Jvm.MethodName)) ∈ lw_all := lw_g (lw_at lw_m9 124 rfl) rfl
theorem q2183 : (Jvm.Cond.code ({ cls := "OverHillModel", name := "treaties", desc := "()I" } : Jvm.MethodName) prog_13_method_119_code (4 : Nat) (Option.some Jvm.ClassFile.FieldType.int)) ∈ lw_all := lw_g (lw_at lw_m9 125 rfl) rfl
theorem q2185 : (Jvm.Cond.instanceMethod ({ cls := "OverHillModel", name := "leads", desc := "(I)I" } : Jvm.MethodName)) ∈ lw_all := lw_g (lw_at lw_m9 127 rfl) rfl
theorem q2186 : (Jvm.Cond.selects "OverHillModel" ({ cls := "OverHillModel", name := "leads", desc := "(I)I" } : Jvm.MethodName) ({ cls := "OverHillModel", name := "leads", desc := "(I)I" } : Jvm.MethodName)) ∈ lw_all := lw_g (lw_at lw_m9 128 rfl) rfl
theorem q2187 : (Jvm.Cond.code ({ cls := "OverHillModel", name := "leads", desc := "(I)I" } : Jvm.MethodName) prog_13_method_120_code (4 : Nat) (Option.some Jvm.ClassFile.FieldType.int)) ∈ lw_all := lw_g (lw_at lw_m9 129 rfl) rfl
theorem q2189 : (Jvm.Cond.instanceMethod ({ cls := "OverHillModel", name := "game", desc := "(I)I" } : Jvm.MethodName)) ∈ lw_all := lw_g (lw_at lw_m9 131 rfl) rfl
theorem q2190 : (Jvm.Cond.selects "OverHillModel" ({ cls := "OverHillModel", name := "game", desc := "(I)I" } : Jvm.MethodName) ({ cls := "OverHillModel", name := "game", desc := "(I)I" } : Jvm.MethodName)) ∈ lw_all := lw_g (lw_at lw_m9 132 rfl) rfl
theorem q2191 : (Jvm.Cond.code ({ cls := "OverHillModel", name := "game", desc := "(I)I" } : Jvm.MethodName) prog_13_method_124_code (2 : Nat) (Option.some Jvm.ClassFile.FieldType.int)) ∈ lw_all := lw_g (lw_at lw_m9 133 rfl) rfl
theorem q2192 : (Jvm.Cond.methodLink "OverHillModel" (416 : Nat) ({ cls := "OverHillModel", name := "laysGame", desc := "()V" } : Jvm.MethodName)) ∈ lw_all := lw_g (lw_at lw_m9 134 rfl) rfl
theorem q2193 : (Jvm.Cond.privateMethod ({ cls := "OverHillModel", name := "laysGame", desc := "()V" } : Jvm.MethodName)) ∈ lw_tbl := lw_at lw_m9 135 rfl
theorem q2194 : (Jvm.Cond.instanceMethod ({ cls := "OverHillModel", name := "laysGame", desc := "()V" } : Jvm.MethodName)) ∈ lw_all := lw_g (lw_at lw_m9 136 rfl) rfl
theorem q2195 : (Jvm.Cond.code ({ cls := "OverHillModel", name := "laysGame", desc := "()V" } : Jvm.MethodName) prog_13_method_123_code (2 : Nat) (Option.none : Option Jvm.ClassFile.FieldType)) ∈ lw_all := lw_g (lw_at lw_m9 137 rfl) rfl
theorem q2196 : (Jvm.Cond.methodLink "OverHillModel" (413 : Nat) ({ cls := "OverHillModel", name := "winsFrom", desc := "(II)Z" } : Jvm.MethodName)) ∈ lw_all := lw_g (lw_at lw_m9 138 rfl) rfl
theorem q2197 : (Jvm.Cond.privateMethod ({ cls := "OverHillModel", name := "winsFrom", desc := "(II)Z" } : Jvm.MethodName)) ∈ lw_tbl := lw_at lw_m9 139 rfl
theorem q2198 : (Jvm.Cond.instanceMethod ({ cls := "OverHillModel", name := "winsFrom", desc := "(II)Z" } : Jvm.MethodName)) ∈ lw_all := lw_g (lw_at lw_m9 140 rfl) rfl
theorem q2199 : (Jvm.Cond.code ({ cls := "OverHillModel", name := "winsFrom", desc := "(II)Z" } : Jvm.MethodName) prog_13_method_121_code (5 : Nat) (Option.some Jvm.ClassFile.FieldType.boolean)) ∈ lw_all := lw_g (lw_at lw_m9 141 rfl) rfl
theorem q2200 : (Jvm.Cond.methodLink "OverHillModel" (410 : Nat) ({ cls := "OverHillModel", name := "isPlay", desc := "(III)Z" } : Jvm.MethodName)) ∈ lw_all := lw_g (lw_at lw_m9 142 rfl) rfl
theorem q2201 : (Jvm.Cond.privateMethod ({ cls := "OverHillModel", name := "isPlay", desc := "(III)Z" } : Jvm.MethodName)) ∈ lw_tbl := lw_at lw_m9 143 rfl
theorem q2202 : (Jvm.Cond.instanceMethod ({ cls := "OverHillModel", name := "isPlay", desc := "(III)Z" } : Jvm.MethodName)) ∈ lw_all := lw_g (lw_at lw_m9 144 rfl) rfl
theorem q2203 : (Jvm.Cond.code ({ cls := "OverHillModel", name := "isPlay", desc := "(III)Z" } : Jvm.MethodName) prog_13_method_122_code (4 : Nat) (Option.some Jvm.ClassFile.FieldType.boolean)) ∈ lw_all := lw_g (lw_at lw_m9 145 rfl) rfl
theorem q2205 : (Jvm.Cond.instanceMethod ({ cls := "OverHillModel", name := "plays", desc := "(I)I" } : Jvm.MethodName)) ∈ lw_all := lw_g (lw_at lw_m9 147 rfl) rfl
theorem q2206 : (Jvm.Cond.selects "OverHillModel" ({ cls := "OverHillModel", name := "plays", desc := "(I)I" } : Jvm.MethodName) ({ cls := "OverHillModel", name := "plays", desc := "(I)I" } : Jvm.MethodName)) ∈ lw_all := lw_g (lw_at lw_m9 148 rfl) rfl
theorem q2207 : (Jvm.Cond.code ({ cls := "OverHillModel", name := "plays", desc := "(I)I" } : Jvm.MethodName) prog_13_method_125_code (4 : Nat) (Option.some Jvm.ClassFile.FieldType.int)) ∈ lw_all := lw_g (lw_at lw_m9 149 rfl) rfl
theorem q2209 : (Jvm.Cond.instanceMethod ({ cls := "OverHillModel", name := "dry", desc := "(II)J" } : Jvm.MethodName)) ∈ lw_all := lw_g (lw_at lw_m9 151 rfl) rfl
theorem q2210 : (Jvm.Cond.selects "OverHillModel" ({ cls := "OverHillModel", name := "dry", desc := "(II)J" } : Jvm.MethodName) ({ cls := "OverHillModel", name := "dry", desc := "(II)J" } : Jvm.MethodName)) ∈ lw_all := lw_g (lw_at lw_m9 152 rfl) rfl
theorem q2211 : (Jvm.Cond.code ({ cls := "OverHillModel", name := "dry", desc := "(II)J" } : Jvm.MethodName) prog_13_method_129_code (3 : Nat) (Option.some Jvm.ClassFile.FieldType.long)) ∈ lw_all := lw_g (lw_at lw_m9 153 rfl) rfl
theorem q2212 : (Jvm.Cond.methodLink "OverHillModel" (421 : Nat) ({ cls := "OverHillModel", name := "isRain", desc := "(II)Z" } : Jvm.MethodName)) ∈ lw_all := lw_g (lw_at lw_m9 154 rfl) rfl
theorem q2213 : (Jvm.Cond.privateMethod ({ cls := "OverHillModel", name := "isRain", desc := "(II)Z" } : Jvm.MethodName)) ∈ lw_tbl := lw_at lw_m9 155 rfl
theorem q2214 : (Jvm.Cond.instanceMethod ({ cls := "OverHillModel", name := "isRain", desc := "(II)Z" } : Jvm.MethodName)) ∈ lw_all := lw_g (lw_at lw_m9 156 rfl) rfl
theorem q2215 : (Jvm.Cond.code ({ cls := "OverHillModel", name := "isRain", desc := "(II)Z" } : Jvm.MethodName) prog_13_method_128_code (3 : Nat) (Option.some Jvm.ClassFile.FieldType.boolean)) ∈ lw_all := lw_g (lw_at lw_m9 157 rfl) rfl
theorem q2216 : (Jvm.Cond.constantLong "OverHillModel" (419 : Nat) (9 : Int64)) ∈ lw_all := lw_g (lw_at lw_m9 158 rfl) rfl
theorem q2217 : (Jvm.Cond.constantLong "OverHillModel" (424 : Nat) (100 : Int64)) ∈ lw_all := lw_g (lw_at lw_m9 159 rfl) rfl
theorem q2218 : (Jvm.Cond.methodLink "OverHillModel" (426 : Nat) ({ cls := "OverHillModel", name := "power", desc := "(JI)J" } : Jvm.MethodName)) ∈ lw_all := lw_g (lw_at lw_m9 160 rfl) rfl
theorem q2219 : (Jvm.Cond.static ({ cls := "OverHillModel", name := "power", desc := "(JI)J" } : Jvm.MethodName)) ∈ lw_all := lw_g (lw_at lw_m9 161 rfl) rfl
theorem q2220 : (Jvm.Cond.code ({ cls := "OverHillModel", name := "power", desc := "(JI)J" } : Jvm.MethodName) prog_13_method_126_code (6 : Nat) (Option.some Jvm.ClassFile.FieldType.long)) ∈ lw_all := lw_g (lw_at lw_m9 162 rfl) rfl
theorem q2221 : (Jvm.Cond.methodLink "OverHillModel" (429 : Nat) ({ cls := "OverHillModel", name := "part", desc := "(JJI)J" } : Jvm.MethodName)) ∈ lw_all := lw_g (lw_at lw_m9 163 rfl) rfl
theorem q2222 : (Jvm.Cond.static ({ cls := "OverHillModel", name := "part", desc := "(JJI)J" } : Jvm.MethodName)) ∈ lw_all := lw_g (lw_at lw_m9 164 rfl) rfl
theorem q2223 : (Jvm.Cond.code ({ cls := "OverHillModel", name := "part", desc := "(JJI)J" } : Jvm.MethodName) prog_13_method_127_code (5 : Nat) (Option.some Jvm.ClassFile.FieldType.long)) ∈ lw_all := lw_g (lw_at lw_m9 165 rfl) rfl
theorem q2225 : (Jvm.Cond.instanceMethod ({ cls := "OverHillModel", name := "wet", desc := "(III)J" } : Jvm.MethodName)) ∈ lw_all := lw_g (lw_at lw_m9 167 rfl) rfl
theorem q2226 : (Jvm.Cond.selects "OverHillModel" ({ cls := "OverHillModel", name := "wet", desc := "(III)J" } : Jvm.MethodName) ({ cls := "OverHillModel", name := "wet", desc := "(III)J" } : Jvm.MethodName)) ∈ lw_all := lw_g (lw_at lw_m9 168 rfl) rfl
theorem q2227 : (Jvm.Cond.code ({ cls := "OverHillModel", name := "wet", desc := "(III)J" } : Jvm.MethodName) prog_13_method_130_code (7 : Nat) (Option.some Jvm.ClassFile.FieldType.long)) ∈ lw_all := lw_g (lw_at lw_m9 169 rfl) rfl
theorem q2229 : (Jvm.Cond.instanceMethod ({ cls := "OverHillModel", name := "drawn", desc := "(III)I" } : Jvm.MethodName)) ∈ lw_all := lw_g (lw_at lw_m9 171 rfl) rfl
theorem q2230 : (Jvm.Cond.selects "OverHillModel" ({ cls := "OverHillModel", name := "drawn", desc := "(III)I" } : Jvm.MethodName) ({ cls := "OverHillModel", name := "drawn", desc := "(III)I" } : Jvm.MethodName)) ∈ lw_all := lw_g (lw_at lw_m9 172 rfl) rfl
theorem q2231 : (Jvm.Cond.code ({ cls := "OverHillModel", name := "drawn", desc := "(III)I" } : Jvm.MethodName) prog_13_method_135_code (4 : Nat) (Option.some Jvm.ClassFile.FieldType.int)) ∈ lw_all := lw_g (lw_at lw_m9 173 rfl) rfl
theorem q2232 : (Jvm.Cond.methodLink "OverHillModel" (464 : Nat) ({ cls := "OverHillModel", name := "isDraw", desc := "(II)Z" } : Jvm.MethodName)) ∈ lw_all := lw_g (lw_at lw_m9 174 rfl) rfl
theorem q2233 : (Jvm.Cond.privateMethod ({ cls := "OverHillModel", name := "isDraw", desc := "(II)Z" } : Jvm.MethodName)) ∈ lw_tbl := lw_at lw_m9 175 rfl
theorem q2234 : (Jvm.Cond.instanceMethod ({ cls := "OverHillModel", name := "isDraw", desc := "(II)Z" } : Jvm.MethodName)) ∈ lw_all := lw_g (lw_at lw_m9 176 rfl) rfl
theorem q2235 : (Jvm.Cond.code ({ cls := "OverHillModel", name := "isDraw", desc := "(II)Z" } : Jvm.MethodName) prog_13_method_134_code (3 : Nat) (Option.some Jvm.ClassFile.FieldType.boolean)) ∈ lw_all := lw_g (lw_at lw_m9 177 rfl) rfl
theorem q2236 : (Jvm.Cond.constantLong "OverHillModel" (462 : Nat) (2000000000 : Int64)) ∈ lw_all := lw_g (lw_at lw_m9 178 rfl) rfl
theorem q2237 : (Jvm.Cond.methodLink "OverHillModel" (467 : Nat) ({ cls := "OverHillModel", name := "draws", desc := "(JI)V" } : Jvm.MethodName)) ∈ lw_all := lw_g (lw_at lw_m9 179 rfl) rfl
theorem q2238 : (Jvm.Cond.privateMethod ({ cls := "OverHillModel", name := "draws", desc := "(JI)V" } : Jvm.MethodName)) ∈ lw_tbl := lw_at lw_m9 180 rfl
theorem q2239 : (Jvm.Cond.instanceMethod ({ cls := "OverHillModel", name := "draws", desc := "(JI)V" } : Jvm.MethodName)) ∈ lw_all := lw_g (lw_at lw_m9 181 rfl) rfl
theorem q2240 : (Jvm.Cond.code ({ cls := "OverHillModel", name := "draws", desc := "(JI)V" } : Jvm.MethodName) prog_13_method_132_code (8 : Nat) (Option.none : Option Jvm.ClassFile.FieldType)) ∈ lw_all := lw_g (lw_at lw_m9 182 rfl) rfl
theorem q2241 : (Jvm.Cond.methodLink "OverHillModel" (456 : Nat) ({ cls := "OverHillModel", name := "isBelow", desc := "(I)Z" } : Jvm.MethodName)) ∈ lw_all := lw_g (lw_at lw_m9 183 rfl) rfl
theorem q2242 : (Jvm.Cond.privateMethod ({ cls := "OverHillModel", name := "isBelow", desc := "(I)Z" } : Jvm.MethodName)) ∈ lw_tbl := lw_at lw_m9 184 rfl
theorem q2243 : (Jvm.Cond.instanceMethod ({ cls := "OverHillModel", name := "isBelow", desc := "(I)Z" } : Jvm.MethodName)) ∈ lw_all := lw_g (lw_at lw_m9 185 rfl) rfl
theorem q2244 : (Jvm.Cond.code ({ cls := "OverHillModel", name := "isBelow", desc := "(I)Z" } : Jvm.MethodName) prog_13_method_131_code (2 : Nat) (Option.some Jvm.ClassFile.FieldType.boolean)) ∈ lw_all := lw_g (lw_at lw_m9 186 rfl) rfl
theorem q2245 : (Jvm.Cond.constantLong "OverHillModel" (433 : Nat) (1103515245 : Int64)) ∈ lw_all := lw_g (lw_at lw_m9 187 rfl) rfl
theorem q2246 : (Jvm.Cond.constantLong "OverHillModel" (438 : Nat) (12345 : Int64)) ∈ lw_all := lw_g (lw_at lw_m9 188 rfl) rfl
theorem q2247 : (Jvm.Cond.constantLong "OverHillModel" (440 : Nat) (2147483648 : Int64)) ∈ lw_all := lw_g (lw_at lw_m9 189 rfl) rfl
theorem q2248 : (Jvm.Cond.constantLong "OverHillModel" (442 : Nat) (65536 : Int64)) ∈ lw_all := lw_g (lw_at lw_m9 190 rfl) rfl
theorem q2249 : (Jvm.Cond.methodLink "OverHillModel" (459 : Nat) ({ cls := "OverHillModel", name := "slips", desc := "(I)I" } : Jvm.MethodName)) ∈ lw_all := lw_g (lw_at lw_m9 191 rfl) rfl
theorem q2250 : (Jvm.Cond.privateMethod ({ cls := "OverHillModel", name := "slips", desc := "(I)I" } : Jvm.MethodName)) ∈ lw_tbl := lw_at lw_m9 192 rfl
theorem q2251 : (Jvm.Cond.instanceMethod ({ cls := "OverHillModel", name := "slips", desc := "(I)I" } : Jvm.MethodName)) ∈ lw_all := lw_g (lw_at lw_m9 193 rfl) rfl
theorem q2252 : (Jvm.Cond.code ({ cls := "OverHillModel", name := "slips", desc := "(I)I" } : Jvm.MethodName) prog_13_method_133_code (2 : Nat) (Option.some Jvm.ClassFile.FieldType.int)) ∈ lw_all := lw_g (lw_at lw_m9 194 rfl) rfl
theorem q2254 : (Jvm.Cond.instanceMethod ({ cls := "OverHillModel", name := "nights", desc := "(III)I" } : Jvm.MethodName)) ∈ lw_all := lw_g (lw_at lw_m9 196 rfl) rfl
theorem q2255 : (Jvm.Cond.selects "OverHillModel" ({ cls := "OverHillModel", name := "nights", desc := "(III)I" } : Jvm.MethodName) ({ cls := "OverHillModel", name := "nights", desc := "(III)I" } : Jvm.MethodName)) ∈ lw_all := lw_g (lw_at lw_m9 197 rfl) rfl
theorem q2256 : (Jvm.Cond.code ({ cls := "OverHillModel", name := "nights", desc := "(III)I" } : Jvm.MethodName) prog_13_method_136_code (6 : Nat) (Option.some Jvm.ClassFile.FieldType.int)) ∈ lw_all := lw_g (lw_at lw_m9 198 rfl) rfl
theorem q2257 : (Jvm.Cond.constantLong "OverHillModel" (471 : Nat) (20 : Int64)) ∈ lw_all := lw_g (lw_at lw_m9 199 rfl) rfl
theorem q2259 : (Jvm.Cond.instanceMethod ({ cls := "OverHillModel", name := "stumble", desc := "(IIII)I" } : Jvm.MethodName)) ∈ lw_all := lw_g (lw_at lw_m9 201 rfl) rfl
theorem q2260 : (Jvm.Cond.selects "OverHillModel" ({ cls := "OverHillModel", name := "stumble", desc := "(IIII)I" } : Jvm.MethodName) ({ cls := "OverHillModel", name := "stumble", desc := "(IIII)I" } : Jvm.MethodName)) ∈ lw_all := lw_g (lw_at lw_m9 202 rfl) rfl
theorem q2261 : (Jvm.Cond.code ({ cls := "OverHillModel", name := "stumble", desc := "(IIII)I" } : Jvm.MethodName) prog_13_method_138_code (6 : Nat) (Option.some Jvm.ClassFile.FieldType.int)) ∈ lw_all := lw_g (lw_at lw_m9 203 rfl) rfl
theorem q2262 : (Jvm.Cond.methodLink "OverHillModel" (473 : Nat) ({ cls := "OverHillModel", name := "changes", desc := "(IIII)V" } : Jvm.MethodName)) ∈ lw_all := lw_g (lw_at lw_m9 204 rfl) rfl
theorem q2263 : (Jvm.Cond.privateMethod ({ cls := "OverHillModel", name := "changes", desc := "(IIII)V" } : Jvm.MethodName)) ∈ lw_tbl := lw_at lw_m9 205 rfl
theorem q2264 : (Jvm.Cond.instanceMethod ({ cls := "OverHillModel", name := "changes", desc := "(IIII)V" } : Jvm.MethodName)) ∈ lw_all := lw_g (lw_at lw_m9 206 rfl) rfl
theorem q2265 : (Jvm.Cond.code ({ cls := "OverHillModel", name := "changes", desc := "(IIII)V" } : Jvm.MethodName) prog_13_method_137_code (6 : Nat) (Option.none : Option Jvm.ClassFile.FieldType)) ∈ lw_all := lw_g (lw_at lw_m9 207 rfl) rfl
theorem q2267 : (Jvm.Cond.instanceMethod ({ cls := "OverHillModel", name := "mud", desc := "(II)I" } : Jvm.MethodName)) ∈ lw_all := lw_g (lw_at lw_m9 209 rfl) rfl
theorem q2268 : (Jvm.Cond.selects "OverHillModel" ({ cls := "OverHillModel", name := "mud", desc := "(II)I" } : Jvm.MethodName) ({ cls := "OverHillModel", name := "mud", desc := "(II)I" } : Jvm.MethodName)) ∈ lw_all := lw_g (lw_at lw_m9 210 rfl) rfl
theorem q2269 : (Jvm.Cond.code ({ cls := "OverHillModel", name := "mud", desc := "(II)I" } : Jvm.MethodName) prog_13_method_139_code (4 : Nat) (Option.some Jvm.ClassFile.FieldType.int)) ∈ lw_all := lw_g (lw_at lw_m9 211 rfl) rfl
theorem q2271 : (Jvm.Cond.instanceMethod ({ cls := "OverHillModel", name := "teach", desc := "(III)I" } : Jvm.MethodName)) ∈ lw_all := lw_g (lw_at lw_m9 213 rfl) rfl
theorem q2272 : (Jvm.Cond.selects "OverHillModel" ({ cls := "OverHillModel", name := "teach", desc := "(III)I" } : Jvm.MethodName) ({ cls := "OverHillModel", name := "teach", desc := "(III)I" } : Jvm.MethodName)) ∈ lw_all := lw_g (lw_at lw_m9 214 rfl) rfl
theorem q2273 : (Jvm.Cond.code ({ cls := "OverHillModel", name := "teach", desc := "(III)I" } : Jvm.MethodName) prog_13_method_140_code (5 : Nat) (Option.some Jvm.ClassFile.FieldType.int)) ∈ lw_all := lw_g (lw_at lw_m9 215 rfl) rfl
theorem q2275 : (Jvm.Cond.instanceMethod ({ cls := "OverHillModel", name := "undo", desc := "()I" } : Jvm.MethodName)) ∈ lw_all := lw_g (lw_at lw_m9 217 rfl) rfl
theorem q2276 : (Jvm.Cond.selects "OverHillModel" ({ cls := "OverHillModel", name := "undo", desc := "()I" } : Jvm.MethodName) ({ cls := "OverHillModel", name := "undo", desc := "()I" } : Jvm.MethodName)) ∈ lw_all := lw_g (lw_at lw_m9 218 rfl) rfl
theorem q2277 : (Jvm.Cond.code ({ cls := "OverHillModel", name := "undo", desc := "()I" } : Jvm.MethodName) prog_13_method_141_code (2 : Nat) (Option.some Jvm.ClassFile.FieldType.int)) ∈ lw_all := lw_g (lw_at lw_m9 219 rfl) rfl
theorem q2279 : (Jvm.Cond.instanceMethod ({ cls := "OverHillModel", name := "count", desc := "(I)I" } : Jvm.MethodName)) ∈ lw_all := lw_g (lw_at lw_m9 221 rfl) rfl
theorem q2280 : (Jvm.Cond.selects "OverHillModel" ({ cls := "OverHillModel", name := "count", desc := "(I)I" } : Jvm.MethodName) ({ cls := "OverHillModel", name := "count", desc := "(I)I" } : Jvm.MethodName)) ∈ lw_all := lw_g (lw_at lw_m9 222 rfl) rfl
theorem q2281 : (Jvm.Cond.code ({ cls := "OverHillModel", name := "count", desc := "(I)I" } : Jvm.MethodName) prog_13_method_142_code (4 : Nat) (Option.some Jvm.ClassFile.FieldType.int)) ∈ lw_all := lw_g (lw_at lw_m9 223 rfl) rfl
theorem q2283 : (Jvm.Cond.instanceMethod ({ cls := "OverHillModel", name := "image", desc := "(I)I" } : Jvm.MethodName)) ∈ lw_all := lw_g (lw_at lw_m9 225 rfl) rfl
theorem q2284 : (Jvm.Cond.selects "OverHillModel" ({ cls := "OverHillModel", name := "image", desc := "(I)I" } : Jvm.MethodName) ({ cls := "OverHillModel", name := "image", desc := "(I)I" } : Jvm.MethodName)) ∈ lw_all := lw_g (lw_at lw_m9 226 rfl) rfl
theorem q2285 : (Jvm.Cond.code ({ cls := "OverHillModel", name := "image", desc := "(I)I" } : Jvm.MethodName) prog_13_method_143_code (2 : Nat) (Option.some Jvm.ClassFile.FieldType.int)) ∈ lw_all := lw_g (lw_at lw_m9 227 rfl) rfl
theorem q2286 : (Jvm.Cond.constantLong "OverHillModel" (477 : Nat) (2 : Int64)) ∈ lw_all := lw_g (lw_at lw_m9 228 rfl) rfl
theorem q2288 : (Jvm.Cond.instanceMethod ({ cls := "OverHillModel", name := "back", desc := "(I)I" } : Jvm.MethodName)) ∈ lw_all := lw_g (lw_at lw_m9 230 rfl) rfl
theorem q2289 : (Jvm.Cond.selects "OverHillModel" ({ cls := "OverHillModel", name := "back", desc := "(I)I" } : Jvm.MethodName) ({ cls := "OverHillModel", name := "back", desc := "(I)I" } : Jvm.MethodName)) ∈ lw_all := lw_g (lw_at lw_m9 231 rfl) rfl
theorem q2290 : (Jvm.Cond.code ({ cls := "OverHillModel", name := "back", desc := "(I)I" } : Jvm.MethodName) prog_13_method_144_code (2 : Nat) (Option.some Jvm.ClassFile.FieldType.int)) ∈ lw_all := lw_g (lw_at lw_m9 232 rfl) rfl
theorem q2304 : (Jvm.Cond.castable "OverHillModel" "java/lang/Object") ∈ lw_tbl := lw_at lw_m10 6 rfl
theorem in_X8 : ∀ w ∈ wsX80, w ∈ lw_all := lw_in wsX80 [1611, 1613, 1615, 1617, 1619, 1621, 1623, 1625, 1627, 1629, 1631, 1633, 1635, 1637, 1639, 1641, 1643, 1645, 1647, 1649, 1651, 1653, 1655, 1657, 1659, 1661, 1663, 1665, 1667, 1669, 1671, 1673, 1675, 1677, 1679, 1681, 1683, 1685, 1687, 1689, 1691, 1693, 1695, 1697, 1699] (by decide +kernel) (by decide +kernel)
