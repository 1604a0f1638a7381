/-! OverHill -/
set_option maxRecDepth 100000
def RX0 : String := "OverHill"
def TX0 : u_T := fun k => match k with
  | 0 => ("OverHill", "dance", "LOverHill$Dance;", false)
  | 1 => ("OverHill", "tape", "[B", true)
  | 2 => ("OverHill", "taped", "I", false)
  | 3 => ("OverHill", "faultKind", "I", false)
  | 4 => ("OverHill", "faultPlace", "I", false)
  | 5 => ("OverHill", "placeAt", "[I", true)
  | 6 => ("OverHill", "stepAt", "[I", true)
  | 7 => ("OverHill", "plain", "LOverHill$Plain;", true)
  | 8 => ("OverHill", "told", "LOverHill$Told;", true)
  | 9 => ("OverHill", "without", "LOverHill$Without;", true)
  | 10 => ("OverHill", "thought", "LOverHill$Thought;", true)
  | 11 => ("OverHill", "runMost", "I", false)
  | 12 => ("OverHill", "runFrom", "I", false)
  | 13 => ("OverHill", "fitMany", "I", false)
  | 14 => ("OverHill", "fitFirst", "I", false)
  | 15 => ("OverHill", "fitBeats", "J", false)
  | 16 => ("OverHill", "heardBy", "[I", true)
  | 17 => ("OverHill", "listenWorst", "I", false)
  | 18 => ("OverHill", "there", "[I", true)
  | 19 => ("OverHill", "back", "[I", true)
  | 20 => ("OverHill", "meetBeat", "I", false)
  | 21 => ("OverHill", "filled", "[I", true)
  | 22 => ("OverHill", "tunesBegin", "J", false)
  | 23 => ("OverHill", "tunesAgain", "J", false)
  | 24 => ("OverHill", "wins", "[B", true)
  | 25 => ("OverHill", "digit", "[I", true)
  | 26 => ("OverHill", "drawX", "J", false)
  | 27 => ("OverHill", "nightPlace", "[I", true)
  | 28 => ("OverHill", "nightHoles", "I", false)
  | 29 => ("OverHill", "nightFirst", "I", false)
  | 30 => ("OverHill", "nightMud", "I", false)
  | 31 => ("OverHill", "nightSlips", "I", false)
  | 32 => ("OverHill", "slots", "[LOverHill$Slot;", true)
  | _ => ("OverHill", "images", "Ljava/util/ArrayList;", true)
def tyX0 : Nat → FieldType := fun k => match k with
  | 0 => .object "OverHill$Dance"
  | 1 => .array .byte
  | 2 => .int
  | 3 => .int
  | 4 => .int
  | 5 => .array .int
  | 6 => .array .int
  | 7 => .object "OverHill$Plain"
  | 8 => .object "OverHill$Told"
  | 9 => .object "OverHill$Without"
  | 10 => .object "OverHill$Thought"
  | 11 => .int
  | 12 => .int
  | 13 => .int
  | 14 => .int
  | 15 => .long
  | 16 => .array .int
  | 17 => .int
  | 18 => .array .int
  | 19 => .array .int
  | 20 => .int
  | 21 => .array .int
  | 22 => .long
  | 23 => .long
  | 24 => .array .byte
  | 25 => .array .int
  | 26 => .long
  | 27 => .array .int
  | 28 => .int
  | 29 => .int
  | 30 => .int
  | 31 => .int
  | 32 => .array (.object "OverHill$Slot")
  | _ => .object "java/util/ArrayList"
abbrev wsX00 : List Cond := u_ws RX0 TX0 34
set_option maxRecDepth 100000 in
theorem nmX0 : ∀ a, a < 34 → ∀ b, b < 34 → a ≠ b → (TX0 a).2.1 ≠ (TX0 b).2.1 := by decide +kernel
set_option maxRecDepth 100000 in
theorem tyX0_ok : ∀ k, k < 34 → parseFieldDescriptor (TX0 k).2.2.1 = some (tyX0 k) := by decide +kernel
abbrev cX0_init : ByteArray := prog_1_method_3_code
def yX0_init : MethodName := ⟨RX0, "<init>", "()V"⟩
def dkwX0_init_10 : List UInt8 := [181, 0, 92, 177]
abbrev dktX0_init_10 : List UInt8 := dkwX0_init_10 ++ []
def dkwX0_init_9 : List UInt8 := [83, 89, 6, 187, 0, 82, 89, 183, 0, 84, 83, 181, 0, 85, 42, 187, 0, 89, 89, 183, 0, 91]
abbrev dktX0_init_9 : List UInt8 := dkwX0_init_9 ++ dktX0_init_10
def dkwX0_init_8 : List UInt8 := [89, 183, 0, 84, 83, 89, 4, 187, 0, 82, 89, 183, 0, 84, 83, 89, 5, 187, 0, 82, 89, 183, 0, 84]
abbrev dktX0_init_8 : List UInt8 := dkwX0_init_8 ++ dktX0_init_9
def dkwX0_init_7 : List UInt8 := [17, 0, 243, 79, 181, 0, 76, 42, 5, 188, 10, 181, 0, 79, 42, 7, 189, 0, 82, 89, 3, 187, 0, 82]
abbrev dktX0_init_7 : List UInt8 := dkwX0_init_7 ++ dktX0_init_8
def dkwX0_init_6 : List UInt8 := [4, 79, 89, 4, 6, 79, 89, 5, 16, 9, 79, 89, 6, 16, 27, 79, 89, 7, 16, 81, 79, 89, 8]
abbrev dktX0_init_6 : List UInt8 := dkwX0_init_6 ++ dktX0_init_7
def dkwX0_init_5 : List UInt8 := [42, 16, 12, 188, 10, 181, 0, 70, 42, 17, 17, 22, 188, 8, 181, 0, 73, 42, 16, 6, 188, 10, 89, 3]
abbrev dktX0_init_5 : List UInt8 := dkwX0_init_5 ++ dktX0_init_6
def dkwX0_init_4 : List UInt8 := [17, 2, 48, 188, 10, 181, 0, 61, 42, 16, 12, 188, 10, 181, 0, 64, 42, 16, 12, 188, 10, 181, 0, 67]
abbrev dktX0_init_4 : List UInt8 := dkwX0_init_4 ++ dktX0_init_5
def dkwX0_init_3 : List UInt8 := [187, 0, 47, 89, 42, 183, 0, 49, 181, 0, 50, 42, 187, 0, 54, 89, 42, 183, 0, 56, 181, 0, 57, 42]
abbrev dktX0_init_3 : List UInt8 := dkwX0_init_3 ++ dktX0_init_4
def dkwX0_init_2 : List UInt8 := [187, 0, 31, 89, 42, 183, 0, 33, 181, 0, 36, 42, 187, 0, 40, 89, 42, 183, 0, 42, 181, 0, 43, 42]
abbrev dktX0_init_2 : List UInt8 := dkwX0_init_2 ++ dktX0_init_3
def dkwX0_init_1 : List UInt8 := [42, 2, 181, 0, 20, 42, 17, 1, 144, 188, 10, 181, 0, 24, 42, 17, 1, 144, 188, 10, 181, 0, 28, 42]
abbrev dktX0_init_1 : List UInt8 := dkwX0_init_1 ++ dktX0_init_2
def dkwX0_init_0 : List UInt8 := [42, 183, 0, 3, 42, 187, 0, 9, 89, 183, 0, 11, 181, 0, 12, 42, 17, 4, 176, 188, 8, 181, 0, 16]
abbrev dktX0_init_0 : List UInt8 := dkwX0_init_0 ++ dktX0_init_1
theorem dksX0_init_0 : cX0_init.data.toList.drop 0 = dktX0_init_0 := by decide +kernel
theorem dksX0_init_1 : cX0_init.data.toList.drop 24 = dktX0_init_1 := dk_seg dksX0_init_0 24 rfl rfl
theorem dksX0_init_2 : cX0_init.data.toList.drop 48 = dktX0_init_2 := dk_seg dksX0_init_1 24 rfl rfl
theorem dksX0_init_3 : cX0_init.data.toList.drop 72 = dktX0_init_3 := dk_seg dksX0_init_2 24 rfl rfl
theorem dksX0_init_4 : cX0_init.data.toList.drop 96 = dktX0_init_4 := dk_seg dksX0_init_3 24 rfl rfl
theorem dksX0_init_5 : cX0_init.data.toList.drop 120 = dktX0_init_5 := dk_seg dksX0_init_4 24 rfl rfl
theorem dksX0_init_6 : cX0_init.data.toList.drop 144 = dktX0_init_6 := dk_seg dksX0_init_5 24 rfl rfl
theorem dksX0_init_7 : cX0_init.data.toList.drop 167 = dktX0_init_7 := dk_seg dksX0_init_6 23 rfl rfl
theorem dksX0_init_8 : cX0_init.data.toList.drop 191 = dktX0_init_8 := dk_seg dksX0_init_7 24 rfl rfl
theorem dksX0_init_9 : cX0_init.data.toList.drop 215 = dktX0_init_9 := dk_seg dksX0_init_8 24 rfl rfl
theorem dksX0_init_10 : cX0_init.data.toList.drop 237 = dktX0_init_10 := dk_seg dksX0_init_9 22 rfl rfl
theorem dX0_init_0 : decode cX0_init 0 = .ok (.aload_n 0, 1) := dk_42 (dk_at dksX0_init_0 0 rfl rfl)
theorem dX0_init_1 : decode cX0_init 1 = .ok (.invokespecial 3, 3) := dk_183 0 3 (dk_at dksX0_init_0 1 rfl rfl)
theorem dX0_init_4 : decode cX0_init 4 = .ok (.aload_n 0, 1) := dk_42 (dk_at dksX0_init_0 4 rfl rfl)
theorem dX0_init_5 : decode cX0_init 5 = .ok (.new 9, 3) := dk_187 0 9 (dk_at dksX0_init_0 5 rfl rfl)
theorem dX0_init_8 : decode cX0_init 8 = .ok (.dup, 1) := dk_89 (dk_at dksX0_init_0 8 rfl rfl)
theorem dX0_init_9 : decode cX0_init 9 = .ok (.invokespecial 11, 3) := dk_183 0 11 (dk_at dksX0_init_0 9 rfl rfl)
theorem dX0_init_12 : decode cX0_init 12 = .ok (.putfield 12, 3) := dk_181 0 12 (dk_at dksX0_init_0 12 rfl rfl)
theorem dX0_init_15 : decode cX0_init 15 = .ok (.aload_n 0, 1) := dk_42 (dk_at dksX0_init_0 15 rfl rfl)
theorem dX0_init_16 : decode cX0_init 16 = .ok (.sipush 1200, 3) := dk_17 4 176 (dk_at dksX0_init_0 16 rfl rfl)
theorem dX0_init_19 : decode cX0_init 19 = .ok (.newarray .byte, 2) := dk_188_8 (dk_at dksX0_init_0 19 rfl rfl)
theorem dX0_init_21 : decode cX0_init 21 = .ok (.putfield 16, 3) := dk_181 0 16 (dk_at dksX0_init_0 21 rfl rfl)
theorem dX0_init_24 : decode cX0_init 24 = .ok (.aload_n 0, 1) := dk_42 (dk_at dksX0_init_1 0 rfl rfl)
theorem dX0_init_25 : decode cX0_init 25 = .ok (.iconst (-1), 1) := dk_2 (dk_at dksX0_init_1 1 rfl rfl)
theorem dX0_init_26 : decode cX0_init 26 = .ok (.putfield 20, 3) := dk_181 0 20 (dk_at dksX0_init_1 2 rfl rfl)
theorem dX0_init_29 : decode cX0_init 29 = .ok (.aload_n 0, 1) := dk_42 (dk_at dksX0_init_1 5 rfl rfl)
theorem dX0_init_30 : decode cX0_init 30 = .ok (.sipush 400, 3) := dk_17 1 144 (dk_at dksX0_init_1 6 rfl rfl)
theorem dX0_init_33 : decode cX0_init 33 = .ok (.newarray .int, 2) := dk_188_10 (dk_at dksX0_init_1 9 rfl rfl)
theorem dX0_init_35 : decode cX0_init 35 = .ok (.putfield 24, 3) := dk_181 0 24 (dk_at dksX0_init_1 11 rfl rfl)
theorem dX0_init_38 : decode cX0_init 38 = .ok (.aload_n 0, 1) := dk_42 (dk_at dksX0_init_1 14 rfl rfl)
theorem dX0_init_39 : decode cX0_init 39 = .ok (.sipush 400, 3) := dk_17 1 144 (dk_at dksX0_init_1 15 rfl rfl)
theorem dX0_init_42 : decode cX0_init 42 = .ok (.newarray .int, 2) := dk_188_10 (dk_at dksX0_init_1 18 rfl rfl)
theorem dX0_init_44 : decode cX0_init 44 = .ok (.putfield 28, 3) := dk_181 0 28 (dk_at dksX0_init_1 20 rfl rfl)
theorem dX0_init_47 : decode cX0_init 47 = .ok (.aload_n 0, 1) := dk_42 (dk_at dksX0_init_1 23 rfl rfl)
theorem dX0_init_48 : decode cX0_init 48 = .ok (.new 31, 3) := dk_187 0 31 (dk_at dksX0_init_2 0 rfl rfl)
theorem dX0_init_51 : decode cX0_init 51 = .ok (.dup, 1) := dk_89 (dk_at dksX0_init_2 3 rfl rfl)
theorem dX0_init_52 : decode cX0_init 52 = .ok (.aload_n 0, 1) := dk_42 (dk_at dksX0_init_2 4 rfl rfl)
theorem dX0_init_53 : decode cX0_init 53 = .ok (.invokespecial 33, 3) := dk_183 0 33 (dk_at dksX0_init_2 5 rfl rfl)
theorem dX0_init_56 : decode cX0_init 56 = .ok (.putfield 36, 3) := dk_181 0 36 (dk_at dksX0_init_2 8 rfl rfl)
theorem dX0_init_59 : decode cX0_init 59 = .ok (.aload_n 0, 1) := dk_42 (dk_at dksX0_init_2 11 rfl rfl)
theorem dX0_init_60 : decode cX0_init 60 = .ok (.new 40, 3) := dk_187 0 40 (dk_at dksX0_init_2 12 rfl rfl)
theorem dX0_init_63 : decode cX0_init 63 = .ok (.dup, 1) := dk_89 (dk_at dksX0_init_2 15 rfl rfl)
theorem dX0_init_64 : decode cX0_init 64 = .ok (.aload_n 0, 1) := dk_42 (dk_at dksX0_init_2 16 rfl rfl)
theorem dX0_init_65 : decode cX0_init 65 = .ok (.invokespecial 42, 3) := dk_183 0 42 (dk_at dksX0_init_2 17 rfl rfl)
theorem dX0_init_68 : decode cX0_init 68 = .ok (.putfield 43, 3) := dk_181 0 43 (dk_at dksX0_init_2 20 rfl rfl)
theorem dX0_init_71 : decode cX0_init 71 = .ok (.aload_n 0, 1) := dk_42 (dk_at dksX0_init_2 23 rfl rfl)
theorem dX0_init_72 : decode cX0_init 72 = .ok (.new 47, 3) := dk_187 0 47 (dk_at dksX0_init_3 0 rfl rfl)
theorem dX0_init_75 : decode cX0_init 75 = .ok (.dup, 1) := dk_89 (dk_at dksX0_init_3 3 rfl rfl)
theorem dX0_init_76 : decode cX0_init 76 = .ok (.aload_n 0, 1) := dk_42 (dk_at dksX0_init_3 4 rfl rfl)
theorem dX0_init_77 : decode cX0_init 77 = .ok (.invokespecial 49, 3) := dk_183 0 49 (dk_at dksX0_init_3 5 rfl rfl)
theorem dX0_init_80 : decode cX0_init 80 = .ok (.putfield 50, 3) := dk_181 0 50 (dk_at dksX0_init_3 8 rfl rfl)
theorem dX0_init_83 : decode cX0_init 83 = .ok (.aload_n 0, 1) := dk_42 (dk_at dksX0_init_3 11 rfl rfl)
theorem dX0_init_84 : decode cX0_init 84 = .ok (.new 54, 3) := dk_187 0 54 (dk_at dksX0_init_3 12 rfl rfl)
theorem dX0_init_87 : decode cX0_init 87 = .ok (.dup, 1) := dk_89 (dk_at dksX0_init_3 15 rfl rfl)
theorem dX0_init_88 : decode cX0_init 88 = .ok (.aload_n 0, 1) := dk_42 (dk_at dksX0_init_3 16 rfl rfl)
theorem dX0_init_89 : decode cX0_init 89 = .ok (.invokespecial 56, 3) := dk_183 0 56 (dk_at dksX0_init_3 17 rfl rfl)
theorem dX0_init_92 : decode cX0_init 92 = .ok (.putfield 57, 3) := dk_181 0 57 (dk_at dksX0_init_3 20 rfl rfl)
theorem dX0_init_95 : decode cX0_init 95 = .ok (.aload_n 0, 1) := dk_42 (dk_at dksX0_init_3 23 rfl rfl)
theorem dX0_init_96 : decode cX0_init 96 = .ok (.sipush 560, 3) := dk_17 2 48 (dk_at dksX0_init_4 0 rfl rfl)
theorem dX0_init_99 : decode cX0_init 99 = .ok (.newarray .int, 2) := dk_188_10 (dk_at dksX0_init_4 3 rfl rfl)
theorem dX0_init_101 : decode cX0_init 101 = .ok (.putfield 61, 3) := dk_181 0 61 (dk_at dksX0_init_4 5 rfl rfl)
theorem dX0_init_104 : decode cX0_init 104 = .ok (.aload_n 0, 1) := dk_42 (dk_at dksX0_init_4 8 rfl rfl)
theorem dX0_init_105 : decode cX0_init 105 = .ok (.bipush 12, 2) := dk_16 12 (dk_at dksX0_init_4 9 rfl rfl)
theorem dX0_init_107 : decode cX0_init 107 = .ok (.newarray .int, 2) := dk_188_10 (dk_at dksX0_init_4 11 rfl rfl)
theorem dX0_init_109 : decode cX0_init 109 = .ok (.putfield 64, 3) := dk_181 0 64 (dk_at dksX0_init_4 13 rfl rfl)
theorem dX0_init_112 : decode cX0_init 112 = .ok (.aload_n 0, 1) := dk_42 (dk_at dksX0_init_4 16 rfl rfl)
theorem dX0_init_113 : decode cX0_init 113 = .ok (.bipush 12, 2) := dk_16 12 (dk_at dksX0_init_4 17 rfl rfl)
theorem dX0_init_115 : decode cX0_init 115 = .ok (.newarray .int, 2) := dk_188_10 (dk_at dksX0_init_4 19 rfl rfl)
theorem dX0_init_117 : decode cX0_init 117 = .ok (.putfield 67, 3) := dk_181 0 67 (dk_at dksX0_init_4 21 rfl rfl)
theorem dX0_init_120 : decode cX0_init 120 = .ok (.aload_n 0, 1) := dk_42 (dk_at dksX0_init_5 0 rfl rfl)
theorem dX0_init_121 : decode cX0_init 121 = .ok (.bipush 12, 2) := dk_16 12 (dk_at dksX0_init_5 1 rfl rfl)
theorem dX0_init_123 : decode cX0_init 123 = .ok (.newarray .int, 2) := dk_188_10 (dk_at dksX0_init_5 3 rfl rfl)
theorem dX0_init_125 : decode cX0_init 125 = .ok (.putfield 70, 3) := dk_181 0 70 (dk_at dksX0_init_5 5 rfl rfl)
theorem dX0_init_128 : decode cX0_init 128 = .ok (.aload_n 0, 1) := dk_42 (dk_at dksX0_init_5 8 rfl rfl)
theorem dX0_init_129 : decode cX0_init 129 = .ok (.sipush 4374, 3) := dk_17 17 22 (dk_at dksX0_init_5 9 rfl rfl)
theorem dX0_init_132 : decode cX0_init 132 = .ok (.newarray .byte, 2) := dk_188_8 (dk_at dksX0_init_5 12 rfl rfl)
theorem dX0_init_134 : decode cX0_init 134 = .ok (.putfield 73, 3) := dk_181 0 73 (dk_at dksX0_init_5 14 rfl rfl)
theorem dX0_init_137 : decode cX0_init 137 = .ok (.aload_n 0, 1) := dk_42 (dk_at dksX0_init_5 17 rfl rfl)
theorem dX0_init_138 : decode cX0_init 138 = .ok (.bipush 6, 2) := dk_16 6 (dk_at dksX0_init_5 18 rfl rfl)
theorem dX0_init_140 : decode cX0_init 140 = .ok (.newarray .int, 2) := dk_188_10 (dk_at dksX0_init_5 20 rfl rfl)
theorem dX0_init_142 : decode cX0_init 142 = .ok (.dup, 1) := dk_89 (dk_at dksX0_init_5 22 rfl rfl)
theorem dX0_init_143 : decode cX0_init 143 = .ok (.iconst 0, 1) := dk_3 (dk_at dksX0_init_5 23 rfl rfl)
theorem dX0_init_144 : decode cX0_init 144 = .ok (.iconst 1, 1) := dk_4 (dk_at dksX0_init_6 0 rfl rfl)
theorem dX0_init_145 : decode cX0_init 145 = .ok (.iastore, 1) := dk_79 (dk_at dksX0_init_6 1 rfl rfl)
theorem dX0_init_146 : decode cX0_init 146 = .ok (.dup, 1) := dk_89 (dk_at dksX0_init_6 2 rfl rfl)
theorem dX0_init_147 : decode cX0_init 147 = .ok (.iconst 1, 1) := dk_4 (dk_at dksX0_init_6 3 rfl rfl)
theorem dX0_init_148 : decode cX0_init 148 = .ok (.iconst 3, 1) := dk_6 (dk_at dksX0_init_6 4 rfl rfl)
theorem dX0_init_149 : decode cX0_init 149 = .ok (.iastore, 1) := dk_79 (dk_at dksX0_init_6 5 rfl rfl)
theorem dX0_init_150 : decode cX0_init 150 = .ok (.dup, 1) := dk_89 (dk_at dksX0_init_6 6 rfl rfl)
theorem dX0_init_151 : decode cX0_init 151 = .ok (.iconst 2, 1) := dk_5 (dk_at dksX0_init_6 7 rfl rfl)
theorem dX0_init_152 : decode cX0_init 152 = .ok (.bipush 9, 2) := dk_16 9 (dk_at dksX0_init_6 8 rfl rfl)
theorem dX0_init_154 : decode cX0_init 154 = .ok (.iastore, 1) := dk_79 (dk_at dksX0_init_6 10 rfl rfl)
theorem dX0_init_155 : decode cX0_init 155 = .ok (.dup, 1) := dk_89 (dk_at dksX0_init_6 11 rfl rfl)
theorem dX0_init_156 : decode cX0_init 156 = .ok (.iconst 3, 1) := dk_6 (dk_at dksX0_init_6 12 rfl rfl)
theorem dX0_init_157 : decode cX0_init 157 = .ok (.bipush 27, 2) := dk_16 27 (dk_at dksX0_init_6 13 rfl rfl)
theorem dX0_init_159 : decode cX0_init 159 = .ok (.iastore, 1) := dk_79 (dk_at dksX0_init_6 15 rfl rfl)
theorem dX0_init_160 : decode cX0_init 160 = .ok (.dup, 1) := dk_89 (dk_at dksX0_init_6 16 rfl rfl)
theorem dX0_init_161 : decode cX0_init 161 = .ok (.iconst 4, 1) := dk_7 (dk_at dksX0_init_6 17 rfl rfl)
theorem dX0_init_162 : decode cX0_init 162 = .ok (.bipush 81, 2) := dk_16 81 (dk_at dksX0_init_6 18 rfl rfl)
theorem dX0_init_164 : decode cX0_init 164 = .ok (.iastore, 1) := dk_79 (dk_at dksX0_init_6 20 rfl rfl)
theorem dX0_init_165 : decode cX0_init 165 = .ok (.dup, 1) := dk_89 (dk_at dksX0_init_6 21 rfl rfl)
theorem dX0_init_166 : decode cX0_init 166 = .ok (.iconst 5, 1) := dk_8 (dk_at dksX0_init_6 22 rfl rfl)
theorem dX0_init_167 : decode cX0_init 167 = .ok (.sipush 243, 3) := dk_17 0 243 (dk_at dksX0_init_7 0 rfl rfl)
theorem dX0_init_170 : decode cX0_init 170 = .ok (.iastore, 1) := dk_79 (dk_at dksX0_init_7 3 rfl rfl)
theorem dX0_init_171 : decode cX0_init 171 = .ok (.putfield 76, 3) := dk_181 0 76 (dk_at dksX0_init_7 4 rfl rfl)
theorem dX0_init_174 : decode cX0_init 174 = .ok (.aload_n 0, 1) := dk_42 (dk_at dksX0_init_7 7 rfl rfl)
theorem dX0_init_175 : decode cX0_init 175 = .ok (.iconst 2, 1) := dk_5 (dk_at dksX0_init_7 8 rfl rfl)
theorem dX0_init_176 : decode cX0_init 176 = .ok (.newarray .int, 2) := dk_188_10 (dk_at dksX0_init_7 9 rfl rfl)
theorem dX0_init_178 : decode cX0_init 178 = .ok (.putfield 79, 3) := dk_181 0 79 (dk_at dksX0_init_7 11 rfl rfl)
theorem dX0_init_181 : decode cX0_init 181 = .ok (.aload_n 0, 1) := dk_42 (dk_at dksX0_init_7 14 rfl rfl)
theorem dX0_init_182 : decode cX0_init 182 = .ok (.iconst 4, 1) := dk_7 (dk_at dksX0_init_7 15 rfl rfl)
theorem dX0_init_183 : decode cX0_init 183 = .ok (.anewarray 82, 3) := dk_189 0 82 (dk_at dksX0_init_7 16 rfl rfl)
theorem dX0_init_186 : decode cX0_init 186 = .ok (.dup, 1) := dk_89 (dk_at dksX0_init_7 19 rfl rfl)
theorem dX0_init_187 : decode cX0_init 187 = .ok (.iconst 0, 1) := dk_3 (dk_at dksX0_init_7 20 rfl rfl)
theorem dX0_init_188 : decode cX0_init 188 = .ok (.new 82, 3) := dk_187 0 82 (dk_at dksX0_init_7 21 rfl rfl)
theorem dX0_init_191 : decode cX0_init 191 = .ok (.dup, 1) := dk_89 (dk_at dksX0_init_8 0 rfl rfl)
theorem dX0_init_192 : decode cX0_init 192 = .ok (.invokespecial 84, 3) := dk_183 0 84 (dk_at dksX0_init_8 1 rfl rfl)
theorem dX0_init_195 : decode cX0_init 195 = .ok (.aastore, 1) := dk_83 (dk_at dksX0_init_8 4 rfl rfl)
theorem dX0_init_196 : decode cX0_init 196 = .ok (.dup, 1) := dk_89 (dk_at dksX0_init_8 5 rfl rfl)
theorem dX0_init_197 : decode cX0_init 197 = .ok (.iconst 1, 1) := dk_4 (dk_at dksX0_init_8 6 rfl rfl)
theorem dX0_init_198 : decode cX0_init 198 = .ok (.new 82, 3) := dk_187 0 82 (dk_at dksX0_init_8 7 rfl rfl)
theorem dX0_init_201 : decode cX0_init 201 = .ok (.dup, 1) := dk_89 (dk_at dksX0_init_8 10 rfl rfl)
theorem dX0_init_202 : decode cX0_init 202 = .ok (.invokespecial 84, 3) := dk_183 0 84 (dk_at dksX0_init_8 11 rfl rfl)
theorem dX0_init_205 : decode cX0_init 205 = .ok (.aastore, 1) := dk_83 (dk_at dksX0_init_8 14 rfl rfl)
theorem dX0_init_206 : decode cX0_init 206 = .ok (.dup, 1) := dk_89 (dk_at dksX0_init_8 15 rfl rfl)
theorem dX0_init_207 : decode cX0_init 207 = .ok (.iconst 2, 1) := dk_5 (dk_at dksX0_init_8 16 rfl rfl)
theorem dX0_init_208 : decode cX0_init 208 = .ok (.new 82, 3) := dk_187 0 82 (dk_at dksX0_init_8 17 rfl rfl)
theorem dX0_init_211 : decode cX0_init 211 = .ok (.dup, 1) := dk_89 (dk_at dksX0_init_8 20 rfl rfl)
theorem dX0_init_212 : decode cX0_init 212 = .ok (.invokespecial 84, 3) := dk_183 0 84 (dk_at dksX0_init_8 21 rfl rfl)
theorem dX0_init_215 : decode cX0_init 215 = .ok (.aastore, 1) := dk_83 (dk_at dksX0_init_9 0 rfl rfl)
theorem dX0_init_216 : decode cX0_init 216 = .ok (.dup, 1) := dk_89 (dk_at dksX0_init_9 1 rfl rfl)
theorem dX0_init_217 : decode cX0_init 217 = .ok (.iconst 3, 1) := dk_6 (dk_at dksX0_init_9 2 rfl rfl)
theorem dX0_init_218 : decode cX0_init 218 = .ok (.new 82, 3) := dk_187 0 82 (dk_at dksX0_init_9 3 rfl rfl)
theorem dX0_init_221 : decode cX0_init 221 = .ok (.dup, 1) := dk_89 (dk_at dksX0_init_9 6 rfl rfl)
theorem dX0_init_222 : decode cX0_init 222 = .ok (.invokespecial 84, 3) := dk_183 0 84 (dk_at dksX0_init_9 7 rfl rfl)
theorem dX0_init_225 : decode cX0_init 225 = .ok (.aastore, 1) := dk_83 (dk_at dksX0_init_9 10 rfl rfl)
theorem dX0_init_226 : decode cX0_init 226 = .ok (.putfield 85, 3) := dk_181 0 85 (dk_at dksX0_init_9 11 rfl rfl)
theorem dX0_init_229 : decode cX0_init 229 = .ok (.aload_n 0, 1) := dk_42 (dk_at dksX0_init_9 14 rfl rfl)
theorem dX0_init_230 : decode cX0_init 230 = .ok (.new 89, 3) := dk_187 0 89 (dk_at dksX0_init_9 15 rfl rfl)
theorem dX0_init_233 : decode cX0_init 233 = .ok (.dup, 1) := dk_89 (dk_at dksX0_init_9 18 rfl rfl)
theorem dX0_init_234 : decode cX0_init 234 = .ok (.invokespecial 91, 3) := dk_183 0 91 (dk_at dksX0_init_9 19 rfl rfl)
theorem dX0_init_237 : decode cX0_init 237 = .ok (.putfield 92, 3) := dk_181 0 92 (dk_at dksX0_init_10 0 rfl rfl)
theorem dX0_init_240 : decode cX0_init 240 = .ok (.return_, 1) := dk_177 (dk_at dksX0_init_10 3 rfl rfl)
abbrev cX0_feed : ByteArray := prog_1_method_5_code
def yX0_feed : MethodName := ⟨RX0, "feed", "(IIIII)I"⟩
def dkwX0_feed_2 : List UInt8 := [172]
abbrev dktX0_feed_2 : List UInt8 := dkwX0_feed_2 ++ []
def dkwX0_feed_1 : List UInt8 := [182, 0, 99, 42, 29, 182, 0, 99, 42, 21, 4, 182, 0, 99, 42, 21, 5, 182, 0, 99, 42, 180, 0, 96]
abbrev dktX0_feed_1 : List UInt8 := dkwX0_feed_1 ++ dktX0_feed_2
def dkwX0_feed_0 : List UInt8 := [42, 180, 0, 96, 16, 20, 96, 17, 4, 176, 164, 0, 5, 2, 172, 42, 27, 182, 0, 99, 42, 28]
abbrev dktX0_feed_0 : List UInt8 := dkwX0_feed_0 ++ dktX0_feed_1
theorem dksX0_feed_0 : cX0_feed.data.toList.drop 0 = dktX0_feed_0 := by decide +kernel
theorem dksX0_feed_1 : cX0_feed.data.toList.drop 22 = dktX0_feed_1 := dk_seg dksX0_feed_0 22 rfl rfl
theorem dksX0_feed_2 : cX0_feed.data.toList.drop 46 = dktX0_feed_2 := dk_seg dksX0_feed_1 24 rfl rfl
theorem dX0_feed_0 : decode cX0_feed 0 = .ok (.aload_n 0, 1) := dk_42 (dk_at dksX0_feed_0 0 rfl rfl)
theorem dX0_feed_1 : decode cX0_feed 1 = .ok (.getfield 96, 3) := dk_180 0 96 (dk_at dksX0_feed_0 1 rfl rfl)
theorem dX0_feed_4 : decode cX0_feed 4 = .ok (.bipush 20, 2) := dk_16 20 (dk_at dksX0_feed_0 4 rfl rfl)
theorem dX0_feed_6 : decode cX0_feed 6 = .ok (.iadd, 1) := dk_96 (dk_at dksX0_feed_0 6 rfl rfl)
theorem dX0_feed_7 : decode cX0_feed 7 = .ok (.sipush 1200, 3) := dk_17 4 176 (dk_at dksX0_feed_0 7 rfl rfl)
theorem dX0_feed_10 : decode cX0_feed 10 = .ok (.if_icmp .le 5, 3) := dk_164 0 5 (dk_at dksX0_feed_0 10 rfl rfl)
theorem dX0_feed_13 : decode cX0_feed 13 = .ok (.iconst (-1), 1) := dk_2 (dk_at dksX0_feed_0 13 rfl rfl)
theorem dX0_feed_14 : decode cX0_feed 14 = .ok (.ireturn, 1) := dk_172 (dk_at dksX0_feed_0 14 rfl rfl)
theorem dX0_feed_15 : decode cX0_feed 15 = .ok (.aload_n 0, 1) := dk_42 (dk_at dksX0_feed_0 15 rfl rfl)
theorem dX0_feed_16 : decode cX0_feed 16 = .ok (.iload_n 1, 1) := dk_27 (dk_at dksX0_feed_0 16 rfl rfl)
theorem dX0_feed_17 : decode cX0_feed 17 = .ok (.invokevirtual 99, 3) := dk_182 0 99 (dk_at dksX0_feed_0 17 rfl rfl)
theorem dX0_feed_20 : decode cX0_feed 20 = .ok (.aload_n 0, 1) := dk_42 (dk_at dksX0_feed_0 20 rfl rfl)
theorem dX0_feed_21 : decode cX0_feed 21 = .ok (.iload_n 2, 1) := dk_28 (dk_at dksX0_feed_0 21 rfl rfl)
theorem dX0_feed_22 : decode cX0_feed 22 = .ok (.invokevirtual 99, 3) := dk_182 0 99 (dk_at dksX0_feed_1 0 rfl rfl)
theorem dX0_feed_25 : decode cX0_feed 25 = .ok (.aload_n 0, 1) := dk_42 (dk_at dksX0_feed_1 3 rfl rfl)
theorem dX0_feed_26 : decode cX0_feed 26 = .ok (.iload_n 3, 1) := dk_29 (dk_at dksX0_feed_1 4 rfl rfl)
theorem dX0_feed_27 : decode cX0_feed 27 = .ok (.invokevirtual 99, 3) := dk_182 0 99 (dk_at dksX0_feed_1 5 rfl rfl)
theorem dX0_feed_30 : decode cX0_feed 30 = .ok (.aload_n 0, 1) := dk_42 (dk_at dksX0_feed_1 8 rfl rfl)
theorem dX0_feed_31 : decode cX0_feed 31 = .ok (.iload 4, 2) := dk_21 4 (dk_at dksX0_feed_1 9 rfl rfl)
theorem dX0_feed_33 : decode cX0_feed 33 = .ok (.invokevirtual 99, 3) := dk_182 0 99 (dk_at dksX0_feed_1 11 rfl rfl)
theorem dX0_feed_36 : decode cX0_feed 36 = .ok (.aload_n 0, 1) := dk_42 (dk_at dksX0_feed_1 14 rfl rfl)
theorem dX0_feed_37 : decode cX0_feed 37 = .ok (.iload 5, 2) := dk_21 5 (dk_at dksX0_feed_1 15 rfl rfl)
theorem dX0_feed_39 : decode cX0_feed 39 = .ok (.invokevirtual 99, 3) := dk_182 0 99 (dk_at dksX0_feed_1 17 rfl rfl)
theorem dX0_feed_42 : decode cX0_feed 42 = .ok (.aload_n 0, 1) := dk_42 (dk_at dksX0_feed_1 20 rfl rfl)
theorem dX0_feed_43 : decode cX0_feed 43 = .ok (.getfield 96, 3) := dk_180 0 96 (dk_at dksX0_feed_1 21 rfl rfl)
theorem dX0_feed_46 : decode cX0_feed 46 = .ok (.ireturn, 1) := dk_172 (dk_at dksX0_feed_2 0 rfl rfl)
abbrev cX0_puts : ByteArray := prog_1_method_4_code
def yX0_puts : MethodName := ⟨RX0, "puts", "(I)V"⟩
def dkwX0_puts_1 : List UInt8 := [180, 0, 96, 4, 96, 181, 0, 96, 132, 2, 248, 167, 255, 226, 177]
abbrev dktX0_puts_1 : List UInt8 := dkwX0_puts_1 ++ []
def dkwX0_puts_0 : List UInt8 := [16, 24, 61, 28, 155, 0, 32, 42, 180, 0, 16, 42, 180, 0, 96, 27, 28, 122, 145, 84, 42, 89]
abbrev dktX0_puts_0 : List UInt8 := dkwX0_puts_0 ++ dktX0_puts_1
theorem dksX0_puts_0 : cX0_puts.data.toList.drop 0 = dktX0_puts_0 := by decide +kernel
theorem dksX0_puts_1 : cX0_puts.data.toList.drop 22 = dktX0_puts_1 := dk_seg dksX0_puts_0 22 rfl rfl
theorem dX0_puts_0 : decode cX0_puts 0 = .ok (.bipush 24, 2) := dk_16 24 (dk_at dksX0_puts_0 0 rfl rfl)
theorem dX0_puts_2 : decode cX0_puts 2 = .ok (.istore_n 2, 1) := dk_61 (dk_at dksX0_puts_0 2 rfl rfl)
theorem dX0_puts_3 : decode cX0_puts 3 = .ok (.iload_n 2, 1) := dk_28 (dk_at dksX0_puts_0 3 rfl rfl)
theorem dX0_puts_4 : decode cX0_puts 4 = .ok (.ifCond .lt 32, 3) := dk_155 0 32 (dk_at dksX0_puts_0 4 rfl rfl)
theorem dX0_puts_7 : decode cX0_puts 7 = .ok (.aload_n 0, 1) := dk_42 (dk_at dksX0_puts_0 7 rfl rfl)
theorem dX0_puts_8 : decode cX0_puts 8 = .ok (.getfield 16, 3) := dk_180 0 16 (dk_at dksX0_puts_0 8 rfl rfl)
theorem dX0_puts_11 : decode cX0_puts 11 = .ok (.aload_n 0, 1) := dk_42 (dk_at dksX0_puts_0 11 rfl rfl)
theorem dX0_puts_12 : decode cX0_puts 12 = .ok (.getfield 96, 3) := dk_180 0 96 (dk_at dksX0_puts_0 12 rfl rfl)
theorem dX0_puts_15 : decode cX0_puts 15 = .ok (.iload_n 1, 1) := dk_27 (dk_at dksX0_puts_0 15 rfl rfl)
theorem dX0_puts_16 : decode cX0_puts 16 = .ok (.iload_n 2, 1) := dk_28 (dk_at dksX0_puts_0 16 rfl rfl)
theorem dX0_puts_17 : decode cX0_puts 17 = .ok (.ishr, 1) := dk_122 (dk_at dksX0_puts_0 17 rfl rfl)
theorem dX0_puts_18 : decode cX0_puts 18 = .ok (.i2b, 1) := dk_145 (dk_at dksX0_puts_0 18 rfl rfl)
theorem dX0_puts_19 : decode cX0_puts 19 = .ok (.bastore, 1) := dk_84 (dk_at dksX0_puts_0 19 rfl rfl)
theorem dX0_puts_20 : decode cX0_puts 20 = .ok (.aload_n 0, 1) := dk_42 (dk_at dksX0_puts_0 20 rfl rfl)
theorem dX0_puts_21 : decode cX0_puts 21 = .ok (.dup, 1) := dk_89 (dk_at dksX0_puts_0 21 rfl rfl)
theorem dX0_puts_22 : decode cX0_puts 22 = .ok (.getfield 96, 3) := dk_180 0 96 (dk_at dksX0_puts_1 0 rfl rfl)
theorem dX0_puts_25 : decode cX0_puts 25 = .ok (.iconst 1, 1) := dk_4 (dk_at dksX0_puts_1 3 rfl rfl)
theorem dX0_puts_26 : decode cX0_puts 26 = .ok (.iadd, 1) := dk_96 (dk_at dksX0_puts_1 4 rfl rfl)
theorem dX0_puts_27 : decode cX0_puts 27 = .ok (.putfield 96, 3) := dk_181 0 96 (dk_at dksX0_puts_1 5 rfl rfl)
theorem dX0_puts_30 : decode cX0_puts 30 = .ok (.iinc 2 (-8), 3) := dk_132 2 248 (dk_at dksX0_puts_1 8 rfl rfl)
theorem dX0_puts_33 : decode cX0_puts 33 = .ok (.goto (-30), 3) := dk_167 255 226 (dk_at dksX0_puts_1 11 rfl rfl)
theorem dX0_puts_36 : decode cX0_puts 36 = .ok (.return_, 1) := dk_177 (dk_at dksX0_puts_1 14 rfl rfl)
abbrev cX0_end : ByteArray := prog_1_method_6_code
def yX0_end : MethodName := ⟨RX0, "end", "(I)I"⟩
def dkwX0_end_0 : List UInt8 := [27, 133, 9, 42, 180, 0, 96, 133, 184, 0, 103, 154, 0, 5, 2, 172, 42, 27, 181, 0, 96, 27, 172]
abbrev dktX0_end_0 : List UInt8 := dkwX0_end_0 ++ []
theorem dksX0_end_0 : cX0_end.data.toList.drop 0 = dktX0_end_0 := by decide +kernel
theorem dX0_end_0 : decode cX0_end 0 = .ok (.iload_n 1, 1) := dk_27 (dk_at dksX0_end_0 0 rfl rfl)
theorem dX0_end_1 : decode cX0_end 1 = .ok (.i2l, 1) := dk_133 (dk_at dksX0_end_0 1 rfl rfl)
theorem dX0_end_2 : decode cX0_end 2 = .ok (.lconst 0, 1) := dk_9 (dk_at dksX0_end_0 2 rfl rfl)
theorem dX0_end_3 : decode cX0_end 3 = .ok (.aload_n 0, 1) := dk_42 (dk_at dksX0_end_0 3 rfl rfl)
theorem dX0_end_4 : decode cX0_end 4 = .ok (.getfield 96, 3) := dk_180 0 96 (dk_at dksX0_end_0 4 rfl rfl)
theorem dX0_end_7 : decode cX0_end 7 = .ok (.i2l, 1) := dk_133 (dk_at dksX0_end_0 7 rfl rfl)
theorem dX0_end_8 : decode cX0_end 8 = .ok (.invokestatic 103, 3) := dk_184 0 103 (dk_at dksX0_end_0 8 rfl rfl)
theorem dX0_end_11 : decode cX0_end 11 = .ok (.ifCond .ne 5, 3) := dk_154 0 5 (dk_at dksX0_end_0 11 rfl rfl)
theorem dX0_end_14 : decode cX0_end 14 = .ok (.iconst (-1), 1) := dk_2 (dk_at dksX0_end_0 14 rfl rfl)
theorem dX0_end_15 : decode cX0_end 15 = .ok (.ireturn, 1) := dk_172 (dk_at dksX0_end_0 15 rfl rfl)
theorem dX0_end_16 : decode cX0_end 16 = .ok (.aload_n 0, 1) := dk_42 (dk_at dksX0_end_0 16 rfl rfl)
theorem dX0_end_17 : decode cX0_end 17 = .ok (.iload_n 1, 1) := dk_27 (dk_at dksX0_end_0 17 rfl rfl)
theorem dX0_end_18 : decode cX0_end 18 = .ok (.putfield 96, 3) := dk_181 0 96 (dk_at dksX0_end_0 18 rfl rfl)
theorem dX0_end_21 : decode cX0_end 21 = .ok (.iload_n 1, 1) := dk_27 (dk_at dksX0_end_0 21 rfl rfl)
theorem dX0_end_22 : decode cX0_end 22 = .ok (.ireturn, 1) := dk_172 (dk_at dksX0_end_0 22 rfl rfl)
abbrev cX0_isIn : ByteArray := prog_1_method_1_code
def yX0_isIn : MethodName := ⟨RX0, "isIn", "(JJJ)Z"⟩
def dkwX0_isIn_0 : List UInt8 := [30, 32, 148, 155, 0, 14, 30, 22, 4, 148, 157, 0, 7, 4, 167, 0, 4, 3, 172]
abbrev dktX0_isIn_0 : List UInt8 := dkwX0_isIn_0 ++ []
theorem dksX0_isIn_0 : cX0_isIn.data.toList.drop 0 = dktX0_isIn_0 := by decide +kernel
theorem dX0_isIn_0 : decode cX0_isIn 0 = .ok (.lload_n 0, 1) := dk_30 (dk_at dksX0_isIn_0 0 rfl rfl)
theorem dX0_isIn_1 : decode cX0_isIn 1 = .ok (.lload_n 2, 1) := dk_32 (dk_at dksX0_isIn_0 1 rfl rfl)
theorem dX0_isIn_2 : decode cX0_isIn 2 = .ok (.lcmp, 1) := dk_148 (dk_at dksX0_isIn_0 2 rfl rfl)
theorem dX0_isIn_3 : decode cX0_isIn 3 = .ok (.ifCond .lt 14, 3) := dk_155 0 14 (dk_at dksX0_isIn_0 3 rfl rfl)
theorem dX0_isIn_6 : decode cX0_isIn 6 = .ok (.lload_n 0, 1) := dk_30 (dk_at dksX0_isIn_0 6 rfl rfl)
theorem dX0_isIn_7 : decode cX0_isIn 7 = .ok (.lload 4, 2) := dk_22 4 (dk_at dksX0_isIn_0 7 rfl rfl)
theorem dX0_isIn_9 : decode cX0_isIn 9 = .ok (.lcmp, 1) := dk_148 (dk_at dksX0_isIn_0 9 rfl rfl)
theorem dX0_isIn_10 : decode cX0_isIn 10 = .ok (.ifCond .gt 7, 3) := dk_157 0 7 (dk_at dksX0_isIn_0 10 rfl rfl)
theorem dX0_isIn_13 : decode cX0_isIn 13 = .ok (.iconst 1, 1) := dk_4 (dk_at dksX0_isIn_0 13 rfl rfl)
theorem dX0_isIn_14 : decode cX0_isIn 14 = .ok (.goto 4, 3) := dk_167 0 4 (dk_at dksX0_isIn_0 14 rfl rfl)
theorem dX0_isIn_17 : decode cX0_isIn 17 = .ok (.iconst 0, 1) := dk_3 (dk_at dksX0_isIn_0 17 rfl rfl)
theorem dX0_isIn_18 : decode cX0_isIn 18 = .ok (.ireturn, 1) := dk_172 (dk_at dksX0_isIn_0 18 rfl rfl)
abbrev cX0_dance : ByteArray := prog_1_method_7_code
def yX0_dance : MethodName := ⟨RX0, "dance", "()I"⟩
def dkwX0_dance_3 : List UInt8 := [181, 0, 96, 45, 191]
abbrev dktX0_dance_3 : List UInt8 := dkwX0_dance_3 ++ []
def dkwX0_dance_2 : List UInt8 := [181, 0, 114, 42, 43, 180, 0, 125, 181, 0, 20, 16, 252, 61, 42, 3, 181, 0, 96, 28, 172, 78, 42, 3]
abbrev dktX0_dance_2 : List UInt8 := dkwX0_dance_2 ++ dktX0_dance_3
def dkwX0_dance_1 : List UInt8 := [181, 0, 20, 42, 180, 0, 12, 180, 0, 117, 60, 42, 3, 181, 0, 96, 27, 172, 76, 42, 43, 180, 0, 122]
abbrev dktX0_dance_1 : List UInt8 := dkwX0_dance_1 ++ dktX0_dance_2
def dkwX0_dance_0 : List UInt8 := [42, 187, 0, 107, 89, 42, 183, 0, 109, 182, 0, 110, 181, 0, 12, 42, 3, 181, 0, 114, 42, 2]
abbrev dktX0_dance_0 : List UInt8 := dkwX0_dance_0 ++ dktX0_dance_1
theorem dksX0_dance_0 : cX0_dance.data.toList.drop 0 = dktX0_dance_0 := by decide +kernel
theorem dksX0_dance_1 : cX0_dance.data.toList.drop 22 = dktX0_dance_1 := dk_seg dksX0_dance_0 22 rfl rfl
theorem dksX0_dance_2 : cX0_dance.data.toList.drop 46 = dktX0_dance_2 := dk_seg dksX0_dance_1 24 rfl rfl
theorem dksX0_dance_3 : cX0_dance.data.toList.drop 70 = dktX0_dance_3 := dk_seg dksX0_dance_2 24 rfl rfl
theorem dX0_dance_0 : decode cX0_dance 0 = .ok (.aload_n 0, 1) := dk_42 (dk_at dksX0_dance_0 0 rfl rfl)
theorem dX0_dance_1 : decode cX0_dance 1 = .ok (.new 107, 3) := dk_187 0 107 (dk_at dksX0_dance_0 1 rfl rfl)
theorem dX0_dance_4 : decode cX0_dance 4 = .ok (.dup, 1) := dk_89 (dk_at dksX0_dance_0 4 rfl rfl)
theorem dX0_dance_5 : decode cX0_dance 5 = .ok (.aload_n 0, 1) := dk_42 (dk_at dksX0_dance_0 5 rfl rfl)
theorem dX0_dance_6 : decode cX0_dance 6 = .ok (.invokespecial 109, 3) := dk_183 0 109 (dk_at dksX0_dance_0 6 rfl rfl)
theorem dX0_dance_9 : decode cX0_dance 9 = .ok (.invokevirtual 110, 3) := dk_182 0 110 (dk_at dksX0_dance_0 9 rfl rfl)
theorem dX0_dance_12 : decode cX0_dance 12 = .ok (.putfield 12, 3) := dk_181 0 12 (dk_at dksX0_dance_0 12 rfl rfl)
theorem dX0_dance_15 : decode cX0_dance 15 = .ok (.aload_n 0, 1) := dk_42 (dk_at dksX0_dance_0 15 rfl rfl)
theorem dX0_dance_16 : decode cX0_dance 16 = .ok (.iconst 0, 1) := dk_3 (dk_at dksX0_dance_0 16 rfl rfl)
theorem dX0_dance_17 : decode cX0_dance 17 = .ok (.putfield 114, 3) := dk_181 0 114 (dk_at dksX0_dance_0 17 rfl rfl)
theorem dX0_dance_20 : decode cX0_dance 20 = .ok (.aload_n 0, 1) := dk_42 (dk_at dksX0_dance_0 20 rfl rfl)
theorem dX0_dance_21 : decode cX0_dance 21 = .ok (.iconst (-1), 1) := dk_2 (dk_at dksX0_dance_0 21 rfl rfl)
theorem dX0_dance_22 : decode cX0_dance 22 = .ok (.putfield 20, 3) := dk_181 0 20 (dk_at dksX0_dance_1 0 rfl rfl)
theorem dX0_dance_25 : decode cX0_dance 25 = .ok (.aload_n 0, 1) := dk_42 (dk_at dksX0_dance_1 3 rfl rfl)
theorem dX0_dance_26 : decode cX0_dance 26 = .ok (.getfield 12, 3) := dk_180 0 12 (dk_at dksX0_dance_1 4 rfl rfl)
theorem dX0_dance_29 : decode cX0_dance 29 = .ok (.getfield 117, 3) := dk_180 0 117 (dk_at dksX0_dance_1 7 rfl rfl)
theorem dX0_dance_32 : decode cX0_dance 32 = .ok (.istore_n 1, 1) := dk_60 (dk_at dksX0_dance_1 10 rfl rfl)
theorem dX0_dance_33 : decode cX0_dance 33 = .ok (.aload_n 0, 1) := dk_42 (dk_at dksX0_dance_1 11 rfl rfl)
theorem dX0_dance_34 : decode cX0_dance 34 = .ok (.iconst 0, 1) := dk_3 (dk_at dksX0_dance_1 12 rfl rfl)
theorem dX0_dance_35 : decode cX0_dance 35 = .ok (.putfield 96, 3) := dk_181 0 96 (dk_at dksX0_dance_1 13 rfl rfl)
theorem dX0_dance_38 : decode cX0_dance 38 = .ok (.iload_n 1, 1) := dk_27 (dk_at dksX0_dance_1 16 rfl rfl)
theorem dX0_dance_39 : decode cX0_dance 39 = .ok (.ireturn, 1) := dk_172 (dk_at dksX0_dance_1 17 rfl rfl)
theorem dX0_dance_40 : decode cX0_dance 40 = .ok (.astore_n 1, 1) := dk_76 (dk_at dksX0_dance_1 18 rfl rfl)
theorem dX0_dance_41 : decode cX0_dance 41 = .ok (.aload_n 0, 1) := dk_42 (dk_at dksX0_dance_1 19 rfl rfl)
theorem dX0_dance_42 : decode cX0_dance 42 = .ok (.aload_n 1, 1) := dk_43 (dk_at dksX0_dance_1 20 rfl rfl)
theorem dX0_dance_43 : decode cX0_dance 43 = .ok (.getfield 122, 3) := dk_180 0 122 (dk_at dksX0_dance_1 21 rfl rfl)
theorem dX0_dance_46 : decode cX0_dance 46 = .ok (.putfield 114, 3) := dk_181 0 114 (dk_at dksX0_dance_2 0 rfl rfl)
theorem dX0_dance_49 : decode cX0_dance 49 = .ok (.aload_n 0, 1) := dk_42 (dk_at dksX0_dance_2 3 rfl rfl)
theorem dX0_dance_50 : decode cX0_dance 50 = .ok (.aload_n 1, 1) := dk_43 (dk_at dksX0_dance_2 4 rfl rfl)
theorem dX0_dance_51 : decode cX0_dance 51 = .ok (.getfield 125, 3) := dk_180 0 125 (dk_at dksX0_dance_2 5 rfl rfl)
theorem dX0_dance_54 : decode cX0_dance 54 = .ok (.putfield 20, 3) := dk_181 0 20 (dk_at dksX0_dance_2 8 rfl rfl)
theorem dX0_dance_57 : decode cX0_dance 57 = .ok (.bipush (-4), 2) := dk_16 252 (dk_at dksX0_dance_2 11 rfl rfl)
theorem dX0_dance_59 : decode cX0_dance 59 = .ok (.istore_n 2, 1) := dk_61 (dk_at dksX0_dance_2 13 rfl rfl)
theorem dX0_dance_60 : decode cX0_dance 60 = .ok (.aload_n 0, 1) := dk_42 (dk_at dksX0_dance_2 14 rfl rfl)
theorem dX0_dance_61 : decode cX0_dance 61 = .ok (.iconst 0, 1) := dk_3 (dk_at dksX0_dance_2 15 rfl rfl)
theorem dX0_dance_62 : decode cX0_dance 62 = .ok (.putfield 96, 3) := dk_181 0 96 (dk_at dksX0_dance_2 16 rfl rfl)
theorem dX0_dance_65 : decode cX0_dance 65 = .ok (.iload_n 2, 1) := dk_28 (dk_at dksX0_dance_2 19 rfl rfl)
theorem dX0_dance_66 : decode cX0_dance 66 = .ok (.ireturn, 1) := dk_172 (dk_at dksX0_dance_2 20 rfl rfl)
theorem dX0_dance_67 : decode cX0_dance 67 = .ok (.astore_n 3, 1) := dk_78 (dk_at dksX0_dance_2 21 rfl rfl)
theorem dX0_dance_68 : decode cX0_dance 68 = .ok (.aload_n 0, 1) := dk_42 (dk_at dksX0_dance_2 22 rfl rfl)
theorem dX0_dance_69 : decode cX0_dance 69 = .ok (.iconst 0, 1) := dk_3 (dk_at dksX0_dance_2 23 rfl rfl)
theorem dX0_dance_70 : decode cX0_dance 70 = .ok (.putfield 96, 3) := dk_181 0 96 (dk_at dksX0_dance_3 0 rfl rfl)
theorem dX0_dance_73 : decode cX0_dance 73 = .ok (.aload_n 3, 1) := dk_45 (dk_at dksX0_dance_3 3 rfl rfl)
theorem dX0_dance_74 : decode cX0_dance 74 = .ok (.athrow, 1) := dk_191 (dk_at dksX0_dance_3 4 rfl rfl)
abbrev cX0_fault : ByteArray := prog_1_method_8_code
def yX0_fault : MethodName := ⟨RX0, "fault", "(I)I"⟩
def dkwX0_fault_1 : List UInt8 := [172]
abbrev dktX0_fault_1 : List UInt8 := dkwX0_fault_1 ++ []
def dkwX0_fault_0 : List UInt8 := [27, 154, 0, 10, 42, 180, 0, 114, 167, 0, 16, 27, 4, 160, 0, 10, 42, 180, 0, 20, 167, 0, 4, 2]
abbrev dktX0_fault_0 : List UInt8 := dkwX0_fault_0 ++ dktX0_fault_1
theorem dksX0_fault_0 : cX0_fault.data.toList.drop 0 = dktX0_fault_0 := by decide +kernel
theorem dksX0_fault_1 : cX0_fault.data.toList.drop 24 = dktX0_fault_1 := dk_seg dksX0_fault_0 24 rfl rfl
theorem dX0_fault_0 : decode cX0_fault 0 = .ok (.iload_n 1, 1) := dk_27 (dk_at dksX0_fault_0 0 rfl rfl)
theorem dX0_fault_1 : decode cX0_fault 1 = .ok (.ifCond .ne 10, 3) := dk_154 0 10 (dk_at dksX0_fault_0 1 rfl rfl)
theorem dX0_fault_4 : decode cX0_fault 4 = .ok (.aload_n 0, 1) := dk_42 (dk_at dksX0_fault_0 4 rfl rfl)
theorem dX0_fault_5 : decode cX0_fault 5 = .ok (.getfield 114, 3) := dk_180 0 114 (dk_at dksX0_fault_0 5 rfl rfl)
theorem dX0_fault_8 : decode cX0_fault 8 = .ok (.goto 16, 3) := dk_167 0 16 (dk_at dksX0_fault_0 8 rfl rfl)
theorem dX0_fault_11 : decode cX0_fault 11 = .ok (.iload_n 1, 1) := dk_27 (dk_at dksX0_fault_0 11 rfl rfl)
theorem dX0_fault_12 : decode cX0_fault 12 = .ok (.iconst 1, 1) := dk_4 (dk_at dksX0_fault_0 12 rfl rfl)
theorem dX0_fault_13 : decode cX0_fault 13 = .ok (.if_icmp .ne 10, 3) := dk_160 0 10 (dk_at dksX0_fault_0 13 rfl rfl)
theorem dX0_fault_16 : decode cX0_fault 16 = .ok (.aload_n 0, 1) := dk_42 (dk_at dksX0_fault_0 16 rfl rfl)
theorem dX0_fault_17 : decode cX0_fault 17 = .ok (.getfield 20, 3) := dk_180 0 20 (dk_at dksX0_fault_0 17 rfl rfl)
theorem dX0_fault_20 : decode cX0_fault 20 = .ok (.goto 4, 3) := dk_167 0 4 (dk_at dksX0_fault_0 20 rfl rfl)
theorem dX0_fault_23 : decode cX0_fault 23 = .ok (.iconst (-1), 1) := dk_2 (dk_at dksX0_fault_0 23 rfl rfl)
theorem dX0_fault_24 : decode cX0_fault 24 = .ok (.ireturn, 1) := dk_172 (dk_at dksX0_fault_1 0 rfl rfl)
abbrev cX0_step : ByteArray := prog_1_method_18_code
def yX0_step : MethodName := ⟨RX0, "step", "(II)I"⟩
def dkwX0_step_1 : List UInt8 := [180, 0, 12, 27, 28, 182, 0, 155, 167, 0, 4, 2, 172]
abbrev dktX0_step_1 : List UInt8 := dkwX0_step_1 ++ []
def dkwX0_step_0 : List UInt8 := [42, 27, 182, 0, 140, 154, 0, 8, 16, 254, 167, 0, 25, 42, 27, 28, 182, 0, 152, 153, 0, 15, 42]
abbrev dktX0_step_0 : List UInt8 := dkwX0_step_0 ++ dktX0_step_1
theorem dksX0_step_0 : cX0_step.data.toList.drop 0 = dktX0_step_0 := by decide +kernel
theorem dksX0_step_1 : cX0_step.data.toList.drop 23 = dktX0_step_1 := dk_seg dksX0_step_0 23 rfl rfl
theorem dX0_step_0 : decode cX0_step 0 = .ok (.aload_n 0, 1) := dk_42 (dk_at dksX0_step_0 0 rfl rfl)
theorem dX0_step_1 : decode cX0_step 1 = .ok (.iload_n 1, 1) := dk_27 (dk_at dksX0_step_0 1 rfl rfl)
theorem dX0_step_2 : decode cX0_step 2 = .ok (.invokevirtual 140, 3) := dk_182 0 140 (dk_at dksX0_step_0 2 rfl rfl)
theorem dX0_step_5 : decode cX0_step 5 = .ok (.ifCond .ne 8, 3) := dk_154 0 8 (dk_at dksX0_step_0 5 rfl rfl)
theorem dX0_step_8 : decode cX0_step 8 = .ok (.bipush (-2), 2) := dk_16 254 (dk_at dksX0_step_0 8 rfl rfl)
theorem dX0_step_10 : decode cX0_step 10 = .ok (.goto 25, 3) := dk_167 0 25 (dk_at dksX0_step_0 10 rfl rfl)
theorem dX0_step_13 : decode cX0_step 13 = .ok (.aload_n 0, 1) := dk_42 (dk_at dksX0_step_0 13 rfl rfl)
theorem dX0_step_14 : decode cX0_step 14 = .ok (.iload_n 1, 1) := dk_27 (dk_at dksX0_step_0 14 rfl rfl)
theorem dX0_step_15 : decode cX0_step 15 = .ok (.iload_n 2, 1) := dk_28 (dk_at dksX0_step_0 15 rfl rfl)
theorem dX0_step_16 : decode cX0_step 16 = .ok (.invokevirtual 152, 3) := dk_182 0 152 (dk_at dksX0_step_0 16 rfl rfl)
theorem dX0_step_19 : decode cX0_step 19 = .ok (.ifCond .eq 15, 3) := dk_153 0 15 (dk_at dksX0_step_0 19 rfl rfl)
theorem dX0_step_22 : decode cX0_step 22 = .ok (.aload_n 0, 1) := dk_42 (dk_at dksX0_step_0 22 rfl rfl)
theorem dX0_step_23 : decode cX0_step 23 = .ok (.getfield 12, 3) := dk_180 0 12 (dk_at dksX0_step_1 0 rfl rfl)
theorem dX0_step_26 : decode cX0_step 26 = .ok (.iload_n 1, 1) := dk_27 (dk_at dksX0_step_1 3 rfl rfl)
theorem dX0_step_27 : decode cX0_step 27 = .ok (.iload_n 2, 1) := dk_28 (dk_at dksX0_step_1 4 rfl rfl)
theorem dX0_step_28 : decode cX0_step 28 = .ok (.invokevirtual 155, 3) := dk_182 0 155 (dk_at dksX0_step_1 5 rfl rfl)
theorem dX0_step_31 : decode cX0_step 31 = .ok (.goto 4, 3) := dk_167 0 4 (dk_at dksX0_step_1 8 rfl rfl)
theorem dX0_step_34 : decode cX0_step 34 = .ok (.iconst (-1), 1) := dk_2 (dk_at dksX0_step_1 11 rfl rfl)
theorem dX0_step_35 : decode cX0_step 35 = .ok (.ireturn, 1) := dk_172 (dk_at dksX0_step_1 12 rfl rfl)
abbrev cX0_isSide : ByteArray := prog_1_method_11_code
def yX0_isSide : MethodName := ⟨RX0, "isSide", "(I)Z"⟩
def dkwX0_isSide_0 : List UInt8 := [42, 182, 0, 128, 153, 0, 15, 27, 5, 184, 0, 132, 153, 0, 7, 4, 167, 0, 4, 3, 172]
abbrev dktX0_isSide_0 : List UInt8 := dkwX0_isSide_0 ++ []
theorem dksX0_isSide_0 : cX0_isSide.data.toList.drop 0 = dktX0_isSide_0 := by decide +kernel
theorem dX0_isSide_0 : decode cX0_isSide 0 = .ok (.aload_n 0, 1) := dk_42 (dk_at dksX0_isSide_0 0 rfl rfl)
theorem dX0_isSide_1 : decode cX0_isSide 1 = .ok (.invokevirtual 128, 3) := dk_182 0 128 (dk_at dksX0_isSide_0 1 rfl rfl)
theorem dX0_isSide_4 : decode cX0_isSide 4 = .ok (.ifCond .eq 15, 3) := dk_153 0 15 (dk_at dksX0_isSide_0 4 rfl rfl)
theorem dX0_isSide_7 : decode cX0_isSide 7 = .ok (.iload_n 1, 1) := dk_27 (dk_at dksX0_isSide_0 7 rfl rfl)
theorem dX0_isSide_8 : decode cX0_isSide 8 = .ok (.iconst 2, 1) := dk_5 (dk_at dksX0_isSide_0 8 rfl rfl)
theorem dX0_isSide_9 : decode cX0_isSide 9 = .ok (.invokestatic 132, 3) := dk_184 0 132 (dk_at dksX0_isSide_0 9 rfl rfl)
theorem dX0_isSide_12 : decode cX0_isSide 12 = .ok (.ifCond .eq 7, 3) := dk_153 0 7 (dk_at dksX0_isSide_0 12 rfl rfl)
theorem dX0_isSide_15 : decode cX0_isSide 15 = .ok (.iconst 1, 1) := dk_4 (dk_at dksX0_isSide_0 15 rfl rfl)
theorem dX0_isSide_16 : decode cX0_isSide 16 = .ok (.goto 4, 3) := dk_167 0 4 (dk_at dksX0_isSide_0 16 rfl rfl)
theorem dX0_isSide_19 : decode cX0_isSide 19 = .ok (.iconst 0, 1) := dk_3 (dk_at dksX0_isSide_0 19 rfl rfl)
theorem dX0_isSide_20 : decode cX0_isSide 20 = .ok (.ireturn, 1) := dk_172 (dk_at dksX0_isSide_0 20 rfl rfl)
abbrev cX0_isDance : ByteArray := prog_1_method_9_code
def yX0_isDance : MethodName := ⟨RX0, "isDance", "()Z"⟩
def dkwX0_isDance_0 : List UInt8 := [42, 180, 0, 12, 180, 0, 117, 158, 0, 7, 4, 167, 0, 4, 3, 172]
abbrev dktX0_isDance_0 : List UInt8 := dkwX0_isDance_0 ++ []
theorem dksX0_isDance_0 : cX0_isDance.data.toList.drop 0 = dktX0_isDance_0 := by decide +kernel
theorem dX0_isDance_0 : decode cX0_isDance 0 = .ok (.aload_n 0, 1) := dk_42 (dk_at dksX0_isDance_0 0 rfl rfl)
theorem dX0_isDance_1 : decode cX0_isDance 1 = .ok (.getfield 12, 3) := dk_180 0 12 (dk_at dksX0_isDance_0 1 rfl rfl)
theorem dX0_isDance_4 : decode cX0_isDance 4 = .ok (.getfield 117, 3) := dk_180 0 117 (dk_at dksX0_isDance_0 4 rfl rfl)
theorem dX0_isDance_7 : decode cX0_isDance 7 = .ok (.ifCond .le 7, 3) := dk_158 0 7 (dk_at dksX0_isDance_0 7 rfl rfl)
theorem dX0_isDance_10 : decode cX0_isDance 10 = .ok (.iconst 1, 1) := dk_4 (dk_at dksX0_isDance_0 10 rfl rfl)
theorem dX0_isDance_11 : decode cX0_isDance 11 = .ok (.goto 4, 3) := dk_167 0 4 (dk_at dksX0_isDance_0 11 rfl rfl)
theorem dX0_isDance_14 : decode cX0_isDance 14 = .ok (.iconst 0, 1) := dk_3 (dk_at dksX0_isDance_0 14 rfl rfl)
theorem dX0_isDance_15 : decode cX0_isDance 15 = .ok (.ireturn, 1) := dk_172 (dk_at dksX0_isDance_0 15 rfl rfl)
abbrev cX0_isOneOf : ByteArray := prog_1_method_10_code
def yX0_isOneOf : MethodName := ⟨RX0, "isOneOf", "(II)Z"⟩
def dkwX0_isOneOf_0 : List UInt8 := [26, 133, 9, 27, 4, 100, 133, 184, 0, 103, 172]
abbrev dktX0_isOneOf_0 : List UInt8 := dkwX0_isOneOf_0 ++ []
theorem dksX0_isOneOf_0 : cX0_isOneOf.data.toList.drop 0 = dktX0_isOneOf_0 := by decide +kernel
theorem dX0_isOneOf_0 : decode cX0_isOneOf 0 = .ok (.iload_n 0, 1) := dk_26 (dk_at dksX0_isOneOf_0 0 rfl rfl)
theorem dX0_isOneOf_1 : decode cX0_isOneOf 1 = .ok (.i2l, 1) := dk_133 (dk_at dksX0_isOneOf_0 1 rfl rfl)
theorem dX0_isOneOf_2 : decode cX0_isOneOf 2 = .ok (.lconst 0, 1) := dk_9 (dk_at dksX0_isOneOf_0 2 rfl rfl)
theorem dX0_isOneOf_3 : decode cX0_isOneOf 3 = .ok (.iload_n 1, 1) := dk_27 (dk_at dksX0_isOneOf_0 3 rfl rfl)
theorem dX0_isOneOf_4 : decode cX0_isOneOf 4 = .ok (.iconst 1, 1) := dk_4 (dk_at dksX0_isOneOf_0 4 rfl rfl)
theorem dX0_isOneOf_5 : decode cX0_isOneOf 5 = .ok (.isub, 1) := dk_100 (dk_at dksX0_isOneOf_0 5 rfl rfl)
theorem dX0_isOneOf_6 : decode cX0_isOneOf 6 = .ok (.i2l, 1) := dk_133 (dk_at dksX0_isOneOf_0 6 rfl rfl)
theorem dX0_isOneOf_7 : decode cX0_isOneOf 7 = .ok (.invokestatic 103, 3) := dk_184 0 103 (dk_at dksX0_isOneOf_0 7 rfl rfl)
theorem dX0_isOneOf_10 : decode cX0_isOneOf 10 = .ok (.ireturn, 1) := dk_172 (dk_at dksX0_isOneOf_0 10 rfl rfl)
abbrev cX0_isPlace : ByteArray := prog_1_method_14_code
def yX0_isPlace : MethodName := ⟨RX0, "isPlace", "(II)Z"⟩
def dkwX0_isPlace_1 : List UInt8 := [184, 0, 103, 153, 0, 7, 4, 167, 0, 4, 3, 172]
abbrev dktX0_isPlace_1 : List UInt8 := dkwX0_isPlace_1 ++ []
def dkwX0_isPlace_0 : List UInt8 := [42, 27, 182, 0, 140, 153, 0, 28, 28, 133, 9, 42, 180, 0, 12, 180, 0, 144, 27, 46, 4, 100, 133]
abbrev dktX0_isPlace_0 : List UInt8 := dkwX0_isPlace_0 ++ dktX0_isPlace_1
theorem dksX0_isPlace_0 : cX0_isPlace.data.toList.drop 0 = dktX0_isPlace_0 := by decide +kernel
theorem dksX0_isPlace_1 : cX0_isPlace.data.toList.drop 23 = dktX0_isPlace_1 := dk_seg dksX0_isPlace_0 23 rfl rfl
theorem dX0_isPlace_0 : decode cX0_isPlace 0 = .ok (.aload_n 0, 1) := dk_42 (dk_at dksX0_isPlace_0 0 rfl rfl)
theorem dX0_isPlace_1 : decode cX0_isPlace 1 = .ok (.iload_n 1, 1) := dk_27 (dk_at dksX0_isPlace_0 1 rfl rfl)
theorem dX0_isPlace_2 : decode cX0_isPlace 2 = .ok (.invokevirtual 140, 3) := dk_182 0 140 (dk_at dksX0_isPlace_0 2 rfl rfl)
theorem dX0_isPlace_5 : decode cX0_isPlace 5 = .ok (.ifCond .eq 28, 3) := dk_153 0 28 (dk_at dksX0_isPlace_0 5 rfl rfl)
theorem dX0_isPlace_8 : decode cX0_isPlace 8 = .ok (.iload_n 2, 1) := dk_28 (dk_at dksX0_isPlace_0 8 rfl rfl)
theorem dX0_isPlace_9 : decode cX0_isPlace 9 = .ok (.i2l, 1) := dk_133 (dk_at dksX0_isPlace_0 9 rfl rfl)
theorem dX0_isPlace_10 : decode cX0_isPlace 10 = .ok (.lconst 0, 1) := dk_9 (dk_at dksX0_isPlace_0 10 rfl rfl)
theorem dX0_isPlace_11 : decode cX0_isPlace 11 = .ok (.aload_n 0, 1) := dk_42 (dk_at dksX0_isPlace_0 11 rfl rfl)
theorem dX0_isPlace_12 : decode cX0_isPlace 12 = .ok (.getfield 12, 3) := dk_180 0 12 (dk_at dksX0_isPlace_0 12 rfl rfl)
theorem dX0_isPlace_15 : decode cX0_isPlace 15 = .ok (.getfield 144, 3) := dk_180 0 144 (dk_at dksX0_isPlace_0 15 rfl rfl)
theorem dX0_isPlace_18 : decode cX0_isPlace 18 = .ok (.iload_n 1, 1) := dk_27 (dk_at dksX0_isPlace_0 18 rfl rfl)
theorem dX0_isPlace_19 : decode cX0_isPlace 19 = .ok (.iaload, 1) := dk_46 (dk_at dksX0_isPlace_0 19 rfl rfl)
theorem dX0_isPlace_20 : decode cX0_isPlace 20 = .ok (.iconst 1, 1) := dk_4 (dk_at dksX0_isPlace_0 20 rfl rfl)
theorem dX0_isPlace_21 : decode cX0_isPlace 21 = .ok (.isub, 1) := dk_100 (dk_at dksX0_isPlace_0 21 rfl rfl)
theorem dX0_isPlace_22 : decode cX0_isPlace 22 = .ok (.i2l, 1) := dk_133 (dk_at dksX0_isPlace_0 22 rfl rfl)
theorem dX0_isPlace_23 : decode cX0_isPlace 23 = .ok (.invokestatic 103, 3) := dk_184 0 103 (dk_at dksX0_isPlace_1 0 rfl rfl)
theorem dX0_isPlace_26 : decode cX0_isPlace 26 = .ok (.ifCond .eq 7, 3) := dk_153 0 7 (dk_at dksX0_isPlace_1 3 rfl rfl)
theorem dX0_isPlace_29 : decode cX0_isPlace 29 = .ok (.iconst 1, 1) := dk_4 (dk_at dksX0_isPlace_1 6 rfl rfl)
theorem dX0_isPlace_30 : decode cX0_isPlace 30 = .ok (.goto 4, 3) := dk_167 0 4 (dk_at dksX0_isPlace_1 7 rfl rfl)
theorem dX0_isPlace_33 : decode cX0_isPlace 33 = .ok (.iconst 0, 1) := dk_3 (dk_at dksX0_isPlace_1 10 rfl rfl)
theorem dX0_isPlace_34 : decode cX0_isPlace 34 = .ok (.ireturn, 1) := dk_172 (dk_at dksX0_isPlace_1 11 rfl rfl)
abbrev cX0_answers : ByteArray := prog_1_method_19_code
def yX0_answers : MethodName := ⟨RX0, "answers", "(I)I"⟩
def dkwX0_answers_0 : List UInt8 := [42, 27, 133, 182, 0, 159, 153, 0, 15, 42, 180, 0, 12, 180, 0, 163, 27, 46, 167, 0, 5, 16, 254, 172]
abbrev dktX0_answers_0 : List UInt8 := dkwX0_answers_0 ++ []
theorem dksX0_answers_0 : cX0_answers.data.toList.drop 0 = dktX0_answers_0 := by decide +kernel
theorem dX0_answers_0 : decode cX0_answers 0 = .ok (.aload_n 0, 1) := dk_42 (dk_at dksX0_answers_0 0 rfl rfl)
theorem dX0_answers_1 : decode cX0_answers 1 = .ok (.iload_n 1, 1) := dk_27 (dk_at dksX0_answers_0 1 rfl rfl)
theorem dX0_answers_2 : decode cX0_answers 2 = .ok (.i2l, 1) := dk_133 (dk_at dksX0_answers_0 2 rfl rfl)
theorem dX0_answers_3 : decode cX0_answers 3 = .ok (.invokevirtual 159, 3) := dk_182 0 159 (dk_at dksX0_answers_0 3 rfl rfl)
theorem dX0_answers_6 : decode cX0_answers 6 = .ok (.ifCond .eq 15, 3) := dk_153 0 15 (dk_at dksX0_answers_0 6 rfl rfl)
theorem dX0_answers_9 : decode cX0_answers 9 = .ok (.aload_n 0, 1) := dk_42 (dk_at dksX0_answers_0 9 rfl rfl)
theorem dX0_answers_10 : decode cX0_answers 10 = .ok (.getfield 12, 3) := dk_180 0 12 (dk_at dksX0_answers_0 10 rfl rfl)
theorem dX0_answers_13 : decode cX0_answers 13 = .ok (.getfield 163, 3) := dk_180 0 163 (dk_at dksX0_answers_0 13 rfl rfl)
theorem dX0_answers_16 : decode cX0_answers 16 = .ok (.iload_n 1, 1) := dk_27 (dk_at dksX0_answers_0 16 rfl rfl)
theorem dX0_answers_17 : decode cX0_answers 17 = .ok (.iaload, 1) := dk_46 (dk_at dksX0_answers_0 17 rfl rfl)
theorem dX0_answers_18 : decode cX0_answers 18 = .ok (.goto 5, 3) := dk_167 0 5 (dk_at dksX0_answers_0 18 rfl rfl)
theorem dX0_answers_21 : decode cX0_answers 21 = .ok (.bipush (-2), 2) := dk_16 254 (dk_at dksX0_answers_0 21 rfl rfl)
theorem dX0_answers_23 : decode cX0_answers 23 = .ok (.ireturn, 1) := dk_172 (dk_at dksX0_answers_0 23 rfl rfl)
abbrev cX0_isStep : ByteArray := prog_1_method_13_code
def yX0_isStep : MethodName := ⟨RX0, "isStep", "(J)Z"⟩
def dkwX0_isStep_0 : List UInt8 := [42, 182, 0, 128, 153, 0, 18, 31, 9, 20, 0, 138, 184, 0, 103, 153, 0, 7, 4, 167, 0, 4, 3, 172]
abbrev dktX0_isStep_0 : List UInt8 := dkwX0_isStep_0 ++ []
theorem dksX0_isStep_0 : cX0_isStep.data.toList.drop 0 = dktX0_isStep_0 := by decide +kernel
theorem dX0_isStep_0 : decode cX0_isStep 0 = .ok (.aload_n 0, 1) := dk_42 (dk_at dksX0_isStep_0 0 rfl rfl)
theorem dX0_isStep_1 : decode cX0_isStep 1 = .ok (.invokevirtual 128, 3) := dk_182 0 128 (dk_at dksX0_isStep_0 1 rfl rfl)
theorem dX0_isStep_4 : decode cX0_isStep 4 = .ok (.ifCond .eq 18, 3) := dk_153 0 18 (dk_at dksX0_isStep_0 4 rfl rfl)
theorem dX0_isStep_7 : decode cX0_isStep 7 = .ok (.lload_n 1, 1) := dk_31 (dk_at dksX0_isStep_0 7 rfl rfl)
theorem dX0_isStep_8 : decode cX0_isStep 8 = .ok (.lconst 0, 1) := dk_9 (dk_at dksX0_isStep_0 8 rfl rfl)
theorem dX0_isStep_9 : decode cX0_isStep 9 = .ok (.ldc2_w 138, 3) := dk_20 0 138 (dk_at dksX0_isStep_0 9 rfl rfl)
theorem dX0_isStep_12 : decode cX0_isStep 12 = .ok (.invokestatic 103, 3) := dk_184 0 103 (dk_at dksX0_isStep_0 12 rfl rfl)
theorem dX0_isStep_15 : decode cX0_isStep 15 = .ok (.ifCond .eq 7, 3) := dk_153 0 7 (dk_at dksX0_isStep_0 15 rfl rfl)
theorem dX0_isStep_18 : decode cX0_isStep 18 = .ok (.iconst 1, 1) := dk_4 (dk_at dksX0_isStep_0 18 rfl rfl)
theorem dX0_isStep_19 : decode cX0_isStep 19 = .ok (.goto 4, 3) := dk_167 0 4 (dk_at dksX0_isStep_0 19 rfl rfl)
theorem dX0_isStep_22 : decode cX0_isStep 22 = .ok (.iconst 0, 1) := dk_3 (dk_at dksX0_isStep_0 22 rfl rfl)
theorem dX0_isStep_23 : decode cX0_isStep 23 = .ok (.ireturn, 1) := dk_172 (dk_at dksX0_isStep_0 23 rfl rfl)
abbrev cX0_stumbled : ByteArray := prog_1_method_20_code
def yX0_stumbled : MethodName := ⟨RX0, "stumbled", "(II)I"⟩
def dkwX0_stumbled_3 : List UInt8 := [180, 0, 12, 180, 0, 178, 27, 46, 172]
abbrev dktX0_stumbled_3 : List UInt8 := dkwX0_stumbled_3 ++ []
def dkwX0_stumbled_2 : List UInt8 := [46, 167, 0, 29, 28, 5, 160, 0, 15, 42, 180, 0, 12, 180, 0, 175, 27, 46, 167, 0, 12, 42]
abbrev dktX0_stumbled_2 : List UInt8 := dkwX0_stumbled_2 ++ dktX0_stumbled_3
def dkwX0_stumbled_1 : List UInt8 := [180, 0, 12, 180, 0, 169, 27, 46, 167, 0, 46, 28, 4, 160, 0, 15, 42, 180, 0, 12, 180, 0, 172, 27]
abbrev dktX0_stumbled_1 : List UInt8 := dkwX0_stumbled_1 ++ dktX0_stumbled_2
def dkwX0_stumbled_0 : List UInt8 := [42, 27, 182, 0, 166, 153, 0, 11, 28, 7, 184, 0, 132, 154, 0, 6, 16, 254, 172, 28, 154, 0, 15, 42]
abbrev dktX0_stumbled_0 : List UInt8 := dkwX0_stumbled_0 ++ dktX0_stumbled_1
theorem dksX0_stumbled_0 : cX0_stumbled.data.toList.drop 0 = dktX0_stumbled_0 := by decide +kernel
theorem dksX0_stumbled_1 : cX0_stumbled.data.toList.drop 24 = dktX0_stumbled_1 := dk_seg dksX0_stumbled_0 24 rfl rfl
theorem dksX0_stumbled_2 : cX0_stumbled.data.toList.drop 48 = dktX0_stumbled_2 := dk_seg dksX0_stumbled_1 24 rfl rfl
theorem dksX0_stumbled_3 : cX0_stumbled.data.toList.drop 70 = dktX0_stumbled_3 := dk_seg dksX0_stumbled_2 22 rfl rfl
theorem dX0_stumbled_0 : decode cX0_stumbled 0 = .ok (.aload_n 0, 1) := dk_42 (dk_at dksX0_stumbled_0 0 rfl rfl)
theorem dX0_stumbled_1 : decode cX0_stumbled 1 = .ok (.iload_n 1, 1) := dk_27 (dk_at dksX0_stumbled_0 1 rfl rfl)
theorem dX0_stumbled_2 : decode cX0_stumbled 2 = .ok (.invokevirtual 166, 3) := dk_182 0 166 (dk_at dksX0_stumbled_0 2 rfl rfl)
theorem dX0_stumbled_5 : decode cX0_stumbled 5 = .ok (.ifCond .eq 11, 3) := dk_153 0 11 (dk_at dksX0_stumbled_0 5 rfl rfl)
theorem dX0_stumbled_8 : decode cX0_stumbled 8 = .ok (.iload_n 2, 1) := dk_28 (dk_at dksX0_stumbled_0 8 rfl rfl)
theorem dX0_stumbled_9 : decode cX0_stumbled 9 = .ok (.iconst 4, 1) := dk_7 (dk_at dksX0_stumbled_0 9 rfl rfl)
theorem dX0_stumbled_10 : decode cX0_stumbled 10 = .ok (.invokestatic 132, 3) := dk_184 0 132 (dk_at dksX0_stumbled_0 10 rfl rfl)
theorem dX0_stumbled_13 : decode cX0_stumbled 13 = .ok (.ifCond .ne 6, 3) := dk_154 0 6 (dk_at dksX0_stumbled_0 13 rfl rfl)
theorem dX0_stumbled_16 : decode cX0_stumbled 16 = .ok (.bipush (-2), 2) := dk_16 254 (dk_at dksX0_stumbled_0 16 rfl rfl)
theorem dX0_stumbled_18 : decode cX0_stumbled 18 = .ok (.ireturn, 1) := dk_172 (dk_at dksX0_stumbled_0 18 rfl rfl)
theorem dX0_stumbled_19 : decode cX0_stumbled 19 = .ok (.iload_n 2, 1) := dk_28 (dk_at dksX0_stumbled_0 19 rfl rfl)
theorem dX0_stumbled_20 : decode cX0_stumbled 20 = .ok (.ifCond .ne 15, 3) := dk_154 0 15 (dk_at dksX0_stumbled_0 20 rfl rfl)
theorem dX0_stumbled_23 : decode cX0_stumbled 23 = .ok (.aload_n 0, 1) := dk_42 (dk_at dksX0_stumbled_0 23 rfl rfl)
theorem dX0_stumbled_24 : decode cX0_stumbled 24 = .ok (.getfield 12, 3) := dk_180 0 12 (dk_at dksX0_stumbled_1 0 rfl rfl)
theorem dX0_stumbled_27 : decode cX0_stumbled 27 = .ok (.getfield 169, 3) := dk_180 0 169 (dk_at dksX0_stumbled_1 3 rfl rfl)
theorem dX0_stumbled_30 : decode cX0_stumbled 30 = .ok (.iload_n 1, 1) := dk_27 (dk_at dksX0_stumbled_1 6 rfl rfl)
theorem dX0_stumbled_31 : decode cX0_stumbled 31 = .ok (.iaload, 1) := dk_46 (dk_at dksX0_stumbled_1 7 rfl rfl)
theorem dX0_stumbled_32 : decode cX0_stumbled 32 = .ok (.goto 46, 3) := dk_167 0 46 (dk_at dksX0_stumbled_1 8 rfl rfl)
theorem dX0_stumbled_35 : decode cX0_stumbled 35 = .ok (.iload_n 2, 1) := dk_28 (dk_at dksX0_stumbled_1 11 rfl rfl)
theorem dX0_stumbled_36 : decode cX0_stumbled 36 = .ok (.iconst 1, 1) := dk_4 (dk_at dksX0_stumbled_1 12 rfl rfl)
theorem dX0_stumbled_37 : decode cX0_stumbled 37 = .ok (.if_icmp .ne 15, 3) := dk_160 0 15 (dk_at dksX0_stumbled_1 13 rfl rfl)
theorem dX0_stumbled_40 : decode cX0_stumbled 40 = .ok (.aload_n 0, 1) := dk_42 (dk_at dksX0_stumbled_1 16 rfl rfl)
theorem dX0_stumbled_41 : decode cX0_stumbled 41 = .ok (.getfield 12, 3) := dk_180 0 12 (dk_at dksX0_stumbled_1 17 rfl rfl)
theorem dX0_stumbled_44 : decode cX0_stumbled 44 = .ok (.getfield 172, 3) := dk_180 0 172 (dk_at dksX0_stumbled_1 20 rfl rfl)
theorem dX0_stumbled_47 : decode cX0_stumbled 47 = .ok (.iload_n 1, 1) := dk_27 (dk_at dksX0_stumbled_1 23 rfl rfl)
theorem dX0_stumbled_48 : decode cX0_stumbled 48 = .ok (.iaload, 1) := dk_46 (dk_at dksX0_stumbled_2 0 rfl rfl)
theorem dX0_stumbled_49 : decode cX0_stumbled 49 = .ok (.goto 29, 3) := dk_167 0 29 (dk_at dksX0_stumbled_2 1 rfl rfl)
theorem dX0_stumbled_52 : decode cX0_stumbled 52 = .ok (.iload_n 2, 1) := dk_28 (dk_at dksX0_stumbled_2 4 rfl rfl)
theorem dX0_stumbled_53 : decode cX0_stumbled 53 = .ok (.iconst 2, 1) := dk_5 (dk_at dksX0_stumbled_2 5 rfl rfl)
theorem dX0_stumbled_54 : decode cX0_stumbled 54 = .ok (.if_icmp .ne 15, 3) := dk_160 0 15 (dk_at dksX0_stumbled_2 6 rfl rfl)
theorem dX0_stumbled_57 : decode cX0_stumbled 57 = .ok (.aload_n 0, 1) := dk_42 (dk_at dksX0_stumbled_2 9 rfl rfl)
theorem dX0_stumbled_58 : decode cX0_stumbled 58 = .ok (.getfield 12, 3) := dk_180 0 12 (dk_at dksX0_stumbled_2 10 rfl rfl)
theorem dX0_stumbled_61 : decode cX0_stumbled 61 = .ok (.getfield 175, 3) := dk_180 0 175 (dk_at dksX0_stumbled_2 13 rfl rfl)
theorem dX0_stumbled_64 : decode cX0_stumbled 64 = .ok (.iload_n 1, 1) := dk_27 (dk_at dksX0_stumbled_2 16 rfl rfl)
theorem dX0_stumbled_65 : decode cX0_stumbled 65 = .ok (.iaload, 1) := dk_46 (dk_at dksX0_stumbled_2 17 rfl rfl)
theorem dX0_stumbled_66 : decode cX0_stumbled 66 = .ok (.goto 12, 3) := dk_167 0 12 (dk_at dksX0_stumbled_2 18 rfl rfl)
theorem dX0_stumbled_69 : decode cX0_stumbled 69 = .ok (.aload_n 0, 1) := dk_42 (dk_at dksX0_stumbled_2 21 rfl rfl)
theorem dX0_stumbled_70 : decode cX0_stumbled 70 = .ok (.getfield 12, 3) := dk_180 0 12 (dk_at dksX0_stumbled_3 0 rfl rfl)
theorem dX0_stumbled_73 : decode cX0_stumbled 73 = .ok (.getfield 178, 3) := dk_180 0 178 (dk_at dksX0_stumbled_3 3 rfl rfl)
theorem dX0_stumbled_76 : decode cX0_stumbled 76 = .ok (.iload_n 1, 1) := dk_27 (dk_at dksX0_stumbled_3 6 rfl rfl)
theorem dX0_stumbled_77 : decode cX0_stumbled 77 = .ok (.iaload, 1) := dk_46 (dk_at dksX0_stumbled_3 7 rfl rfl)
theorem dX0_stumbled_78 : decode cX0_stumbled 78 = .ok (.ireturn, 1) := dk_172 (dk_at dksX0_stumbled_3 8 rfl rfl)
abbrev cX0_isStumble : ByteArray := prog_1_method_15_code
def yX0_isStumble : MethodName := ⟨RX0, "isStumble", "(I)Z"⟩
def dkwX0_isStumble_0 : List UInt8 := [27, 133, 9, 42, 180, 0, 12, 180, 0, 147, 4, 100, 133, 184, 0, 103, 172]
abbrev dktX0_isStumble_0 : List UInt8 := dkwX0_isStumble_0 ++ []
theorem dksX0_isStumble_0 : cX0_isStumble.data.toList.drop 0 = dktX0_isStumble_0 := by decide +kernel
theorem dX0_isStumble_0 : decode cX0_isStumble 0 = .ok (.iload_n 1, 1) := dk_27 (dk_at dksX0_isStumble_0 0 rfl rfl)
theorem dX0_isStumble_1 : decode cX0_isStumble 1 = .ok (.i2l, 1) := dk_133 (dk_at dksX0_isStumble_0 1 rfl rfl)
theorem dX0_isStumble_2 : decode cX0_isStumble 2 = .ok (.lconst 0, 1) := dk_9 (dk_at dksX0_isStumble_0 2 rfl rfl)
theorem dX0_isStumble_3 : decode cX0_isStumble 3 = .ok (.aload_n 0, 1) := dk_42 (dk_at dksX0_isStumble_0 3 rfl rfl)
theorem dX0_isStumble_4 : decode cX0_isStumble 4 = .ok (.getfield 12, 3) := dk_180 0 12 (dk_at dksX0_isStumble_0 4 rfl rfl)
theorem dX0_isStumble_7 : decode cX0_isStumble 7 = .ok (.getfield 147, 3) := dk_180 0 147 (dk_at dksX0_isStumble_0 7 rfl rfl)
theorem dX0_isStumble_10 : decode cX0_isStumble 10 = .ok (.iconst 1, 1) := dk_4 (dk_at dksX0_isStumble_0 10 rfl rfl)
theorem dX0_isStumble_11 : decode cX0_isStumble 11 = .ok (.isub, 1) := dk_100 (dk_at dksX0_isStumble_0 11 rfl rfl)
theorem dX0_isStumble_12 : decode cX0_isStumble 12 = .ok (.i2l, 1) := dk_133 (dk_at dksX0_isStumble_0 12 rfl rfl)
theorem dX0_isStumble_13 : decode cX0_isStumble 13 = .ok (.invokestatic 103, 3) := dk_184 0 103 (dk_at dksX0_isStumble_0 13 rfl rfl)
theorem dX0_isStumble_16 : decode cX0_isStumble 16 = .ok (.ireturn, 1) := dk_172 (dk_at dksX0_isStumble_0 16 rfl rfl)
abbrev cX0_muddy : ByteArray := prog_1_method_21_code
def yX0_muddy : MethodName := ⟨RX0, "muddy", "(I)I"⟩
def dkwX0_muddy_1 : List UInt8 := [167, 0, 9, 3, 167, 0, 5, 16, 254, 172]
abbrev dktX0_muddy_1 : List UInt8 := dkwX0_muddy_1 ++ []
def dkwX0_muddy_0 : List UInt8 := [42, 27, 133, 182, 0, 181, 153, 0, 23, 42, 180, 0, 12, 180, 0, 184, 27, 51, 153, 0, 7, 4]
abbrev dktX0_muddy_0 : List UInt8 := dkwX0_muddy_0 ++ dktX0_muddy_1
theorem dksX0_muddy_0 : cX0_muddy.data.toList.drop 0 = dktX0_muddy_0 := by decide +kernel
theorem dksX0_muddy_1 : cX0_muddy.data.toList.drop 22 = dktX0_muddy_1 := dk_seg dksX0_muddy_0 22 rfl rfl
theorem dX0_muddy_0 : decode cX0_muddy 0 = .ok (.aload_n 0, 1) := dk_42 (dk_at dksX0_muddy_0 0 rfl rfl)
theorem dX0_muddy_1 : decode cX0_muddy 1 = .ok (.iload_n 1, 1) := dk_27 (dk_at dksX0_muddy_0 1 rfl rfl)
theorem dX0_muddy_2 : decode cX0_muddy 2 = .ok (.i2l, 1) := dk_133 (dk_at dksX0_muddy_0 2 rfl rfl)
theorem dX0_muddy_3 : decode cX0_muddy 3 = .ok (.invokevirtual 181, 3) := dk_182 0 181 (dk_at dksX0_muddy_0 3 rfl rfl)
theorem dX0_muddy_6 : decode cX0_muddy 6 = .ok (.ifCond .eq 23, 3) := dk_153 0 23 (dk_at dksX0_muddy_0 6 rfl rfl)
theorem dX0_muddy_9 : decode cX0_muddy 9 = .ok (.aload_n 0, 1) := dk_42 (dk_at dksX0_muddy_0 9 rfl rfl)
theorem dX0_muddy_10 : decode cX0_muddy 10 = .ok (.getfield 12, 3) := dk_180 0 12 (dk_at dksX0_muddy_0 10 rfl rfl)
theorem dX0_muddy_13 : decode cX0_muddy 13 = .ok (.getfield 184, 3) := dk_180 0 184 (dk_at dksX0_muddy_0 13 rfl rfl)
theorem dX0_muddy_16 : decode cX0_muddy 16 = .ok (.iload_n 1, 1) := dk_27 (dk_at dksX0_muddy_0 16 rfl rfl)
theorem dX0_muddy_17 : decode cX0_muddy 17 = .ok (.baload, 1) := dk_51 (dk_at dksX0_muddy_0 17 rfl rfl)
theorem dX0_muddy_18 : decode cX0_muddy 18 = .ok (.ifCond .eq 7, 3) := dk_153 0 7 (dk_at dksX0_muddy_0 18 rfl rfl)
theorem dX0_muddy_21 : decode cX0_muddy 21 = .ok (.iconst 1, 1) := dk_4 (dk_at dksX0_muddy_0 21 rfl rfl)
theorem dX0_muddy_22 : decode cX0_muddy 22 = .ok (.goto 9, 3) := dk_167 0 9 (dk_at dksX0_muddy_1 0 rfl rfl)
theorem dX0_muddy_25 : decode cX0_muddy 25 = .ok (.iconst 0, 1) := dk_3 (dk_at dksX0_muddy_1 3 rfl rfl)
theorem dX0_muddy_26 : decode cX0_muddy 26 = .ok (.goto 5, 3) := dk_167 0 5 (dk_at dksX0_muddy_1 4 rfl rfl)
theorem dX0_muddy_29 : decode cX0_muddy 29 = .ok (.bipush (-2), 2) := dk_16 254 (dk_at dksX0_muddy_1 7 rfl rfl)
theorem dX0_muddy_31 : decode cX0_muddy 31 = .ok (.ireturn, 1) := dk_172 (dk_at dksX0_muddy_1 9 rfl rfl)
abbrev cX0_isBeat : ByteArray := prog_1_method_12_code
def yX0_isBeat : MethodName := ⟨RX0, "isBeat", "(J)Z"⟩
def dkwX0_isBeat_0 : List UInt8 := [42, 182, 0, 128, 153, 0, 18, 31, 9, 20, 0, 136, 184, 0, 103, 153, 0, 7, 4, 167, 0, 4, 3, 172]
abbrev dktX0_isBeat_0 : List UInt8 := dkwX0_isBeat_0 ++ []
theorem dksX0_isBeat_0 : cX0_isBeat.data.toList.drop 0 = dktX0_isBeat_0 := by decide +kernel
theorem dX0_isBeat_0 : decode cX0_isBeat 0 = .ok (.aload_n 0, 1) := dk_42 (dk_at dksX0_isBeat_0 0 rfl rfl)
theorem dX0_isBeat_1 : decode cX0_isBeat 1 = .ok (.invokevirtual 128, 3) := dk_182 0 128 (dk_at dksX0_isBeat_0 1 rfl rfl)
theorem dX0_isBeat_4 : decode cX0_isBeat 4 = .ok (.ifCond .eq 18, 3) := dk_153 0 18 (dk_at dksX0_isBeat_0 4 rfl rfl)
theorem dX0_isBeat_7 : decode cX0_isBeat 7 = .ok (.lload_n 1, 1) := dk_31 (dk_at dksX0_isBeat_0 7 rfl rfl)
theorem dX0_isBeat_8 : decode cX0_isBeat 8 = .ok (.lconst 0, 1) := dk_9 (dk_at dksX0_isBeat_0 8 rfl rfl)
theorem dX0_isBeat_9 : decode cX0_isBeat 9 = .ok (.ldc2_w 136, 3) := dk_20 0 136 (dk_at dksX0_isBeat_0 9 rfl rfl)
theorem dX0_isBeat_12 : decode cX0_isBeat 12 = .ok (.invokestatic 103, 3) := dk_184 0 103 (dk_at dksX0_isBeat_0 12 rfl rfl)
theorem dX0_isBeat_15 : decode cX0_isBeat 15 = .ok (.ifCond .eq 7, 3) := dk_153 0 7 (dk_at dksX0_isBeat_0 15 rfl rfl)
theorem dX0_isBeat_18 : decode cX0_isBeat 18 = .ok (.iconst 1, 1) := dk_4 (dk_at dksX0_isBeat_0 18 rfl rfl)
theorem dX0_isBeat_19 : decode cX0_isBeat 19 = .ok (.goto 4, 3) := dk_167 0 4 (dk_at dksX0_isBeat_0 19 rfl rfl)
theorem dX0_isBeat_22 : decode cX0_isBeat 22 = .ok (.iconst 0, 1) := dk_3 (dk_at dksX0_isBeat_0 22 rfl rfl)
theorem dX0_isBeat_23 : decode cX0_isBeat 23 = .ok (.ireturn, 1) := dk_172 (dk_at dksX0_isBeat_0 23 rfl rfl)
abbrev cX0_place : ByteArray := prog_1_method_27_code
def yX0_place : MethodName := ⟨RX0, "place", "(II)I"⟩
def dkwX0_place_1 : List UInt8 := [17, 0, 200, 27, 104, 28, 96, 46, 172]
abbrev dktX0_place_1 : List UInt8 := dkwX0_place_1 ++ []
def dkwX0_place_0 : List UInt8 := [42, 27, 28, 182, 0, 203, 154, 0, 6, 16, 254, 172, 42, 180, 0, 43, 182, 0, 206, 42, 180, 0, 24]
abbrev dktX0_place_0 : List UInt8 := dkwX0_place_0 ++ dktX0_place_1
theorem dksX0_place_0 : cX0_place.data.toList.drop 0 = dktX0_place_0 := by decide +kernel
theorem dksX0_place_1 : cX0_place.data.toList.drop 23 = dktX0_place_1 := dk_seg dksX0_place_0 23 rfl rfl
theorem dX0_place_0 : decode cX0_place 0 = .ok (.aload_n 0, 1) := dk_42 (dk_at dksX0_place_0 0 rfl rfl)
theorem dX0_place_1 : decode cX0_place 1 = .ok (.iload_n 1, 1) := dk_27 (dk_at dksX0_place_0 1 rfl rfl)
theorem dX0_place_2 : decode cX0_place 2 = .ok (.iload_n 2, 1) := dk_28 (dk_at dksX0_place_0 2 rfl rfl)
theorem dX0_place_3 : decode cX0_place 3 = .ok (.invokevirtual 203, 3) := dk_182 0 203 (dk_at dksX0_place_0 3 rfl rfl)
theorem dX0_place_6 : decode cX0_place 6 = .ok (.ifCond .ne 6, 3) := dk_154 0 6 (dk_at dksX0_place_0 6 rfl rfl)
theorem dX0_place_9 : decode cX0_place 9 = .ok (.bipush (-2), 2) := dk_16 254 (dk_at dksX0_place_0 9 rfl rfl)
theorem dX0_place_11 : decode cX0_place 11 = .ok (.ireturn, 1) := dk_172 (dk_at dksX0_place_0 11 rfl rfl)
theorem dX0_place_12 : decode cX0_place 12 = .ok (.aload_n 0, 1) := dk_42 (dk_at dksX0_place_0 12 rfl rfl)
theorem dX0_place_13 : decode cX0_place 13 = .ok (.getfield 43, 3) := dk_180 0 43 (dk_at dksX0_place_0 13 rfl rfl)
theorem dX0_place_16 : decode cX0_place 16 = .ok (.invokevirtual 206, 3) := dk_182 0 206 (dk_at dksX0_place_0 16 rfl rfl)
theorem dX0_place_19 : decode cX0_place 19 = .ok (.aload_n 0, 1) := dk_42 (dk_at dksX0_place_0 19 rfl rfl)
theorem dX0_place_20 : decode cX0_place 20 = .ok (.getfield 24, 3) := dk_180 0 24 (dk_at dksX0_place_0 20 rfl rfl)
theorem dX0_place_23 : decode cX0_place 23 = .ok (.sipush 200, 3) := dk_17 0 200 (dk_at dksX0_place_1 0 rfl rfl)
theorem dX0_place_26 : decode cX0_place 26 = .ok (.iload_n 1, 1) := dk_27 (dk_at dksX0_place_1 3 rfl rfl)
theorem dX0_place_27 : decode cX0_place 27 = .ok (.imul, 1) := dk_104 (dk_at dksX0_place_1 4 rfl rfl)
theorem dX0_place_28 : decode cX0_place 28 = .ok (.iload_n 2, 1) := dk_28 (dk_at dksX0_place_1 5 rfl rfl)
theorem dX0_place_29 : decode cX0_place 29 = .ok (.iadd, 1) := dk_96 (dk_at dksX0_place_1 6 rfl rfl)
theorem dX0_place_30 : decode cX0_place 30 = .ok (.iaload, 1) := dk_46 (dk_at dksX0_place_1 7 rfl rfl)
theorem dX0_place_31 : decode cX0_place 31 = .ok (.ireturn, 1) := dk_172 (dk_at dksX0_place_1 8 rfl rfl)
abbrev cX0_isAsked : ByteArray := prog_1_method_26_code
def yX0_isAsked : MethodName := ⟨RX0, "isAsked", "(II)Z"⟩
def dkwX0_isAsked_0 : List UInt8 := [42, 27, 182, 0, 140, 153, 0, 16, 42, 28, 133, 182, 0, 181, 153, 0, 7, 4, 167, 0, 4, 3, 172]
abbrev dktX0_isAsked_0 : List UInt8 := dkwX0_isAsked_0 ++ []
theorem dksX0_isAsked_0 : cX0_isAsked.data.toList.drop 0 = dktX0_isAsked_0 := by decide +kernel
theorem dX0_isAsked_0 : decode cX0_isAsked 0 = .ok (.aload_n 0, 1) := dk_42 (dk_at dksX0_isAsked_0 0 rfl rfl)
theorem dX0_isAsked_1 : decode cX0_isAsked 1 = .ok (.iload_n 1, 1) := dk_27 (dk_at dksX0_isAsked_0 1 rfl rfl)
theorem dX0_isAsked_2 : decode cX0_isAsked 2 = .ok (.invokevirtual 140, 3) := dk_182 0 140 (dk_at dksX0_isAsked_0 2 rfl rfl)
theorem dX0_isAsked_5 : decode cX0_isAsked 5 = .ok (.ifCond .eq 16, 3) := dk_153 0 16 (dk_at dksX0_isAsked_0 5 rfl rfl)
theorem dX0_isAsked_8 : decode cX0_isAsked 8 = .ok (.aload_n 0, 1) := dk_42 (dk_at dksX0_isAsked_0 8 rfl rfl)
theorem dX0_isAsked_9 : decode cX0_isAsked 9 = .ok (.iload_n 2, 1) := dk_28 (dk_at dksX0_isAsked_0 9 rfl rfl)
theorem dX0_isAsked_10 : decode cX0_isAsked 10 = .ok (.i2l, 1) := dk_133 (dk_at dksX0_isAsked_0 10 rfl rfl)
theorem dX0_isAsked_11 : decode cX0_isAsked 11 = .ok (.invokevirtual 181, 3) := dk_182 0 181 (dk_at dksX0_isAsked_0 11 rfl rfl)
theorem dX0_isAsked_14 : decode cX0_isAsked 14 = .ok (.ifCond .eq 7, 3) := dk_153 0 7 (dk_at dksX0_isAsked_0 14 rfl rfl)
theorem dX0_isAsked_17 : decode cX0_isAsked 17 = .ok (.iconst 1, 1) := dk_4 (dk_at dksX0_isAsked_0 17 rfl rfl)
theorem dX0_isAsked_18 : decode cX0_isAsked 18 = .ok (.goto 4, 3) := dk_167 0 4 (dk_at dksX0_isAsked_0 18 rfl rfl)
theorem dX0_isAsked_21 : decode cX0_isAsked 21 = .ok (.iconst 0, 1) := dk_3 (dk_at dksX0_isAsked_0 21 rfl rfl)
theorem dX0_isAsked_22 : decode cX0_isAsked 22 = .ok (.ireturn, 1) := dk_172 (dk_at dksX0_isAsked_0 22 rfl rfl)
abbrev cX0_danced : ByteArray := prog_1_method_28_code
def yX0_danced : MethodName := ⟨RX0, "danced", "(II)I"⟩
def dkwX0_danced_1 : List UInt8 := [182, 0, 191, 172]
abbrev dktX0_danced_1 : List UInt8 := dkwX0_danced_1 ++ []
def dkwX0_danced_0 : List UInt8 := [42, 27, 28, 182, 0, 203, 154, 0, 6, 16, 254, 172, 42, 180, 0, 43, 182, 0, 206, 42, 27, 28]
abbrev dktX0_danced_0 : List UInt8 := dkwX0_danced_0 ++ dktX0_danced_1
theorem dksX0_danced_0 : cX0_danced.data.toList.drop 0 = dktX0_danced_0 := by decide +kernel
theorem dksX0_danced_1 : cX0_danced.data.toList.drop 22 = dktX0_danced_1 := dk_seg dksX0_danced_0 22 rfl rfl
theorem dX0_danced_0 : decode cX0_danced 0 = .ok (.aload_n 0, 1) := dk_42 (dk_at dksX0_danced_0 0 rfl rfl)
theorem dX0_danced_1 : decode cX0_danced 1 = .ok (.iload_n 1, 1) := dk_27 (dk_at dksX0_danced_0 1 rfl rfl)
theorem dX0_danced_2 : decode cX0_danced 2 = .ok (.iload_n 2, 1) := dk_28 (dk_at dksX0_danced_0 2 rfl rfl)
theorem dX0_danced_3 : decode cX0_danced 3 = .ok (.invokevirtual 203, 3) := dk_182 0 203 (dk_at dksX0_danced_0 3 rfl rfl)
theorem dX0_danced_6 : decode cX0_danced 6 = .ok (.ifCond .ne 6, 3) := dk_154 0 6 (dk_at dksX0_danced_0 6 rfl rfl)
theorem dX0_danced_9 : decode cX0_danced 9 = .ok (.bipush (-2), 2) := dk_16 254 (dk_at dksX0_danced_0 9 rfl rfl)
theorem dX0_danced_11 : decode cX0_danced 11 = .ok (.ireturn, 1) := dk_172 (dk_at dksX0_danced_0 11 rfl rfl)
theorem dX0_danced_12 : decode cX0_danced 12 = .ok (.aload_n 0, 1) := dk_42 (dk_at dksX0_danced_0 12 rfl rfl)
theorem dX0_danced_13 : decode cX0_danced 13 = .ok (.getfield 43, 3) := dk_180 0 43 (dk_at dksX0_danced_0 13 rfl rfl)
theorem dX0_danced_16 : decode cX0_danced 16 = .ok (.invokevirtual 206, 3) := dk_182 0 206 (dk_at dksX0_danced_0 16 rfl rfl)
theorem dX0_danced_19 : decode cX0_danced 19 = .ok (.aload_n 0, 1) := dk_42 (dk_at dksX0_danced_0 19 rfl rfl)
theorem dX0_danced_20 : decode cX0_danced 20 = .ok (.iload_n 1, 1) := dk_27 (dk_at dksX0_danced_0 20 rfl rfl)
theorem dX0_danced_21 : decode cX0_danced 21 = .ok (.iload_n 2, 1) := dk_28 (dk_at dksX0_danced_0 21 rfl rfl)
theorem dX0_danced_22 : decode cX0_danced 22 = .ok (.invokevirtual 191, 3) := dk_182 0 191 (dk_at dksX0_danced_1 0 rfl rfl)
theorem dX0_danced_25 : decode cX0_danced 25 = .ok (.ireturn, 1) := dk_172 (dk_at dksX0_danced_1 3 rfl rfl)
abbrev cX0_stepIn : ByteArray := prog_1_method_22_code
def yX0_stepIn : MethodName := ⟨RX0, "stepIn", "(II)I"⟩
def dkwX0_stepIn_0 : List UInt8 := [42, 180, 0, 28, 17, 0, 200, 27, 104, 28, 96, 46, 172]
abbrev dktX0_stepIn_0 : List UInt8 := dkwX0_stepIn_0 ++ []
theorem dksX0_stepIn_0 : cX0_stepIn.data.toList.drop 0 = dktX0_stepIn_0 := by decide +kernel
theorem dX0_stepIn_0 : decode cX0_stepIn 0 = .ok (.aload_n 0, 1) := dk_42 (dk_at dksX0_stepIn_0 0 rfl rfl)
theorem dX0_stepIn_1 : decode cX0_stepIn 1 = .ok (.getfield 28, 3) := dk_180 0 28 (dk_at dksX0_stepIn_0 1 rfl rfl)
theorem dX0_stepIn_4 : decode cX0_stepIn 4 = .ok (.sipush 200, 3) := dk_17 0 200 (dk_at dksX0_stepIn_0 4 rfl rfl)
theorem dX0_stepIn_7 : decode cX0_stepIn 7 = .ok (.iload_n 1, 1) := dk_27 (dk_at dksX0_stepIn_0 7 rfl rfl)
theorem dX0_stepIn_8 : decode cX0_stepIn 8 = .ok (.imul, 1) := dk_104 (dk_at dksX0_stepIn_0 8 rfl rfl)
theorem dX0_stepIn_9 : decode cX0_stepIn 9 = .ok (.iload_n 2, 1) := dk_28 (dk_at dksX0_stepIn_0 9 rfl rfl)
theorem dX0_stepIn_10 : decode cX0_stepIn 10 = .ok (.iadd, 1) := dk_96 (dk_at dksX0_stepIn_0 10 rfl rfl)
theorem dX0_stepIn_11 : decode cX0_stepIn 11 = .ok (.iaload, 1) := dk_46 (dk_at dksX0_stepIn_0 11 rfl rfl)
theorem dX0_stepIn_12 : decode cX0_stepIn 12 = .ok (.ireturn, 1) := dk_172 (dk_at dksX0_stepIn_0 12 rfl rfl)
abbrev cX0_hears : ByteArray := prog_1_method_29_code
def yX0_hears : MethodName := ⟨RX0, "hears", "(II)I"⟩
def dkwX0_hears_1 : List UInt8 := [182, 0, 194, 172]
abbrev dktX0_hears_1 : List UInt8 := dkwX0_hears_1 ++ []
def dkwX0_hears_0 : List UInt8 := [42, 27, 28, 182, 0, 203, 154, 0, 6, 16, 254, 172, 42, 180, 0, 43, 182, 0, 206, 42, 27, 28]
abbrev dktX0_hears_0 : List UInt8 := dkwX0_hears_0 ++ dktX0_hears_1
theorem dksX0_hears_0 : cX0_hears.data.toList.drop 0 = dktX0_hears_0 := by decide +kernel
theorem dksX0_hears_1 : cX0_hears.data.toList.drop 22 = dktX0_hears_1 := dk_seg dksX0_hears_0 22 rfl rfl
theorem dX0_hears_0 : decode cX0_hears 0 = .ok (.aload_n 0, 1) := dk_42 (dk_at dksX0_hears_0 0 rfl rfl)
theorem dX0_hears_1 : decode cX0_hears 1 = .ok (.iload_n 1, 1) := dk_27 (dk_at dksX0_hears_0 1 rfl rfl)
theorem dX0_hears_2 : decode cX0_hears 2 = .ok (.iload_n 2, 1) := dk_28 (dk_at dksX0_hears_0 2 rfl rfl)
theorem dX0_hears_3 : decode cX0_hears 3 = .ok (.invokevirtual 203, 3) := dk_182 0 203 (dk_at dksX0_hears_0 3 rfl rfl)
theorem dX0_hears_6 : decode cX0_hears 6 = .ok (.ifCond .ne 6, 3) := dk_154 0 6 (dk_at dksX0_hears_0 6 rfl rfl)
theorem dX0_hears_9 : decode cX0_hears 9 = .ok (.bipush (-2), 2) := dk_16 254 (dk_at dksX0_hears_0 9 rfl rfl)
theorem dX0_hears_11 : decode cX0_hears 11 = .ok (.ireturn, 1) := dk_172 (dk_at dksX0_hears_0 11 rfl rfl)
theorem dX0_hears_12 : decode cX0_hears 12 = .ok (.aload_n 0, 1) := dk_42 (dk_at dksX0_hears_0 12 rfl rfl)
theorem dX0_hears_13 : decode cX0_hears 13 = .ok (.getfield 43, 3) := dk_180 0 43 (dk_at dksX0_hears_0 13 rfl rfl)
theorem dX0_hears_16 : decode cX0_hears 16 = .ok (.invokevirtual 206, 3) := dk_182 0 206 (dk_at dksX0_hears_0 16 rfl rfl)
theorem dX0_hears_19 : decode cX0_hears 19 = .ok (.aload_n 0, 1) := dk_42 (dk_at dksX0_hears_0 19 rfl rfl)
theorem dX0_hears_20 : decode cX0_hears 20 = .ok (.iload_n 1, 1) := dk_27 (dk_at dksX0_hears_0 20 rfl rfl)
theorem dX0_hears_21 : decode cX0_hears 21 = .ok (.iload_n 2, 1) := dk_28 (dk_at dksX0_hears_0 21 rfl rfl)
theorem dX0_hears_22 : decode cX0_hears 22 = .ok (.invokevirtual 194, 3) := dk_182 0 194 (dk_at dksX0_hears_1 0 rfl rfl)
theorem dX0_hears_25 : decode cX0_hears 25 = .ok (.ireturn, 1) := dk_172 (dk_at dksX0_hears_1 3 rfl rfl)
abbrev cX0_heardIn : ByteArray := prog_1_method_23_code
def yX0_heardIn : MethodName := ⟨RX0, "heardIn", "(II)I"⟩
def dkwX0_heardIn_1 : List UInt8 := [180, 0, 188, 100, 182, 0, 191, 172]
abbrev dktX0_heardIn_1 : List UInt8 := dkwX0_heardIn_1 ++ []
def dkwX0_heardIn_0 : List UInt8 := [28, 42, 180, 0, 12, 180, 0, 188, 162, 0, 7, 2, 167, 0, 19, 42, 4, 27, 100, 28, 42, 180, 0, 12]
abbrev dktX0_heardIn_0 : List UInt8 := dkwX0_heardIn_0 ++ dktX0_heardIn_1
theorem dksX0_heardIn_0 : cX0_heardIn.data.toList.drop 0 = dktX0_heardIn_0 := by decide +kernel
theorem dksX0_heardIn_1 : cX0_heardIn.data.toList.drop 24 = dktX0_heardIn_1 := dk_seg dksX0_heardIn_0 24 rfl rfl
theorem dX0_heardIn_0 : decode cX0_heardIn 0 = .ok (.iload_n 2, 1) := dk_28 (dk_at dksX0_heardIn_0 0 rfl rfl)
theorem dX0_heardIn_1 : decode cX0_heardIn 1 = .ok (.aload_n 0, 1) := dk_42 (dk_at dksX0_heardIn_0 1 rfl rfl)
theorem dX0_heardIn_2 : decode cX0_heardIn 2 = .ok (.getfield 12, 3) := dk_180 0 12 (dk_at dksX0_heardIn_0 2 rfl rfl)
theorem dX0_heardIn_5 : decode cX0_heardIn 5 = .ok (.getfield 188, 3) := dk_180 0 188 (dk_at dksX0_heardIn_0 5 rfl rfl)
theorem dX0_heardIn_8 : decode cX0_heardIn 8 = .ok (.if_icmp .ge 7, 3) := dk_162 0 7 (dk_at dksX0_heardIn_0 8 rfl rfl)
theorem dX0_heardIn_11 : decode cX0_heardIn 11 = .ok (.iconst (-1), 1) := dk_2 (dk_at dksX0_heardIn_0 11 rfl rfl)
theorem dX0_heardIn_12 : decode cX0_heardIn 12 = .ok (.goto 19, 3) := dk_167 0 19 (dk_at dksX0_heardIn_0 12 rfl rfl)
theorem dX0_heardIn_15 : decode cX0_heardIn 15 = .ok (.aload_n 0, 1) := dk_42 (dk_at dksX0_heardIn_0 15 rfl rfl)
theorem dX0_heardIn_16 : decode cX0_heardIn 16 = .ok (.iconst 1, 1) := dk_4 (dk_at dksX0_heardIn_0 16 rfl rfl)
theorem dX0_heardIn_17 : decode cX0_heardIn 17 = .ok (.iload_n 1, 1) := dk_27 (dk_at dksX0_heardIn_0 17 rfl rfl)
theorem dX0_heardIn_18 : decode cX0_heardIn 18 = .ok (.isub, 1) := dk_100 (dk_at dksX0_heardIn_0 18 rfl rfl)
theorem dX0_heardIn_19 : decode cX0_heardIn 19 = .ok (.iload_n 2, 1) := dk_28 (dk_at dksX0_heardIn_0 19 rfl rfl)
theorem dX0_heardIn_20 : decode cX0_heardIn 20 = .ok (.aload_n 0, 1) := dk_42 (dk_at dksX0_heardIn_0 20 rfl rfl)
theorem dX0_heardIn_21 : decode cX0_heardIn 21 = .ok (.getfield 12, 3) := dk_180 0 12 (dk_at dksX0_heardIn_0 21 rfl rfl)
theorem dX0_heardIn_24 : decode cX0_heardIn 24 = .ok (.getfield 188, 3) := dk_180 0 188 (dk_at dksX0_heardIn_1 0 rfl rfl)
theorem dX0_heardIn_27 : decode cX0_heardIn 27 = .ok (.isub, 1) := dk_100 (dk_at dksX0_heardIn_1 3 rfl rfl)
theorem dX0_heardIn_28 : decode cX0_heardIn 28 = .ok (.invokevirtual 191, 3) := dk_182 0 191 (dk_at dksX0_heardIn_1 4 rfl rfl)
theorem dX0_heardIn_31 : decode cX0_heardIn 31 = .ok (.ireturn, 1) := dk_172 (dk_at dksX0_heardIn_1 7 rfl rfl)
abbrev cX0_late : ByteArray := prog_1_method_30_code
def yX0_late : MethodName := ⟨RX0, "late", "(II)I"⟩
def dkwX0_late_2 : List UInt8 := [180, 0, 209, 27, 46, 28, 96, 29, 100, 42, 180, 0, 12, 180, 0, 144, 27, 46, 184, 0, 212, 172]
abbrev dktX0_late_2 : List UInt8 := dkwX0_late_2 ++ []
def dkwX0_late_1 : List UInt8 := [17, 0, 200, 27, 104, 28, 96, 46, 62, 29, 2, 160, 0, 7, 2, 167, 0, 28, 42, 180, 0, 12]
abbrev dktX0_late_1 : List UInt8 := dkwX0_late_1 ++ dktX0_late_2
def dkwX0_late_0 : List UInt8 := [42, 27, 28, 182, 0, 203, 154, 0, 6, 16, 254, 172, 42, 180, 0, 43, 182, 0, 206, 42, 180, 0, 24]
abbrev dktX0_late_0 : List UInt8 := dkwX0_late_0 ++ dktX0_late_1
theorem dksX0_late_0 : cX0_late.data.toList.drop 0 = dktX0_late_0 := by decide +kernel
theorem dksX0_late_1 : cX0_late.data.toList.drop 23 = dktX0_late_1 := dk_seg dksX0_late_0 23 rfl rfl
theorem dksX0_late_2 : cX0_late.data.toList.drop 45 = dktX0_late_2 := dk_seg dksX0_late_1 22 rfl rfl
theorem dX0_late_0 : decode cX0_late 0 = .ok (.aload_n 0, 1) := dk_42 (dk_at dksX0_late_0 0 rfl rfl)
theorem dX0_late_1 : decode cX0_late 1 = .ok (.iload_n 1, 1) := dk_27 (dk_at dksX0_late_0 1 rfl rfl)
theorem dX0_late_2 : decode cX0_late 2 = .ok (.iload_n 2, 1) := dk_28 (dk_at dksX0_late_0 2 rfl rfl)
theorem dX0_late_3 : decode cX0_late 3 = .ok (.invokevirtual 203, 3) := dk_182 0 203 (dk_at dksX0_late_0 3 rfl rfl)
theorem dX0_late_6 : decode cX0_late 6 = .ok (.ifCond .ne 6, 3) := dk_154 0 6 (dk_at dksX0_late_0 6 rfl rfl)
theorem dX0_late_9 : decode cX0_late 9 = .ok (.bipush (-2), 2) := dk_16 254 (dk_at dksX0_late_0 9 rfl rfl)
theorem dX0_late_11 : decode cX0_late 11 = .ok (.ireturn, 1) := dk_172 (dk_at dksX0_late_0 11 rfl rfl)
theorem dX0_late_12 : decode cX0_late 12 = .ok (.aload_n 0, 1) := dk_42 (dk_at dksX0_late_0 12 rfl rfl)
theorem dX0_late_13 : decode cX0_late 13 = .ok (.getfield 43, 3) := dk_180 0 43 (dk_at dksX0_late_0 13 rfl rfl)
theorem dX0_late_16 : decode cX0_late 16 = .ok (.invokevirtual 206, 3) := dk_182 0 206 (dk_at dksX0_late_0 16 rfl rfl)
theorem dX0_late_19 : decode cX0_late 19 = .ok (.aload_n 0, 1) := dk_42 (dk_at dksX0_late_0 19 rfl rfl)
theorem dX0_late_20 : decode cX0_late 20 = .ok (.getfield 24, 3) := dk_180 0 24 (dk_at dksX0_late_0 20 rfl rfl)
theorem dX0_late_23 : decode cX0_late 23 = .ok (.sipush 200, 3) := dk_17 0 200 (dk_at dksX0_late_1 0 rfl rfl)
theorem dX0_late_26 : decode cX0_late 26 = .ok (.iload_n 1, 1) := dk_27 (dk_at dksX0_late_1 3 rfl rfl)
theorem dX0_late_27 : decode cX0_late 27 = .ok (.imul, 1) := dk_104 (dk_at dksX0_late_1 4 rfl rfl)
theorem dX0_late_28 : decode cX0_late 28 = .ok (.iload_n 2, 1) := dk_28 (dk_at dksX0_late_1 5 rfl rfl)
theorem dX0_late_29 : decode cX0_late 29 = .ok (.iadd, 1) := dk_96 (dk_at dksX0_late_1 6 rfl rfl)
theorem dX0_late_30 : decode cX0_late 30 = .ok (.iaload, 1) := dk_46 (dk_at dksX0_late_1 7 rfl rfl)
theorem dX0_late_31 : decode cX0_late 31 = .ok (.istore_n 3, 1) := dk_62 (dk_at dksX0_late_1 8 rfl rfl)
theorem dX0_late_32 : decode cX0_late 32 = .ok (.iload_n 3, 1) := dk_29 (dk_at dksX0_late_1 9 rfl rfl)
theorem dX0_late_33 : decode cX0_late 33 = .ok (.iconst (-1), 1) := dk_2 (dk_at dksX0_late_1 10 rfl rfl)
theorem dX0_late_34 : decode cX0_late 34 = .ok (.if_icmp .ne 7, 3) := dk_160 0 7 (dk_at dksX0_late_1 11 rfl rfl)
theorem dX0_late_37 : decode cX0_late 37 = .ok (.iconst (-1), 1) := dk_2 (dk_at dksX0_late_1 14 rfl rfl)
theorem dX0_late_38 : decode cX0_late 38 = .ok (.goto 28, 3) := dk_167 0 28 (dk_at dksX0_late_1 15 rfl rfl)
theorem dX0_late_41 : decode cX0_late 41 = .ok (.aload_n 0, 1) := dk_42 (dk_at dksX0_late_1 18 rfl rfl)
theorem dX0_late_42 : decode cX0_late 42 = .ok (.getfield 12, 3) := dk_180 0 12 (dk_at dksX0_late_1 19 rfl rfl)
theorem dX0_late_45 : decode cX0_late 45 = .ok (.getfield 209, 3) := dk_180 0 209 (dk_at dksX0_late_2 0 rfl rfl)
theorem dX0_late_48 : decode cX0_late 48 = .ok (.iload_n 1, 1) := dk_27 (dk_at dksX0_late_2 3 rfl rfl)
theorem dX0_late_49 : decode cX0_late 49 = .ok (.iaload, 1) := dk_46 (dk_at dksX0_late_2 4 rfl rfl)
theorem dX0_late_50 : decode cX0_late 50 = .ok (.iload_n 2, 1) := dk_28 (dk_at dksX0_late_2 5 rfl rfl)
theorem dX0_late_51 : decode cX0_late 51 = .ok (.iadd, 1) := dk_96 (dk_at dksX0_late_2 6 rfl rfl)
theorem dX0_late_52 : decode cX0_late 52 = .ok (.iload_n 3, 1) := dk_29 (dk_at dksX0_late_2 7 rfl rfl)
theorem dX0_late_53 : decode cX0_late 53 = .ok (.isub, 1) := dk_100 (dk_at dksX0_late_2 8 rfl rfl)
theorem dX0_late_54 : decode cX0_late 54 = .ok (.aload_n 0, 1) := dk_42 (dk_at dksX0_late_2 9 rfl rfl)
theorem dX0_late_55 : decode cX0_late 55 = .ok (.getfield 12, 3) := dk_180 0 12 (dk_at dksX0_late_2 10 rfl rfl)
theorem dX0_late_58 : decode cX0_late 58 = .ok (.getfield 144, 3) := dk_180 0 144 (dk_at dksX0_late_2 13 rfl rfl)
theorem dX0_late_61 : decode cX0_late 61 = .ok (.iload_n 1, 1) := dk_27 (dk_at dksX0_late_2 16 rfl rfl)
theorem dX0_late_62 : decode cX0_late 62 = .ok (.iaload, 1) := dk_46 (dk_at dksX0_late_2 17 rfl rfl)
theorem dX0_late_63 : decode cX0_late 63 = .ok (.invokestatic 212, 3) := dk_184 0 212 (dk_at dksX0_late_2 18 rfl rfl)
theorem dX0_late_66 : decode cX0_late 66 = .ok (.ireturn, 1) := dk_172 (dk_at dksX0_late_2 21 rfl rfl)
abbrev cX0_hole : ByteArray := prog_1_method_31_code
def yX0_hole : MethodName := ⟨RX0, "hole", "(II)I"⟩
def dkwX0_hole_1 : List UInt8 := [182, 0, 200, 153, 0, 7, 4, 167, 0, 4, 3, 172]
abbrev dktX0_hole_1 : List UInt8 := dkwX0_hole_1 ++ []
def dkwX0_hole_0 : List UInt8 := [42, 27, 28, 182, 0, 203, 154, 0, 6, 16, 254, 172, 42, 180, 0, 43, 182, 0, 206, 42, 27, 28]
abbrev dktX0_hole_0 : List UInt8 := dkwX0_hole_0 ++ dktX0_hole_1
theorem dksX0_hole_0 : cX0_hole.data.toList.drop 0 = dktX0_hole_0 := by decide +kernel
theorem dksX0_hole_1 : cX0_hole.data.toList.drop 22 = dktX0_hole_1 := dk_seg dksX0_hole_0 22 rfl rfl
theorem dX0_hole_0 : decode cX0_hole 0 = .ok (.aload_n 0, 1) := dk_42 (dk_at dksX0_hole_0 0 rfl rfl)
theorem dX0_hole_1 : decode cX0_hole 1 = .ok (.iload_n 1, 1) := dk_27 (dk_at dksX0_hole_0 1 rfl rfl)
theorem dX0_hole_2 : decode cX0_hole 2 = .ok (.iload_n 2, 1) := dk_28 (dk_at dksX0_hole_0 2 rfl rfl)
theorem dX0_hole_3 : decode cX0_hole 3 = .ok (.invokevirtual 203, 3) := dk_182 0 203 (dk_at dksX0_hole_0 3 rfl rfl)
theorem dX0_hole_6 : decode cX0_hole 6 = .ok (.ifCond .ne 6, 3) := dk_154 0 6 (dk_at dksX0_hole_0 6 rfl rfl)
theorem dX0_hole_9 : decode cX0_hole 9 = .ok (.bipush (-2), 2) := dk_16 254 (dk_at dksX0_hole_0 9 rfl rfl)
theorem dX0_hole_11 : decode cX0_hole 11 = .ok (.ireturn, 1) := dk_172 (dk_at dksX0_hole_0 11 rfl rfl)
theorem dX0_hole_12 : decode cX0_hole 12 = .ok (.aload_n 0, 1) := dk_42 (dk_at dksX0_hole_0 12 rfl rfl)
theorem dX0_hole_13 : decode cX0_hole 13 = .ok (.getfield 43, 3) := dk_180 0 43 (dk_at dksX0_hole_0 13 rfl rfl)
theorem dX0_hole_16 : decode cX0_hole 16 = .ok (.invokevirtual 206, 3) := dk_182 0 206 (dk_at dksX0_hole_0 16 rfl rfl)
theorem dX0_hole_19 : decode cX0_hole 19 = .ok (.aload_n 0, 1) := dk_42 (dk_at dksX0_hole_0 19 rfl rfl)
theorem dX0_hole_20 : decode cX0_hole 20 = .ok (.iload_n 1, 1) := dk_27 (dk_at dksX0_hole_0 20 rfl rfl)
theorem dX0_hole_21 : decode cX0_hole 21 = .ok (.iload_n 2, 1) := dk_28 (dk_at dksX0_hole_0 21 rfl rfl)
theorem dX0_hole_22 : decode cX0_hole 22 = .ok (.invokevirtual 200, 3) := dk_182 0 200 (dk_at dksX0_hole_1 0 rfl rfl)
theorem dX0_hole_25 : decode cX0_hole 25 = .ok (.ifCond .eq 7, 3) := dk_153 0 7 (dk_at dksX0_hole_1 3 rfl rfl)
theorem dX0_hole_28 : decode cX0_hole 28 = .ok (.iconst 1, 1) := dk_4 (dk_at dksX0_hole_1 6 rfl rfl)
theorem dX0_hole_29 : decode cX0_hole 29 = .ok (.goto 4, 3) := dk_167 0 4 (dk_at dksX0_hole_1 7 rfl rfl)
theorem dX0_hole_32 : decode cX0_hole 32 = .ok (.iconst 0, 1) := dk_3 (dk_at dksX0_hole_1 10 rfl rfl)
theorem dX0_hole_33 : decode cX0_hole 33 = .ok (.ireturn, 1) := dk_172 (dk_at dksX0_hole_1 11 rfl rfl)
abbrev cX0_isHole : ByteArray := prog_1_method_24_code
def yX0_isHole : MethodName := ⟨RX0, "isHole", "(II)Z"⟩
def dkwX0_isHole_2 : List UInt8 := [167, 0, 4, 3, 172]
abbrev dktX0_isHole_2 : List UInt8 := dkwX0_isHole_2 ++ []
def dkwX0_isHole_1 : List UInt8 := [180, 0, 163, 42, 27, 28, 182, 0, 191, 46, 42, 27, 28, 182, 0, 194, 184, 0, 197, 154, 0, 7, 4]
abbrev dktX0_isHole_1 : List UInt8 := dkwX0_isHole_1 ++ dktX0_isHole_2
def dkwX0_isHole_0 : List UInt8 := [42, 27, 28, 182, 0, 191, 2, 159, 0, 43, 42, 27, 28, 182, 0, 194, 2, 159, 0, 33, 42, 180, 0, 12]
abbrev dktX0_isHole_0 : List UInt8 := dkwX0_isHole_0 ++ dktX0_isHole_1
theorem dksX0_isHole_0 : cX0_isHole.data.toList.drop 0 = dktX0_isHole_0 := by decide +kernel
theorem dksX0_isHole_1 : cX0_isHole.data.toList.drop 24 = dktX0_isHole_1 := dk_seg dksX0_isHole_0 24 rfl rfl
theorem dksX0_isHole_2 : cX0_isHole.data.toList.drop 47 = dktX0_isHole_2 := dk_seg dksX0_isHole_1 23 rfl rfl
theorem dX0_isHole_0 : decode cX0_isHole 0 = .ok (.aload_n 0, 1) := dk_42 (dk_at dksX0_isHole_0 0 rfl rfl)
theorem dX0_isHole_1 : decode cX0_isHole 1 = .ok (.iload_n 1, 1) := dk_27 (dk_at dksX0_isHole_0 1 rfl rfl)
theorem dX0_isHole_2 : decode cX0_isHole 2 = .ok (.iload_n 2, 1) := dk_28 (dk_at dksX0_isHole_0 2 rfl rfl)
theorem dX0_isHole_3 : decode cX0_isHole 3 = .ok (.invokevirtual 191, 3) := dk_182 0 191 (dk_at dksX0_isHole_0 3 rfl rfl)
theorem dX0_isHole_6 : decode cX0_isHole 6 = .ok (.iconst (-1), 1) := dk_2 (dk_at dksX0_isHole_0 6 rfl rfl)
theorem dX0_isHole_7 : decode cX0_isHole 7 = .ok (.if_icmp .eq 43, 3) := dk_159 0 43 (dk_at dksX0_isHole_0 7 rfl rfl)
theorem dX0_isHole_10 : decode cX0_isHole 10 = .ok (.aload_n 0, 1) := dk_42 (dk_at dksX0_isHole_0 10 rfl rfl)
theorem dX0_isHole_11 : decode cX0_isHole 11 = .ok (.iload_n 1, 1) := dk_27 (dk_at dksX0_isHole_0 11 rfl rfl)
theorem dX0_isHole_12 : decode cX0_isHole 12 = .ok (.iload_n 2, 1) := dk_28 (dk_at dksX0_isHole_0 12 rfl rfl)
theorem dX0_isHole_13 : decode cX0_isHole 13 = .ok (.invokevirtual 194, 3) := dk_182 0 194 (dk_at dksX0_isHole_0 13 rfl rfl)
theorem dX0_isHole_16 : decode cX0_isHole 16 = .ok (.iconst (-1), 1) := dk_2 (dk_at dksX0_isHole_0 16 rfl rfl)
theorem dX0_isHole_17 : decode cX0_isHole 17 = .ok (.if_icmp .eq 33, 3) := dk_159 0 33 (dk_at dksX0_isHole_0 17 rfl rfl)
theorem dX0_isHole_20 : decode cX0_isHole 20 = .ok (.aload_n 0, 1) := dk_42 (dk_at dksX0_isHole_0 20 rfl rfl)
theorem dX0_isHole_21 : decode cX0_isHole 21 = .ok (.getfield 12, 3) := dk_180 0 12 (dk_at dksX0_isHole_0 21 rfl rfl)
theorem dX0_isHole_24 : decode cX0_isHole 24 = .ok (.getfield 163, 3) := dk_180 0 163 (dk_at dksX0_isHole_1 0 rfl rfl)
theorem dX0_isHole_27 : decode cX0_isHole 27 = .ok (.aload_n 0, 1) := dk_42 (dk_at dksX0_isHole_1 3 rfl rfl)
theorem dX0_isHole_28 : decode cX0_isHole 28 = .ok (.iload_n 1, 1) := dk_27 (dk_at dksX0_isHole_1 4 rfl rfl)
theorem dX0_isHole_29 : decode cX0_isHole 29 = .ok (.iload_n 2, 1) := dk_28 (dk_at dksX0_isHole_1 5 rfl rfl)
theorem dX0_isHole_30 : decode cX0_isHole 30 = .ok (.invokevirtual 191, 3) := dk_182 0 191 (dk_at dksX0_isHole_1 6 rfl rfl)
theorem dX0_isHole_33 : decode cX0_isHole 33 = .ok (.iaload, 1) := dk_46 (dk_at dksX0_isHole_1 9 rfl rfl)
theorem dX0_isHole_34 : decode cX0_isHole 34 = .ok (.aload_n 0, 1) := dk_42 (dk_at dksX0_isHole_1 10 rfl rfl)
theorem dX0_isHole_35 : decode cX0_isHole 35 = .ok (.iload_n 1, 1) := dk_27 (dk_at dksX0_isHole_1 11 rfl rfl)
theorem dX0_isHole_36 : decode cX0_isHole 36 = .ok (.iload_n 2, 1) := dk_28 (dk_at dksX0_isHole_1 12 rfl rfl)
theorem dX0_isHole_37 : decode cX0_isHole 37 = .ok (.invokevirtual 194, 3) := dk_182 0 194 (dk_at dksX0_isHole_1 13 rfl rfl)
theorem dX0_isHole_40 : decode cX0_isHole 40 = .ok (.invokestatic 197, 3) := dk_184 0 197 (dk_at dksX0_isHole_1 16 rfl rfl)
theorem dX0_isHole_43 : decode cX0_isHole 43 = .ok (.ifCond .ne 7, 3) := dk_154 0 7 (dk_at dksX0_isHole_1 19 rfl rfl)
theorem dX0_isHole_46 : decode cX0_isHole 46 = .ok (.iconst 1, 1) := dk_4 (dk_at dksX0_isHole_1 22 rfl rfl)
theorem dX0_isHole_47 : decode cX0_isHole 47 = .ok (.goto 4, 3) := dk_167 0 4 (dk_at dksX0_isHole_2 0 rfl rfl)
theorem dX0_isHole_50 : decode cX0_isHole 50 = .ok (.iconst 0, 1) := dk_3 (dk_at dksX0_isHole_2 3 rfl rfl)
theorem dX0_isHole_51 : decode cX0_isHole 51 = .ok (.ireturn, 1) := dk_172 (dk_at dksX0_isHole_2 4 rfl rfl)
abbrev cX0_has : ByteArray := prog_1_method_2_code
def yX0_has : MethodName := ⟨RX0, "has", "(II)Z"⟩
def dkwX0_has_0 : List UInt8 := [26, 27, 122, 4, 126, 4, 160, 0, 7, 4, 167, 0, 4, 3, 172]
abbrev dktX0_has_0 : List UInt8 := dkwX0_has_0 ++ []
theorem dksX0_has_0 : cX0_has.data.toList.drop 0 = dktX0_has_0 := by decide +kernel
theorem dX0_has_0 : decode cX0_has 0 = .ok (.iload_n 0, 1) := dk_26 (dk_at dksX0_has_0 0 rfl rfl)
theorem dX0_has_1 : decode cX0_has 1 = .ok (.iload_n 1, 1) := dk_27 (dk_at dksX0_has_0 1 rfl rfl)
theorem dX0_has_2 : decode cX0_has 2 = .ok (.ishr, 1) := dk_122 (dk_at dksX0_has_0 2 rfl rfl)
theorem dX0_has_3 : decode cX0_has 3 = .ok (.iconst 1, 1) := dk_4 (dk_at dksX0_has_0 3 rfl rfl)
theorem dX0_has_4 : decode cX0_has 4 = .ok (.iand, 1) := dk_126 (dk_at dksX0_has_0 4 rfl rfl)
theorem dX0_has_5 : decode cX0_has 5 = .ok (.iconst 1, 1) := dk_4 (dk_at dksX0_has_0 5 rfl rfl)
theorem dX0_has_6 : decode cX0_has 6 = .ok (.if_icmp .ne 7, 3) := dk_160 0 7 (dk_at dksX0_has_0 6 rfl rfl)
theorem dX0_has_9 : decode cX0_has 9 = .ok (.iconst 1, 1) := dk_4 (dk_at dksX0_has_0 9 rfl rfl)
theorem dX0_has_10 : decode cX0_has 10 = .ok (.goto 4, 3) := dk_167 0 4 (dk_at dksX0_has_0 10 rfl rfl)
theorem dX0_has_13 : decode cX0_has 13 = .ok (.iconst 0, 1) := dk_3 (dk_at dksX0_has_0 13 rfl rfl)
theorem dX0_has_14 : decode cX0_has 14 = .ok (.ireturn, 1) := dk_172 (dk_at dksX0_has_0 14 rfl rfl)
abbrev cX0_next : ByteArray := prog_1_method_32_code
def yX0_next : MethodName := ⟨RX0, "next", "(II)I"⟩
def dkwX0_next_2 : List UInt8 := [172]
abbrev dktX0_next_2 : List UInt8 := dkwX0_next_2 ++ []
def dkwX0_next_1 : List UInt8 := [17, 0, 200, 162, 0, 20, 42, 27, 29, 182, 0, 200, 153, 0, 5, 29, 172, 132, 3, 1, 167, 255, 235, 2]
abbrev dktX0_next_1 : List UInt8 := dkwX0_next_1 ++ dktX0_next_2
def dkwX0_next_0 : List UInt8 := [42, 27, 28, 182, 0, 203, 154, 0, 6, 16, 254, 172, 42, 180, 0, 43, 182, 0, 206, 28, 62, 29]
abbrev dktX0_next_0 : List UInt8 := dkwX0_next_0 ++ dktX0_next_1
theorem dksX0_next_0 : cX0_next.data.toList.drop 0 = dktX0_next_0 := by decide +kernel
theorem dksX0_next_1 : cX0_next.data.toList.drop 22 = dktX0_next_1 := dk_seg dksX0_next_0 22 rfl rfl
theorem dksX0_next_2 : cX0_next.data.toList.drop 46 = dktX0_next_2 := dk_seg dksX0_next_1 24 rfl rfl
theorem dX0_next_0 : decode cX0_next 0 = .ok (.aload_n 0, 1) := dk_42 (dk_at dksX0_next_0 0 rfl rfl)
theorem dX0_next_1 : decode cX0_next 1 = .ok (.iload_n 1, 1) := dk_27 (dk_at dksX0_next_0 1 rfl rfl)
theorem dX0_next_2 : decode cX0_next 2 = .ok (.iload_n 2, 1) := dk_28 (dk_at dksX0_next_0 2 rfl rfl)
theorem dX0_next_3 : decode cX0_next 3 = .ok (.invokevirtual 203, 3) := dk_182 0 203 (dk_at dksX0_next_0 3 rfl rfl)
theorem dX0_next_6 : decode cX0_next 6 = .ok (.ifCond .ne 6, 3) := dk_154 0 6 (dk_at dksX0_next_0 6 rfl rfl)
theorem dX0_next_9 : decode cX0_next 9 = .ok (.bipush (-2), 2) := dk_16 254 (dk_at dksX0_next_0 9 rfl rfl)
theorem dX0_next_11 : decode cX0_next 11 = .ok (.ireturn, 1) := dk_172 (dk_at dksX0_next_0 11 rfl rfl)
theorem dX0_next_12 : decode cX0_next 12 = .ok (.aload_n 0, 1) := dk_42 (dk_at dksX0_next_0 12 rfl rfl)
theorem dX0_next_13 : decode cX0_next 13 = .ok (.getfield 43, 3) := dk_180 0 43 (dk_at dksX0_next_0 13 rfl rfl)
theorem dX0_next_16 : decode cX0_next 16 = .ok (.invokevirtual 206, 3) := dk_182 0 206 (dk_at dksX0_next_0 16 rfl rfl)
theorem dX0_next_19 : decode cX0_next 19 = .ok (.iload_n 2, 1) := dk_28 (dk_at dksX0_next_0 19 rfl rfl)
theorem dX0_next_20 : decode cX0_next 20 = .ok (.istore_n 3, 1) := dk_62 (dk_at dksX0_next_0 20 rfl rfl)
theorem dX0_next_21 : decode cX0_next 21 = .ok (.iload_n 3, 1) := dk_29 (dk_at dksX0_next_0 21 rfl rfl)
theorem dX0_next_22 : decode cX0_next 22 = .ok (.sipush 200, 3) := dk_17 0 200 (dk_at dksX0_next_1 0 rfl rfl)
theorem dX0_next_25 : decode cX0_next 25 = .ok (.if_icmp .ge 20, 3) := dk_162 0 20 (dk_at dksX0_next_1 3 rfl rfl)
theorem dX0_next_28 : decode cX0_next 28 = .ok (.aload_n 0, 1) := dk_42 (dk_at dksX0_next_1 6 rfl rfl)
theorem dX0_next_29 : decode cX0_next 29 = .ok (.iload_n 1, 1) := dk_27 (dk_at dksX0_next_1 7 rfl rfl)
theorem dX0_next_30 : decode cX0_next 30 = .ok (.iload_n 3, 1) := dk_29 (dk_at dksX0_next_1 8 rfl rfl)
theorem dX0_next_31 : decode cX0_next 31 = .ok (.invokevirtual 200, 3) := dk_182 0 200 (dk_at dksX0_next_1 9 rfl rfl)
theorem dX0_next_34 : decode cX0_next 34 = .ok (.ifCond .eq 5, 3) := dk_153 0 5 (dk_at dksX0_next_1 12 rfl rfl)
theorem dX0_next_37 : decode cX0_next 37 = .ok (.iload_n 3, 1) := dk_29 (dk_at dksX0_next_1 15 rfl rfl)
theorem dX0_next_38 : decode cX0_next 38 = .ok (.ireturn, 1) := dk_172 (dk_at dksX0_next_1 16 rfl rfl)
theorem dX0_next_39 : decode cX0_next 39 = .ok (.iinc 3 1, 3) := dk_132 3 1 (dk_at dksX0_next_1 17 rfl rfl)
theorem dX0_next_42 : decode cX0_next 42 = .ok (.goto (-21), 3) := dk_167 255 235 (dk_at dksX0_next_1 20 rfl rfl)
theorem dX0_next_45 : decode cX0_next 45 = .ok (.iconst (-1), 1) := dk_2 (dk_at dksX0_next_1 23 rfl rfl)
theorem dX0_next_46 : decode cX0_next 46 = .ok (.ireturn, 1) := dk_172 (dk_at dksX0_next_2 0 rfl rfl)
abbrev cX0_holes : ByteArray := prog_1_method_34_code
def yX0_holes : MethodName := ⟨RX0, "holes", "(III)I"⟩
def dkwX0_holes_1 : List UInt8 := [182, 0, 206, 42, 27, 28, 29, 182, 0, 220, 172]
abbrev dktX0_holes_1 : List UInt8 := dkwX0_holes_1 ++ []
def dkwX0_holes_0 : List UInt8 := [42, 27, 182, 0, 140, 153, 0, 12, 42, 28, 29, 182, 0, 217, 154, 0, 6, 16, 254, 172, 42, 180, 0, 43]
abbrev dktX0_holes_0 : List UInt8 := dkwX0_holes_0 ++ dktX0_holes_1
theorem dksX0_holes_0 : cX0_holes.data.toList.drop 0 = dktX0_holes_0 := by decide +kernel
theorem dksX0_holes_1 : cX0_holes.data.toList.drop 24 = dktX0_holes_1 := dk_seg dksX0_holes_0 24 rfl rfl
theorem dX0_holes_0 : decode cX0_holes 0 = .ok (.aload_n 0, 1) := dk_42 (dk_at dksX0_holes_0 0 rfl rfl)
theorem dX0_holes_1 : decode cX0_holes 1 = .ok (.iload_n 1, 1) := dk_27 (dk_at dksX0_holes_0 1 rfl rfl)
theorem dX0_holes_2 : decode cX0_holes 2 = .ok (.invokevirtual 140, 3) := dk_182 0 140 (dk_at dksX0_holes_0 2 rfl rfl)
theorem dX0_holes_5 : decode cX0_holes 5 = .ok (.ifCond .eq 12, 3) := dk_153 0 12 (dk_at dksX0_holes_0 5 rfl rfl)
theorem dX0_holes_8 : decode cX0_holes 8 = .ok (.aload_n 0, 1) := dk_42 (dk_at dksX0_holes_0 8 rfl rfl)
theorem dX0_holes_9 : decode cX0_holes 9 = .ok (.iload_n 2, 1) := dk_28 (dk_at dksX0_holes_0 9 rfl rfl)
theorem dX0_holes_10 : decode cX0_holes 10 = .ok (.iload_n 3, 1) := dk_29 (dk_at dksX0_holes_0 10 rfl rfl)
theorem dX0_holes_11 : decode cX0_holes 11 = .ok (.invokevirtual 217, 3) := dk_182 0 217 (dk_at dksX0_holes_0 11 rfl rfl)
theorem dX0_holes_14 : decode cX0_holes 14 = .ok (.ifCond .ne 6, 3) := dk_154 0 6 (dk_at dksX0_holes_0 14 rfl rfl)
theorem dX0_holes_17 : decode cX0_holes 17 = .ok (.bipush (-2), 2) := dk_16 254 (dk_at dksX0_holes_0 17 rfl rfl)
theorem dX0_holes_19 : decode cX0_holes 19 = .ok (.ireturn, 1) := dk_172 (dk_at dksX0_holes_0 19 rfl rfl)
theorem dX0_holes_20 : decode cX0_holes 20 = .ok (.aload_n 0, 1) := dk_42 (dk_at dksX0_holes_0 20 rfl rfl)
theorem dX0_holes_21 : decode cX0_holes 21 = .ok (.getfield 43, 3) := dk_180 0 43 (dk_at dksX0_holes_0 21 rfl rfl)
theorem dX0_holes_24 : decode cX0_holes 24 = .ok (.invokevirtual 206, 3) := dk_182 0 206 (dk_at dksX0_holes_1 0 rfl rfl)
theorem dX0_holes_27 : decode cX0_holes 27 = .ok (.aload_n 0, 1) := dk_42 (dk_at dksX0_holes_1 3 rfl rfl)
theorem dX0_holes_28 : decode cX0_holes 28 = .ok (.iload_n 1, 1) := dk_27 (dk_at dksX0_holes_1 4 rfl rfl)
theorem dX0_holes_29 : decode cX0_holes 29 = .ok (.iload_n 2, 1) := dk_28 (dk_at dksX0_holes_1 5 rfl rfl)
theorem dX0_holes_30 : decode cX0_holes 30 = .ok (.iload_n 3, 1) := dk_29 (dk_at dksX0_holes_1 6 rfl rfl)
theorem dX0_holes_31 : decode cX0_holes 31 = .ok (.invokevirtual 220, 3) := dk_182 0 220 (dk_at dksX0_holes_1 7 rfl rfl)
theorem dX0_holes_34 : decode cX0_holes 34 = .ok (.ireturn, 1) := dk_172 (dk_at dksX0_holes_1 10 rfl rfl)
abbrev cX0_isSpan : ByteArray := prog_1_method_33_code
def yX0_isSpan : MethodName := ⟨RX0, "isSpan", "(II)Z"⟩
def dkwX0_isSpan_1 : List UInt8 := [167, 0, 4, 3, 172]
abbrev dktX0_isSpan_1 : List UInt8 := dkwX0_isSpan_1 ++ []
def dkwX0_isSpan_0 : List UInt8 := [42, 27, 133, 182, 0, 181, 153, 0, 21, 42, 28, 133, 182, 0, 181, 153, 0, 12, 27, 28, 163, 0, 7, 4]
abbrev dktX0_isSpan_0 : List UInt8 := dkwX0_isSpan_0 ++ dktX0_isSpan_1
theorem dksX0_isSpan_0 : cX0_isSpan.data.toList.drop 0 = dktX0_isSpan_0 := by decide +kernel
theorem dksX0_isSpan_1 : cX0_isSpan.data.toList.drop 24 = dktX0_isSpan_1 := dk_seg dksX0_isSpan_0 24 rfl rfl
theorem dX0_isSpan_0 : decode cX0_isSpan 0 = .ok (.aload_n 0, 1) := dk_42 (dk_at dksX0_isSpan_0 0 rfl rfl)
theorem dX0_isSpan_1 : decode cX0_isSpan 1 = .ok (.iload_n 1, 1) := dk_27 (dk_at dksX0_isSpan_0 1 rfl rfl)
theorem dX0_isSpan_2 : decode cX0_isSpan 2 = .ok (.i2l, 1) := dk_133 (dk_at dksX0_isSpan_0 2 rfl rfl)
theorem dX0_isSpan_3 : decode cX0_isSpan 3 = .ok (.invokevirtual 181, 3) := dk_182 0 181 (dk_at dksX0_isSpan_0 3 rfl rfl)
theorem dX0_isSpan_6 : decode cX0_isSpan 6 = .ok (.ifCond .eq 21, 3) := dk_153 0 21 (dk_at dksX0_isSpan_0 6 rfl rfl)
theorem dX0_isSpan_9 : decode cX0_isSpan 9 = .ok (.aload_n 0, 1) := dk_42 (dk_at dksX0_isSpan_0 9 rfl rfl)
theorem dX0_isSpan_10 : decode cX0_isSpan 10 = .ok (.iload_n 2, 1) := dk_28 (dk_at dksX0_isSpan_0 10 rfl rfl)
theorem dX0_isSpan_11 : decode cX0_isSpan 11 = .ok (.i2l, 1) := dk_133 (dk_at dksX0_isSpan_0 11 rfl rfl)
theorem dX0_isSpan_12 : decode cX0_isSpan 12 = .ok (.invokevirtual 181, 3) := dk_182 0 181 (dk_at dksX0_isSpan_0 12 rfl rfl)
theorem dX0_isSpan_15 : decode cX0_isSpan 15 = .ok (.ifCond .eq 12, 3) := dk_153 0 12 (dk_at dksX0_isSpan_0 15 rfl rfl)
theorem dX0_isSpan_18 : decode cX0_isSpan 18 = .ok (.iload_n 1, 1) := dk_27 (dk_at dksX0_isSpan_0 18 rfl rfl)
theorem dX0_isSpan_19 : decode cX0_isSpan 19 = .ok (.iload_n 2, 1) := dk_28 (dk_at dksX0_isSpan_0 19 rfl rfl)
theorem dX0_isSpan_20 : decode cX0_isSpan 20 = .ok (.if_icmp .gt 7, 3) := dk_163 0 7 (dk_at dksX0_isSpan_0 20 rfl rfl)
theorem dX0_isSpan_23 : decode cX0_isSpan 23 = .ok (.iconst 1, 1) := dk_4 (dk_at dksX0_isSpan_0 23 rfl rfl)
theorem dX0_isSpan_24 : decode cX0_isSpan 24 = .ok (.goto 4, 3) := dk_167 0 4 (dk_at dksX0_isSpan_1 0 rfl rfl)
theorem dX0_isSpan_27 : decode cX0_isSpan 27 = .ok (.iconst 0, 1) := dk_3 (dk_at dksX0_isSpan_1 3 rfl rfl)
theorem dX0_isSpan_28 : decode cX0_isSpan 28 = .ok (.ireturn, 1) := dk_172 (dk_at dksX0_isSpan_1 4 rfl rfl)
abbrev cX0_holesOf : ByteArray := prog_1_method_25_code
def yX0_holesOf : MethodName := ⟨RX0, "holesOf", "(III)I"⟩
def dkwX0_holesOf_1 : List UInt8 := [4, 167, 0, 4, 3, 96, 54, 4, 132, 5, 1, 167, 255, 227, 21, 4, 172]
abbrev dktX0_holesOf_1 : List UInt8 := dkwX0_holesOf_1 ++ []
def dkwX0_holesOf_0 : List UInt8 := [3, 54, 4, 28, 54, 5, 21, 5, 29, 163, 0, 29, 21, 4, 42, 27, 21, 5, 182, 0, 200, 153, 0, 7]
abbrev dktX0_holesOf_0 : List UInt8 := dkwX0_holesOf_0 ++ dktX0_holesOf_1
theorem dksX0_holesOf_0 : cX0_holesOf.data.toList.drop 0 = dktX0_holesOf_0 := by decide +kernel
theorem dksX0_holesOf_1 : cX0_holesOf.data.toList.drop 24 = dktX0_holesOf_1 := dk_seg dksX0_holesOf_0 24 rfl rfl
theorem dX0_holesOf_0 : decode cX0_holesOf 0 = .ok (.iconst 0, 1) := dk_3 (dk_at dksX0_holesOf_0 0 rfl rfl)
theorem dX0_holesOf_1 : decode cX0_holesOf 1 = .ok (.istore 4, 2) := dk_54 4 (dk_at dksX0_holesOf_0 1 rfl rfl)
theorem dX0_holesOf_3 : decode cX0_holesOf 3 = .ok (.iload_n 2, 1) := dk_28 (dk_at dksX0_holesOf_0 3 rfl rfl)
theorem dX0_holesOf_4 : decode cX0_holesOf 4 = .ok (.istore 5, 2) := dk_54 5 (dk_at dksX0_holesOf_0 4 rfl rfl)
theorem dX0_holesOf_6 : decode cX0_holesOf 6 = .ok (.iload 5, 2) := dk_21 5 (dk_at dksX0_holesOf_0 6 rfl rfl)
theorem dX0_holesOf_8 : decode cX0_holesOf 8 = .ok (.iload_n 3, 1) := dk_29 (dk_at dksX0_holesOf_0 8 rfl rfl)
theorem dX0_holesOf_9 : decode cX0_holesOf 9 = .ok (.if_icmp .gt 29, 3) := dk_163 0 29 (dk_at dksX0_holesOf_0 9 rfl rfl)
theorem dX0_holesOf_12 : decode cX0_holesOf 12 = .ok (.iload 4, 2) := dk_21 4 (dk_at dksX0_holesOf_0 12 rfl rfl)
theorem dX0_holesOf_14 : decode cX0_holesOf 14 = .ok (.aload_n 0, 1) := dk_42 (dk_at dksX0_holesOf_0 14 rfl rfl)
theorem dX0_holesOf_15 : decode cX0_holesOf 15 = .ok (.iload_n 1, 1) := dk_27 (dk_at dksX0_holesOf_0 15 rfl rfl)
theorem dX0_holesOf_16 : decode cX0_holesOf 16 = .ok (.iload 5, 2) := dk_21 5 (dk_at dksX0_holesOf_0 16 rfl rfl)
theorem dX0_holesOf_18 : decode cX0_holesOf 18 = .ok (.invokevirtual 200, 3) := dk_182 0 200 (dk_at dksX0_holesOf_0 18 rfl rfl)
theorem dX0_holesOf_21 : decode cX0_holesOf 21 = .ok (.ifCond .eq 7, 3) := dk_153 0 7 (dk_at dksX0_holesOf_0 21 rfl rfl)
theorem dX0_holesOf_24 : decode cX0_holesOf 24 = .ok (.iconst 1, 1) := dk_4 (dk_at dksX0_holesOf_1 0 rfl rfl)
theorem dX0_holesOf_25 : decode cX0_holesOf 25 = .ok (.goto 4, 3) := dk_167 0 4 (dk_at dksX0_holesOf_1 1 rfl rfl)
theorem dX0_holesOf_28 : decode cX0_holesOf 28 = .ok (.iconst 0, 1) := dk_3 (dk_at dksX0_holesOf_1 4 rfl rfl)
theorem dX0_holesOf_29 : decode cX0_holesOf 29 = .ok (.iadd, 1) := dk_96 (dk_at dksX0_holesOf_1 5 rfl rfl)
theorem dX0_holesOf_30 : decode cX0_holesOf 30 = .ok (.istore 4, 2) := dk_54 4 (dk_at dksX0_holesOf_1 6 rfl rfl)
theorem dX0_holesOf_32 : decode cX0_holesOf 32 = .ok (.iinc 5 1, 3) := dk_132 5 1 (dk_at dksX0_holesOf_1 8 rfl rfl)
theorem dX0_holesOf_35 : decode cX0_holesOf 35 = .ok (.goto (-29), 3) := dk_167 255 227 (dk_at dksX0_holesOf_1 11 rfl rfl)
theorem dX0_holesOf_38 : decode cX0_holesOf 38 = .ok (.iload 4, 2) := dk_21 4 (dk_at dksX0_holesOf_1 14 rfl rfl)
theorem dX0_holesOf_40 : decode cX0_holesOf 40 = .ok (.ireturn, 1) := dk_172 (dk_at dksX0_holesOf_1 16 rfl rfl)
abbrev cX0_run : ByteArray := prog_1_method_36_code
def yX0_run : MethodName := ⟨RX0, "run", "(II)I"⟩
def dkwX0_run_0 : List UInt8 := [42, 27, 28, 182, 0, 217, 154, 0, 6, 16, 254, 172, 42, 27, 28, 182, 0, 230, 42, 180, 0, 224, 172]
abbrev dktX0_run_0 : List UInt8 := dkwX0_run_0 ++ []
theorem dksX0_run_0 : cX0_run.data.toList.drop 0 = dktX0_run_0 := by decide +kernel
theorem dX0_run_0 : decode cX0_run 0 = .ok (.aload_n 0, 1) := dk_42 (dk_at dksX0_run_0 0 rfl rfl)
theorem dX0_run_1 : decode cX0_run 1 = .ok (.iload_n 1, 1) := dk_27 (dk_at dksX0_run_0 1 rfl rfl)
theorem dX0_run_2 : decode cX0_run 2 = .ok (.iload_n 2, 1) := dk_28 (dk_at dksX0_run_0 2 rfl rfl)
theorem dX0_run_3 : decode cX0_run 3 = .ok (.invokevirtual 217, 3) := dk_182 0 217 (dk_at dksX0_run_0 3 rfl rfl)
theorem dX0_run_6 : decode cX0_run 6 = .ok (.ifCond .ne 6, 3) := dk_154 0 6 (dk_at dksX0_run_0 6 rfl rfl)
theorem dX0_run_9 : decode cX0_run 9 = .ok (.bipush (-2), 2) := dk_16 254 (dk_at dksX0_run_0 9 rfl rfl)
theorem dX0_run_11 : decode cX0_run 11 = .ok (.ireturn, 1) := dk_172 (dk_at dksX0_run_0 11 rfl rfl)
theorem dX0_run_12 : decode cX0_run 12 = .ok (.aload_n 0, 1) := dk_42 (dk_at dksX0_run_0 12 rfl rfl)
theorem dX0_run_13 : decode cX0_run 13 = .ok (.iload_n 1, 1) := dk_27 (dk_at dksX0_run_0 13 rfl rfl)
theorem dX0_run_14 : decode cX0_run 14 = .ok (.iload_n 2, 1) := dk_28 (dk_at dksX0_run_0 14 rfl rfl)
theorem dX0_run_15 : decode cX0_run 15 = .ok (.invokevirtual 230, 3) := dk_182 0 230 (dk_at dksX0_run_0 15 rfl rfl)
theorem dX0_run_18 : decode cX0_run 18 = .ok (.aload_n 0, 1) := dk_42 (dk_at dksX0_run_0 18 rfl rfl)
theorem dX0_run_19 : decode cX0_run 19 = .ok (.getfield 224, 3) := dk_180 0 224 (dk_at dksX0_run_0 19 rfl rfl)
theorem dX0_run_22 : decode cX0_run 22 = .ok (.ireturn, 1) := dk_172 (dk_at dksX0_run_0 22 rfl rfl)
abbrev cX0_findsRun : ByteArray := prog_1_method_35_code
def yX0_findsRun : MethodName := ⟨RX0, "findsRun", "(II)V"⟩
def dkwX0_findsRun_3 : List UInt8 := [42, 21, 4, 29, 100, 4, 96, 181, 0, 227, 132, 4, 1, 167, 255, 193, 177]
abbrev dktX0_findsRun_3 : List UInt8 := dkwX0_findsRun_3 ++ []
def dkwX0_findsRun_2 : List UInt8 := [3, 167, 0, 6, 29, 4, 96, 62, 29, 42, 180, 0, 224, 163, 0, 6, 167, 0, 18, 42, 29, 181, 0, 224]
abbrev dktX0_findsRun_2 : List UInt8 := dkwX0_findsRun_2 ++ dktX0_findsRun_3
def dkwX0_findsRun_1 : List UInt8 := [28, 163, 0, 63, 42, 3, 21, 4, 182, 0, 200, 154, 0, 13, 42, 4, 21, 4, 182, 0, 200, 153, 0, 7]
abbrev dktX0_findsRun_1 : List UInt8 := dkwX0_findsRun_1 ++ dktX0_findsRun_2
def dkwX0_findsRun_0 : List UInt8 := [42, 180, 0, 43, 182, 0, 206, 42, 3, 181, 0, 224, 42, 2, 181, 0, 227, 3, 62, 27, 54, 4, 21, 4]
abbrev dktX0_findsRun_0 : List UInt8 := dkwX0_findsRun_0 ++ dktX0_findsRun_1
theorem dksX0_findsRun_0 : cX0_findsRun.data.toList.drop 0 = dktX0_findsRun_0 := by decide +kernel
theorem dksX0_findsRun_1 : cX0_findsRun.data.toList.drop 24 = dktX0_findsRun_1 := dk_seg dksX0_findsRun_0 24 rfl rfl
theorem dksX0_findsRun_2 : cX0_findsRun.data.toList.drop 48 = dktX0_findsRun_2 := dk_seg dksX0_findsRun_1 24 rfl rfl
theorem dksX0_findsRun_3 : cX0_findsRun.data.toList.drop 72 = dktX0_findsRun_3 := dk_seg dksX0_findsRun_2 24 rfl rfl
theorem dX0_findsRun_0 : decode cX0_findsRun 0 = .ok (.aload_n 0, 1) := dk_42 (dk_at dksX0_findsRun_0 0 rfl rfl)
theorem dX0_findsRun_1 : decode cX0_findsRun 1 = .ok (.getfield 43, 3) := dk_180 0 43 (dk_at dksX0_findsRun_0 1 rfl rfl)
theorem dX0_findsRun_4 : decode cX0_findsRun 4 = .ok (.invokevirtual 206, 3) := dk_182 0 206 (dk_at dksX0_findsRun_0 4 rfl rfl)
theorem dX0_findsRun_7 : decode cX0_findsRun 7 = .ok (.aload_n 0, 1) := dk_42 (dk_at dksX0_findsRun_0 7 rfl rfl)
theorem dX0_findsRun_8 : decode cX0_findsRun 8 = .ok (.iconst 0, 1) := dk_3 (dk_at dksX0_findsRun_0 8 rfl rfl)
theorem dX0_findsRun_9 : decode cX0_findsRun 9 = .ok (.putfield 224, 3) := dk_181 0 224 (dk_at dksX0_findsRun_0 9 rfl rfl)
theorem dX0_findsRun_12 : decode cX0_findsRun 12 = .ok (.aload_n 0, 1) := dk_42 (dk_at dksX0_findsRun_0 12 rfl rfl)
theorem dX0_findsRun_13 : decode cX0_findsRun 13 = .ok (.iconst (-1), 1) := dk_2 (dk_at dksX0_findsRun_0 13 rfl rfl)
theorem dX0_findsRun_14 : decode cX0_findsRun 14 = .ok (.putfield 227, 3) := dk_181 0 227 (dk_at dksX0_findsRun_0 14 rfl rfl)
theorem dX0_findsRun_17 : decode cX0_findsRun 17 = .ok (.iconst 0, 1) := dk_3 (dk_at dksX0_findsRun_0 17 rfl rfl)
theorem dX0_findsRun_18 : decode cX0_findsRun 18 = .ok (.istore_n 3, 1) := dk_62 (dk_at dksX0_findsRun_0 18 rfl rfl)
theorem dX0_findsRun_19 : decode cX0_findsRun 19 = .ok (.iload_n 1, 1) := dk_27 (dk_at dksX0_findsRun_0 19 rfl rfl)
theorem dX0_findsRun_20 : decode cX0_findsRun 20 = .ok (.istore 4, 2) := dk_54 4 (dk_at dksX0_findsRun_0 20 rfl rfl)
theorem dX0_findsRun_22 : decode cX0_findsRun 22 = .ok (.iload 4, 2) := dk_21 4 (dk_at dksX0_findsRun_0 22 rfl rfl)
theorem dX0_findsRun_24 : decode cX0_findsRun 24 = .ok (.iload_n 2, 1) := dk_28 (dk_at dksX0_findsRun_1 0 rfl rfl)
theorem dX0_findsRun_25 : decode cX0_findsRun 25 = .ok (.if_icmp .gt 63, 3) := dk_163 0 63 (dk_at dksX0_findsRun_1 1 rfl rfl)
theorem dX0_findsRun_28 : decode cX0_findsRun 28 = .ok (.aload_n 0, 1) := dk_42 (dk_at dksX0_findsRun_1 4 rfl rfl)
theorem dX0_findsRun_29 : decode cX0_findsRun 29 = .ok (.iconst 0, 1) := dk_3 (dk_at dksX0_findsRun_1 5 rfl rfl)
theorem dX0_findsRun_30 : decode cX0_findsRun 30 = .ok (.iload 4, 2) := dk_21 4 (dk_at dksX0_findsRun_1 6 rfl rfl)
theorem dX0_findsRun_32 : decode cX0_findsRun 32 = .ok (.invokevirtual 200, 3) := dk_182 0 200 (dk_at dksX0_findsRun_1 8 rfl rfl)
theorem dX0_findsRun_35 : decode cX0_findsRun 35 = .ok (.ifCond .ne 13, 3) := dk_154 0 13 (dk_at dksX0_findsRun_1 11 rfl rfl)
theorem dX0_findsRun_38 : decode cX0_findsRun 38 = .ok (.aload_n 0, 1) := dk_42 (dk_at dksX0_findsRun_1 14 rfl rfl)
theorem dX0_findsRun_39 : decode cX0_findsRun 39 = .ok (.iconst 1, 1) := dk_4 (dk_at dksX0_findsRun_1 15 rfl rfl)
theorem dX0_findsRun_40 : decode cX0_findsRun 40 = .ok (.iload 4, 2) := dk_21 4 (dk_at dksX0_findsRun_1 16 rfl rfl)
theorem dX0_findsRun_42 : decode cX0_findsRun 42 = .ok (.invokevirtual 200, 3) := dk_182 0 200 (dk_at dksX0_findsRun_1 18 rfl rfl)
theorem dX0_findsRun_45 : decode cX0_findsRun 45 = .ok (.ifCond .eq 7, 3) := dk_153 0 7 (dk_at dksX0_findsRun_1 21 rfl rfl)
theorem dX0_findsRun_48 : decode cX0_findsRun 48 = .ok (.iconst 0, 1) := dk_3 (dk_at dksX0_findsRun_2 0 rfl rfl)
theorem dX0_findsRun_49 : decode cX0_findsRun 49 = .ok (.goto 6, 3) := dk_167 0 6 (dk_at dksX0_findsRun_2 1 rfl rfl)
theorem dX0_findsRun_52 : decode cX0_findsRun 52 = .ok (.iload_n 3, 1) := dk_29 (dk_at dksX0_findsRun_2 4 rfl rfl)
theorem dX0_findsRun_53 : decode cX0_findsRun 53 = .ok (.iconst 1, 1) := dk_4 (dk_at dksX0_findsRun_2 5 rfl rfl)
theorem dX0_findsRun_54 : decode cX0_findsRun 54 = .ok (.iadd, 1) := dk_96 (dk_at dksX0_findsRun_2 6 rfl rfl)
theorem dX0_findsRun_55 : decode cX0_findsRun 55 = .ok (.istore_n 3, 1) := dk_62 (dk_at dksX0_findsRun_2 7 rfl rfl)
theorem dX0_findsRun_56 : decode cX0_findsRun 56 = .ok (.iload_n 3, 1) := dk_29 (dk_at dksX0_findsRun_2 8 rfl rfl)
theorem dX0_findsRun_57 : decode cX0_findsRun 57 = .ok (.aload_n 0, 1) := dk_42 (dk_at dksX0_findsRun_2 9 rfl rfl)
theorem dX0_findsRun_58 : decode cX0_findsRun 58 = .ok (.getfield 224, 3) := dk_180 0 224 (dk_at dksX0_findsRun_2 10 rfl rfl)
theorem dX0_findsRun_61 : decode cX0_findsRun 61 = .ok (.if_icmp .gt 6, 3) := dk_163 0 6 (dk_at dksX0_findsRun_2 13 rfl rfl)
theorem dX0_findsRun_64 : decode cX0_findsRun 64 = .ok (.goto 18, 3) := dk_167 0 18 (dk_at dksX0_findsRun_2 16 rfl rfl)
theorem dX0_findsRun_67 : decode cX0_findsRun 67 = .ok (.aload_n 0, 1) := dk_42 (dk_at dksX0_findsRun_2 19 rfl rfl)
theorem dX0_findsRun_68 : decode cX0_findsRun 68 = .ok (.iload_n 3, 1) := dk_29 (dk_at dksX0_findsRun_2 20 rfl rfl)
theorem dX0_findsRun_69 : decode cX0_findsRun 69 = .ok (.putfield 224, 3) := dk_181 0 224 (dk_at dksX0_findsRun_2 21 rfl rfl)
theorem dX0_findsRun_72 : decode cX0_findsRun 72 = .ok (.aload_n 0, 1) := dk_42 (dk_at dksX0_findsRun_3 0 rfl rfl)
theorem dX0_findsRun_73 : decode cX0_findsRun 73 = .ok (.iload 4, 2) := dk_21 4 (dk_at dksX0_findsRun_3 1 rfl rfl)
theorem dX0_findsRun_75 : decode cX0_findsRun 75 = .ok (.iload_n 3, 1) := dk_29 (dk_at dksX0_findsRun_3 3 rfl rfl)
theorem dX0_findsRun_76 : decode cX0_findsRun 76 = .ok (.isub, 1) := dk_100 (dk_at dksX0_findsRun_3 4 rfl rfl)
theorem dX0_findsRun_77 : decode cX0_findsRun 77 = .ok (.iconst 1, 1) := dk_4 (dk_at dksX0_findsRun_3 5 rfl rfl)
theorem dX0_findsRun_78 : decode cX0_findsRun 78 = .ok (.iadd, 1) := dk_96 (dk_at dksX0_findsRun_3 6 rfl rfl)
theorem dX0_findsRun_79 : decode cX0_findsRun 79 = .ok (.putfield 227, 3) := dk_181 0 227 (dk_at dksX0_findsRun_3 7 rfl rfl)
theorem dX0_findsRun_82 : decode cX0_findsRun 82 = .ok (.iinc 4 1, 3) := dk_132 4 1 (dk_at dksX0_findsRun_3 10 rfl rfl)
theorem dX0_findsRun_85 : decode cX0_findsRun 85 = .ok (.goto (-63), 3) := dk_167 255 193 (dk_at dksX0_findsRun_3 13 rfl rfl)
theorem dX0_findsRun_88 : decode cX0_findsRun 88 = .ok (.return_, 1) := dk_177 (dk_at dksX0_findsRun_3 16 rfl rfl)
abbrev cX0_begins : ByteArray := prog_1_method_37_code
def yX0_begins : MethodName := ⟨RX0, "begins", "(II)I"⟩
def dkwX0_begins_0 : List UInt8 := [42, 27, 28, 182, 0, 217, 154, 0, 6, 16, 254, 172, 42, 27, 28, 182, 0, 230, 42, 180, 0, 227, 172]
abbrev dktX0_begins_0 : List UInt8 := dkwX0_begins_0 ++ []
theorem dksX0_begins_0 : cX0_begins.data.toList.drop 0 = dktX0_begins_0 := by decide +kernel
theorem dX0_begins_0 : decode cX0_begins 0 = .ok (.aload_n 0, 1) := dk_42 (dk_at dksX0_begins_0 0 rfl rfl)
theorem dX0_begins_1 : decode cX0_begins 1 = .ok (.iload_n 1, 1) := dk_27 (dk_at dksX0_begins_0 1 rfl rfl)
theorem dX0_begins_2 : decode cX0_begins 2 = .ok (.iload_n 2, 1) := dk_28 (dk_at dksX0_begins_0 2 rfl rfl)
theorem dX0_begins_3 : decode cX0_begins 3 = .ok (.invokevirtual 217, 3) := dk_182 0 217 (dk_at dksX0_begins_0 3 rfl rfl)
theorem dX0_begins_6 : decode cX0_begins 6 = .ok (.ifCond .ne 6, 3) := dk_154 0 6 (dk_at dksX0_begins_0 6 rfl rfl)
theorem dX0_begins_9 : decode cX0_begins 9 = .ok (.bipush (-2), 2) := dk_16 254 (dk_at dksX0_begins_0 9 rfl rfl)
theorem dX0_begins_11 : decode cX0_begins 11 = .ok (.ireturn, 1) := dk_172 (dk_at dksX0_begins_0 11 rfl rfl)
theorem dX0_begins_12 : decode cX0_begins 12 = .ok (.aload_n 0, 1) := dk_42 (dk_at dksX0_begins_0 12 rfl rfl)
theorem dX0_begins_13 : decode cX0_begins 13 = .ok (.iload_n 1, 1) := dk_27 (dk_at dksX0_begins_0 13 rfl rfl)
theorem dX0_begins_14 : decode cX0_begins 14 = .ok (.iload_n 2, 1) := dk_28 (dk_at dksX0_begins_0 14 rfl rfl)
theorem dX0_begins_15 : decode cX0_begins 15 = .ok (.invokevirtual 230, 3) := dk_182 0 230 (dk_at dksX0_begins_0 15 rfl rfl)
theorem dX0_begins_18 : decode cX0_begins 18 = .ok (.aload_n 0, 1) := dk_42 (dk_at dksX0_begins_0 18 rfl rfl)
theorem dX0_begins_19 : decode cX0_begins 19 = .ok (.getfield 227, 3) := dk_180 0 227 (dk_at dksX0_begins_0 19 rfl rfl)
theorem dX0_begins_22 : decode cX0_begins 22 = .ok (.ireturn, 1) := dk_172 (dk_at dksX0_begins_0 22 rfl rfl)
abbrev cX0_undoes : ByteArray := prog_1_method_39_code
def yX0_undoes : MethodName := ⟨RX0, "undoes", "(I)I"⟩
def dkwX0_undoes_1 : List UInt8 := [42, 180, 0, 50, 27, 181, 0, 238, 42, 180, 0, 50, 182, 0, 240, 28, 42, 182, 0, 234, 100, 172]
abbrev dktX0_undoes_1 : List UInt8 := dkwX0_undoes_1 ++ []
def dkwX0_undoes_0 : List UInt8 := [42, 27, 182, 0, 166, 154, 0, 7, 17, 252, 24, 172, 42, 180, 0, 43, 182, 0, 206, 42, 182, 0, 234, 61]
abbrev dktX0_undoes_0 : List UInt8 := dkwX0_undoes_0 ++ dktX0_undoes_1
theorem dksX0_undoes_0 : cX0_undoes.data.toList.drop 0 = dktX0_undoes_0 := by decide +kernel
theorem dksX0_undoes_1 : cX0_undoes.data.toList.drop 24 = dktX0_undoes_1 := dk_seg dksX0_undoes_0 24 rfl rfl
theorem dX0_undoes_0 : decode cX0_undoes 0 = .ok (.aload_n 0, 1) := dk_42 (dk_at dksX0_undoes_0 0 rfl rfl)
theorem dX0_undoes_1 : decode cX0_undoes 1 = .ok (.iload_n 1, 1) := dk_27 (dk_at dksX0_undoes_0 1 rfl rfl)
theorem dX0_undoes_2 : decode cX0_undoes 2 = .ok (.invokevirtual 166, 3) := dk_182 0 166 (dk_at dksX0_undoes_0 2 rfl rfl)
theorem dX0_undoes_5 : decode cX0_undoes 5 = .ok (.ifCond .ne 7, 3) := dk_154 0 7 (dk_at dksX0_undoes_0 5 rfl rfl)
theorem dX0_undoes_8 : decode cX0_undoes 8 = .ok (.sipush (-1000), 3) := dk_17 252 24 (dk_at dksX0_undoes_0 8 rfl rfl)
theorem dX0_undoes_11 : decode cX0_undoes 11 = .ok (.ireturn, 1) := dk_172 (dk_at dksX0_undoes_0 11 rfl rfl)
theorem dX0_undoes_12 : decode cX0_undoes 12 = .ok (.aload_n 0, 1) := dk_42 (dk_at dksX0_undoes_0 12 rfl rfl)
theorem dX0_undoes_13 : decode cX0_undoes 13 = .ok (.getfield 43, 3) := dk_180 0 43 (dk_at dksX0_undoes_0 13 rfl rfl)
theorem dX0_undoes_16 : decode cX0_undoes 16 = .ok (.invokevirtual 206, 3) := dk_182 0 206 (dk_at dksX0_undoes_0 16 rfl rfl)
theorem dX0_undoes_19 : decode cX0_undoes 19 = .ok (.aload_n 0, 1) := dk_42 (dk_at dksX0_undoes_0 19 rfl rfl)
theorem dX0_undoes_20 : decode cX0_undoes 20 = .ok (.invokevirtual 234, 3) := dk_182 0 234 (dk_at dksX0_undoes_0 20 rfl rfl)
theorem dX0_undoes_23 : decode cX0_undoes 23 = .ok (.istore_n 2, 1) := dk_61 (dk_at dksX0_undoes_0 23 rfl rfl)
theorem dX0_undoes_24 : decode cX0_undoes 24 = .ok (.aload_n 0, 1) := dk_42 (dk_at dksX0_undoes_1 0 rfl rfl)
theorem dX0_undoes_25 : decode cX0_undoes 25 = .ok (.getfield 50, 3) := dk_180 0 50 (dk_at dksX0_undoes_1 1 rfl rfl)
theorem dX0_undoes_28 : decode cX0_undoes 28 = .ok (.iload_n 1, 1) := dk_27 (dk_at dksX0_undoes_1 4 rfl rfl)
theorem dX0_undoes_29 : decode cX0_undoes 29 = .ok (.putfield 238, 3) := dk_181 0 238 (dk_at dksX0_undoes_1 5 rfl rfl)
theorem dX0_undoes_32 : decode cX0_undoes 32 = .ok (.aload_n 0, 1) := dk_42 (dk_at dksX0_undoes_1 8 rfl rfl)
theorem dX0_undoes_33 : decode cX0_undoes 33 = .ok (.getfield 50, 3) := dk_180 0 50 (dk_at dksX0_undoes_1 9 rfl rfl)
theorem dX0_undoes_36 : decode cX0_undoes 36 = .ok (.invokevirtual 240, 3) := dk_182 0 240 (dk_at dksX0_undoes_1 12 rfl rfl)
theorem dX0_undoes_39 : decode cX0_undoes 39 = .ok (.iload_n 2, 1) := dk_28 (dk_at dksX0_undoes_1 15 rfl rfl)
theorem dX0_undoes_40 : decode cX0_undoes 40 = .ok (.aload_n 0, 1) := dk_42 (dk_at dksX0_undoes_1 16 rfl rfl)
theorem dX0_undoes_41 : decode cX0_undoes 41 = .ok (.invokevirtual 234, 3) := dk_182 0 234 (dk_at dksX0_undoes_1 17 rfl rfl)
theorem dX0_undoes_44 : decode cX0_undoes 44 = .ok (.isub, 1) := dk_100 (dk_at dksX0_undoes_1 20 rfl rfl)
theorem dX0_undoes_45 : decode cX0_undoes 45 = .ok (.ireturn, 1) := dk_172 (dk_at dksX0_undoes_1 21 rfl rfl)
abbrev cX0_allHoles : ByteArray := prog_1_method_38_code
def yX0_allHoles : MethodName := ⟨RX0, "allHoles", "()I"⟩
def dkwX0_allHoles_0 : List UInt8 := [42, 3, 3, 17, 0, 199, 182, 0, 220, 42, 4, 3, 17, 0, 199, 182, 0, 220, 96, 172]
abbrev dktX0_allHoles_0 : List UInt8 := dkwX0_allHoles_0 ++ []
theorem dksX0_allHoles_0 : cX0_allHoles.data.toList.drop 0 = dktX0_allHoles_0 := by decide +kernel
theorem dX0_allHoles_0 : decode cX0_allHoles 0 = .ok (.aload_n 0, 1) := dk_42 (dk_at dksX0_allHoles_0 0 rfl rfl)
theorem dX0_allHoles_1 : decode cX0_allHoles 1 = .ok (.iconst 0, 1) := dk_3 (dk_at dksX0_allHoles_0 1 rfl rfl)
theorem dX0_allHoles_2 : decode cX0_allHoles 2 = .ok (.iconst 0, 1) := dk_3 (dk_at dksX0_allHoles_0 2 rfl rfl)
theorem dX0_allHoles_3 : decode cX0_allHoles 3 = .ok (.sipush 199, 3) := dk_17 0 199 (dk_at dksX0_allHoles_0 3 rfl rfl)
theorem dX0_allHoles_6 : decode cX0_allHoles 6 = .ok (.invokevirtual 220, 3) := dk_182 0 220 (dk_at dksX0_allHoles_0 6 rfl rfl)
theorem dX0_allHoles_9 : decode cX0_allHoles 9 = .ok (.aload_n 0, 1) := dk_42 (dk_at dksX0_allHoles_0 9 rfl rfl)
theorem dX0_allHoles_10 : decode cX0_allHoles 10 = .ok (.iconst 1, 1) := dk_4 (dk_at dksX0_allHoles_0 10 rfl rfl)
theorem dX0_allHoles_11 : decode cX0_allHoles 11 = .ok (.iconst 0, 1) := dk_3 (dk_at dksX0_allHoles_0 11 rfl rfl)
theorem dX0_allHoles_12 : decode cX0_allHoles 12 = .ok (.sipush 199, 3) := dk_17 0 199 (dk_at dksX0_allHoles_0 12 rfl rfl)
theorem dX0_allHoles_15 : decode cX0_allHoles 15 = .ok (.invokevirtual 220, 3) := dk_182 0 220 (dk_at dksX0_allHoles_0 15 rfl rfl)
theorem dX0_allHoles_18 : decode cX0_allHoles 18 = .ok (.iadd, 1) := dk_96 (dk_at dksX0_allHoles_0 18 rfl rfl)
theorem dX0_allHoles_19 : decode cX0_allHoles 19 = .ok (.ireturn, 1) := dk_172 (dk_at dksX0_allHoles_0 19 rfl rfl)
abbrev cX0_causes : ByteArray := prog_1_method_40_code
def yX0_causes : MethodName := ⟨RX0, "causes", "(II)I"⟩
def dkwX0_causes_3 : List UInt8 := [182, 0, 200, 153, 0, 7, 3, 167, 0, 7, 4, 21, 4, 120, 128, 62, 132, 4, 1, 167, 255, 205, 29, 172]
abbrev dktX0_causes_3 : List UInt8 := dkwX0_causes_3 ++ []
def dkwX0_causes_2 : List UInt8 := [162, 0, 45, 42, 180, 0, 50, 21, 4, 181, 0, 238, 42, 180, 0, 50, 182, 0, 240, 29, 42, 27, 28]
abbrev dktX0_causes_2 : List UInt8 := dkwX0_causes_2 ++ dktX0_causes_3
def dkwX0_causes_1 : List UInt8 := [182, 0, 200, 154, 0, 5, 3, 172, 3, 62, 3, 54, 4, 21, 4, 42, 180, 0, 12, 180, 0, 147]
abbrev dktX0_causes_1 : List UInt8 := dkwX0_causes_1 ++ dktX0_causes_2
def dkwX0_causes_0 : List UInt8 := [42, 27, 28, 182, 0, 203, 154, 0, 6, 16, 254, 172, 42, 180, 0, 43, 182, 0, 206, 42, 27, 28]
abbrev dktX0_causes_0 : List UInt8 := dkwX0_causes_0 ++ dktX0_causes_1
theorem dksX0_causes_0 : cX0_causes.data.toList.drop 0 = dktX0_causes_0 := by decide +kernel
theorem dksX0_causes_1 : cX0_causes.data.toList.drop 22 = dktX0_causes_1 := dk_seg dksX0_causes_0 22 rfl rfl
theorem dksX0_causes_2 : cX0_causes.data.toList.drop 44 = dktX0_causes_2 := dk_seg dksX0_causes_1 22 rfl rfl
theorem dksX0_causes_3 : cX0_causes.data.toList.drop 67 = dktX0_causes_3 := dk_seg dksX0_causes_2 23 rfl rfl
theorem dX0_causes_0 : decode cX0_causes 0 = .ok (.aload_n 0, 1) := dk_42 (dk_at dksX0_causes_0 0 rfl rfl)
theorem dX0_causes_1 : decode cX0_causes 1 = .ok (.iload_n 1, 1) := dk_27 (dk_at dksX0_causes_0 1 rfl rfl)
theorem dX0_causes_2 : decode cX0_causes 2 = .ok (.iload_n 2, 1) := dk_28 (dk_at dksX0_causes_0 2 rfl rfl)
theorem dX0_causes_3 : decode cX0_causes 3 = .ok (.invokevirtual 203, 3) := dk_182 0 203 (dk_at dksX0_causes_0 3 rfl rfl)
theorem dX0_causes_6 : decode cX0_causes 6 = .ok (.ifCond .ne 6, 3) := dk_154 0 6 (dk_at dksX0_causes_0 6 rfl rfl)
theorem dX0_causes_9 : decode cX0_causes 9 = .ok (.bipush (-2), 2) := dk_16 254 (dk_at dksX0_causes_0 9 rfl rfl)
theorem dX0_causes_11 : decode cX0_causes 11 = .ok (.ireturn, 1) := dk_172 (dk_at dksX0_causes_0 11 rfl rfl)
theorem dX0_causes_12 : decode cX0_causes 12 = .ok (.aload_n 0, 1) := dk_42 (dk_at dksX0_causes_0 12 rfl rfl)
theorem dX0_causes_13 : decode cX0_causes 13 = .ok (.getfield 43, 3) := dk_180 0 43 (dk_at dksX0_causes_0 13 rfl rfl)
theorem dX0_causes_16 : decode cX0_causes 16 = .ok (.invokevirtual 206, 3) := dk_182 0 206 (dk_at dksX0_causes_0 16 rfl rfl)
theorem dX0_causes_19 : decode cX0_causes 19 = .ok (.aload_n 0, 1) := dk_42 (dk_at dksX0_causes_0 19 rfl rfl)
theorem dX0_causes_20 : decode cX0_causes 20 = .ok (.iload_n 1, 1) := dk_27 (dk_at dksX0_causes_0 20 rfl rfl)
theorem dX0_causes_21 : decode cX0_causes 21 = .ok (.iload_n 2, 1) := dk_28 (dk_at dksX0_causes_0 21 rfl rfl)
theorem dX0_causes_22 : decode cX0_causes 22 = .ok (.invokevirtual 200, 3) := dk_182 0 200 (dk_at dksX0_causes_1 0 rfl rfl)
theorem dX0_causes_25 : decode cX0_causes 25 = .ok (.ifCond .ne 5, 3) := dk_154 0 5 (dk_at dksX0_causes_1 3 rfl rfl)
theorem dX0_causes_28 : decode cX0_causes 28 = .ok (.iconst 0, 1) := dk_3 (dk_at dksX0_causes_1 6 rfl rfl)
theorem dX0_causes_29 : decode cX0_causes 29 = .ok (.ireturn, 1) := dk_172 (dk_at dksX0_causes_1 7 rfl rfl)
theorem dX0_causes_30 : decode cX0_causes 30 = .ok (.iconst 0, 1) := dk_3 (dk_at dksX0_causes_1 8 rfl rfl)
theorem dX0_causes_31 : decode cX0_causes 31 = .ok (.istore_n 3, 1) := dk_62 (dk_at dksX0_causes_1 9 rfl rfl)
theorem dX0_causes_32 : decode cX0_causes 32 = .ok (.iconst 0, 1) := dk_3 (dk_at dksX0_causes_1 10 rfl rfl)
theorem dX0_causes_33 : decode cX0_causes 33 = .ok (.istore 4, 2) := dk_54 4 (dk_at dksX0_causes_1 11 rfl rfl)
theorem dX0_causes_35 : decode cX0_causes 35 = .ok (.iload 4, 2) := dk_21 4 (dk_at dksX0_causes_1 13 rfl rfl)
theorem dX0_causes_37 : decode cX0_causes 37 = .ok (.aload_n 0, 1) := dk_42 (dk_at dksX0_causes_1 15 rfl rfl)
theorem dX0_causes_38 : decode cX0_causes 38 = .ok (.getfield 12, 3) := dk_180 0 12 (dk_at dksX0_causes_1 16 rfl rfl)
theorem dX0_causes_41 : decode cX0_causes 41 = .ok (.getfield 147, 3) := dk_180 0 147 (dk_at dksX0_causes_1 19 rfl rfl)
theorem dX0_causes_44 : decode cX0_causes 44 = .ok (.if_icmp .ge 45, 3) := dk_162 0 45 (dk_at dksX0_causes_2 0 rfl rfl)
theorem dX0_causes_47 : decode cX0_causes 47 = .ok (.aload_n 0, 1) := dk_42 (dk_at dksX0_causes_2 3 rfl rfl)
theorem dX0_causes_48 : decode cX0_causes 48 = .ok (.getfield 50, 3) := dk_180 0 50 (dk_at dksX0_causes_2 4 rfl rfl)
theorem dX0_causes_51 : decode cX0_causes 51 = .ok (.iload 4, 2) := dk_21 4 (dk_at dksX0_causes_2 7 rfl rfl)
theorem dX0_causes_53 : decode cX0_causes 53 = .ok (.putfield 238, 3) := dk_181 0 238 (dk_at dksX0_causes_2 9 rfl rfl)
theorem dX0_causes_56 : decode cX0_causes 56 = .ok (.aload_n 0, 1) := dk_42 (dk_at dksX0_causes_2 12 rfl rfl)
theorem dX0_causes_57 : decode cX0_causes 57 = .ok (.getfield 50, 3) := dk_180 0 50 (dk_at dksX0_causes_2 13 rfl rfl)
theorem dX0_causes_60 : decode cX0_causes 60 = .ok (.invokevirtual 240, 3) := dk_182 0 240 (dk_at dksX0_causes_2 16 rfl rfl)
theorem dX0_causes_63 : decode cX0_causes 63 = .ok (.iload_n 3, 1) := dk_29 (dk_at dksX0_causes_2 19 rfl rfl)
theorem dX0_causes_64 : decode cX0_causes 64 = .ok (.aload_n 0, 1) := dk_42 (dk_at dksX0_causes_2 20 rfl rfl)
theorem dX0_causes_65 : decode cX0_causes 65 = .ok (.iload_n 1, 1) := dk_27 (dk_at dksX0_causes_2 21 rfl rfl)
theorem dX0_causes_66 : decode cX0_causes 66 = .ok (.iload_n 2, 1) := dk_28 (dk_at dksX0_causes_2 22 rfl rfl)
theorem dX0_causes_67 : decode cX0_causes 67 = .ok (.invokevirtual 200, 3) := dk_182 0 200 (dk_at dksX0_causes_3 0 rfl rfl)
theorem dX0_causes_70 : decode cX0_causes 70 = .ok (.ifCond .eq 7, 3) := dk_153 0 7 (dk_at dksX0_causes_3 3 rfl rfl)
theorem dX0_causes_73 : decode cX0_causes 73 = .ok (.iconst 0, 1) := dk_3 (dk_at dksX0_causes_3 6 rfl rfl)
theorem dX0_causes_74 : decode cX0_causes 74 = .ok (.goto 7, 3) := dk_167 0 7 (dk_at dksX0_causes_3 7 rfl rfl)
theorem dX0_causes_77 : decode cX0_causes 77 = .ok (.iconst 1, 1) := dk_4 (dk_at dksX0_causes_3 10 rfl rfl)
theorem dX0_causes_78 : decode cX0_causes 78 = .ok (.iload 4, 2) := dk_21 4 (dk_at dksX0_causes_3 11 rfl rfl)
theorem dX0_causes_80 : decode cX0_causes 80 = .ok (.ishl, 1) := dk_120 (dk_at dksX0_causes_3 13 rfl rfl)
theorem dX0_causes_81 : decode cX0_causes 81 = .ok (.ior, 1) := dk_128 (dk_at dksX0_causes_3 14 rfl rfl)
theorem dX0_causes_82 : decode cX0_causes 82 = .ok (.istore_n 3, 1) := dk_62 (dk_at dksX0_causes_3 15 rfl rfl)
theorem dX0_causes_83 : decode cX0_causes 83 = .ok (.iinc 4 1, 3) := dk_132 4 1 (dk_at dksX0_causes_3 16 rfl rfl)
theorem dX0_causes_86 : decode cX0_causes 86 = .ok (.goto (-51), 3) := dk_167 255 205 (dk_at dksX0_causes_3 19 rfl rfl)
theorem dX0_causes_89 : decode cX0_causes 89 = .ok (.iload_n 3, 1) := dk_29 (dk_at dksX0_causes_3 22 rfl rfl)
theorem dX0_causes_90 : decode cX0_causes 90 = .ok (.ireturn, 1) := dk_172 (dk_at dksX0_causes_3 23 rfl rfl)
abbrev cX0_period : ByteArray := prog_1_method_43_code
def yX0_period : MethodName := ⟨RX0, "period", "()I"⟩
def dkwX0_period_1 : List UInt8 := [167, 0, 4, 2, 172]
abbrev dktX0_period_1 : List UInt8 := dkwX0_period_1 ++ []
def dkwX0_period_0 : List UInt8 := [42, 182, 0, 128, 154, 0, 8, 16, 254, 167, 0, 18, 42, 182, 0, 244, 153, 0, 10, 42, 182, 0, 247]
abbrev dktX0_period_0 : List UInt8 := dkwX0_period_0 ++ dktX0_period_1
theorem dksX0_period_0 : cX0_period.data.toList.drop 0 = dktX0_period_0 := by decide +kernel
theorem dksX0_period_1 : cX0_period.data.toList.drop 23 = dktX0_period_1 := dk_seg dksX0_period_0 23 rfl rfl
theorem dX0_period_0 : decode cX0_period 0 = .ok (.aload_n 0, 1) := dk_42 (dk_at dksX0_period_0 0 rfl rfl)
theorem dX0_period_1 : decode cX0_period 1 = .ok (.invokevirtual 128, 3) := dk_182 0 128 (dk_at dksX0_period_0 1 rfl rfl)
theorem dX0_period_4 : decode cX0_period 4 = .ok (.ifCond .ne 8, 3) := dk_154 0 8 (dk_at dksX0_period_0 4 rfl rfl)
theorem dX0_period_7 : decode cX0_period 7 = .ok (.bipush (-2), 2) := dk_16 254 (dk_at dksX0_period_0 7 rfl rfl)
theorem dX0_period_9 : decode cX0_period 9 = .ok (.goto 18, 3) := dk_167 0 18 (dk_at dksX0_period_0 9 rfl rfl)
theorem dX0_period_12 : decode cX0_period 12 = .ok (.aload_n 0, 1) := dk_42 (dk_at dksX0_period_0 12 rfl rfl)
theorem dX0_period_13 : decode cX0_period 13 = .ok (.invokevirtual 244, 3) := dk_182 0 244 (dk_at dksX0_period_0 13 rfl rfl)
theorem dX0_period_16 : decode cX0_period 16 = .ok (.ifCond .eq 10, 3) := dk_153 0 10 (dk_at dksX0_period_0 16 rfl rfl)
theorem dX0_period_19 : decode cX0_period 19 = .ok (.aload_n 0, 1) := dk_42 (dk_at dksX0_period_0 19 rfl rfl)
theorem dX0_period_20 : decode cX0_period 20 = .ok (.invokevirtual 247, 3) := dk_182 0 247 (dk_at dksX0_period_0 20 rfl rfl)
theorem dX0_period_23 : decode cX0_period 23 = .ok (.goto 4, 3) := dk_167 0 4 (dk_at dksX0_period_1 0 rfl rfl)
theorem dX0_period_26 : decode cX0_period 26 = .ok (.iconst (-1), 1) := dk_2 (dk_at dksX0_period_1 3 rfl rfl)
theorem dX0_period_27 : decode cX0_period 27 = .ok (.ireturn, 1) := dk_172 (dk_at dksX0_period_1 4 rfl rfl)
abbrev cX0_areRounds : ByteArray := prog_1_method_16_code
def yX0_areRounds : MethodName := ⟨RX0, "areRounds", "()Z"⟩
def dkwX0_areRounds_1 : List UInt8 := [180, 0, 144, 4, 46, 158, 0, 7, 4, 167, 0, 4, 3, 172]
abbrev dktX0_areRounds_1 : List UInt8 := dkwX0_areRounds_1 ++ []
def dkwX0_areRounds_0 : List UInt8 := [42, 182, 0, 128, 153, 0, 31, 42, 180, 0, 12, 180, 0, 144, 3, 46, 158, 0, 19, 42, 180, 0, 12]
abbrev dktX0_areRounds_0 : List UInt8 := dkwX0_areRounds_0 ++ dktX0_areRounds_1
theorem dksX0_areRounds_0 : cX0_areRounds.data.toList.drop 0 = dktX0_areRounds_0 := by decide +kernel
theorem dksX0_areRounds_1 : cX0_areRounds.data.toList.drop 23 = dktX0_areRounds_1 := dk_seg dksX0_areRounds_0 23 rfl rfl
theorem dX0_areRounds_0 : decode cX0_areRounds 0 = .ok (.aload_n 0, 1) := dk_42 (dk_at dksX0_areRounds_0 0 rfl rfl)
theorem dX0_areRounds_1 : decode cX0_areRounds 1 = .ok (.invokevirtual 128, 3) := dk_182 0 128 (dk_at dksX0_areRounds_0 1 rfl rfl)
theorem dX0_areRounds_4 : decode cX0_areRounds 4 = .ok (.ifCond .eq 31, 3) := dk_153 0 31 (dk_at dksX0_areRounds_0 4 rfl rfl)
theorem dX0_areRounds_7 : decode cX0_areRounds 7 = .ok (.aload_n 0, 1) := dk_42 (dk_at dksX0_areRounds_0 7 rfl rfl)
theorem dX0_areRounds_8 : decode cX0_areRounds 8 = .ok (.getfield 12, 3) := dk_180 0 12 (dk_at dksX0_areRounds_0 8 rfl rfl)
theorem dX0_areRounds_11 : decode cX0_areRounds 11 = .ok (.getfield 144, 3) := dk_180 0 144 (dk_at dksX0_areRounds_0 11 rfl rfl)
theorem dX0_areRounds_14 : decode cX0_areRounds 14 = .ok (.iconst 0, 1) := dk_3 (dk_at dksX0_areRounds_0 14 rfl rfl)
theorem dX0_areRounds_15 : decode cX0_areRounds 15 = .ok (.iaload, 1) := dk_46 (dk_at dksX0_areRounds_0 15 rfl rfl)
theorem dX0_areRounds_16 : decode cX0_areRounds 16 = .ok (.ifCond .le 19, 3) := dk_158 0 19 (dk_at dksX0_areRounds_0 16 rfl rfl)
theorem dX0_areRounds_19 : decode cX0_areRounds 19 = .ok (.aload_n 0, 1) := dk_42 (dk_at dksX0_areRounds_0 19 rfl rfl)
theorem dX0_areRounds_20 : decode cX0_areRounds 20 = .ok (.getfield 12, 3) := dk_180 0 12 (dk_at dksX0_areRounds_0 20 rfl rfl)
theorem dX0_areRounds_23 : decode cX0_areRounds 23 = .ok (.getfield 144, 3) := dk_180 0 144 (dk_at dksX0_areRounds_1 0 rfl rfl)
theorem dX0_areRounds_26 : decode cX0_areRounds 26 = .ok (.iconst 1, 1) := dk_4 (dk_at dksX0_areRounds_1 3 rfl rfl)
theorem dX0_areRounds_27 : decode cX0_areRounds 27 = .ok (.iaload, 1) := dk_46 (dk_at dksX0_areRounds_1 4 rfl rfl)
theorem dX0_areRounds_28 : decode cX0_areRounds 28 = .ok (.ifCond .le 7, 3) := dk_158 0 7 (dk_at dksX0_areRounds_1 5 rfl rfl)
theorem dX0_areRounds_31 : decode cX0_areRounds 31 = .ok (.iconst 1, 1) := dk_4 (dk_at dksX0_areRounds_1 8 rfl rfl)
theorem dX0_areRounds_32 : decode cX0_areRounds 32 = .ok (.goto 4, 3) := dk_167 0 4 (dk_at dksX0_areRounds_1 9 rfl rfl)
theorem dX0_areRounds_35 : decode cX0_areRounds 35 = .ok (.iconst 0, 1) := dk_3 (dk_at dksX0_areRounds_1 12 rfl rfl)
theorem dX0_areRounds_36 : decode cX0_areRounds 36 = .ok (.ireturn, 1) := dk_172 (dk_at dksX0_areRounds_1 13 rfl rfl)
abbrev cX0_periodOf : ByteArray := prog_1_method_42_code
def yX0_periodOf : MethodName := ⟨RX0, "periodOf", "()I"⟩
def dkwX0_periodOf_1 : List UInt8 := [180, 0, 144, 4, 46, 184, 0, 241, 108, 42, 180, 0, 12, 180, 0, 144, 4, 46, 104, 172]
abbrev dktX0_periodOf_1 : List UInt8 := dkwX0_periodOf_1 ++ []
def dkwX0_periodOf_0 : List UInt8 := [42, 180, 0, 12, 180, 0, 144, 3, 46, 42, 180, 0, 12, 180, 0, 144, 3, 46, 42, 180, 0, 12]
abbrev dktX0_periodOf_0 : List UInt8 := dkwX0_periodOf_0 ++ dktX0_periodOf_1
theorem dksX0_periodOf_0 : cX0_periodOf.data.toList.drop 0 = dktX0_periodOf_0 := by decide +kernel
theorem dksX0_periodOf_1 : cX0_periodOf.data.toList.drop 22 = dktX0_periodOf_1 := dk_seg dksX0_periodOf_0 22 rfl rfl
theorem dX0_periodOf_0 : decode cX0_periodOf 0 = .ok (.aload_n 0, 1) := dk_42 (dk_at dksX0_periodOf_0 0 rfl rfl)
theorem dX0_periodOf_1 : decode cX0_periodOf 1 = .ok (.getfield 12, 3) := dk_180 0 12 (dk_at dksX0_periodOf_0 1 rfl rfl)
theorem dX0_periodOf_4 : decode cX0_periodOf 4 = .ok (.getfield 144, 3) := dk_180 0 144 (dk_at dksX0_periodOf_0 4 rfl rfl)
theorem dX0_periodOf_7 : decode cX0_periodOf 7 = .ok (.iconst 0, 1) := dk_3 (dk_at dksX0_periodOf_0 7 rfl rfl)
theorem dX0_periodOf_8 : decode cX0_periodOf 8 = .ok (.iaload, 1) := dk_46 (dk_at dksX0_periodOf_0 8 rfl rfl)
theorem dX0_periodOf_9 : decode cX0_periodOf 9 = .ok (.aload_n 0, 1) := dk_42 (dk_at dksX0_periodOf_0 9 rfl rfl)
theorem dX0_periodOf_10 : decode cX0_periodOf 10 = .ok (.getfield 12, 3) := dk_180 0 12 (dk_at dksX0_periodOf_0 10 rfl rfl)
theorem dX0_periodOf_13 : decode cX0_periodOf 13 = .ok (.getfield 144, 3) := dk_180 0 144 (dk_at dksX0_periodOf_0 13 rfl rfl)
theorem dX0_periodOf_16 : decode cX0_periodOf 16 = .ok (.iconst 0, 1) := dk_3 (dk_at dksX0_periodOf_0 16 rfl rfl)
theorem dX0_periodOf_17 : decode cX0_periodOf 17 = .ok (.iaload, 1) := dk_46 (dk_at dksX0_periodOf_0 17 rfl rfl)
theorem dX0_periodOf_18 : decode cX0_periodOf 18 = .ok (.aload_n 0, 1) := dk_42 (dk_at dksX0_periodOf_0 18 rfl rfl)
theorem dX0_periodOf_19 : decode cX0_periodOf 19 = .ok (.getfield 12, 3) := dk_180 0 12 (dk_at dksX0_periodOf_0 19 rfl rfl)
theorem dX0_periodOf_22 : decode cX0_periodOf 22 = .ok (.getfield 144, 3) := dk_180 0 144 (dk_at dksX0_periodOf_1 0 rfl rfl)
theorem dX0_periodOf_25 : decode cX0_periodOf 25 = .ok (.iconst 1, 1) := dk_4 (dk_at dksX0_periodOf_1 3 rfl rfl)
theorem dX0_periodOf_26 : decode cX0_periodOf 26 = .ok (.iaload, 1) := dk_46 (dk_at dksX0_periodOf_1 4 rfl rfl)
theorem dX0_periodOf_27 : decode cX0_periodOf 27 = .ok (.invokestatic 241, 3) := dk_184 0 241 (dk_at dksX0_periodOf_1 5 rfl rfl)
theorem dX0_periodOf_30 : decode cX0_periodOf 30 = .ok (.idiv, 1) := dk_108 (dk_at dksX0_periodOf_1 8 rfl rfl)
theorem dX0_periodOf_31 : decode cX0_periodOf 31 = .ok (.aload_n 0, 1) := dk_42 (dk_at dksX0_periodOf_1 9 rfl rfl)
theorem dX0_periodOf_32 : decode cX0_periodOf 32 = .ok (.getfield 12, 3) := dk_180 0 12 (dk_at dksX0_periodOf_1 10 rfl rfl)
theorem dX0_periodOf_35 : decode cX0_periodOf 35 = .ok (.getfield 144, 3) := dk_180 0 144 (dk_at dksX0_periodOf_1 13 rfl rfl)
theorem dX0_periodOf_38 : decode cX0_periodOf 38 = .ok (.iconst 1, 1) := dk_4 (dk_at dksX0_periodOf_1 16 rfl rfl)
theorem dX0_periodOf_39 : decode cX0_periodOf 39 = .ok (.iaload, 1) := dk_46 (dk_at dksX0_periodOf_1 17 rfl rfl)
theorem dX0_periodOf_40 : decode cX0_periodOf 40 = .ok (.imul, 1) := dk_104 (dk_at dksX0_periodOf_1 18 rfl rfl)
theorem dX0_periodOf_41 : decode cX0_periodOf 41 = .ok (.ireturn, 1) := dk_172 (dk_at dksX0_periodOf_1 19 rfl rfl)
abbrev cX0_divisor : ByteArray := prog_1_method_41_code
def yX0_divisor : MethodName := ⟨RX0, "divisor", "(II)I"⟩
def dkwX0_divisor_0 : List UInt8 := [26, 61, 27, 62, 29, 153, 0, 16, 28, 29, 112, 54, 4, 29, 61, 21, 4, 62, 167, 255, 242, 28, 172]
abbrev dktX0_divisor_0 : List UInt8 := dkwX0_divisor_0 ++ []
theorem dksX0_divisor_0 : cX0_divisor.data.toList.drop 0 = dktX0_divisor_0 := by decide +kernel
theorem dX0_divisor_0 : decode cX0_divisor 0 = .ok (.iload_n 0, 1) := dk_26 (dk_at dksX0_divisor_0 0 rfl rfl)
theorem dX0_divisor_1 : decode cX0_divisor 1 = .ok (.istore_n 2, 1) := dk_61 (dk_at dksX0_divisor_0 1 rfl rfl)
theorem dX0_divisor_2 : decode cX0_divisor 2 = .ok (.iload_n 1, 1) := dk_27 (dk_at dksX0_divisor_0 2 rfl rfl)
theorem dX0_divisor_3 : decode cX0_divisor 3 = .ok (.istore_n 3, 1) := dk_62 (dk_at dksX0_divisor_0 3 rfl rfl)
theorem dX0_divisor_4 : decode cX0_divisor 4 = .ok (.iload_n 3, 1) := dk_29 (dk_at dksX0_divisor_0 4 rfl rfl)
theorem dX0_divisor_5 : decode cX0_divisor 5 = .ok (.ifCond .eq 16, 3) := dk_153 0 16 (dk_at dksX0_divisor_0 5 rfl rfl)
theorem dX0_divisor_8 : decode cX0_divisor 8 = .ok (.iload_n 2, 1) := dk_28 (dk_at dksX0_divisor_0 8 rfl rfl)
theorem dX0_divisor_9 : decode cX0_divisor 9 = .ok (.iload_n 3, 1) := dk_29 (dk_at dksX0_divisor_0 9 rfl rfl)
theorem dX0_divisor_10 : decode cX0_divisor 10 = .ok (.irem, 1) := dk_112 (dk_at dksX0_divisor_0 10 rfl rfl)
theorem dX0_divisor_11 : decode cX0_divisor 11 = .ok (.istore 4, 2) := dk_54 4 (dk_at dksX0_divisor_0 11 rfl rfl)
theorem dX0_divisor_13 : decode cX0_divisor 13 = .ok (.iload_n 3, 1) := dk_29 (dk_at dksX0_divisor_0 13 rfl rfl)
theorem dX0_divisor_14 : decode cX0_divisor 14 = .ok (.istore_n 2, 1) := dk_61 (dk_at dksX0_divisor_0 14 rfl rfl)
theorem dX0_divisor_15 : decode cX0_divisor 15 = .ok (.iload 4, 2) := dk_21 4 (dk_at dksX0_divisor_0 15 rfl rfl)
theorem dX0_divisor_17 : decode cX0_divisor 17 = .ok (.istore_n 3, 1) := dk_62 (dk_at dksX0_divisor_0 17 rfl rfl)
theorem dX0_divisor_18 : decode cX0_divisor 18 = .ok (.goto (-14), 3) := dk_167 255 242 (dk_at dksX0_divisor_0 18 rfl rfl)
theorem dX0_divisor_21 : decode cX0_divisor 21 = .ok (.iload_n 2, 1) := dk_28 (dk_at dksX0_divisor_0 21 rfl rfl)
theorem dX0_divisor_22 : decode cX0_divisor 22 = .ok (.ireturn, 1) := dk_172 (dk_at dksX0_divisor_0 22 rfl rfl)
abbrev cX0_meets : ByteArray := prog_1_method_45_code
def yX0_meets : MethodName := ⟨RX0, "meets", "(III)I"⟩
def dkwX0_meets_3 : List UInt8 := [167, 255, 217, 2, 172]
abbrev dktX0_meets_3 : List UInt8 := dkwX0_meets_3 ++ []
def dkwX0_meets_2 : List UInt8 := [182, 0, 250, 27, 160, 0, 17, 42, 4, 21, 4, 182, 0, 250, 28, 160, 0, 6, 21, 4, 172, 132, 4, 1]
abbrev dktX0_meets_2 : List UInt8 := dkwX0_meets_2 ++ dktX0_meets_3
def dkwX0_meets_1 : List UInt8 := [154, 0, 6, 16, 254, 172, 29, 54, 4, 21, 4, 29, 42, 182, 0, 247, 96, 162, 0, 34, 42, 3, 21, 4]
abbrev dktX0_meets_1 : List UInt8 := dkwX0_meets_1 ++ dktX0_meets_2
def dkwX0_meets_0 : List UInt8 := [42, 3, 27, 182, 0, 152, 153, 0, 21, 42, 4, 28, 182, 0, 152, 153, 0, 12, 42, 29, 133, 182, 0, 181]
abbrev dktX0_meets_0 : List UInt8 := dkwX0_meets_0 ++ dktX0_meets_1
theorem dksX0_meets_0 : cX0_meets.data.toList.drop 0 = dktX0_meets_0 := by decide +kernel
theorem dksX0_meets_1 : cX0_meets.data.toList.drop 24 = dktX0_meets_1 := dk_seg dksX0_meets_0 24 rfl rfl
theorem dksX0_meets_2 : cX0_meets.data.toList.drop 48 = dktX0_meets_2 := dk_seg dksX0_meets_1 24 rfl rfl
theorem dksX0_meets_3 : cX0_meets.data.toList.drop 72 = dktX0_meets_3 := dk_seg dksX0_meets_2 24 rfl rfl
theorem dX0_meets_0 : decode cX0_meets 0 = .ok (.aload_n 0, 1) := dk_42 (dk_at dksX0_meets_0 0 rfl rfl)
theorem dX0_meets_1 : decode cX0_meets 1 = .ok (.iconst 0, 1) := dk_3 (dk_at dksX0_meets_0 1 rfl rfl)
theorem dX0_meets_2 : decode cX0_meets 2 = .ok (.iload_n 1, 1) := dk_27 (dk_at dksX0_meets_0 2 rfl rfl)
theorem dX0_meets_3 : decode cX0_meets 3 = .ok (.invokevirtual 152, 3) := dk_182 0 152 (dk_at dksX0_meets_0 3 rfl rfl)
theorem dX0_meets_6 : decode cX0_meets 6 = .ok (.ifCond .eq 21, 3) := dk_153 0 21 (dk_at dksX0_meets_0 6 rfl rfl)
theorem dX0_meets_9 : decode cX0_meets 9 = .ok (.aload_n 0, 1) := dk_42 (dk_at dksX0_meets_0 9 rfl rfl)
theorem dX0_meets_10 : decode cX0_meets 10 = .ok (.iconst 1, 1) := dk_4 (dk_at dksX0_meets_0 10 rfl rfl)
theorem dX0_meets_11 : decode cX0_meets 11 = .ok (.iload_n 2, 1) := dk_28 (dk_at dksX0_meets_0 11 rfl rfl)
theorem dX0_meets_12 : decode cX0_meets 12 = .ok (.invokevirtual 152, 3) := dk_182 0 152 (dk_at dksX0_meets_0 12 rfl rfl)
theorem dX0_meets_15 : decode cX0_meets 15 = .ok (.ifCond .eq 12, 3) := dk_153 0 12 (dk_at dksX0_meets_0 15 rfl rfl)
theorem dX0_meets_18 : decode cX0_meets 18 = .ok (.aload_n 0, 1) := dk_42 (dk_at dksX0_meets_0 18 rfl rfl)
theorem dX0_meets_19 : decode cX0_meets 19 = .ok (.iload_n 3, 1) := dk_29 (dk_at dksX0_meets_0 19 rfl rfl)
theorem dX0_meets_20 : decode cX0_meets 20 = .ok (.i2l, 1) := dk_133 (dk_at dksX0_meets_0 20 rfl rfl)
theorem dX0_meets_21 : decode cX0_meets 21 = .ok (.invokevirtual 181, 3) := dk_182 0 181 (dk_at dksX0_meets_0 21 rfl rfl)
theorem dX0_meets_24 : decode cX0_meets 24 = .ok (.ifCond .ne 6, 3) := dk_154 0 6 (dk_at dksX0_meets_1 0 rfl rfl)
theorem dX0_meets_27 : decode cX0_meets 27 = .ok (.bipush (-2), 2) := dk_16 254 (dk_at dksX0_meets_1 3 rfl rfl)
theorem dX0_meets_29 : decode cX0_meets 29 = .ok (.ireturn, 1) := dk_172 (dk_at dksX0_meets_1 5 rfl rfl)
theorem dX0_meets_30 : decode cX0_meets 30 = .ok (.iload_n 3, 1) := dk_29 (dk_at dksX0_meets_1 6 rfl rfl)
theorem dX0_meets_31 : decode cX0_meets 31 = .ok (.istore 4, 2) := dk_54 4 (dk_at dksX0_meets_1 7 rfl rfl)
theorem dX0_meets_33 : decode cX0_meets 33 = .ok (.iload 4, 2) := dk_21 4 (dk_at dksX0_meets_1 9 rfl rfl)
theorem dX0_meets_35 : decode cX0_meets 35 = .ok (.iload_n 3, 1) := dk_29 (dk_at dksX0_meets_1 11 rfl rfl)
theorem dX0_meets_36 : decode cX0_meets 36 = .ok (.aload_n 0, 1) := dk_42 (dk_at dksX0_meets_1 12 rfl rfl)
theorem dX0_meets_37 : decode cX0_meets 37 = .ok (.invokevirtual 247, 3) := dk_182 0 247 (dk_at dksX0_meets_1 13 rfl rfl)
theorem dX0_meets_40 : decode cX0_meets 40 = .ok (.iadd, 1) := dk_96 (dk_at dksX0_meets_1 16 rfl rfl)
theorem dX0_meets_41 : decode cX0_meets 41 = .ok (.if_icmp .ge 34, 3) := dk_162 0 34 (dk_at dksX0_meets_1 17 rfl rfl)
theorem dX0_meets_44 : decode cX0_meets 44 = .ok (.aload_n 0, 1) := dk_42 (dk_at dksX0_meets_1 20 rfl rfl)
theorem dX0_meets_45 : decode cX0_meets 45 = .ok (.iconst 0, 1) := dk_3 (dk_at dksX0_meets_1 21 rfl rfl)
theorem dX0_meets_46 : decode cX0_meets 46 = .ok (.iload 4, 2) := dk_21 4 (dk_at dksX0_meets_1 22 rfl rfl)
theorem dX0_meets_48 : decode cX0_meets 48 = .ok (.invokevirtual 250, 3) := dk_182 0 250 (dk_at dksX0_meets_2 0 rfl rfl)
theorem dX0_meets_51 : decode cX0_meets 51 = .ok (.iload_n 1, 1) := dk_27 (dk_at dksX0_meets_2 3 rfl rfl)
theorem dX0_meets_52 : decode cX0_meets 52 = .ok (.if_icmp .ne 17, 3) := dk_160 0 17 (dk_at dksX0_meets_2 4 rfl rfl)
theorem dX0_meets_55 : decode cX0_meets 55 = .ok (.aload_n 0, 1) := dk_42 (dk_at dksX0_meets_2 7 rfl rfl)
theorem dX0_meets_56 : decode cX0_meets 56 = .ok (.iconst 1, 1) := dk_4 (dk_at dksX0_meets_2 8 rfl rfl)
theorem dX0_meets_57 : decode cX0_meets 57 = .ok (.iload 4, 2) := dk_21 4 (dk_at dksX0_meets_2 9 rfl rfl)
theorem dX0_meets_59 : decode cX0_meets 59 = .ok (.invokevirtual 250, 3) := dk_182 0 250 (dk_at dksX0_meets_2 11 rfl rfl)
theorem dX0_meets_62 : decode cX0_meets 62 = .ok (.iload_n 2, 1) := dk_28 (dk_at dksX0_meets_2 14 rfl rfl)
theorem dX0_meets_63 : decode cX0_meets 63 = .ok (.if_icmp .ne 6, 3) := dk_160 0 6 (dk_at dksX0_meets_2 15 rfl rfl)
theorem dX0_meets_66 : decode cX0_meets 66 = .ok (.iload 4, 2) := dk_21 4 (dk_at dksX0_meets_2 18 rfl rfl)
theorem dX0_meets_68 : decode cX0_meets 68 = .ok (.ireturn, 1) := dk_172 (dk_at dksX0_meets_2 20 rfl rfl)
theorem dX0_meets_69 : decode cX0_meets 69 = .ok (.iinc 4 1, 3) := dk_132 4 1 (dk_at dksX0_meets_2 21 rfl rfl)
theorem dX0_meets_72 : decode cX0_meets 72 = .ok (.goto (-39), 3) := dk_167 255 217 (dk_at dksX0_meets_3 0 rfl rfl)
theorem dX0_meets_75 : decode cX0_meets 75 = .ok (.iconst (-1), 1) := dk_2 (dk_at dksX0_meets_3 3 rfl rfl)
theorem dX0_meets_76 : decode cX0_meets 76 = .ok (.ireturn, 1) := dk_172 (dk_at dksX0_meets_3 4 rfl rfl)
abbrev cX0_placeBy : ByteArray := prog_1_method_44_code
def yX0_placeBy : MethodName := ⟨RX0, "placeBy", "(II)I"⟩
def dkwX0_placeBy_0 : List UInt8 := [42, 180, 0, 12, 180, 0, 209, 27, 46, 28, 96, 42, 180, 0, 12, 180, 0, 144, 27, 46, 112, 172]
abbrev dktX0_placeBy_0 : List UInt8 := dkwX0_placeBy_0 ++ []
theorem dksX0_placeBy_0 : cX0_placeBy.data.toList.drop 0 = dktX0_placeBy_0 := by decide +kernel
theorem dX0_placeBy_0 : decode cX0_placeBy 0 = .ok (.aload_n 0, 1) := dk_42 (dk_at dksX0_placeBy_0 0 rfl rfl)
theorem dX0_placeBy_1 : decode cX0_placeBy 1 = .ok (.getfield 12, 3) := dk_180 0 12 (dk_at dksX0_placeBy_0 1 rfl rfl)
theorem dX0_placeBy_4 : decode cX0_placeBy 4 = .ok (.getfield 209, 3) := dk_180 0 209 (dk_at dksX0_placeBy_0 4 rfl rfl)
theorem dX0_placeBy_7 : decode cX0_placeBy 7 = .ok (.iload_n 1, 1) := dk_27 (dk_at dksX0_placeBy_0 7 rfl rfl)
theorem dX0_placeBy_8 : decode cX0_placeBy 8 = .ok (.iaload, 1) := dk_46 (dk_at dksX0_placeBy_0 8 rfl rfl)
theorem dX0_placeBy_9 : decode cX0_placeBy 9 = .ok (.iload_n 2, 1) := dk_28 (dk_at dksX0_placeBy_0 9 rfl rfl)
theorem dX0_placeBy_10 : decode cX0_placeBy 10 = .ok (.iadd, 1) := dk_96 (dk_at dksX0_placeBy_0 10 rfl rfl)
theorem dX0_placeBy_11 : decode cX0_placeBy 11 = .ok (.aload_n 0, 1) := dk_42 (dk_at dksX0_placeBy_0 11 rfl rfl)
theorem dX0_placeBy_12 : decode cX0_placeBy 12 = .ok (.getfield 12, 3) := dk_180 0 12 (dk_at dksX0_placeBy_0 12 rfl rfl)
theorem dX0_placeBy_15 : decode cX0_placeBy 15 = .ok (.getfield 144, 3) := dk_180 0 144 (dk_at dksX0_placeBy_0 15 rfl rfl)
theorem dX0_placeBy_18 : decode cX0_placeBy 18 = .ok (.iload_n 1, 1) := dk_27 (dk_at dksX0_placeBy_0 18 rfl rfl)
theorem dX0_placeBy_19 : decode cX0_placeBy 19 = .ok (.iaload, 1) := dk_46 (dk_at dksX0_placeBy_0 19 rfl rfl)
theorem dX0_placeBy_20 : decode cX0_placeBy 20 = .ok (.irem, 1) := dk_112 (dk_at dksX0_placeBy_0 20 rfl rfl)
theorem dX0_placeBy_21 : decode cX0_placeBy 21 = .ok (.ireturn, 1) := dk_172 (dk_at dksX0_placeBy_0 21 rfl rfl)
abbrev cX0_shifted : ByteArray := prog_1_method_48_code
def yX0_shifted : MethodName := ⟨RX0, "shifted", "(I)I"⟩
def dkwX0_shifted_1 : List UInt8 := [16, 254, 172]
abbrev dktX0_shifted_1 : List UInt8 := dkwX0_shifted_1 ++ []
def dkwX0_shifted_0 : List UInt8 := [42, 182, 0, 244, 153, 0, 20, 42, 4, 27, 182, 0, 152, 153, 0, 11, 42, 27, 182, 1, 0, 167, 0, 5]
abbrev dktX0_shifted_0 : List UInt8 := dkwX0_shifted_0 ++ dktX0_shifted_1
theorem dksX0_shifted_0 : cX0_shifted.data.toList.drop 0 = dktX0_shifted_0 := by decide +kernel
theorem dksX0_shifted_1 : cX0_shifted.data.toList.drop 24 = dktX0_shifted_1 := dk_seg dksX0_shifted_0 24 rfl rfl
theorem dX0_shifted_0 : decode cX0_shifted 0 = .ok (.aload_n 0, 1) := dk_42 (dk_at dksX0_shifted_0 0 rfl rfl)
theorem dX0_shifted_1 : decode cX0_shifted 1 = .ok (.invokevirtual 244, 3) := dk_182 0 244 (dk_at dksX0_shifted_0 1 rfl rfl)
theorem dX0_shifted_4 : decode cX0_shifted 4 = .ok (.ifCond .eq 20, 3) := dk_153 0 20 (dk_at dksX0_shifted_0 4 rfl rfl)
theorem dX0_shifted_7 : decode cX0_shifted 7 = .ok (.aload_n 0, 1) := dk_42 (dk_at dksX0_shifted_0 7 rfl rfl)
theorem dX0_shifted_8 : decode cX0_shifted 8 = .ok (.iconst 1, 1) := dk_4 (dk_at dksX0_shifted_0 8 rfl rfl)
theorem dX0_shifted_9 : decode cX0_shifted 9 = .ok (.iload_n 1, 1) := dk_27 (dk_at dksX0_shifted_0 9 rfl rfl)
theorem dX0_shifted_10 : decode cX0_shifted 10 = .ok (.invokevirtual 152, 3) := dk_182 0 152 (dk_at dksX0_shifted_0 10 rfl rfl)
theorem dX0_shifted_13 : decode cX0_shifted 13 = .ok (.ifCond .eq 11, 3) := dk_153 0 11 (dk_at dksX0_shifted_0 13 rfl rfl)
theorem dX0_shifted_16 : decode cX0_shifted 16 = .ok (.aload_n 0, 1) := dk_42 (dk_at dksX0_shifted_0 16 rfl rfl)
theorem dX0_shifted_17 : decode cX0_shifted 17 = .ok (.iload_n 1, 1) := dk_27 (dk_at dksX0_shifted_0 17 rfl rfl)
theorem dX0_shifted_18 : decode cX0_shifted 18 = .ok (.invokevirtual 256, 3) := dk_182 1 0 (dk_at dksX0_shifted_0 18 rfl rfl)
theorem dX0_shifted_21 : decode cX0_shifted 21 = .ok (.goto 5, 3) := dk_167 0 5 (dk_at dksX0_shifted_0 21 rfl rfl)
theorem dX0_shifted_24 : decode cX0_shifted 24 = .ok (.bipush (-2), 2) := dk_16 254 (dk_at dksX0_shifted_1 0 rfl rfl)
theorem dX0_shifted_26 : decode cX0_shifted 26 = .ok (.ireturn, 1) := dk_172 (dk_at dksX0_shifted_1 2 rfl rfl)
abbrev cX0_shiftedBy : ByteArray := prog_1_method_47_code
def yX0_shiftedBy : MethodName := ⟨RX0, "shiftedBy", "(I)I"⟩
def dkwX0_shiftedBy_6 : List UInt8 := [132, 3, 1, 167, 255, 123, 28, 172]
abbrev dktX0_shiftedBy_6 : List UInt8 := dkwX0_shiftedBy_6 ++ []
def dkwX0_shiftedBy_5 : List UInt8 := [180, 0, 188, 100, 182, 0, 250, 182, 0, 155, 182, 0, 253, 153, 0, 7, 4, 167, 0, 4, 3, 96, 61]
abbrev dktX0_shiftedBy_5 : List UInt8 := dkwX0_shiftedBy_5 ++ dktX0_shiftedBy_6
def dkwX0_shiftedBy_4 : List UInt8 := [167, 0, 4, 3, 96, 61, 28, 42, 21, 5, 42, 180, 0, 12, 3, 42, 3, 29, 42, 180, 0, 12]
abbrev dktX0_shiftedBy_4 : List UInt8 := dkwX0_shiftedBy_4 ++ dktX0_shiftedBy_5
def dkwX0_shiftedBy_3 : List UInt8 := [29, 42, 180, 0, 12, 180, 0, 188, 100, 27, 96, 182, 0, 250, 182, 0, 155, 182, 0, 253, 153, 0, 7, 4]
abbrev dktX0_shiftedBy_3 : List UInt8 := dkwX0_shiftedBy_3 ++ dktX0_shiftedBy_4
def dkwX0_shiftedBy_2 : List UInt8 := [42, 4, 29, 27, 96, 182, 0, 250, 182, 0, 155, 54, 5, 28, 42, 21, 4, 42, 180, 0, 12, 4, 42, 4]
abbrev dktX0_shiftedBy_2 : List UInt8 := dkwX0_shiftedBy_2 ++ dktX0_shiftedBy_3
def dkwX0_shiftedBy_1 : List UInt8 := [162, 0, 123, 42, 180, 0, 12, 3, 42, 3, 29, 182, 0, 250, 182, 0, 155, 54, 4, 42, 180, 0, 12, 4]
abbrev dktX0_shiftedBy_1 : List UInt8 := dkwX0_shiftedBy_1 ++ dktX0_shiftedBy_2
def dkwX0_shiftedBy_0 : List UInt8 := [3, 61, 42, 180, 0, 12, 180, 0, 188, 62, 29, 42, 180, 0, 12, 180, 0, 188, 42, 182, 0, 247, 96]
abbrev dktX0_shiftedBy_0 : List UInt8 := dkwX0_shiftedBy_0 ++ dktX0_shiftedBy_1
theorem dksX0_shiftedBy_0 : cX0_shiftedBy.data.toList.drop 0 = dktX0_shiftedBy_0 := by decide +kernel
theorem dksX0_shiftedBy_1 : cX0_shiftedBy.data.toList.drop 23 = dktX0_shiftedBy_1 := dk_seg dksX0_shiftedBy_0 23 rfl rfl
theorem dksX0_shiftedBy_2 : cX0_shiftedBy.data.toList.drop 47 = dktX0_shiftedBy_2 := dk_seg dksX0_shiftedBy_1 24 rfl rfl
theorem dksX0_shiftedBy_3 : cX0_shiftedBy.data.toList.drop 71 = dktX0_shiftedBy_3 := dk_seg dksX0_shiftedBy_2 24 rfl rfl
theorem dksX0_shiftedBy_4 : cX0_shiftedBy.data.toList.drop 95 = dktX0_shiftedBy_4 := dk_seg dksX0_shiftedBy_3 24 rfl rfl
theorem dksX0_shiftedBy_5 : cX0_shiftedBy.data.toList.drop 117 = dktX0_shiftedBy_5 := dk_seg dksX0_shiftedBy_4 22 rfl rfl
theorem dksX0_shiftedBy_6 : cX0_shiftedBy.data.toList.drop 140 = dktX0_shiftedBy_6 := dk_seg dksX0_shiftedBy_5 23 rfl rfl
theorem dX0_shiftedBy_0 : decode cX0_shiftedBy 0 = .ok (.iconst 0, 1) := dk_3 (dk_at dksX0_shiftedBy_0 0 rfl rfl)
theorem dX0_shiftedBy_1 : decode cX0_shiftedBy 1 = .ok (.istore_n 2, 1) := dk_61 (dk_at dksX0_shiftedBy_0 1 rfl rfl)
theorem dX0_shiftedBy_2 : decode cX0_shiftedBy 2 = .ok (.aload_n 0, 1) := dk_42 (dk_at dksX0_shiftedBy_0 2 rfl rfl)
theorem dX0_shiftedBy_3 : decode cX0_shiftedBy 3 = .ok (.getfield 12, 3) := dk_180 0 12 (dk_at dksX0_shiftedBy_0 3 rfl rfl)
theorem dX0_shiftedBy_6 : decode cX0_shiftedBy 6 = .ok (.getfield 188, 3) := dk_180 0 188 (dk_at dksX0_shiftedBy_0 6 rfl rfl)
theorem dX0_shiftedBy_9 : decode cX0_shiftedBy 9 = .ok (.istore_n 3, 1) := dk_62 (dk_at dksX0_shiftedBy_0 9 rfl rfl)
theorem dX0_shiftedBy_10 : decode cX0_shiftedBy 10 = .ok (.iload_n 3, 1) := dk_29 (dk_at dksX0_shiftedBy_0 10 rfl rfl)
theorem dX0_shiftedBy_11 : decode cX0_shiftedBy 11 = .ok (.aload_n 0, 1) := dk_42 (dk_at dksX0_shiftedBy_0 11 rfl rfl)
theorem dX0_shiftedBy_12 : decode cX0_shiftedBy 12 = .ok (.getfield 12, 3) := dk_180 0 12 (dk_at dksX0_shiftedBy_0 12 rfl rfl)
theorem dX0_shiftedBy_15 : decode cX0_shiftedBy 15 = .ok (.getfield 188, 3) := dk_180 0 188 (dk_at dksX0_shiftedBy_0 15 rfl rfl)
theorem dX0_shiftedBy_18 : decode cX0_shiftedBy 18 = .ok (.aload_n 0, 1) := dk_42 (dk_at dksX0_shiftedBy_0 18 rfl rfl)
theorem dX0_shiftedBy_19 : decode cX0_shiftedBy 19 = .ok (.invokevirtual 247, 3) := dk_182 0 247 (dk_at dksX0_shiftedBy_0 19 rfl rfl)
theorem dX0_shiftedBy_22 : decode cX0_shiftedBy 22 = .ok (.iadd, 1) := dk_96 (dk_at dksX0_shiftedBy_0 22 rfl rfl)
theorem dX0_shiftedBy_23 : decode cX0_shiftedBy 23 = .ok (.if_icmp .ge 123, 3) := dk_162 0 123 (dk_at dksX0_shiftedBy_1 0 rfl rfl)
theorem dX0_shiftedBy_26 : decode cX0_shiftedBy 26 = .ok (.aload_n 0, 1) := dk_42 (dk_at dksX0_shiftedBy_1 3 rfl rfl)
theorem dX0_shiftedBy_27 : decode cX0_shiftedBy 27 = .ok (.getfield 12, 3) := dk_180 0 12 (dk_at dksX0_shiftedBy_1 4 rfl rfl)
theorem dX0_shiftedBy_30 : decode cX0_shiftedBy 30 = .ok (.iconst 0, 1) := dk_3 (dk_at dksX0_shiftedBy_1 7 rfl rfl)
theorem dX0_shiftedBy_31 : decode cX0_shiftedBy 31 = .ok (.aload_n 0, 1) := dk_42 (dk_at dksX0_shiftedBy_1 8 rfl rfl)
theorem dX0_shiftedBy_32 : decode cX0_shiftedBy 32 = .ok (.iconst 0, 1) := dk_3 (dk_at dksX0_shiftedBy_1 9 rfl rfl)
theorem dX0_shiftedBy_33 : decode cX0_shiftedBy 33 = .ok (.iload_n 3, 1) := dk_29 (dk_at dksX0_shiftedBy_1 10 rfl rfl)
theorem dX0_shiftedBy_34 : decode cX0_shiftedBy 34 = .ok (.invokevirtual 250, 3) := dk_182 0 250 (dk_at dksX0_shiftedBy_1 11 rfl rfl)
theorem dX0_shiftedBy_37 : decode cX0_shiftedBy 37 = .ok (.invokevirtual 155, 3) := dk_182 0 155 (dk_at dksX0_shiftedBy_1 14 rfl rfl)
theorem dX0_shiftedBy_40 : decode cX0_shiftedBy 40 = .ok (.istore 4, 2) := dk_54 4 (dk_at dksX0_shiftedBy_1 17 rfl rfl)
theorem dX0_shiftedBy_42 : decode cX0_shiftedBy 42 = .ok (.aload_n 0, 1) := dk_42 (dk_at dksX0_shiftedBy_1 19 rfl rfl)
theorem dX0_shiftedBy_43 : decode cX0_shiftedBy 43 = .ok (.getfield 12, 3) := dk_180 0 12 (dk_at dksX0_shiftedBy_1 20 rfl rfl)
theorem dX0_shiftedBy_46 : decode cX0_shiftedBy 46 = .ok (.iconst 1, 1) := dk_4 (dk_at dksX0_shiftedBy_1 23 rfl rfl)
theorem dX0_shiftedBy_47 : decode cX0_shiftedBy 47 = .ok (.aload_n 0, 1) := dk_42 (dk_at dksX0_shiftedBy_2 0 rfl rfl)
theorem dX0_shiftedBy_48 : decode cX0_shiftedBy 48 = .ok (.iconst 1, 1) := dk_4 (dk_at dksX0_shiftedBy_2 1 rfl rfl)
theorem dX0_shiftedBy_49 : decode cX0_shiftedBy 49 = .ok (.iload_n 3, 1) := dk_29 (dk_at dksX0_shiftedBy_2 2 rfl rfl)
theorem dX0_shiftedBy_50 : decode cX0_shiftedBy 50 = .ok (.iload_n 1, 1) := dk_27 (dk_at dksX0_shiftedBy_2 3 rfl rfl)
theorem dX0_shiftedBy_51 : decode cX0_shiftedBy 51 = .ok (.iadd, 1) := dk_96 (dk_at dksX0_shiftedBy_2 4 rfl rfl)
theorem dX0_shiftedBy_52 : decode cX0_shiftedBy 52 = .ok (.invokevirtual 250, 3) := dk_182 0 250 (dk_at dksX0_shiftedBy_2 5 rfl rfl)
theorem dX0_shiftedBy_55 : decode cX0_shiftedBy 55 = .ok (.invokevirtual 155, 3) := dk_182 0 155 (dk_at dksX0_shiftedBy_2 8 rfl rfl)
theorem dX0_shiftedBy_58 : decode cX0_shiftedBy 58 = .ok (.istore 5, 2) := dk_54 5 (dk_at dksX0_shiftedBy_2 11 rfl rfl)
theorem dX0_shiftedBy_60 : decode cX0_shiftedBy 60 = .ok (.iload_n 2, 1) := dk_28 (dk_at dksX0_shiftedBy_2 13 rfl rfl)
theorem dX0_shiftedBy_61 : decode cX0_shiftedBy 61 = .ok (.aload_n 0, 1) := dk_42 (dk_at dksX0_shiftedBy_2 14 rfl rfl)
theorem dX0_shiftedBy_62 : decode cX0_shiftedBy 62 = .ok (.iload 4, 2) := dk_21 4 (dk_at dksX0_shiftedBy_2 15 rfl rfl)
theorem dX0_shiftedBy_64 : decode cX0_shiftedBy 64 = .ok (.aload_n 0, 1) := dk_42 (dk_at dksX0_shiftedBy_2 17 rfl rfl)
theorem dX0_shiftedBy_65 : decode cX0_shiftedBy 65 = .ok (.getfield 12, 3) := dk_180 0 12 (dk_at dksX0_shiftedBy_2 18 rfl rfl)
theorem dX0_shiftedBy_68 : decode cX0_shiftedBy 68 = .ok (.iconst 1, 1) := dk_4 (dk_at dksX0_shiftedBy_2 21 rfl rfl)
theorem dX0_shiftedBy_69 : decode cX0_shiftedBy 69 = .ok (.aload_n 0, 1) := dk_42 (dk_at dksX0_shiftedBy_2 22 rfl rfl)
theorem dX0_shiftedBy_70 : decode cX0_shiftedBy 70 = .ok (.iconst 1, 1) := dk_4 (dk_at dksX0_shiftedBy_2 23 rfl rfl)
theorem dX0_shiftedBy_71 : decode cX0_shiftedBy 71 = .ok (.iload_n 3, 1) := dk_29 (dk_at dksX0_shiftedBy_3 0 rfl rfl)
theorem dX0_shiftedBy_72 : decode cX0_shiftedBy 72 = .ok (.aload_n 0, 1) := dk_42 (dk_at dksX0_shiftedBy_3 1 rfl rfl)
theorem dX0_shiftedBy_73 : decode cX0_shiftedBy 73 = .ok (.getfield 12, 3) := dk_180 0 12 (dk_at dksX0_shiftedBy_3 2 rfl rfl)
theorem dX0_shiftedBy_76 : decode cX0_shiftedBy 76 = .ok (.getfield 188, 3) := dk_180 0 188 (dk_at dksX0_shiftedBy_3 5 rfl rfl)
theorem dX0_shiftedBy_79 : decode cX0_shiftedBy 79 = .ok (.isub, 1) := dk_100 (dk_at dksX0_shiftedBy_3 8 rfl rfl)
theorem dX0_shiftedBy_80 : decode cX0_shiftedBy 80 = .ok (.iload_n 1, 1) := dk_27 (dk_at dksX0_shiftedBy_3 9 rfl rfl)
theorem dX0_shiftedBy_81 : decode cX0_shiftedBy 81 = .ok (.iadd, 1) := dk_96 (dk_at dksX0_shiftedBy_3 10 rfl rfl)
theorem dX0_shiftedBy_82 : decode cX0_shiftedBy 82 = .ok (.invokevirtual 250, 3) := dk_182 0 250 (dk_at dksX0_shiftedBy_3 11 rfl rfl)
theorem dX0_shiftedBy_85 : decode cX0_shiftedBy 85 = .ok (.invokevirtual 155, 3) := dk_182 0 155 (dk_at dksX0_shiftedBy_3 14 rfl rfl)
theorem dX0_shiftedBy_88 : decode cX0_shiftedBy 88 = .ok (.invokevirtual 253, 3) := dk_182 0 253 (dk_at dksX0_shiftedBy_3 17 rfl rfl)
theorem dX0_shiftedBy_91 : decode cX0_shiftedBy 91 = .ok (.ifCond .eq 7, 3) := dk_153 0 7 (dk_at dksX0_shiftedBy_3 20 rfl rfl)
theorem dX0_shiftedBy_94 : decode cX0_shiftedBy 94 = .ok (.iconst 1, 1) := dk_4 (dk_at dksX0_shiftedBy_3 23 rfl rfl)
theorem dX0_shiftedBy_95 : decode cX0_shiftedBy 95 = .ok (.goto 4, 3) := dk_167 0 4 (dk_at dksX0_shiftedBy_4 0 rfl rfl)
theorem dX0_shiftedBy_98 : decode cX0_shiftedBy 98 = .ok (.iconst 0, 1) := dk_3 (dk_at dksX0_shiftedBy_4 3 rfl rfl)
theorem dX0_shiftedBy_99 : decode cX0_shiftedBy 99 = .ok (.iadd, 1) := dk_96 (dk_at dksX0_shiftedBy_4 4 rfl rfl)
theorem dX0_shiftedBy_100 : decode cX0_shiftedBy 100 = .ok (.istore_n 2, 1) := dk_61 (dk_at dksX0_shiftedBy_4 5 rfl rfl)
theorem dX0_shiftedBy_101 : decode cX0_shiftedBy 101 = .ok (.iload_n 2, 1) := dk_28 (dk_at dksX0_shiftedBy_4 6 rfl rfl)
theorem dX0_shiftedBy_102 : decode cX0_shiftedBy 102 = .ok (.aload_n 0, 1) := dk_42 (dk_at dksX0_shiftedBy_4 7 rfl rfl)
theorem dX0_shiftedBy_103 : decode cX0_shiftedBy 103 = .ok (.iload 5, 2) := dk_21 5 (dk_at dksX0_shiftedBy_4 8 rfl rfl)
theorem dX0_shiftedBy_105 : decode cX0_shiftedBy 105 = .ok (.aload_n 0, 1) := dk_42 (dk_at dksX0_shiftedBy_4 10 rfl rfl)
theorem dX0_shiftedBy_106 : decode cX0_shiftedBy 106 = .ok (.getfield 12, 3) := dk_180 0 12 (dk_at dksX0_shiftedBy_4 11 rfl rfl)
theorem dX0_shiftedBy_109 : decode cX0_shiftedBy 109 = .ok (.iconst 0, 1) := dk_3 (dk_at dksX0_shiftedBy_4 14 rfl rfl)
theorem dX0_shiftedBy_110 : decode cX0_shiftedBy 110 = .ok (.aload_n 0, 1) := dk_42 (dk_at dksX0_shiftedBy_4 15 rfl rfl)
theorem dX0_shiftedBy_111 : decode cX0_shiftedBy 111 = .ok (.iconst 0, 1) := dk_3 (dk_at dksX0_shiftedBy_4 16 rfl rfl)
theorem dX0_shiftedBy_112 : decode cX0_shiftedBy 112 = .ok (.iload_n 3, 1) := dk_29 (dk_at dksX0_shiftedBy_4 17 rfl rfl)
theorem dX0_shiftedBy_113 : decode cX0_shiftedBy 113 = .ok (.aload_n 0, 1) := dk_42 (dk_at dksX0_shiftedBy_4 18 rfl rfl)
theorem dX0_shiftedBy_114 : decode cX0_shiftedBy 114 = .ok (.getfield 12, 3) := dk_180 0 12 (dk_at dksX0_shiftedBy_4 19 rfl rfl)
theorem dX0_shiftedBy_117 : decode cX0_shiftedBy 117 = .ok (.getfield 188, 3) := dk_180 0 188 (dk_at dksX0_shiftedBy_5 0 rfl rfl)
theorem dX0_shiftedBy_120 : decode cX0_shiftedBy 120 = .ok (.isub, 1) := dk_100 (dk_at dksX0_shiftedBy_5 3 rfl rfl)
theorem dX0_shiftedBy_121 : decode cX0_shiftedBy 121 = .ok (.invokevirtual 250, 3) := dk_182 0 250 (dk_at dksX0_shiftedBy_5 4 rfl rfl)
theorem dX0_shiftedBy_124 : decode cX0_shiftedBy 124 = .ok (.invokevirtual 155, 3) := dk_182 0 155 (dk_at dksX0_shiftedBy_5 7 rfl rfl)
theorem dX0_shiftedBy_127 : decode cX0_shiftedBy 127 = .ok (.invokevirtual 253, 3) := dk_182 0 253 (dk_at dksX0_shiftedBy_5 10 rfl rfl)
theorem dX0_shiftedBy_130 : decode cX0_shiftedBy 130 = .ok (.ifCond .eq 7, 3) := dk_153 0 7 (dk_at dksX0_shiftedBy_5 13 rfl rfl)
theorem dX0_shiftedBy_133 : decode cX0_shiftedBy 133 = .ok (.iconst 1, 1) := dk_4 (dk_at dksX0_shiftedBy_5 16 rfl rfl)
theorem dX0_shiftedBy_134 : decode cX0_shiftedBy 134 = .ok (.goto 4, 3) := dk_167 0 4 (dk_at dksX0_shiftedBy_5 17 rfl rfl)
theorem dX0_shiftedBy_137 : decode cX0_shiftedBy 137 = .ok (.iconst 0, 1) := dk_3 (dk_at dksX0_shiftedBy_5 20 rfl rfl)
theorem dX0_shiftedBy_138 : decode cX0_shiftedBy 138 = .ok (.iadd, 1) := dk_96 (dk_at dksX0_shiftedBy_5 21 rfl rfl)
theorem dX0_shiftedBy_139 : decode cX0_shiftedBy 139 = .ok (.istore_n 2, 1) := dk_61 (dk_at dksX0_shiftedBy_5 22 rfl rfl)
theorem dX0_shiftedBy_140 : decode cX0_shiftedBy 140 = .ok (.iinc 3 1, 3) := dk_132 3 1 (dk_at dksX0_shiftedBy_6 0 rfl rfl)
theorem dX0_shiftedBy_143 : decode cX0_shiftedBy 143 = .ok (.goto (-133), 3) := dk_167 255 123 (dk_at dksX0_shiftedBy_6 3 rfl rfl)
theorem dX0_shiftedBy_146 : decode cX0_shiftedBy 146 = .ok (.iload_n 2, 1) := dk_28 (dk_at dksX0_shiftedBy_6 6 rfl rfl)
theorem dX0_shiftedBy_147 : decode cX0_shiftedBy 147 = .ok (.ireturn, 1) := dk_172 (dk_at dksX0_shiftedBy_6 7 rfl rfl)
abbrev cX0_clashes : ByteArray := prog_1_method_46_code
def yX0_clashes : MethodName := ⟨RX0, "clashes", "(II)Z"⟩
def dkwX0_clashes_0 : List UInt8 := [42, 180, 0, 12, 180, 0, 163, 27, 46, 28, 184, 0, 197, 154, 0, 7, 4, 167, 0, 4, 3, 172]
abbrev dktX0_clashes_0 : List UInt8 := dkwX0_clashes_0 ++ []
theorem dksX0_clashes_0 : cX0_clashes.data.toList.drop 0 = dktX0_clashes_0 := by decide +kernel
theorem dX0_clashes_0 : decode cX0_clashes 0 = .ok (.aload_n 0, 1) := dk_42 (dk_at dksX0_clashes_0 0 rfl rfl)
theorem dX0_clashes_1 : decode cX0_clashes 1 = .ok (.getfield 12, 3) := dk_180 0 12 (dk_at dksX0_clashes_0 1 rfl rfl)
theorem dX0_clashes_4 : decode cX0_clashes 4 = .ok (.getfield 163, 3) := dk_180 0 163 (dk_at dksX0_clashes_0 4 rfl rfl)
theorem dX0_clashes_7 : decode cX0_clashes 7 = .ok (.iload_n 1, 1) := dk_27 (dk_at dksX0_clashes_0 7 rfl rfl)
theorem dX0_clashes_8 : decode cX0_clashes 8 = .ok (.iaload, 1) := dk_46 (dk_at dksX0_clashes_0 8 rfl rfl)
theorem dX0_clashes_9 : decode cX0_clashes 9 = .ok (.iload_n 2, 1) := dk_28 (dk_at dksX0_clashes_0 9 rfl rfl)
theorem dX0_clashes_10 : decode cX0_clashes 10 = .ok (.invokestatic 197, 3) := dk_184 0 197 (dk_at dksX0_clashes_0 10 rfl rfl)
theorem dX0_clashes_13 : decode cX0_clashes 13 = .ok (.ifCond .ne 7, 3) := dk_154 0 7 (dk_at dksX0_clashes_0 13 rfl rfl)
theorem dX0_clashes_16 : decode cX0_clashes 16 = .ok (.iconst 1, 1) := dk_4 (dk_at dksX0_clashes_0 16 rfl rfl)
theorem dX0_clashes_17 : decode cX0_clashes 17 = .ok (.goto 4, 3) := dk_167 0 4 (dk_at dksX0_clashes_0 17 rfl rfl)
theorem dX0_clashes_20 : decode cX0_clashes 20 = .ok (.iconst 0, 1) := dk_3 (dk_at dksX0_clashes_0 20 rfl rfl)
theorem dX0_clashes_21 : decode cX0_clashes 21 = .ok (.ireturn, 1) := dk_172 (dk_at dksX0_clashes_0 21 rfl rfl)
abbrev cX0_shift : ByteArray := prog_1_method_49_code
def yX0_shift : MethodName := ⟨RX0, "shift", "()I"⟩
def dkwX0_shift_1 : List UInt8 := [162, 0, 19, 42, 27, 182, 1, 0, 154, 0, 5, 27, 172, 132, 1, 1, 167, 255, 230, 2, 172]
abbrev dktX0_shift_1 : List UInt8 := dkwX0_shift_1 ++ []
def dkwX0_shift_0 : List UInt8 := [42, 182, 0, 244, 154, 0, 6, 16, 254, 172, 3, 60, 27, 42, 180, 0, 12, 180, 0, 144, 4, 46]
abbrev dktX0_shift_0 : List UInt8 := dkwX0_shift_0 ++ dktX0_shift_1
theorem dksX0_shift_0 : cX0_shift.data.toList.drop 0 = dktX0_shift_0 := by decide +kernel
theorem dksX0_shift_1 : cX0_shift.data.toList.drop 22 = dktX0_shift_1 := dk_seg dksX0_shift_0 22 rfl rfl
theorem dX0_shift_0 : decode cX0_shift 0 = .ok (.aload_n 0, 1) := dk_42 (dk_at dksX0_shift_0 0 rfl rfl)
theorem dX0_shift_1 : decode cX0_shift 1 = .ok (.invokevirtual 244, 3) := dk_182 0 244 (dk_at dksX0_shift_0 1 rfl rfl)
theorem dX0_shift_4 : decode cX0_shift 4 = .ok (.ifCond .ne 6, 3) := dk_154 0 6 (dk_at dksX0_shift_0 4 rfl rfl)
theorem dX0_shift_7 : decode cX0_shift 7 = .ok (.bipush (-2), 2) := dk_16 254 (dk_at dksX0_shift_0 7 rfl rfl)
theorem dX0_shift_9 : decode cX0_shift 9 = .ok (.ireturn, 1) := dk_172 (dk_at dksX0_shift_0 9 rfl rfl)
theorem dX0_shift_10 : decode cX0_shift 10 = .ok (.iconst 0, 1) := dk_3 (dk_at dksX0_shift_0 10 rfl rfl)
theorem dX0_shift_11 : decode cX0_shift 11 = .ok (.istore_n 1, 1) := dk_60 (dk_at dksX0_shift_0 11 rfl rfl)
theorem dX0_shift_12 : decode cX0_shift 12 = .ok (.iload_n 1, 1) := dk_27 (dk_at dksX0_shift_0 12 rfl rfl)
theorem dX0_shift_13 : decode cX0_shift 13 = .ok (.aload_n 0, 1) := dk_42 (dk_at dksX0_shift_0 13 rfl rfl)
theorem dX0_shift_14 : decode cX0_shift 14 = .ok (.getfield 12, 3) := dk_180 0 12 (dk_at dksX0_shift_0 14 rfl rfl)
theorem dX0_shift_17 : decode cX0_shift 17 = .ok (.getfield 144, 3) := dk_180 0 144 (dk_at dksX0_shift_0 17 rfl rfl)
theorem dX0_shift_20 : decode cX0_shift 20 = .ok (.iconst 1, 1) := dk_4 (dk_at dksX0_shift_0 20 rfl rfl)
theorem dX0_shift_21 : decode cX0_shift 21 = .ok (.iaload, 1) := dk_46 (dk_at dksX0_shift_0 21 rfl rfl)
theorem dX0_shift_22 : decode cX0_shift 22 = .ok (.if_icmp .ge 19, 3) := dk_162 0 19 (dk_at dksX0_shift_1 0 rfl rfl)
theorem dX0_shift_25 : decode cX0_shift 25 = .ok (.aload_n 0, 1) := dk_42 (dk_at dksX0_shift_1 3 rfl rfl)
theorem dX0_shift_26 : decode cX0_shift 26 = .ok (.iload_n 1, 1) := dk_27 (dk_at dksX0_shift_1 4 rfl rfl)
theorem dX0_shift_27 : decode cX0_shift 27 = .ok (.invokevirtual 256, 3) := dk_182 1 0 (dk_at dksX0_shift_1 5 rfl rfl)
theorem dX0_shift_30 : decode cX0_shift 30 = .ok (.ifCond .ne 5, 3) := dk_154 0 5 (dk_at dksX0_shift_1 8 rfl rfl)
theorem dX0_shift_33 : decode cX0_shift 33 = .ok (.iload_n 1, 1) := dk_27 (dk_at dksX0_shift_1 11 rfl rfl)
theorem dX0_shift_34 : decode cX0_shift 34 = .ok (.ireturn, 1) := dk_172 (dk_at dksX0_shift_1 12 rfl rfl)
theorem dX0_shift_35 : decode cX0_shift 35 = .ok (.iinc 1 1, 3) := dk_132 1 1 (dk_at dksX0_shift_1 13 rfl rfl)
theorem dX0_shift_38 : decode cX0_shift 38 = .ok (.goto (-26), 3) := dk_167 255 230 (dk_at dksX0_shift_1 16 rfl rfl)
theorem dX0_shift_41 : decode cX0_shift 41 = .ok (.iconst (-1), 1) := dk_2 (dk_at dksX0_shift_1 19 rfl rfl)
theorem dX0_shift_42 : decode cX0_shift 42 = .ok (.ireturn, 1) := dk_172 (dk_at dksX0_shift_1 20 rfl rfl)
abbrev cX0_least : ByteArray := prog_1_method_50_code
def yX0_least : MethodName := ⟨RX0, "least", "()I"⟩
def dkwX0_least_2 : List UInt8 := [132, 2, 1, 167, 255, 221, 27, 172]
abbrev dktX0_least_2 : List UInt8 := dkwX0_least_2 ++ []
def dkwX0_least_1 : List UInt8 := [162, 0, 28, 42, 28, 182, 1, 0, 42, 27, 182, 1, 0, 162, 0, 7, 28, 167, 0, 4, 27, 60]
abbrev dktX0_least_1 : List UInt8 := dkwX0_least_1 ++ dktX0_least_2
def dkwX0_least_0 : List UInt8 := [42, 182, 0, 244, 154, 0, 6, 16, 254, 172, 3, 60, 4, 61, 28, 42, 180, 0, 12, 180, 0, 144, 4, 46]
abbrev dktX0_least_0 : List UInt8 := dkwX0_least_0 ++ dktX0_least_1
theorem dksX0_least_0 : cX0_least.data.toList.drop 0 = dktX0_least_0 := by decide +kernel
theorem dksX0_least_1 : cX0_least.data.toList.drop 24 = dktX0_least_1 := dk_seg dksX0_least_0 24 rfl rfl
theorem dksX0_least_2 : cX0_least.data.toList.drop 46 = dktX0_least_2 := dk_seg dksX0_least_1 22 rfl rfl
theorem dX0_least_0 : decode cX0_least 0 = .ok (.aload_n 0, 1) := dk_42 (dk_at dksX0_least_0 0 rfl rfl)
theorem dX0_least_1 : decode cX0_least 1 = .ok (.invokevirtual 244, 3) := dk_182 0 244 (dk_at dksX0_least_0 1 rfl rfl)
theorem dX0_least_4 : decode cX0_least 4 = .ok (.ifCond .ne 6, 3) := dk_154 0 6 (dk_at dksX0_least_0 4 rfl rfl)
theorem dX0_least_7 : decode cX0_least 7 = .ok (.bipush (-2), 2) := dk_16 254 (dk_at dksX0_least_0 7 rfl rfl)
theorem dX0_least_9 : decode cX0_least 9 = .ok (.ireturn, 1) := dk_172 (dk_at dksX0_least_0 9 rfl rfl)
theorem dX0_least_10 : decode cX0_least 10 = .ok (.iconst 0, 1) := dk_3 (dk_at dksX0_least_0 10 rfl rfl)
theorem dX0_least_11 : decode cX0_least 11 = .ok (.istore_n 1, 1) := dk_60 (dk_at dksX0_least_0 11 rfl rfl)
theorem dX0_least_12 : decode cX0_least 12 = .ok (.iconst 1, 1) := dk_4 (dk_at dksX0_least_0 12 rfl rfl)
theorem dX0_least_13 : decode cX0_least 13 = .ok (.istore_n 2, 1) := dk_61 (dk_at dksX0_least_0 13 rfl rfl)
theorem dX0_least_14 : decode cX0_least 14 = .ok (.iload_n 2, 1) := dk_28 (dk_at dksX0_least_0 14 rfl rfl)
theorem dX0_least_15 : decode cX0_least 15 = .ok (.aload_n 0, 1) := dk_42 (dk_at dksX0_least_0 15 rfl rfl)
theorem dX0_least_16 : decode cX0_least 16 = .ok (.getfield 12, 3) := dk_180 0 12 (dk_at dksX0_least_0 16 rfl rfl)
theorem dX0_least_19 : decode cX0_least 19 = .ok (.getfield 144, 3) := dk_180 0 144 (dk_at dksX0_least_0 19 rfl rfl)
theorem dX0_least_22 : decode cX0_least 22 = .ok (.iconst 1, 1) := dk_4 (dk_at dksX0_least_0 22 rfl rfl)
theorem dX0_least_23 : decode cX0_least 23 = .ok (.iaload, 1) := dk_46 (dk_at dksX0_least_0 23 rfl rfl)
theorem dX0_least_24 : decode cX0_least 24 = .ok (.if_icmp .ge 28, 3) := dk_162 0 28 (dk_at dksX0_least_1 0 rfl rfl)
theorem dX0_least_27 : decode cX0_least 27 = .ok (.aload_n 0, 1) := dk_42 (dk_at dksX0_least_1 3 rfl rfl)
theorem dX0_least_28 : decode cX0_least 28 = .ok (.iload_n 2, 1) := dk_28 (dk_at dksX0_least_1 4 rfl rfl)
theorem dX0_least_29 : decode cX0_least 29 = .ok (.invokevirtual 256, 3) := dk_182 1 0 (dk_at dksX0_least_1 5 rfl rfl)
theorem dX0_least_32 : decode cX0_least 32 = .ok (.aload_n 0, 1) := dk_42 (dk_at dksX0_least_1 8 rfl rfl)
theorem dX0_least_33 : decode cX0_least 33 = .ok (.iload_n 1, 1) := dk_27 (dk_at dksX0_least_1 9 rfl rfl)
theorem dX0_least_34 : decode cX0_least 34 = .ok (.invokevirtual 256, 3) := dk_182 1 0 (dk_at dksX0_least_1 10 rfl rfl)
theorem dX0_least_37 : decode cX0_least 37 = .ok (.if_icmp .ge 7, 3) := dk_162 0 7 (dk_at dksX0_least_1 13 rfl rfl)
theorem dX0_least_40 : decode cX0_least 40 = .ok (.iload_n 2, 1) := dk_28 (dk_at dksX0_least_1 16 rfl rfl)
theorem dX0_least_41 : decode cX0_least 41 = .ok (.goto 4, 3) := dk_167 0 4 (dk_at dksX0_least_1 17 rfl rfl)
theorem dX0_least_44 : decode cX0_least 44 = .ok (.iload_n 1, 1) := dk_27 (dk_at dksX0_least_1 20 rfl rfl)
theorem dX0_least_45 : decode cX0_least 45 = .ok (.istore_n 1, 1) := dk_60 (dk_at dksX0_least_1 21 rfl rfl)
theorem dX0_least_46 : decode cX0_least 46 = .ok (.iinc 2 1, 3) := dk_132 2 1 (dk_at dksX0_least_2 0 rfl rfl)
theorem dX0_least_49 : decode cX0_least 49 = .ok (.goto (-35), 3) := dk_167 255 221 (dk_at dksX0_least_2 3 rfl rfl)
theorem dX0_least_52 : decode cX0_least 52 = .ok (.iload_n 1, 1) := dk_27 (dk_at dksX0_least_2 6 rfl rfl)
theorem dX0_least_53 : decode cX0_least 53 = .ok (.ireturn, 1) := dk_172 (dk_at dksX0_least_2 7 rfl rfl)
abbrev cX0_mend : ByteArray := prog_1_method_54_code
def yX0_mend : MethodName := ⟨RX0, "mend", "(I)I"⟩
def dkwX0_mend_3 : List UInt8 := [132, 3, 1, 167, 255, 214, 28, 172]
abbrev dktX0_mend_3 : List UInt8 := dkwX0_mend_3 ++ []
def dkwX0_mend_2 : List UInt8 := [27, 29, 182, 1, 8, 42, 180, 0, 12, 27, 29, 182, 0, 155, 159, 0, 7, 4, 167, 0, 4, 3, 96, 61]
abbrev dktX0_mend_2 : List UInt8 := dkwX0_mend_2 ++ dktX0_mend_3
def dkwX0_mend_1 : List UInt8 := [159, 0, 5, 2, 172, 3, 61, 3, 62, 29, 42, 180, 0, 12, 180, 0, 144, 27, 46, 162, 0, 35, 28, 42]
abbrev dktX0_mend_1 : List UInt8 := dkwX0_mend_1 ++ dktX0_mend_2
def dkwX0_mend_0 : List UInt8 := [42, 27, 182, 0, 140, 153, 0, 10, 42, 182, 0, 244, 154, 0, 6, 16, 254, 172, 42, 27, 182, 1, 11, 2]
abbrev dktX0_mend_0 : List UInt8 := dkwX0_mend_0 ++ dktX0_mend_1
theorem dksX0_mend_0 : cX0_mend.data.toList.drop 0 = dktX0_mend_0 := by decide +kernel
theorem dksX0_mend_1 : cX0_mend.data.toList.drop 24 = dktX0_mend_1 := dk_seg dksX0_mend_0 24 rfl rfl
theorem dksX0_mend_2 : cX0_mend.data.toList.drop 48 = dktX0_mend_2 := dk_seg dksX0_mend_1 24 rfl rfl
theorem dksX0_mend_3 : cX0_mend.data.toList.drop 72 = dktX0_mend_3 := dk_seg dksX0_mend_2 24 rfl rfl
theorem dX0_mend_0 : decode cX0_mend 0 = .ok (.aload_n 0, 1) := dk_42 (dk_at dksX0_mend_0 0 rfl rfl)
theorem dX0_mend_1 : decode cX0_mend 1 = .ok (.iload_n 1, 1) := dk_27 (dk_at dksX0_mend_0 1 rfl rfl)
theorem dX0_mend_2 : decode cX0_mend 2 = .ok (.invokevirtual 140, 3) := dk_182 0 140 (dk_at dksX0_mend_0 2 rfl rfl)
theorem dX0_mend_5 : decode cX0_mend 5 = .ok (.ifCond .eq 10, 3) := dk_153 0 10 (dk_at dksX0_mend_0 5 rfl rfl)
theorem dX0_mend_8 : decode cX0_mend 8 = .ok (.aload_n 0, 1) := dk_42 (dk_at dksX0_mend_0 8 rfl rfl)
theorem dX0_mend_9 : decode cX0_mend 9 = .ok (.invokevirtual 244, 3) := dk_182 0 244 (dk_at dksX0_mend_0 9 rfl rfl)
theorem dX0_mend_12 : decode cX0_mend 12 = .ok (.ifCond .ne 6, 3) := dk_154 0 6 (dk_at dksX0_mend_0 12 rfl rfl)
theorem dX0_mend_15 : decode cX0_mend 15 = .ok (.bipush (-2), 2) := dk_16 254 (dk_at dksX0_mend_0 15 rfl rfl)
theorem dX0_mend_17 : decode cX0_mend 17 = .ok (.ireturn, 1) := dk_172 (dk_at dksX0_mend_0 17 rfl rfl)
theorem dX0_mend_18 : decode cX0_mend 18 = .ok (.aload_n 0, 1) := dk_42 (dk_at dksX0_mend_0 18 rfl rfl)
theorem dX0_mend_19 : decode cX0_mend 19 = .ok (.iload_n 1, 1) := dk_27 (dk_at dksX0_mend_0 19 rfl rfl)
theorem dX0_mend_20 : decode cX0_mend 20 = .ok (.invokevirtual 267, 3) := dk_182 1 11 (dk_at dksX0_mend_0 20 rfl rfl)
theorem dX0_mend_23 : decode cX0_mend 23 = .ok (.iconst (-1), 1) := dk_2 (dk_at dksX0_mend_0 23 rfl rfl)
theorem dX0_mend_24 : decode cX0_mend 24 = .ok (.if_icmp .eq 5, 3) := dk_159 0 5 (dk_at dksX0_mend_1 0 rfl rfl)
theorem dX0_mend_27 : decode cX0_mend 27 = .ok (.iconst (-1), 1) := dk_2 (dk_at dksX0_mend_1 3 rfl rfl)
theorem dX0_mend_28 : decode cX0_mend 28 = .ok (.ireturn, 1) := dk_172 (dk_at dksX0_mend_1 4 rfl rfl)
theorem dX0_mend_29 : decode cX0_mend 29 = .ok (.iconst 0, 1) := dk_3 (dk_at dksX0_mend_1 5 rfl rfl)
theorem dX0_mend_30 : decode cX0_mend 30 = .ok (.istore_n 2, 1) := dk_61 (dk_at dksX0_mend_1 6 rfl rfl)
theorem dX0_mend_31 : decode cX0_mend 31 = .ok (.iconst 0, 1) := dk_3 (dk_at dksX0_mend_1 7 rfl rfl)
theorem dX0_mend_32 : decode cX0_mend 32 = .ok (.istore_n 3, 1) := dk_62 (dk_at dksX0_mend_1 8 rfl rfl)
theorem dX0_mend_33 : decode cX0_mend 33 = .ok (.iload_n 3, 1) := dk_29 (dk_at dksX0_mend_1 9 rfl rfl)
theorem dX0_mend_34 : decode cX0_mend 34 = .ok (.aload_n 0, 1) := dk_42 (dk_at dksX0_mend_1 10 rfl rfl)
theorem dX0_mend_35 : decode cX0_mend 35 = .ok (.getfield 12, 3) := dk_180 0 12 (dk_at dksX0_mend_1 11 rfl rfl)
theorem dX0_mend_38 : decode cX0_mend 38 = .ok (.getfield 144, 3) := dk_180 0 144 (dk_at dksX0_mend_1 14 rfl rfl)
theorem dX0_mend_41 : decode cX0_mend 41 = .ok (.iload_n 1, 1) := dk_27 (dk_at dksX0_mend_1 17 rfl rfl)
theorem dX0_mend_42 : decode cX0_mend 42 = .ok (.iaload, 1) := dk_46 (dk_at dksX0_mend_1 18 rfl rfl)
theorem dX0_mend_43 : decode cX0_mend 43 = .ok (.if_icmp .ge 35, 3) := dk_162 0 35 (dk_at dksX0_mend_1 19 rfl rfl)
theorem dX0_mend_46 : decode cX0_mend 46 = .ok (.iload_n 2, 1) := dk_28 (dk_at dksX0_mend_1 22 rfl rfl)
theorem dX0_mend_47 : decode cX0_mend 47 = .ok (.aload_n 0, 1) := dk_42 (dk_at dksX0_mend_1 23 rfl rfl)
theorem dX0_mend_48 : decode cX0_mend 48 = .ok (.iload_n 1, 1) := dk_27 (dk_at dksX0_mend_2 0 rfl rfl)
theorem dX0_mend_49 : decode cX0_mend 49 = .ok (.iload_n 3, 1) := dk_29 (dk_at dksX0_mend_2 1 rfl rfl)
theorem dX0_mend_50 : decode cX0_mend 50 = .ok (.invokevirtual 264, 3) := dk_182 1 8 (dk_at dksX0_mend_2 2 rfl rfl)
theorem dX0_mend_53 : decode cX0_mend 53 = .ok (.aload_n 0, 1) := dk_42 (dk_at dksX0_mend_2 5 rfl rfl)
theorem dX0_mend_54 : decode cX0_mend 54 = .ok (.getfield 12, 3) := dk_180 0 12 (dk_at dksX0_mend_2 6 rfl rfl)
theorem dX0_mend_57 : decode cX0_mend 57 = .ok (.iload_n 1, 1) := dk_27 (dk_at dksX0_mend_2 9 rfl rfl)
theorem dX0_mend_58 : decode cX0_mend 58 = .ok (.iload_n 3, 1) := dk_29 (dk_at dksX0_mend_2 10 rfl rfl)
theorem dX0_mend_59 : decode cX0_mend 59 = .ok (.invokevirtual 155, 3) := dk_182 0 155 (dk_at dksX0_mend_2 11 rfl rfl)
theorem dX0_mend_62 : decode cX0_mend 62 = .ok (.if_icmp .eq 7, 3) := dk_159 0 7 (dk_at dksX0_mend_2 14 rfl rfl)
theorem dX0_mend_65 : decode cX0_mend 65 = .ok (.iconst 1, 1) := dk_4 (dk_at dksX0_mend_2 17 rfl rfl)
theorem dX0_mend_66 : decode cX0_mend 66 = .ok (.goto 4, 3) := dk_167 0 4 (dk_at dksX0_mend_2 18 rfl rfl)
theorem dX0_mend_69 : decode cX0_mend 69 = .ok (.iconst 0, 1) := dk_3 (dk_at dksX0_mend_2 21 rfl rfl)
theorem dX0_mend_70 : decode cX0_mend 70 = .ok (.iadd, 1) := dk_96 (dk_at dksX0_mend_2 22 rfl rfl)
theorem dX0_mend_71 : decode cX0_mend 71 = .ok (.istore_n 2, 1) := dk_61 (dk_at dksX0_mend_2 23 rfl rfl)
theorem dX0_mend_72 : decode cX0_mend 72 = .ok (.iinc 3 1, 3) := dk_132 3 1 (dk_at dksX0_mend_3 0 rfl rfl)
theorem dX0_mend_75 : decode cX0_mend 75 = .ok (.goto (-42), 3) := dk_167 255 214 (dk_at dksX0_mend_3 3 rfl rfl)
theorem dX0_mend_78 : decode cX0_mend 78 = .ok (.iload_n 2, 1) := dk_28 (dk_at dksX0_mend_3 6 rfl rfl)
theorem dX0_mend_79 : decode cX0_mend 79 = .ok (.ireturn, 1) := dk_172 (dk_at dksX0_mend_3 7 rfl rfl)
abbrev cX0_stuckAt : ByteArray := prog_1_method_53_code
def yX0_stuckAt : MethodName := ⟨RX0, "stuckAt", "(I)I"⟩
def dkwX0_stuckAt_1 : List UInt8 := [160, 0, 5, 28, 172, 132, 2, 1, 167, 255, 228, 2, 172]
abbrev dktX0_stuckAt_1 : List UInt8 := dkwX0_stuckAt_1 ++ []
def dkwX0_stuckAt_0 : List UInt8 := [3, 61, 28, 42, 180, 0, 12, 180, 0, 144, 27, 46, 162, 0, 21, 42, 27, 28, 182, 1, 8, 2]
abbrev dktX0_stuckAt_0 : List UInt8 := dkwX0_stuckAt_0 ++ dktX0_stuckAt_1
theorem dksX0_stuckAt_0 : cX0_stuckAt.data.toList.drop 0 = dktX0_stuckAt_0 := by decide +kernel
theorem dksX0_stuckAt_1 : cX0_stuckAt.data.toList.drop 22 = dktX0_stuckAt_1 := dk_seg dksX0_stuckAt_0 22 rfl rfl
theorem dX0_stuckAt_0 : decode cX0_stuckAt 0 = .ok (.iconst 0, 1) := dk_3 (dk_at dksX0_stuckAt_0 0 rfl rfl)
theorem dX0_stuckAt_1 : decode cX0_stuckAt 1 = .ok (.istore_n 2, 1) := dk_61 (dk_at dksX0_stuckAt_0 1 rfl rfl)
theorem dX0_stuckAt_2 : decode cX0_stuckAt 2 = .ok (.iload_n 2, 1) := dk_28 (dk_at dksX0_stuckAt_0 2 rfl rfl)
theorem dX0_stuckAt_3 : decode cX0_stuckAt 3 = .ok (.aload_n 0, 1) := dk_42 (dk_at dksX0_stuckAt_0 3 rfl rfl)
theorem dX0_stuckAt_4 : decode cX0_stuckAt 4 = .ok (.getfield 12, 3) := dk_180 0 12 (dk_at dksX0_stuckAt_0 4 rfl rfl)
theorem dX0_stuckAt_7 : decode cX0_stuckAt 7 = .ok (.getfield 144, 3) := dk_180 0 144 (dk_at dksX0_stuckAt_0 7 rfl rfl)
theorem dX0_stuckAt_10 : decode cX0_stuckAt 10 = .ok (.iload_n 1, 1) := dk_27 (dk_at dksX0_stuckAt_0 10 rfl rfl)
theorem dX0_stuckAt_11 : decode cX0_stuckAt 11 = .ok (.iaload, 1) := dk_46 (dk_at dksX0_stuckAt_0 11 rfl rfl)
theorem dX0_stuckAt_12 : decode cX0_stuckAt 12 = .ok (.if_icmp .ge 21, 3) := dk_162 0 21 (dk_at dksX0_stuckAt_0 12 rfl rfl)
theorem dX0_stuckAt_15 : decode cX0_stuckAt 15 = .ok (.aload_n 0, 1) := dk_42 (dk_at dksX0_stuckAt_0 15 rfl rfl)
theorem dX0_stuckAt_16 : decode cX0_stuckAt 16 = .ok (.iload_n 1, 1) := dk_27 (dk_at dksX0_stuckAt_0 16 rfl rfl)
theorem dX0_stuckAt_17 : decode cX0_stuckAt 17 = .ok (.iload_n 2, 1) := dk_28 (dk_at dksX0_stuckAt_0 17 rfl rfl)
theorem dX0_stuckAt_18 : decode cX0_stuckAt 18 = .ok (.invokevirtual 264, 3) := dk_182 1 8 (dk_at dksX0_stuckAt_0 18 rfl rfl)
theorem dX0_stuckAt_21 : decode cX0_stuckAt 21 = .ok (.iconst (-1), 1) := dk_2 (dk_at dksX0_stuckAt_0 21 rfl rfl)
theorem dX0_stuckAt_22 : decode cX0_stuckAt 22 = .ok (.if_icmp .ne 5, 3) := dk_160 0 5 (dk_at dksX0_stuckAt_1 0 rfl rfl)
theorem dX0_stuckAt_25 : decode cX0_stuckAt 25 = .ok (.iload_n 2, 1) := dk_28 (dk_at dksX0_stuckAt_1 3 rfl rfl)
theorem dX0_stuckAt_26 : decode cX0_stuckAt 26 = .ok (.ireturn, 1) := dk_172 (dk_at dksX0_stuckAt_1 4 rfl rfl)
theorem dX0_stuckAt_27 : decode cX0_stuckAt 27 = .ok (.iinc 2 1, 3) := dk_132 2 1 (dk_at dksX0_stuckAt_1 5 rfl rfl)
theorem dX0_stuckAt_30 : decode cX0_stuckAt 30 = .ok (.goto (-28), 3) := dk_167 255 228 (dk_at dksX0_stuckAt_1 8 rfl rfl)
theorem dX0_stuckAt_33 : decode cX0_stuckAt 33 = .ok (.iconst (-1), 1) := dk_2 (dk_at dksX0_stuckAt_1 11 rfl rfl)
theorem dX0_stuckAt_34 : decode cX0_stuckAt 34 = .ok (.ireturn, 1) := dk_172 (dk_at dksX0_stuckAt_1 12 rfl rfl)
abbrev cX0_mendedAt : ByteArray := prog_1_method_52_code
def yX0_mendedAt : MethodName := ⟨RX0, "mendedAt", "(II)I"⟩
def dkwX0_mendedAt_2 : List UInt8 := [132, 3, 1, 167, 255, 235, 2, 172]
abbrev dktX0_mendedAt_2 : List UInt8 := dkwX0_mendedAt_2 ++ []
def dkwX0_mendedAt_1 : List UInt8 := [182, 0, 155, 172, 3, 62, 29, 16, 6, 162, 0, 21, 42, 27, 28, 29, 182, 1, 4, 153, 0, 5, 29, 172]
abbrev dktX0_mendedAt_1 : List UInt8 := dkwX0_mendedAt_1 ++ dktX0_mendedAt_2
def dkwX0_mendedAt_0 : List UInt8 := [42, 27, 28, 42, 180, 0, 12, 27, 28, 182, 0, 155, 182, 1, 4, 153, 0, 13, 42, 180, 0, 12, 27, 28]
abbrev dktX0_mendedAt_0 : List UInt8 := dkwX0_mendedAt_0 ++ dktX0_mendedAt_1
theorem dksX0_mendedAt_0 : cX0_mendedAt.data.toList.drop 0 = dktX0_mendedAt_0 := by decide +kernel
theorem dksX0_mendedAt_1 : cX0_mendedAt.data.toList.drop 24 = dktX0_mendedAt_1 := dk_seg dksX0_mendedAt_0 24 rfl rfl
theorem dksX0_mendedAt_2 : cX0_mendedAt.data.toList.drop 48 = dktX0_mendedAt_2 := dk_seg dksX0_mendedAt_1 24 rfl rfl
theorem dX0_mendedAt_0 : decode cX0_mendedAt 0 = .ok (.aload_n 0, 1) := dk_42 (dk_at dksX0_mendedAt_0 0 rfl rfl)
theorem dX0_mendedAt_1 : decode cX0_mendedAt 1 = .ok (.iload_n 1, 1) := dk_27 (dk_at dksX0_mendedAt_0 1 rfl rfl)
theorem dX0_mendedAt_2 : decode cX0_mendedAt 2 = .ok (.iload_n 2, 1) := dk_28 (dk_at dksX0_mendedAt_0 2 rfl rfl)
theorem dX0_mendedAt_3 : decode cX0_mendedAt 3 = .ok (.aload_n 0, 1) := dk_42 (dk_at dksX0_mendedAt_0 3 rfl rfl)
theorem dX0_mendedAt_4 : decode cX0_mendedAt 4 = .ok (.getfield 12, 3) := dk_180 0 12 (dk_at dksX0_mendedAt_0 4 rfl rfl)
theorem dX0_mendedAt_7 : decode cX0_mendedAt 7 = .ok (.iload_n 1, 1) := dk_27 (dk_at dksX0_mendedAt_0 7 rfl rfl)
theorem dX0_mendedAt_8 : decode cX0_mendedAt 8 = .ok (.iload_n 2, 1) := dk_28 (dk_at dksX0_mendedAt_0 8 rfl rfl)
theorem dX0_mendedAt_9 : decode cX0_mendedAt 9 = .ok (.invokevirtual 155, 3) := dk_182 0 155 (dk_at dksX0_mendedAt_0 9 rfl rfl)
theorem dX0_mendedAt_12 : decode cX0_mendedAt 12 = .ok (.invokevirtual 260, 3) := dk_182 1 4 (dk_at dksX0_mendedAt_0 12 rfl rfl)
theorem dX0_mendedAt_15 : decode cX0_mendedAt 15 = .ok (.ifCond .eq 13, 3) := dk_153 0 13 (dk_at dksX0_mendedAt_0 15 rfl rfl)
theorem dX0_mendedAt_18 : decode cX0_mendedAt 18 = .ok (.aload_n 0, 1) := dk_42 (dk_at dksX0_mendedAt_0 18 rfl rfl)
theorem dX0_mendedAt_19 : decode cX0_mendedAt 19 = .ok (.getfield 12, 3) := dk_180 0 12 (dk_at dksX0_mendedAt_0 19 rfl rfl)
theorem dX0_mendedAt_22 : decode cX0_mendedAt 22 = .ok (.iload_n 1, 1) := dk_27 (dk_at dksX0_mendedAt_0 22 rfl rfl)
theorem dX0_mendedAt_23 : decode cX0_mendedAt 23 = .ok (.iload_n 2, 1) := dk_28 (dk_at dksX0_mendedAt_0 23 rfl rfl)
theorem dX0_mendedAt_24 : decode cX0_mendedAt 24 = .ok (.invokevirtual 155, 3) := dk_182 0 155 (dk_at dksX0_mendedAt_1 0 rfl rfl)
theorem dX0_mendedAt_27 : decode cX0_mendedAt 27 = .ok (.ireturn, 1) := dk_172 (dk_at dksX0_mendedAt_1 3 rfl rfl)
theorem dX0_mendedAt_28 : decode cX0_mendedAt 28 = .ok (.iconst 0, 1) := dk_3 (dk_at dksX0_mendedAt_1 4 rfl rfl)
theorem dX0_mendedAt_29 : decode cX0_mendedAt 29 = .ok (.istore_n 3, 1) := dk_62 (dk_at dksX0_mendedAt_1 5 rfl rfl)
theorem dX0_mendedAt_30 : decode cX0_mendedAt 30 = .ok (.iload_n 3, 1) := dk_29 (dk_at dksX0_mendedAt_1 6 rfl rfl)
theorem dX0_mendedAt_31 : decode cX0_mendedAt 31 = .ok (.bipush 6, 2) := dk_16 6 (dk_at dksX0_mendedAt_1 7 rfl rfl)
theorem dX0_mendedAt_33 : decode cX0_mendedAt 33 = .ok (.if_icmp .ge 21, 3) := dk_162 0 21 (dk_at dksX0_mendedAt_1 9 rfl rfl)
theorem dX0_mendedAt_36 : decode cX0_mendedAt 36 = .ok (.aload_n 0, 1) := dk_42 (dk_at dksX0_mendedAt_1 12 rfl rfl)
theorem dX0_mendedAt_37 : decode cX0_mendedAt 37 = .ok (.iload_n 1, 1) := dk_27 (dk_at dksX0_mendedAt_1 13 rfl rfl)
theorem dX0_mendedAt_38 : decode cX0_mendedAt 38 = .ok (.iload_n 2, 1) := dk_28 (dk_at dksX0_mendedAt_1 14 rfl rfl)
theorem dX0_mendedAt_39 : decode cX0_mendedAt 39 = .ok (.iload_n 3, 1) := dk_29 (dk_at dksX0_mendedAt_1 15 rfl rfl)
theorem dX0_mendedAt_40 : decode cX0_mendedAt 40 = .ok (.invokevirtual 260, 3) := dk_182 1 4 (dk_at dksX0_mendedAt_1 16 rfl rfl)
theorem dX0_mendedAt_43 : decode cX0_mendedAt 43 = .ok (.ifCond .eq 5, 3) := dk_153 0 5 (dk_at dksX0_mendedAt_1 19 rfl rfl)
theorem dX0_mendedAt_46 : decode cX0_mendedAt 46 = .ok (.iload_n 3, 1) := dk_29 (dk_at dksX0_mendedAt_1 22 rfl rfl)
theorem dX0_mendedAt_47 : decode cX0_mendedAt 47 = .ok (.ireturn, 1) := dk_172 (dk_at dksX0_mendedAt_1 23 rfl rfl)
theorem dX0_mendedAt_48 : decode cX0_mendedAt 48 = .ok (.iinc 3 1, 3) := dk_132 3 1 (dk_at dksX0_mendedAt_2 0 rfl rfl)
theorem dX0_mendedAt_51 : decode cX0_mendedAt 51 = .ok (.goto (-21), 3) := dk_167 255 235 (dk_at dksX0_mendedAt_2 3 rfl rfl)
theorem dX0_mendedAt_54 : decode cX0_mendedAt 54 = .ok (.iconst (-1), 1) := dk_2 (dk_at dksX0_mendedAt_2 6 rfl rfl)
theorem dX0_mendedAt_55 : decode cX0_mendedAt 55 = .ok (.ireturn, 1) := dk_172 (dk_at dksX0_mendedAt_2 7 rfl rfl)
abbrev cX0_mayBe : ByteArray := prog_1_method_51_code
def yX0_mayBe : MethodName := ⟨RX0, "mayBe", "(III)Z"⟩
def dkwX0_mayBe_5 : List UInt8 := [153, 0, 5, 3, 172, 132, 5, 1, 167, 255, 144, 4, 172]
abbrev dktX0_mayBe_5 : List UInt8 := dkwX0_mayBe_5 ++ []
def dkwX0_mayBe_4 : List UInt8 := [42, 42, 180, 0, 12, 21, 4, 42, 21, 4, 21, 5, 182, 0, 250, 182, 0, 155, 29, 182, 0, 253]
abbrev dktX0_mayBe_4 : List UInt8 := dkwX0_mayBe_4 ++ dktX0_mayBe_5
def dkwX0_mayBe_3 : List UInt8 := [153, 0, 5, 3, 172, 42, 27, 21, 5, 42, 180, 0, 12, 180, 0, 188, 100, 182, 0, 250, 28, 160, 0, 30]
abbrev dktX0_mayBe_3 : List UInt8 := dkwX0_mayBe_3 ++ dktX0_mayBe_4
def dkwX0_mayBe_2 : List UInt8 := [21, 4, 42, 21, 4, 21, 5, 42, 180, 0, 12, 180, 0, 188, 100, 182, 0, 250, 182, 0, 155, 182, 0, 253]
abbrev dktX0_mayBe_2 : List UInt8 := dkwX0_mayBe_2 ++ dktX0_mayBe_3
def dkwX0_mayBe_1 : List UInt8 := [182, 0, 247, 96, 162, 0, 101, 42, 27, 21, 5, 182, 0, 250, 28, 160, 0, 38, 42, 29, 42, 180, 0, 12]
abbrev dktX0_mayBe_1 : List UInt8 := dkwX0_mayBe_1 ++ dktX0_mayBe_2
def dkwX0_mayBe_0 : List UInt8 := [4, 27, 100, 54, 4, 42, 180, 0, 12, 180, 0, 188, 54, 5, 21, 5, 42, 180, 0, 12, 180, 0, 188, 42]
abbrev dktX0_mayBe_0 : List UInt8 := dkwX0_mayBe_0 ++ dktX0_mayBe_1
theorem dksX0_mayBe_0 : cX0_mayBe.data.toList.drop 0 = dktX0_mayBe_0 := by decide +kernel
theorem dksX0_mayBe_1 : cX0_mayBe.data.toList.drop 24 = dktX0_mayBe_1 := dk_seg dksX0_mayBe_0 24 rfl rfl
theorem dksX0_mayBe_2 : cX0_mayBe.data.toList.drop 48 = dktX0_mayBe_2 := dk_seg dksX0_mayBe_1 24 rfl rfl
theorem dksX0_mayBe_3 : cX0_mayBe.data.toList.drop 72 = dktX0_mayBe_3 := dk_seg dksX0_mayBe_2 24 rfl rfl
theorem dksX0_mayBe_4 : cX0_mayBe.data.toList.drop 96 = dktX0_mayBe_4 := dk_seg dksX0_mayBe_3 24 rfl rfl
theorem dksX0_mayBe_5 : cX0_mayBe.data.toList.drop 118 = dktX0_mayBe_5 := dk_seg dksX0_mayBe_4 22 rfl rfl
theorem dX0_mayBe_0 : decode cX0_mayBe 0 = .ok (.iconst 1, 1) := dk_4 (dk_at dksX0_mayBe_0 0 rfl rfl)
theorem dX0_mayBe_1 : decode cX0_mayBe 1 = .ok (.iload_n 1, 1) := dk_27 (dk_at dksX0_mayBe_0 1 rfl rfl)
theorem dX0_mayBe_2 : decode cX0_mayBe 2 = .ok (.isub, 1) := dk_100 (dk_at dksX0_mayBe_0 2 rfl rfl)
theorem dX0_mayBe_3 : decode cX0_mayBe 3 = .ok (.istore 4, 2) := dk_54 4 (dk_at dksX0_mayBe_0 3 rfl rfl)
theorem dX0_mayBe_5 : decode cX0_mayBe 5 = .ok (.aload_n 0, 1) := dk_42 (dk_at dksX0_mayBe_0 5 rfl rfl)
theorem dX0_mayBe_6 : decode cX0_mayBe 6 = .ok (.getfield 12, 3) := dk_180 0 12 (dk_at dksX0_mayBe_0 6 rfl rfl)
theorem dX0_mayBe_9 : decode cX0_mayBe 9 = .ok (.getfield 188, 3) := dk_180 0 188 (dk_at dksX0_mayBe_0 9 rfl rfl)
theorem dX0_mayBe_12 : decode cX0_mayBe 12 = .ok (.istore 5, 2) := dk_54 5 (dk_at dksX0_mayBe_0 12 rfl rfl)
theorem dX0_mayBe_14 : decode cX0_mayBe 14 = .ok (.iload 5, 2) := dk_21 5 (dk_at dksX0_mayBe_0 14 rfl rfl)
theorem dX0_mayBe_16 : decode cX0_mayBe 16 = .ok (.aload_n 0, 1) := dk_42 (dk_at dksX0_mayBe_0 16 rfl rfl)
theorem dX0_mayBe_17 : decode cX0_mayBe 17 = .ok (.getfield 12, 3) := dk_180 0 12 (dk_at dksX0_mayBe_0 17 rfl rfl)
theorem dX0_mayBe_20 : decode cX0_mayBe 20 = .ok (.getfield 188, 3) := dk_180 0 188 (dk_at dksX0_mayBe_0 20 rfl rfl)
theorem dX0_mayBe_23 : decode cX0_mayBe 23 = .ok (.aload_n 0, 1) := dk_42 (dk_at dksX0_mayBe_0 23 rfl rfl)
theorem dX0_mayBe_24 : decode cX0_mayBe 24 = .ok (.invokevirtual 247, 3) := dk_182 0 247 (dk_at dksX0_mayBe_1 0 rfl rfl)
theorem dX0_mayBe_27 : decode cX0_mayBe 27 = .ok (.iadd, 1) := dk_96 (dk_at dksX0_mayBe_1 3 rfl rfl)
theorem dX0_mayBe_28 : decode cX0_mayBe 28 = .ok (.if_icmp .ge 101, 3) := dk_162 0 101 (dk_at dksX0_mayBe_1 4 rfl rfl)
theorem dX0_mayBe_31 : decode cX0_mayBe 31 = .ok (.aload_n 0, 1) := dk_42 (dk_at dksX0_mayBe_1 7 rfl rfl)
theorem dX0_mayBe_32 : decode cX0_mayBe 32 = .ok (.iload_n 1, 1) := dk_27 (dk_at dksX0_mayBe_1 8 rfl rfl)
theorem dX0_mayBe_33 : decode cX0_mayBe 33 = .ok (.iload 5, 2) := dk_21 5 (dk_at dksX0_mayBe_1 9 rfl rfl)
theorem dX0_mayBe_35 : decode cX0_mayBe 35 = .ok (.invokevirtual 250, 3) := dk_182 0 250 (dk_at dksX0_mayBe_1 11 rfl rfl)
theorem dX0_mayBe_38 : decode cX0_mayBe 38 = .ok (.iload_n 2, 1) := dk_28 (dk_at dksX0_mayBe_1 14 rfl rfl)
theorem dX0_mayBe_39 : decode cX0_mayBe 39 = .ok (.if_icmp .ne 38, 3) := dk_160 0 38 (dk_at dksX0_mayBe_1 15 rfl rfl)
theorem dX0_mayBe_42 : decode cX0_mayBe 42 = .ok (.aload_n 0, 1) := dk_42 (dk_at dksX0_mayBe_1 18 rfl rfl)
theorem dX0_mayBe_43 : decode cX0_mayBe 43 = .ok (.iload_n 3, 1) := dk_29 (dk_at dksX0_mayBe_1 19 rfl rfl)
theorem dX0_mayBe_44 : decode cX0_mayBe 44 = .ok (.aload_n 0, 1) := dk_42 (dk_at dksX0_mayBe_1 20 rfl rfl)
theorem dX0_mayBe_45 : decode cX0_mayBe 45 = .ok (.getfield 12, 3) := dk_180 0 12 (dk_at dksX0_mayBe_1 21 rfl rfl)
theorem dX0_mayBe_48 : decode cX0_mayBe 48 = .ok (.iload 4, 2) := dk_21 4 (dk_at dksX0_mayBe_2 0 rfl rfl)
theorem dX0_mayBe_50 : decode cX0_mayBe 50 = .ok (.aload_n 0, 1) := dk_42 (dk_at dksX0_mayBe_2 2 rfl rfl)
theorem dX0_mayBe_51 : decode cX0_mayBe 51 = .ok (.iload 4, 2) := dk_21 4 (dk_at dksX0_mayBe_2 3 rfl rfl)
theorem dX0_mayBe_53 : decode cX0_mayBe 53 = .ok (.iload 5, 2) := dk_21 5 (dk_at dksX0_mayBe_2 5 rfl rfl)
theorem dX0_mayBe_55 : decode cX0_mayBe 55 = .ok (.aload_n 0, 1) := dk_42 (dk_at dksX0_mayBe_2 7 rfl rfl)
theorem dX0_mayBe_56 : decode cX0_mayBe 56 = .ok (.getfield 12, 3) := dk_180 0 12 (dk_at dksX0_mayBe_2 8 rfl rfl)
theorem dX0_mayBe_59 : decode cX0_mayBe 59 = .ok (.getfield 188, 3) := dk_180 0 188 (dk_at dksX0_mayBe_2 11 rfl rfl)
theorem dX0_mayBe_62 : decode cX0_mayBe 62 = .ok (.isub, 1) := dk_100 (dk_at dksX0_mayBe_2 14 rfl rfl)
theorem dX0_mayBe_63 : decode cX0_mayBe 63 = .ok (.invokevirtual 250, 3) := dk_182 0 250 (dk_at dksX0_mayBe_2 15 rfl rfl)
theorem dX0_mayBe_66 : decode cX0_mayBe 66 = .ok (.invokevirtual 155, 3) := dk_182 0 155 (dk_at dksX0_mayBe_2 18 rfl rfl)
theorem dX0_mayBe_69 : decode cX0_mayBe 69 = .ok (.invokevirtual 253, 3) := dk_182 0 253 (dk_at dksX0_mayBe_2 21 rfl rfl)
theorem dX0_mayBe_72 : decode cX0_mayBe 72 = .ok (.ifCond .eq 5, 3) := dk_153 0 5 (dk_at dksX0_mayBe_3 0 rfl rfl)
theorem dX0_mayBe_75 : decode cX0_mayBe 75 = .ok (.iconst 0, 1) := dk_3 (dk_at dksX0_mayBe_3 3 rfl rfl)
theorem dX0_mayBe_76 : decode cX0_mayBe 76 = .ok (.ireturn, 1) := dk_172 (dk_at dksX0_mayBe_3 4 rfl rfl)
theorem dX0_mayBe_77 : decode cX0_mayBe 77 = .ok (.aload_n 0, 1) := dk_42 (dk_at dksX0_mayBe_3 5 rfl rfl)
theorem dX0_mayBe_78 : decode cX0_mayBe 78 = .ok (.iload_n 1, 1) := dk_27 (dk_at dksX0_mayBe_3 6 rfl rfl)
theorem dX0_mayBe_79 : decode cX0_mayBe 79 = .ok (.iload 5, 2) := dk_21 5 (dk_at dksX0_mayBe_3 7 rfl rfl)
theorem dX0_mayBe_81 : decode cX0_mayBe 81 = .ok (.aload_n 0, 1) := dk_42 (dk_at dksX0_mayBe_3 9 rfl rfl)
theorem dX0_mayBe_82 : decode cX0_mayBe 82 = .ok (.getfield 12, 3) := dk_180 0 12 (dk_at dksX0_mayBe_3 10 rfl rfl)
theorem dX0_mayBe_85 : decode cX0_mayBe 85 = .ok (.getfield 188, 3) := dk_180 0 188 (dk_at dksX0_mayBe_3 13 rfl rfl)
theorem dX0_mayBe_88 : decode cX0_mayBe 88 = .ok (.isub, 1) := dk_100 (dk_at dksX0_mayBe_3 16 rfl rfl)
theorem dX0_mayBe_89 : decode cX0_mayBe 89 = .ok (.invokevirtual 250, 3) := dk_182 0 250 (dk_at dksX0_mayBe_3 17 rfl rfl)
theorem dX0_mayBe_92 : decode cX0_mayBe 92 = .ok (.iload_n 2, 1) := dk_28 (dk_at dksX0_mayBe_3 20 rfl rfl)
theorem dX0_mayBe_93 : decode cX0_mayBe 93 = .ok (.if_icmp .ne 30, 3) := dk_160 0 30 (dk_at dksX0_mayBe_3 21 rfl rfl)
theorem dX0_mayBe_96 : decode cX0_mayBe 96 = .ok (.aload_n 0, 1) := dk_42 (dk_at dksX0_mayBe_4 0 rfl rfl)
theorem dX0_mayBe_97 : decode cX0_mayBe 97 = .ok (.aload_n 0, 1) := dk_42 (dk_at dksX0_mayBe_4 1 rfl rfl)
theorem dX0_mayBe_98 : decode cX0_mayBe 98 = .ok (.getfield 12, 3) := dk_180 0 12 (dk_at dksX0_mayBe_4 2 rfl rfl)
theorem dX0_mayBe_101 : decode cX0_mayBe 101 = .ok (.iload 4, 2) := dk_21 4 (dk_at dksX0_mayBe_4 5 rfl rfl)
theorem dX0_mayBe_103 : decode cX0_mayBe 103 = .ok (.aload_n 0, 1) := dk_42 (dk_at dksX0_mayBe_4 7 rfl rfl)
theorem dX0_mayBe_104 : decode cX0_mayBe 104 = .ok (.iload 4, 2) := dk_21 4 (dk_at dksX0_mayBe_4 8 rfl rfl)
theorem dX0_mayBe_106 : decode cX0_mayBe 106 = .ok (.iload 5, 2) := dk_21 5 (dk_at dksX0_mayBe_4 10 rfl rfl)
theorem dX0_mayBe_108 : decode cX0_mayBe 108 = .ok (.invokevirtual 250, 3) := dk_182 0 250 (dk_at dksX0_mayBe_4 12 rfl rfl)
theorem dX0_mayBe_111 : decode cX0_mayBe 111 = .ok (.invokevirtual 155, 3) := dk_182 0 155 (dk_at dksX0_mayBe_4 15 rfl rfl)
theorem dX0_mayBe_114 : decode cX0_mayBe 114 = .ok (.iload_n 3, 1) := dk_29 (dk_at dksX0_mayBe_4 18 rfl rfl)
theorem dX0_mayBe_115 : decode cX0_mayBe 115 = .ok (.invokevirtual 253, 3) := dk_182 0 253 (dk_at dksX0_mayBe_4 19 rfl rfl)
theorem dX0_mayBe_118 : decode cX0_mayBe 118 = .ok (.ifCond .eq 5, 3) := dk_153 0 5 (dk_at dksX0_mayBe_5 0 rfl rfl)
theorem dX0_mayBe_121 : decode cX0_mayBe 121 = .ok (.iconst 0, 1) := dk_3 (dk_at dksX0_mayBe_5 3 rfl rfl)
theorem dX0_mayBe_122 : decode cX0_mayBe 122 = .ok (.ireturn, 1) := dk_172 (dk_at dksX0_mayBe_5 4 rfl rfl)
theorem dX0_mayBe_123 : decode cX0_mayBe 123 = .ok (.iinc 5 1, 3) := dk_132 5 1 (dk_at dksX0_mayBe_5 5 rfl rfl)
theorem dX0_mayBe_126 : decode cX0_mayBe 126 = .ok (.goto (-112), 3) := dk_167 255 144 (dk_at dksX0_mayBe_5 8 rfl rfl)
theorem dX0_mayBe_129 : decode cX0_mayBe 129 = .ok (.iconst 1, 1) := dk_4 (dk_at dksX0_mayBe_5 11 rfl rfl)
theorem dX0_mayBe_130 : decode cX0_mayBe 130 = .ok (.ireturn, 1) := dk_172 (dk_at dksX0_mayBe_5 12 rfl rfl)
abbrev cX0_mended : ByteArray := prog_1_method_55_code
def yX0_mended : MethodName := ⟨RX0, "mended", "(II)I"⟩
def dkwX0_mended_1 : List UInt8 := [2, 159, 0, 7, 2, 167, 0, 9, 42, 27, 28, 182, 1, 8, 172]
abbrev dktX0_mended_1 : List UInt8 := dkwX0_mended_1 ++ []
def dkwX0_mended_0 : List UInt8 := [42, 27, 28, 182, 0, 152, 153, 0, 10, 42, 182, 0, 244, 154, 0, 6, 16, 254, 172, 42, 27, 182, 1, 11]
abbrev dktX0_mended_0 : List UInt8 := dkwX0_mended_0 ++ dktX0_mended_1
theorem dksX0_mended_0 : cX0_mended.data.toList.drop 0 = dktX0_mended_0 := by decide +kernel
theorem dksX0_mended_1 : cX0_mended.data.toList.drop 24 = dktX0_mended_1 := dk_seg dksX0_mended_0 24 rfl rfl
theorem dX0_mended_0 : decode cX0_mended 0 = .ok (.aload_n 0, 1) := dk_42 (dk_at dksX0_mended_0 0 rfl rfl)
theorem dX0_mended_1 : decode cX0_mended 1 = .ok (.iload_n 1, 1) := dk_27 (dk_at dksX0_mended_0 1 rfl rfl)
theorem dX0_mended_2 : decode cX0_mended 2 = .ok (.iload_n 2, 1) := dk_28 (dk_at dksX0_mended_0 2 rfl rfl)
theorem dX0_mended_3 : decode cX0_mended 3 = .ok (.invokevirtual 152, 3) := dk_182 0 152 (dk_at dksX0_mended_0 3 rfl rfl)
theorem dX0_mended_6 : decode cX0_mended 6 = .ok (.ifCond .eq 10, 3) := dk_153 0 10 (dk_at dksX0_mended_0 6 rfl rfl)
theorem dX0_mended_9 : decode cX0_mended 9 = .ok (.aload_n 0, 1) := dk_42 (dk_at dksX0_mended_0 9 rfl rfl)
theorem dX0_mended_10 : decode cX0_mended 10 = .ok (.invokevirtual 244, 3) := dk_182 0 244 (dk_at dksX0_mended_0 10 rfl rfl)
theorem dX0_mended_13 : decode cX0_mended 13 = .ok (.ifCond .ne 6, 3) := dk_154 0 6 (dk_at dksX0_mended_0 13 rfl rfl)
theorem dX0_mended_16 : decode cX0_mended 16 = .ok (.bipush (-2), 2) := dk_16 254 (dk_at dksX0_mended_0 16 rfl rfl)
theorem dX0_mended_18 : decode cX0_mended 18 = .ok (.ireturn, 1) := dk_172 (dk_at dksX0_mended_0 18 rfl rfl)
theorem dX0_mended_19 : decode cX0_mended 19 = .ok (.aload_n 0, 1) := dk_42 (dk_at dksX0_mended_0 19 rfl rfl)
theorem dX0_mended_20 : decode cX0_mended 20 = .ok (.iload_n 1, 1) := dk_27 (dk_at dksX0_mended_0 20 rfl rfl)
theorem dX0_mended_21 : decode cX0_mended 21 = .ok (.invokevirtual 267, 3) := dk_182 1 11 (dk_at dksX0_mended_0 21 rfl rfl)
theorem dX0_mended_24 : decode cX0_mended 24 = .ok (.iconst (-1), 1) := dk_2 (dk_at dksX0_mended_1 0 rfl rfl)
theorem dX0_mended_25 : decode cX0_mended 25 = .ok (.if_icmp .eq 7, 3) := dk_159 0 7 (dk_at dksX0_mended_1 1 rfl rfl)
theorem dX0_mended_28 : decode cX0_mended 28 = .ok (.iconst (-1), 1) := dk_2 (dk_at dksX0_mended_1 4 rfl rfl)
theorem dX0_mended_29 : decode cX0_mended 29 = .ok (.goto 9, 3) := dk_167 0 9 (dk_at dksX0_mended_1 5 rfl rfl)
theorem dX0_mended_32 : decode cX0_mended 32 = .ok (.aload_n 0, 1) := dk_42 (dk_at dksX0_mended_1 8 rfl rfl)
theorem dX0_mended_33 : decode cX0_mended 33 = .ok (.iload_n 1, 1) := dk_27 (dk_at dksX0_mended_1 9 rfl rfl)
theorem dX0_mended_34 : decode cX0_mended 34 = .ok (.iload_n 2, 1) := dk_28 (dk_at dksX0_mended_1 10 rfl rfl)
theorem dX0_mended_35 : decode cX0_mended 35 = .ok (.invokevirtual 264, 3) := dk_182 1 8 (dk_at dksX0_mended_1 11 rfl rfl)
theorem dX0_mended_38 : decode cX0_mended 38 = .ok (.ireturn, 1) := dk_172 (dk_at dksX0_mended_1 14 rfl rfl)
abbrev cX0_stuck : ByteArray := prog_1_method_56_code
def yX0_stuck : MethodName := ⟨RX0, "stuck", "(I)I"⟩
def dkwX0_stuck_1 : List UInt8 := [16, 254, 172]
abbrev dktX0_stuck_1 : List UInt8 := dkwX0_stuck_1 ++ []
def dkwX0_stuck_0 : List UInt8 := [42, 27, 182, 0, 140, 153, 0, 18, 42, 182, 0, 244, 153, 0, 11, 42, 27, 182, 1, 11, 167, 0, 5]
abbrev dktX0_stuck_0 : List UInt8 := dkwX0_stuck_0 ++ dktX0_stuck_1
theorem dksX0_stuck_0 : cX0_stuck.data.toList.drop 0 = dktX0_stuck_0 := by decide +kernel
theorem dksX0_stuck_1 : cX0_stuck.data.toList.drop 23 = dktX0_stuck_1 := dk_seg dksX0_stuck_0 23 rfl rfl
theorem dX0_stuck_0 : decode cX0_stuck 0 = .ok (.aload_n 0, 1) := dk_42 (dk_at dksX0_stuck_0 0 rfl rfl)
theorem dX0_stuck_1 : decode cX0_stuck 1 = .ok (.iload_n 1, 1) := dk_27 (dk_at dksX0_stuck_0 1 rfl rfl)
theorem dX0_stuck_2 : decode cX0_stuck 2 = .ok (.invokevirtual 140, 3) := dk_182 0 140 (dk_at dksX0_stuck_0 2 rfl rfl)
theorem dX0_stuck_5 : decode cX0_stuck 5 = .ok (.ifCond .eq 18, 3) := dk_153 0 18 (dk_at dksX0_stuck_0 5 rfl rfl)
theorem dX0_stuck_8 : decode cX0_stuck 8 = .ok (.aload_n 0, 1) := dk_42 (dk_at dksX0_stuck_0 8 rfl rfl)
theorem dX0_stuck_9 : decode cX0_stuck 9 = .ok (.invokevirtual 244, 3) := dk_182 0 244 (dk_at dksX0_stuck_0 9 rfl rfl)
theorem dX0_stuck_12 : decode cX0_stuck 12 = .ok (.ifCond .eq 11, 3) := dk_153 0 11 (dk_at dksX0_stuck_0 12 rfl rfl)
theorem dX0_stuck_15 : decode cX0_stuck 15 = .ok (.aload_n 0, 1) := dk_42 (dk_at dksX0_stuck_0 15 rfl rfl)
theorem dX0_stuck_16 : decode cX0_stuck 16 = .ok (.iload_n 1, 1) := dk_27 (dk_at dksX0_stuck_0 16 rfl rfl)
theorem dX0_stuck_17 : decode cX0_stuck 17 = .ok (.invokevirtual 267, 3) := dk_182 1 11 (dk_at dksX0_stuck_0 17 rfl rfl)
theorem dX0_stuck_20 : decode cX0_stuck 20 = .ok (.goto 5, 3) := dk_167 0 5 (dk_at dksX0_stuck_0 20 rfl rfl)
theorem dX0_stuck_23 : decode cX0_stuck 23 = .ok (.bipush (-2), 2) := dk_16 254 (dk_at dksX0_stuck_1 0 rfl rfl)
theorem dX0_stuck_25 : decode cX0_stuck 25 = .ok (.ireturn, 1) := dk_172 (dk_at dksX0_stuck_1 2 rfl rfl)
abbrev cX0_heard : ByteArray := prog_1_method_61_code
def yX0_heard : MethodName := ⟨RX0, "heard", "(II)I"⟩
def dkwX0_heard_0 : List UInt8 := [42, 27, 28, 182, 1, 50, 62, 29, 156, 0, 5, 29, 172, 42, 27, 28, 182, 1, 53, 42, 180, 1, 35, 172]
abbrev dktX0_heard_0 : List UInt8 := dkwX0_heard_0 ++ []
theorem dksX0_heard_0 : cX0_heard.data.toList.drop 0 = dktX0_heard_0 := by decide +kernel
theorem dX0_heard_0 : decode cX0_heard 0 = .ok (.aload_n 0, 1) := dk_42 (dk_at dksX0_heard_0 0 rfl rfl)
theorem dX0_heard_1 : decode cX0_heard 1 = .ok (.iload_n 1, 1) := dk_27 (dk_at dksX0_heard_0 1 rfl rfl)
theorem dX0_heard_2 : decode cX0_heard 2 = .ok (.iload_n 2, 1) := dk_28 (dk_at dksX0_heard_0 2 rfl rfl)
theorem dX0_heard_3 : decode cX0_heard 3 = .ok (.invokevirtual 306, 3) := dk_182 1 50 (dk_at dksX0_heard_0 3 rfl rfl)
theorem dX0_heard_6 : decode cX0_heard 6 = .ok (.istore_n 3, 1) := dk_62 (dk_at dksX0_heard_0 6 rfl rfl)
theorem dX0_heard_7 : decode cX0_heard 7 = .ok (.iload_n 3, 1) := dk_29 (dk_at dksX0_heard_0 7 rfl rfl)
theorem dX0_heard_8 : decode cX0_heard 8 = .ok (.ifCond .ge 5, 3) := dk_156 0 5 (dk_at dksX0_heard_0 8 rfl rfl)
theorem dX0_heard_11 : decode cX0_heard 11 = .ok (.iload_n 3, 1) := dk_29 (dk_at dksX0_heard_0 11 rfl rfl)
theorem dX0_heard_12 : decode cX0_heard 12 = .ok (.ireturn, 1) := dk_172 (dk_at dksX0_heard_0 12 rfl rfl)
theorem dX0_heard_13 : decode cX0_heard 13 = .ok (.aload_n 0, 1) := dk_42 (dk_at dksX0_heard_0 13 rfl rfl)
theorem dX0_heard_14 : decode cX0_heard 14 = .ok (.iload_n 1, 1) := dk_27 (dk_at dksX0_heard_0 14 rfl rfl)
theorem dX0_heard_15 : decode cX0_heard 15 = .ok (.iload_n 2, 1) := dk_28 (dk_at dksX0_heard_0 15 rfl rfl)
theorem dX0_heard_16 : decode cX0_heard 16 = .ok (.invokevirtual 309, 3) := dk_182 1 53 (dk_at dksX0_heard_0 16 rfl rfl)
theorem dX0_heard_19 : decode cX0_heard 19 = .ok (.aload_n 0, 1) := dk_42 (dk_at dksX0_heard_0 19 rfl rfl)
theorem dX0_heard_20 : decode cX0_heard 20 = .ok (.getfield 291, 3) := dk_180 1 35 (dk_at dksX0_heard_0 20 rfl rfl)
theorem dX0_heard_23 : decode cX0_heard 23 = .ok (.ireturn, 1) := dk_172 (dk_at dksX0_heard_0 23 rfl rfl)
abbrev cX0_asksHeard : ByteArray := prog_1_method_58_code
def yX0_asksHeard : MethodName := ⟨RX0, "asksHeard", "(II)I"⟩
def dkwX0_asksHeard_4 : List UInt8 := [132, 4, 2, 167, 255, 198, 3, 172, 78, 16, 250, 172]
abbrev dktX0_asksHeard_4 : List UInt8 := dkwX0_asksHeard_4 ++ []
def dkwX0_asksHeard_3 : List UInt8 := [148, 153, 0, 22, 42, 42, 27, 21, 4, 4, 96, 182, 1, 24, 182, 0, 159, 154, 0, 6, 16, 254, 172]
abbrev dktX0_asksHeard_3 : List UInt8 := dkwX0_asksHeard_3 ++ dktX0_asksHeard_4
def dkwX0_asksHeard_2 : List UInt8 := [27, 21, 4, 182, 1, 24, 182, 0, 181, 153, 0, 35, 42, 27, 21, 4, 4, 96, 182, 1, 24, 20, 1, 28]
abbrev dktX0_asksHeard_2 : List UInt8 := dkwX0_asksHeard_2 ++ dktX0_asksHeard_3
def dkwX0_asksHeard_1 : List UInt8 := [182, 1, 21, 62, 29, 5, 112, 153, 0, 6, 16, 254, 172, 3, 54, 4, 21, 4, 29, 162, 0, 58, 42, 42]
abbrev dktX0_asksHeard_1 : List UInt8 := dkwX0_asksHeard_1 ++ dktX0_asksHeard_2
def dkwX0_asksHeard_0 : List UInt8 := [27, 184, 1, 18, 153, 0, 11, 42, 28, 182, 0, 140, 154, 0, 6, 16, 254, 172, 42, 180, 0, 85, 27, 50]
abbrev dktX0_asksHeard_0 : List UInt8 := dkwX0_asksHeard_0 ++ dktX0_asksHeard_1
theorem dksX0_asksHeard_0 : cX0_asksHeard.data.toList.drop 0 = dktX0_asksHeard_0 := by decide +kernel
theorem dksX0_asksHeard_1 : cX0_asksHeard.data.toList.drop 24 = dktX0_asksHeard_1 := dk_seg dksX0_asksHeard_0 24 rfl rfl
theorem dksX0_asksHeard_2 : cX0_asksHeard.data.toList.drop 48 = dktX0_asksHeard_2 := dk_seg dksX0_asksHeard_1 24 rfl rfl
theorem dksX0_asksHeard_3 : cX0_asksHeard.data.toList.drop 72 = dktX0_asksHeard_3 := dk_seg dksX0_asksHeard_2 24 rfl rfl
theorem dksX0_asksHeard_4 : cX0_asksHeard.data.toList.drop 95 = dktX0_asksHeard_4 := dk_seg dksX0_asksHeard_3 23 rfl rfl
theorem dX0_asksHeard_0 : decode cX0_asksHeard 0 = .ok (.iload_n 1, 1) := dk_27 (dk_at dksX0_asksHeard_0 0 rfl rfl)
theorem dX0_asksHeard_1 : decode cX0_asksHeard 1 = .ok (.invokestatic 274, 3) := dk_184 1 18 (dk_at dksX0_asksHeard_0 1 rfl rfl)
theorem dX0_asksHeard_4 : decode cX0_asksHeard 4 = .ok (.ifCond .eq 11, 3) := dk_153 0 11 (dk_at dksX0_asksHeard_0 4 rfl rfl)
theorem dX0_asksHeard_7 : decode cX0_asksHeard 7 = .ok (.aload_n 0, 1) := dk_42 (dk_at dksX0_asksHeard_0 7 rfl rfl)
theorem dX0_asksHeard_8 : decode cX0_asksHeard 8 = .ok (.iload_n 2, 1) := dk_28 (dk_at dksX0_asksHeard_0 8 rfl rfl)
theorem dX0_asksHeard_9 : decode cX0_asksHeard 9 = .ok (.invokevirtual 140, 3) := dk_182 0 140 (dk_at dksX0_asksHeard_0 9 rfl rfl)
theorem dX0_asksHeard_12 : decode cX0_asksHeard 12 = .ok (.ifCond .ne 6, 3) := dk_154 0 6 (dk_at dksX0_asksHeard_0 12 rfl rfl)
theorem dX0_asksHeard_15 : decode cX0_asksHeard 15 = .ok (.bipush (-2), 2) := dk_16 254 (dk_at dksX0_asksHeard_0 15 rfl rfl)
theorem dX0_asksHeard_17 : decode cX0_asksHeard 17 = .ok (.ireturn, 1) := dk_172 (dk_at dksX0_asksHeard_0 17 rfl rfl)
theorem dX0_asksHeard_18 : decode cX0_asksHeard 18 = .ok (.aload_n 0, 1) := dk_42 (dk_at dksX0_asksHeard_0 18 rfl rfl)
theorem dX0_asksHeard_19 : decode cX0_asksHeard 19 = .ok (.getfield 85, 3) := dk_180 0 85 (dk_at dksX0_asksHeard_0 19 rfl rfl)
theorem dX0_asksHeard_22 : decode cX0_asksHeard 22 = .ok (.iload_n 1, 1) := dk_27 (dk_at dksX0_asksHeard_0 22 rfl rfl)
theorem dX0_asksHeard_23 : decode cX0_asksHeard 23 = .ok (.aaload, 1) := dk_50 (dk_at dksX0_asksHeard_0 23 rfl rfl)
theorem dX0_asksHeard_24 : decode cX0_asksHeard 24 = .ok (.invokevirtual 277, 3) := dk_182 1 21 (dk_at dksX0_asksHeard_1 0 rfl rfl)
theorem dX0_asksHeard_27 : decode cX0_asksHeard 27 = .ok (.istore_n 3, 1) := dk_62 (dk_at dksX0_asksHeard_1 3 rfl rfl)
theorem dX0_asksHeard_28 : decode cX0_asksHeard 28 = .ok (.iload_n 3, 1) := dk_29 (dk_at dksX0_asksHeard_1 4 rfl rfl)
theorem dX0_asksHeard_29 : decode cX0_asksHeard 29 = .ok (.iconst 2, 1) := dk_5 (dk_at dksX0_asksHeard_1 5 rfl rfl)
theorem dX0_asksHeard_30 : decode cX0_asksHeard 30 = .ok (.irem, 1) := dk_112 (dk_at dksX0_asksHeard_1 6 rfl rfl)
theorem dX0_asksHeard_31 : decode cX0_asksHeard 31 = .ok (.ifCond .eq 6, 3) := dk_153 0 6 (dk_at dksX0_asksHeard_1 7 rfl rfl)
theorem dX0_asksHeard_34 : decode cX0_asksHeard 34 = .ok (.bipush (-2), 2) := dk_16 254 (dk_at dksX0_asksHeard_1 10 rfl rfl)
theorem dX0_asksHeard_36 : decode cX0_asksHeard 36 = .ok (.ireturn, 1) := dk_172 (dk_at dksX0_asksHeard_1 12 rfl rfl)
theorem dX0_asksHeard_37 : decode cX0_asksHeard 37 = .ok (.iconst 0, 1) := dk_3 (dk_at dksX0_asksHeard_1 13 rfl rfl)
theorem dX0_asksHeard_38 : decode cX0_asksHeard 38 = .ok (.istore 4, 2) := dk_54 4 (dk_at dksX0_asksHeard_1 14 rfl rfl)
theorem dX0_asksHeard_40 : decode cX0_asksHeard 40 = .ok (.iload 4, 2) := dk_21 4 (dk_at dksX0_asksHeard_1 16 rfl rfl)
theorem dX0_asksHeard_42 : decode cX0_asksHeard 42 = .ok (.iload_n 3, 1) := dk_29 (dk_at dksX0_asksHeard_1 18 rfl rfl)
theorem dX0_asksHeard_43 : decode cX0_asksHeard 43 = .ok (.if_icmp .ge 58, 3) := dk_162 0 58 (dk_at dksX0_asksHeard_1 19 rfl rfl)
theorem dX0_asksHeard_46 : decode cX0_asksHeard 46 = .ok (.aload_n 0, 1) := dk_42 (dk_at dksX0_asksHeard_1 22 rfl rfl)
theorem dX0_asksHeard_47 : decode cX0_asksHeard 47 = .ok (.aload_n 0, 1) := dk_42 (dk_at dksX0_asksHeard_1 23 rfl rfl)
theorem dX0_asksHeard_48 : decode cX0_asksHeard 48 = .ok (.iload_n 1, 1) := dk_27 (dk_at dksX0_asksHeard_2 0 rfl rfl)
theorem dX0_asksHeard_49 : decode cX0_asksHeard 49 = .ok (.iload 4, 2) := dk_21 4 (dk_at dksX0_asksHeard_2 1 rfl rfl)
theorem dX0_asksHeard_51 : decode cX0_asksHeard 51 = .ok (.invokevirtual 280, 3) := dk_182 1 24 (dk_at dksX0_asksHeard_2 3 rfl rfl)
theorem dX0_asksHeard_54 : decode cX0_asksHeard 54 = .ok (.invokevirtual 181, 3) := dk_182 0 181 (dk_at dksX0_asksHeard_2 6 rfl rfl)
theorem dX0_asksHeard_57 : decode cX0_asksHeard 57 = .ok (.ifCond .eq 35, 3) := dk_153 0 35 (dk_at dksX0_asksHeard_2 9 rfl rfl)
theorem dX0_asksHeard_60 : decode cX0_asksHeard 60 = .ok (.aload_n 0, 1) := dk_42 (dk_at dksX0_asksHeard_2 12 rfl rfl)
theorem dX0_asksHeard_61 : decode cX0_asksHeard 61 = .ok (.iload_n 1, 1) := dk_27 (dk_at dksX0_asksHeard_2 13 rfl rfl)
theorem dX0_asksHeard_62 : decode cX0_asksHeard 62 = .ok (.iload 4, 2) := dk_21 4 (dk_at dksX0_asksHeard_2 14 rfl rfl)
theorem dX0_asksHeard_64 : decode cX0_asksHeard 64 = .ok (.iconst 1, 1) := dk_4 (dk_at dksX0_asksHeard_2 16 rfl rfl)
theorem dX0_asksHeard_65 : decode cX0_asksHeard 65 = .ok (.iadd, 1) := dk_96 (dk_at dksX0_asksHeard_2 17 rfl rfl)
theorem dX0_asksHeard_66 : decode cX0_asksHeard 66 = .ok (.invokevirtual 280, 3) := dk_182 1 24 (dk_at dksX0_asksHeard_2 18 rfl rfl)
theorem dX0_asksHeard_69 : decode cX0_asksHeard 69 = .ok (.ldc2_w 284, 3) := dk_20 1 28 (dk_at dksX0_asksHeard_2 21 rfl rfl)
theorem dX0_asksHeard_72 : decode cX0_asksHeard 72 = .ok (.lcmp, 1) := dk_148 (dk_at dksX0_asksHeard_3 0 rfl rfl)
theorem dX0_asksHeard_73 : decode cX0_asksHeard 73 = .ok (.ifCond .eq 22, 3) := dk_153 0 22 (dk_at dksX0_asksHeard_3 1 rfl rfl)
theorem dX0_asksHeard_76 : decode cX0_asksHeard 76 = .ok (.aload_n 0, 1) := dk_42 (dk_at dksX0_asksHeard_3 4 rfl rfl)
theorem dX0_asksHeard_77 : decode cX0_asksHeard 77 = .ok (.aload_n 0, 1) := dk_42 (dk_at dksX0_asksHeard_3 5 rfl rfl)
theorem dX0_asksHeard_78 : decode cX0_asksHeard 78 = .ok (.iload_n 1, 1) := dk_27 (dk_at dksX0_asksHeard_3 6 rfl rfl)
theorem dX0_asksHeard_79 : decode cX0_asksHeard 79 = .ok (.iload 4, 2) := dk_21 4 (dk_at dksX0_asksHeard_3 7 rfl rfl)
theorem dX0_asksHeard_81 : decode cX0_asksHeard 81 = .ok (.iconst 1, 1) := dk_4 (dk_at dksX0_asksHeard_3 9 rfl rfl)
theorem dX0_asksHeard_82 : decode cX0_asksHeard 82 = .ok (.iadd, 1) := dk_96 (dk_at dksX0_asksHeard_3 10 rfl rfl)
theorem dX0_asksHeard_83 : decode cX0_asksHeard 83 = .ok (.invokevirtual 280, 3) := dk_182 1 24 (dk_at dksX0_asksHeard_3 11 rfl rfl)
theorem dX0_asksHeard_86 : decode cX0_asksHeard 86 = .ok (.invokevirtual 159, 3) := dk_182 0 159 (dk_at dksX0_asksHeard_3 14 rfl rfl)
theorem dX0_asksHeard_89 : decode cX0_asksHeard 89 = .ok (.ifCond .ne 6, 3) := dk_154 0 6 (dk_at dksX0_asksHeard_3 17 rfl rfl)
theorem dX0_asksHeard_92 : decode cX0_asksHeard 92 = .ok (.bipush (-2), 2) := dk_16 254 (dk_at dksX0_asksHeard_3 20 rfl rfl)
theorem dX0_asksHeard_94 : decode cX0_asksHeard 94 = .ok (.ireturn, 1) := dk_172 (dk_at dksX0_asksHeard_3 22 rfl rfl)
theorem dX0_asksHeard_95 : decode cX0_asksHeard 95 = .ok (.iinc 4 2, 3) := dk_132 4 2 (dk_at dksX0_asksHeard_4 0 rfl rfl)
theorem dX0_asksHeard_98 : decode cX0_asksHeard 98 = .ok (.goto (-58), 3) := dk_167 255 198 (dk_at dksX0_asksHeard_4 3 rfl rfl)
theorem dX0_asksHeard_101 : decode cX0_asksHeard 101 = .ok (.iconst 0, 1) := dk_3 (dk_at dksX0_asksHeard_4 6 rfl rfl)
theorem dX0_asksHeard_102 : decode cX0_asksHeard 102 = .ok (.ireturn, 1) := dk_172 (dk_at dksX0_asksHeard_4 7 rfl rfl)
theorem dX0_asksHeard_103 : decode cX0_asksHeard 103 = .ok (.astore_n 3, 1) := dk_78 (dk_at dksX0_asksHeard_4 8 rfl rfl)
theorem dX0_asksHeard_104 : decode cX0_asksHeard 104 = .ok (.bipush (-6), 2) := dk_16 250 (dk_at dksX0_asksHeard_4 9 rfl rfl)
theorem dX0_asksHeard_106 : decode cX0_asksHeard 106 = .ok (.ireturn, 1) := dk_172 (dk_at dksX0_asksHeard_4 11 rfl rfl)
abbrev cX0_isSlot : ByteArray := prog_1_method_114_code
def yX0_isSlot : MethodName := ⟨RX0, "isSlot", "(I)Z"⟩
def dkwX0_isSlot_0 : List UInt8 := [26, 133, 9, 20, 1, 230, 184, 0, 103, 172]
abbrev dktX0_isSlot_0 : List UInt8 := dkwX0_isSlot_0 ++ []
theorem dksX0_isSlot_0 : cX0_isSlot.data.toList.drop 0 = dktX0_isSlot_0 := by decide +kernel
theorem dX0_isSlot_0 : decode cX0_isSlot 0 = .ok (.iload_n 0, 1) := dk_26 (dk_at dksX0_isSlot_0 0 rfl rfl)
theorem dX0_isSlot_1 : decode cX0_isSlot 1 = .ok (.i2l, 1) := dk_133 (dk_at dksX0_isSlot_0 1 rfl rfl)
theorem dX0_isSlot_2 : decode cX0_isSlot 2 = .ok (.lconst 0, 1) := dk_9 (dk_at dksX0_isSlot_0 2 rfl rfl)
theorem dX0_isSlot_3 : decode cX0_isSlot 3 = .ok (.ldc2_w 486, 3) := dk_20 1 230 (dk_at dksX0_isSlot_0 3 rfl rfl)
theorem dX0_isSlot_6 : decode cX0_isSlot 6 = .ok (.invokestatic 103, 3) := dk_184 0 103 (dk_at dksX0_isSlot_0 6 rfl rfl)
theorem dX0_isSlot_9 : decode cX0_isSlot 9 = .ok (.ireturn, 1) := dk_172 (dk_at dksX0_isSlot_0 9 rfl rfl)
abbrev cX0_number : ByteArray := prog_1_method_57_code
def yX0_number : MethodName := ⟨RX0, "number", "(II)J"⟩
def dkwX0_number_0 : List UInt8 := [42, 180, 0, 85, 27, 50, 28, 182, 1, 14, 173]
abbrev dktX0_number_0 : List UInt8 := dkwX0_number_0 ++ []
theorem dksX0_number_0 : cX0_number.data.toList.drop 0 = dktX0_number_0 := by decide +kernel
theorem dX0_number_0 : decode cX0_number 0 = .ok (.aload_n 0, 1) := dk_42 (dk_at dksX0_number_0 0 rfl rfl)
theorem dX0_number_1 : decode cX0_number 1 = .ok (.getfield 85, 3) := dk_180 0 85 (dk_at dksX0_number_0 1 rfl rfl)
theorem dX0_number_4 : decode cX0_number 4 = .ok (.iload_n 1, 1) := dk_27 (dk_at dksX0_number_0 4 rfl rfl)
theorem dX0_number_5 : decode cX0_number 5 = .ok (.aaload, 1) := dk_50 (dk_at dksX0_number_0 5 rfl rfl)
theorem dX0_number_6 : decode cX0_number 6 = .ok (.iload_n 2, 1) := dk_28 (dk_at dksX0_number_0 6 rfl rfl)
theorem dX0_number_7 : decode cX0_number 7 = .ok (.invokevirtual 270, 3) := dk_182 1 14 (dk_at dksX0_number_0 7 rfl rfl)
theorem dX0_number_10 : decode cX0_number 10 = .ok (.lreturn, 1) := dk_173 (dk_at dksX0_number_0 10 rfl rfl)
abbrev cX0_findsStumbles : ByteArray := prog_1_method_60_code
def yX0_findsStumbles : MethodName := ⟨RX0, "findsStumbles", "(II)V"⟩
def dkwX0_findsStumbles_7 : List UInt8 := [132, 3, 1, 167, 255, 131, 177]
abbrev dktX0_findsStumbles_7 : List UInt8 := dkwX0_findsStumbles_7 ++ []
def dkwX0_findsStumbles_6 : List UInt8 := [21, 4, 104, 42, 28, 21, 4, 182, 0, 194, 96, 4, 96, 92, 46, 4, 96, 79, 132, 4, 1, 167, 255, 222]
abbrev dktX0_findsStumbles_6 : List UInt8 := dkwX0_findsStumbles_6 ++ dktX0_findsStumbles_7
def dkwX0_findsStumbles_5 : List UInt8 := [16, 60, 108, 121, 129, 181, 1, 41, 3, 54, 4, 21, 4, 16, 80, 162, 0, 33, 42, 180, 0, 61, 16, 7]
abbrev dktX0_findsStumbles_5 : List UInt8 := dkwX0_findsStumbles_5 ++ dktX0_findsStumbles_6
def dkwX0_findsStumbles_4 : List UInt8 := [180, 1, 38, 181, 1, 38, 42, 89, 180, 1, 41, 29, 154, 0, 7, 9, 167, 0, 11, 10, 29, 4, 100]
abbrev dktX0_findsStumbles_4 : List UInt8 := dkwX0_findsStumbles_4 ++ dktX0_findsStumbles_5
def dkwX0_findsStumbles_3 : List UInt8 := [89, 180, 1, 35, 4, 96, 181, 1, 35, 42, 42, 180, 1, 38, 2, 160, 0, 7, 29, 167, 0, 7, 42]
abbrev dktX0_findsStumbles_3 : List UInt8 := dkwX0_findsStumbles_3 ++ dktX0_findsStumbles_4
def dkwX0_findsStumbles_2 : List UInt8 := [162, 0, 124, 42, 180, 0, 57, 29, 181, 1, 45, 42, 27, 28, 182, 1, 47, 154, 0, 6, 167, 0, 98, 42]
abbrev dktX0_findsStumbles_2 : List UInt8 := dkwX0_findsStumbles_2 ++ dktX0_findsStumbles_3
def dkwX0_findsStumbles_1 : List UInt8 := [162, 0, 16, 42, 180, 0, 61, 29, 3, 79, 132, 3, 1, 167, 255, 237, 3, 62, 29, 17, 14, 17]
abbrev dktX0_findsStumbles_1 : List UInt8 := dkwX0_findsStumbles_1 ++ dktX0_findsStumbles_2
def dkwX0_findsStumbles_0 : List UInt8 := [42, 3, 181, 1, 35, 42, 2, 181, 1, 38, 42, 9, 181, 1, 41, 3, 62, 29, 42, 180, 0, 61, 190]
abbrev dktX0_findsStumbles_0 : List UInt8 := dkwX0_findsStumbles_0 ++ dktX0_findsStumbles_1
theorem dksX0_findsStumbles_0 : cX0_findsStumbles.data.toList.drop 0 = dktX0_findsStumbles_0 := by decide +kernel
theorem dksX0_findsStumbles_1 : cX0_findsStumbles.data.toList.drop 23 = dktX0_findsStumbles_1 := dk_seg dksX0_findsStumbles_0 23 rfl rfl
theorem dksX0_findsStumbles_2 : cX0_findsStumbles.data.toList.drop 45 = dktX0_findsStumbles_2 := dk_seg dksX0_findsStumbles_1 22 rfl rfl
theorem dksX0_findsStumbles_3 : cX0_findsStumbles.data.toList.drop 69 = dktX0_findsStumbles_3 := dk_seg dksX0_findsStumbles_2 24 rfl rfl
theorem dksX0_findsStumbles_4 : cX0_findsStumbles.data.toList.drop 92 = dktX0_findsStumbles_4 := dk_seg dksX0_findsStumbles_3 23 rfl rfl
theorem dksX0_findsStumbles_5 : cX0_findsStumbles.data.toList.drop 115 = dktX0_findsStumbles_5 := dk_seg dksX0_findsStumbles_4 23 rfl rfl
theorem dksX0_findsStumbles_6 : cX0_findsStumbles.data.toList.drop 139 = dktX0_findsStumbles_6 := dk_seg dksX0_findsStumbles_5 24 rfl rfl
theorem dksX0_findsStumbles_7 : cX0_findsStumbles.data.toList.drop 163 = dktX0_findsStumbles_7 := dk_seg dksX0_findsStumbles_6 24 rfl rfl
theorem dX0_findsStumbles_0 : decode cX0_findsStumbles 0 = .ok (.aload_n 0, 1) := dk_42 (dk_at dksX0_findsStumbles_0 0 rfl rfl)
theorem dX0_findsStumbles_1 : decode cX0_findsStumbles 1 = .ok (.iconst 0, 1) := dk_3 (dk_at dksX0_findsStumbles_0 1 rfl rfl)
theorem dX0_findsStumbles_2 : decode cX0_findsStumbles 2 = .ok (.putfield 291, 3) := dk_181 1 35 (dk_at dksX0_findsStumbles_0 2 rfl rfl)
theorem dX0_findsStumbles_5 : decode cX0_findsStumbles 5 = .ok (.aload_n 0, 1) := dk_42 (dk_at dksX0_findsStumbles_0 5 rfl rfl)
theorem dX0_findsStumbles_6 : decode cX0_findsStumbles 6 = .ok (.iconst (-1), 1) := dk_2 (dk_at dksX0_findsStumbles_0 6 rfl rfl)
theorem dX0_findsStumbles_7 : decode cX0_findsStumbles 7 = .ok (.putfield 294, 3) := dk_181 1 38 (dk_at dksX0_findsStumbles_0 7 rfl rfl)
theorem dX0_findsStumbles_10 : decode cX0_findsStumbles 10 = .ok (.aload_n 0, 1) := dk_42 (dk_at dksX0_findsStumbles_0 10 rfl rfl)
theorem dX0_findsStumbles_11 : decode cX0_findsStumbles 11 = .ok (.lconst 0, 1) := dk_9 (dk_at dksX0_findsStumbles_0 11 rfl rfl)
theorem dX0_findsStumbles_12 : decode cX0_findsStumbles 12 = .ok (.putfield 297, 3) := dk_181 1 41 (dk_at dksX0_findsStumbles_0 12 rfl rfl)
theorem dX0_findsStumbles_15 : decode cX0_findsStumbles 15 = .ok (.iconst 0, 1) := dk_3 (dk_at dksX0_findsStumbles_0 15 rfl rfl)
theorem dX0_findsStumbles_16 : decode cX0_findsStumbles 16 = .ok (.istore_n 3, 1) := dk_62 (dk_at dksX0_findsStumbles_0 16 rfl rfl)
theorem dX0_findsStumbles_17 : decode cX0_findsStumbles 17 = .ok (.iload_n 3, 1) := dk_29 (dk_at dksX0_findsStumbles_0 17 rfl rfl)
theorem dX0_findsStumbles_18 : decode cX0_findsStumbles 18 = .ok (.aload_n 0, 1) := dk_42 (dk_at dksX0_findsStumbles_0 18 rfl rfl)
theorem dX0_findsStumbles_19 : decode cX0_findsStumbles 19 = .ok (.getfield 61, 3) := dk_180 0 61 (dk_at dksX0_findsStumbles_0 19 rfl rfl)
theorem dX0_findsStumbles_22 : decode cX0_findsStumbles 22 = .ok (.arraylength, 1) := dk_190 (dk_at dksX0_findsStumbles_0 22 rfl rfl)
theorem dX0_findsStumbles_23 : decode cX0_findsStumbles 23 = .ok (.if_icmp .ge 16, 3) := dk_162 0 16 (dk_at dksX0_findsStumbles_1 0 rfl rfl)
theorem dX0_findsStumbles_26 : decode cX0_findsStumbles 26 = .ok (.aload_n 0, 1) := dk_42 (dk_at dksX0_findsStumbles_1 3 rfl rfl)
theorem dX0_findsStumbles_27 : decode cX0_findsStumbles 27 = .ok (.getfield 61, 3) := dk_180 0 61 (dk_at dksX0_findsStumbles_1 4 rfl rfl)
theorem dX0_findsStumbles_30 : decode cX0_findsStumbles 30 = .ok (.iload_n 3, 1) := dk_29 (dk_at dksX0_findsStumbles_1 7 rfl rfl)
theorem dX0_findsStumbles_31 : decode cX0_findsStumbles 31 = .ok (.iconst 0, 1) := dk_3 (dk_at dksX0_findsStumbles_1 8 rfl rfl)
theorem dX0_findsStumbles_32 : decode cX0_findsStumbles 32 = .ok (.iastore, 1) := dk_79 (dk_at dksX0_findsStumbles_1 9 rfl rfl)
theorem dX0_findsStumbles_33 : decode cX0_findsStumbles 33 = .ok (.iinc 3 1, 3) := dk_132 3 1 (dk_at dksX0_findsStumbles_1 10 rfl rfl)
theorem dX0_findsStumbles_36 : decode cX0_findsStumbles 36 = .ok (.goto (-19), 3) := dk_167 255 237 (dk_at dksX0_findsStumbles_1 13 rfl rfl)
theorem dX0_findsStumbles_39 : decode cX0_findsStumbles 39 = .ok (.iconst 0, 1) := dk_3 (dk_at dksX0_findsStumbles_1 16 rfl rfl)
theorem dX0_findsStumbles_40 : decode cX0_findsStumbles 40 = .ok (.istore_n 3, 1) := dk_62 (dk_at dksX0_findsStumbles_1 17 rfl rfl)
theorem dX0_findsStumbles_41 : decode cX0_findsStumbles 41 = .ok (.iload_n 3, 1) := dk_29 (dk_at dksX0_findsStumbles_1 18 rfl rfl)
theorem dX0_findsStumbles_42 : decode cX0_findsStumbles 42 = .ok (.sipush 3601, 3) := dk_17 14 17 (dk_at dksX0_findsStumbles_1 19 rfl rfl)
theorem dX0_findsStumbles_45 : decode cX0_findsStumbles 45 = .ok (.if_icmp .ge 124, 3) := dk_162 0 124 (dk_at dksX0_findsStumbles_2 0 rfl rfl)
theorem dX0_findsStumbles_48 : decode cX0_findsStumbles 48 = .ok (.aload_n 0, 1) := dk_42 (dk_at dksX0_findsStumbles_2 3 rfl rfl)
theorem dX0_findsStumbles_49 : decode cX0_findsStumbles 49 = .ok (.getfield 57, 3) := dk_180 0 57 (dk_at dksX0_findsStumbles_2 4 rfl rfl)
theorem dX0_findsStumbles_52 : decode cX0_findsStumbles 52 = .ok (.iload_n 3, 1) := dk_29 (dk_at dksX0_findsStumbles_2 7 rfl rfl)
theorem dX0_findsStumbles_53 : decode cX0_findsStumbles 53 = .ok (.putfield 301, 3) := dk_181 1 45 (dk_at dksX0_findsStumbles_2 8 rfl rfl)
theorem dX0_findsStumbles_56 : decode cX0_findsStumbles 56 = .ok (.aload_n 0, 1) := dk_42 (dk_at dksX0_findsStumbles_2 11 rfl rfl)
theorem dX0_findsStumbles_57 : decode cX0_findsStumbles 57 = .ok (.iload_n 1, 1) := dk_27 (dk_at dksX0_findsStumbles_2 12 rfl rfl)
theorem dX0_findsStumbles_58 : decode cX0_findsStumbles 58 = .ok (.iload_n 2, 1) := dk_28 (dk_at dksX0_findsStumbles_2 13 rfl rfl)
theorem dX0_findsStumbles_59 : decode cX0_findsStumbles 59 = .ok (.invokevirtual 303, 3) := dk_182 1 47 (dk_at dksX0_findsStumbles_2 14 rfl rfl)
theorem dX0_findsStumbles_62 : decode cX0_findsStumbles 62 = .ok (.ifCond .ne 6, 3) := dk_154 0 6 (dk_at dksX0_findsStumbles_2 17 rfl rfl)
theorem dX0_findsStumbles_65 : decode cX0_findsStumbles 65 = .ok (.goto 98, 3) := dk_167 0 98 (dk_at dksX0_findsStumbles_2 20 rfl rfl)
theorem dX0_findsStumbles_68 : decode cX0_findsStumbles 68 = .ok (.aload_n 0, 1) := dk_42 (dk_at dksX0_findsStumbles_2 23 rfl rfl)
theorem dX0_findsStumbles_69 : decode cX0_findsStumbles 69 = .ok (.dup, 1) := dk_89 (dk_at dksX0_findsStumbles_3 0 rfl rfl)
theorem dX0_findsStumbles_70 : decode cX0_findsStumbles 70 = .ok (.getfield 291, 3) := dk_180 1 35 (dk_at dksX0_findsStumbles_3 1 rfl rfl)
theorem dX0_findsStumbles_73 : decode cX0_findsStumbles 73 = .ok (.iconst 1, 1) := dk_4 (dk_at dksX0_findsStumbles_3 4 rfl rfl)
theorem dX0_findsStumbles_74 : decode cX0_findsStumbles 74 = .ok (.iadd, 1) := dk_96 (dk_at dksX0_findsStumbles_3 5 rfl rfl)
theorem dX0_findsStumbles_75 : decode cX0_findsStumbles 75 = .ok (.putfield 291, 3) := dk_181 1 35 (dk_at dksX0_findsStumbles_3 6 rfl rfl)
theorem dX0_findsStumbles_78 : decode cX0_findsStumbles 78 = .ok (.aload_n 0, 1) := dk_42 (dk_at dksX0_findsStumbles_3 9 rfl rfl)
theorem dX0_findsStumbles_79 : decode cX0_findsStumbles 79 = .ok (.aload_n 0, 1) := dk_42 (dk_at dksX0_findsStumbles_3 10 rfl rfl)
theorem dX0_findsStumbles_80 : decode cX0_findsStumbles 80 = .ok (.getfield 294, 3) := dk_180 1 38 (dk_at dksX0_findsStumbles_3 11 rfl rfl)
theorem dX0_findsStumbles_83 : decode cX0_findsStumbles 83 = .ok (.iconst (-1), 1) := dk_2 (dk_at dksX0_findsStumbles_3 14 rfl rfl)
theorem dX0_findsStumbles_84 : decode cX0_findsStumbles 84 = .ok (.if_icmp .ne 7, 3) := dk_160 0 7 (dk_at dksX0_findsStumbles_3 15 rfl rfl)
theorem dX0_findsStumbles_87 : decode cX0_findsStumbles 87 = .ok (.iload_n 3, 1) := dk_29 (dk_at dksX0_findsStumbles_3 18 rfl rfl)
theorem dX0_findsStumbles_88 : decode cX0_findsStumbles 88 = .ok (.goto 7, 3) := dk_167 0 7 (dk_at dksX0_findsStumbles_3 19 rfl rfl)
theorem dX0_findsStumbles_91 : decode cX0_findsStumbles 91 = .ok (.aload_n 0, 1) := dk_42 (dk_at dksX0_findsStumbles_3 22 rfl rfl)
theorem dX0_findsStumbles_92 : decode cX0_findsStumbles 92 = .ok (.getfield 294, 3) := dk_180 1 38 (dk_at dksX0_findsStumbles_4 0 rfl rfl)
theorem dX0_findsStumbles_95 : decode cX0_findsStumbles 95 = .ok (.putfield 294, 3) := dk_181 1 38 (dk_at dksX0_findsStumbles_4 3 rfl rfl)
theorem dX0_findsStumbles_98 : decode cX0_findsStumbles 98 = .ok (.aload_n 0, 1) := dk_42 (dk_at dksX0_findsStumbles_4 6 rfl rfl)
theorem dX0_findsStumbles_99 : decode cX0_findsStumbles 99 = .ok (.dup, 1) := dk_89 (dk_at dksX0_findsStumbles_4 7 rfl rfl)
theorem dX0_findsStumbles_100 : decode cX0_findsStumbles 100 = .ok (.getfield 297, 3) := dk_180 1 41 (dk_at dksX0_findsStumbles_4 8 rfl rfl)
theorem dX0_findsStumbles_103 : decode cX0_findsStumbles 103 = .ok (.iload_n 3, 1) := dk_29 (dk_at dksX0_findsStumbles_4 11 rfl rfl)
theorem dX0_findsStumbles_104 : decode cX0_findsStumbles 104 = .ok (.ifCond .ne 7, 3) := dk_154 0 7 (dk_at dksX0_findsStumbles_4 12 rfl rfl)
theorem dX0_findsStumbles_107 : decode cX0_findsStumbles 107 = .ok (.lconst 0, 1) := dk_9 (dk_at dksX0_findsStumbles_4 15 rfl rfl)
theorem dX0_findsStumbles_108 : decode cX0_findsStumbles 108 = .ok (.goto 11, 3) := dk_167 0 11 (dk_at dksX0_findsStumbles_4 16 rfl rfl)
theorem dX0_findsStumbles_111 : decode cX0_findsStumbles 111 = .ok (.lconst 1, 1) := dk_10 (dk_at dksX0_findsStumbles_4 19 rfl rfl)
theorem dX0_findsStumbles_112 : decode cX0_findsStumbles 112 = .ok (.iload_n 3, 1) := dk_29 (dk_at dksX0_findsStumbles_4 20 rfl rfl)
theorem dX0_findsStumbles_113 : decode cX0_findsStumbles 113 = .ok (.iconst 1, 1) := dk_4 (dk_at dksX0_findsStumbles_4 21 rfl rfl)
theorem dX0_findsStumbles_114 : decode cX0_findsStumbles 114 = .ok (.isub, 1) := dk_100 (dk_at dksX0_findsStumbles_4 22 rfl rfl)
theorem dX0_findsStumbles_115 : decode cX0_findsStumbles 115 = .ok (.bipush 60, 2) := dk_16 60 (dk_at dksX0_findsStumbles_5 0 rfl rfl)
theorem dX0_findsStumbles_117 : decode cX0_findsStumbles 117 = .ok (.idiv, 1) := dk_108 (dk_at dksX0_findsStumbles_5 2 rfl rfl)
theorem dX0_findsStumbles_118 : decode cX0_findsStumbles 118 = .ok (.lshl, 1) := dk_121 (dk_at dksX0_findsStumbles_5 3 rfl rfl)
theorem dX0_findsStumbles_119 : decode cX0_findsStumbles 119 = .ok (.lor, 1) := dk_129 (dk_at dksX0_findsStumbles_5 4 rfl rfl)
theorem dX0_findsStumbles_120 : decode cX0_findsStumbles 120 = .ok (.putfield 297, 3) := dk_181 1 41 (dk_at dksX0_findsStumbles_5 5 rfl rfl)
theorem dX0_findsStumbles_123 : decode cX0_findsStumbles 123 = .ok (.iconst 0, 1) := dk_3 (dk_at dksX0_findsStumbles_5 8 rfl rfl)
theorem dX0_findsStumbles_124 : decode cX0_findsStumbles 124 = .ok (.istore 4, 2) := dk_54 4 (dk_at dksX0_findsStumbles_5 9 rfl rfl)
theorem dX0_findsStumbles_126 : decode cX0_findsStumbles 126 = .ok (.iload 4, 2) := dk_21 4 (dk_at dksX0_findsStumbles_5 11 rfl rfl)
theorem dX0_findsStumbles_128 : decode cX0_findsStumbles 128 = .ok (.bipush 80, 2) := dk_16 80 (dk_at dksX0_findsStumbles_5 13 rfl rfl)
theorem dX0_findsStumbles_130 : decode cX0_findsStumbles 130 = .ok (.if_icmp .ge 33, 3) := dk_162 0 33 (dk_at dksX0_findsStumbles_5 15 rfl rfl)
theorem dX0_findsStumbles_133 : decode cX0_findsStumbles 133 = .ok (.aload_n 0, 1) := dk_42 (dk_at dksX0_findsStumbles_5 18 rfl rfl)
theorem dX0_findsStumbles_134 : decode cX0_findsStumbles 134 = .ok (.getfield 61, 3) := dk_180 0 61 (dk_at dksX0_findsStumbles_5 19 rfl rfl)
theorem dX0_findsStumbles_137 : decode cX0_findsStumbles 137 = .ok (.bipush 7, 2) := dk_16 7 (dk_at dksX0_findsStumbles_5 22 rfl rfl)
theorem dX0_findsStumbles_139 : decode cX0_findsStumbles 139 = .ok (.iload 4, 2) := dk_21 4 (dk_at dksX0_findsStumbles_6 0 rfl rfl)
theorem dX0_findsStumbles_141 : decode cX0_findsStumbles 141 = .ok (.imul, 1) := dk_104 (dk_at dksX0_findsStumbles_6 2 rfl rfl)
theorem dX0_findsStumbles_142 : decode cX0_findsStumbles 142 = .ok (.aload_n 0, 1) := dk_42 (dk_at dksX0_findsStumbles_6 3 rfl rfl)
theorem dX0_findsStumbles_143 : decode cX0_findsStumbles 143 = .ok (.iload_n 2, 1) := dk_28 (dk_at dksX0_findsStumbles_6 4 rfl rfl)
theorem dX0_findsStumbles_144 : decode cX0_findsStumbles 144 = .ok (.iload 4, 2) := dk_21 4 (dk_at dksX0_findsStumbles_6 5 rfl rfl)
theorem dX0_findsStumbles_146 : decode cX0_findsStumbles 146 = .ok (.invokevirtual 194, 3) := dk_182 0 194 (dk_at dksX0_findsStumbles_6 7 rfl rfl)
theorem dX0_findsStumbles_149 : decode cX0_findsStumbles 149 = .ok (.iadd, 1) := dk_96 (dk_at dksX0_findsStumbles_6 10 rfl rfl)
theorem dX0_findsStumbles_150 : decode cX0_findsStumbles 150 = .ok (.iconst 1, 1) := dk_4 (dk_at dksX0_findsStumbles_6 11 rfl rfl)
theorem dX0_findsStumbles_151 : decode cX0_findsStumbles 151 = .ok (.iadd, 1) := dk_96 (dk_at dksX0_findsStumbles_6 12 rfl rfl)
theorem dX0_findsStumbles_152 : decode cX0_findsStumbles 152 = .ok (.dup2, 1) := dk_92 (dk_at dksX0_findsStumbles_6 13 rfl rfl)
theorem dX0_findsStumbles_153 : decode cX0_findsStumbles 153 = .ok (.iaload, 1) := dk_46 (dk_at dksX0_findsStumbles_6 14 rfl rfl)
theorem dX0_findsStumbles_154 : decode cX0_findsStumbles 154 = .ok (.iconst 1, 1) := dk_4 (dk_at dksX0_findsStumbles_6 15 rfl rfl)
theorem dX0_findsStumbles_155 : decode cX0_findsStumbles 155 = .ok (.iadd, 1) := dk_96 (dk_at dksX0_findsStumbles_6 16 rfl rfl)
theorem dX0_findsStumbles_156 : decode cX0_findsStumbles 156 = .ok (.iastore, 1) := dk_79 (dk_at dksX0_findsStumbles_6 17 rfl rfl)
theorem dX0_findsStumbles_157 : decode cX0_findsStumbles 157 = .ok (.iinc 4 1, 3) := dk_132 4 1 (dk_at dksX0_findsStumbles_6 18 rfl rfl)
theorem dX0_findsStumbles_160 : decode cX0_findsStumbles 160 = .ok (.goto (-34), 3) := dk_167 255 222 (dk_at dksX0_findsStumbles_6 21 rfl rfl)
theorem dX0_findsStumbles_163 : decode cX0_findsStumbles 163 = .ok (.iinc 3 1, 3) := dk_132 3 1 (dk_at dksX0_findsStumbles_7 0 rfl rfl)
theorem dX0_findsStumbles_166 : decode cX0_findsStumbles 166 = .ok (.goto (-125), 3) := dk_167 255 131 (dk_at dksX0_findsStumbles_7 3 rfl rfl)
theorem dX0_findsStumbles_169 : decode cX0_findsStumbles 169 = .ok (.return_, 1) := dk_177 (dk_at dksX0_findsStumbles_7 6 rfl rfl)
abbrev cX0_isHeard : ByteArray := prog_1_method_59_code
def yX0_isHeard : MethodName := ⟨RX0, "isHeard", "(II)Z"⟩
def dkwX0_isHeard_2 : List UInt8 := [148, 153, 0, 5, 3, 172, 132, 3, 2, 167, 255, 213, 4, 172]
abbrev dktX0_isHeard_2 : List UInt8 := dkwX0_isHeard_2 ++ []
def dkwX0_isHeard_1 : List UInt8 := [162, 0, 36, 42, 28, 42, 27, 29, 182, 1, 24, 136, 182, 0, 194, 133, 42, 27, 29, 4, 96, 182, 1, 24]
abbrev dktX0_isHeard_1 : List UInt8 := dkwX0_isHeard_1 ++ dktX0_isHeard_2
def dkwX0_isHeard_0 : List UInt8 := [42, 180, 0, 57, 4, 28, 100, 182, 1, 32, 3, 62, 29, 42, 180, 0, 85, 27, 50, 182, 1, 21]
abbrev dktX0_isHeard_0 : List UInt8 := dkwX0_isHeard_0 ++ dktX0_isHeard_1
theorem dksX0_isHeard_0 : cX0_isHeard.data.toList.drop 0 = dktX0_isHeard_0 := by decide +kernel
theorem dksX0_isHeard_1 : cX0_isHeard.data.toList.drop 22 = dktX0_isHeard_1 := dk_seg dksX0_isHeard_0 22 rfl rfl
theorem dksX0_isHeard_2 : cX0_isHeard.data.toList.drop 46 = dktX0_isHeard_2 := dk_seg dksX0_isHeard_1 24 rfl rfl
theorem dX0_isHeard_0 : decode cX0_isHeard 0 = .ok (.aload_n 0, 1) := dk_42 (dk_at dksX0_isHeard_0 0 rfl rfl)
theorem dX0_isHeard_1 : decode cX0_isHeard 1 = .ok (.getfield 57, 3) := dk_180 0 57 (dk_at dksX0_isHeard_0 1 rfl rfl)
theorem dX0_isHeard_4 : decode cX0_isHeard 4 = .ok (.iconst 1, 1) := dk_4 (dk_at dksX0_isHeard_0 4 rfl rfl)
theorem dX0_isHeard_5 : decode cX0_isHeard 5 = .ok (.iload_n 2, 1) := dk_28 (dk_at dksX0_isHeard_0 5 rfl rfl)
theorem dX0_isHeard_6 : decode cX0_isHeard 6 = .ok (.isub, 1) := dk_100 (dk_at dksX0_isHeard_0 6 rfl rfl)
theorem dX0_isHeard_7 : decode cX0_isHeard 7 = .ok (.invokevirtual 288, 3) := dk_182 1 32 (dk_at dksX0_isHeard_0 7 rfl rfl)
theorem dX0_isHeard_10 : decode cX0_isHeard 10 = .ok (.iconst 0, 1) := dk_3 (dk_at dksX0_isHeard_0 10 rfl rfl)
theorem dX0_isHeard_11 : decode cX0_isHeard 11 = .ok (.istore_n 3, 1) := dk_62 (dk_at dksX0_isHeard_0 11 rfl rfl)
theorem dX0_isHeard_12 : decode cX0_isHeard 12 = .ok (.iload_n 3, 1) := dk_29 (dk_at dksX0_isHeard_0 12 rfl rfl)
theorem dX0_isHeard_13 : decode cX0_isHeard 13 = .ok (.aload_n 0, 1) := dk_42 (dk_at dksX0_isHeard_0 13 rfl rfl)
theorem dX0_isHeard_14 : decode cX0_isHeard 14 = .ok (.getfield 85, 3) := dk_180 0 85 (dk_at dksX0_isHeard_0 14 rfl rfl)
theorem dX0_isHeard_17 : decode cX0_isHeard 17 = .ok (.iload_n 1, 1) := dk_27 (dk_at dksX0_isHeard_0 17 rfl rfl)
theorem dX0_isHeard_18 : decode cX0_isHeard 18 = .ok (.aaload, 1) := dk_50 (dk_at dksX0_isHeard_0 18 rfl rfl)
theorem dX0_isHeard_19 : decode cX0_isHeard 19 = .ok (.invokevirtual 277, 3) := dk_182 1 21 (dk_at dksX0_isHeard_0 19 rfl rfl)
theorem dX0_isHeard_22 : decode cX0_isHeard 22 = .ok (.if_icmp .ge 36, 3) := dk_162 0 36 (dk_at dksX0_isHeard_1 0 rfl rfl)
theorem dX0_isHeard_25 : decode cX0_isHeard 25 = .ok (.aload_n 0, 1) := dk_42 (dk_at dksX0_isHeard_1 3 rfl rfl)
theorem dX0_isHeard_26 : decode cX0_isHeard 26 = .ok (.iload_n 2, 1) := dk_28 (dk_at dksX0_isHeard_1 4 rfl rfl)
theorem dX0_isHeard_27 : decode cX0_isHeard 27 = .ok (.aload_n 0, 1) := dk_42 (dk_at dksX0_isHeard_1 5 rfl rfl)
theorem dX0_isHeard_28 : decode cX0_isHeard 28 = .ok (.iload_n 1, 1) := dk_27 (dk_at dksX0_isHeard_1 6 rfl rfl)
theorem dX0_isHeard_29 : decode cX0_isHeard 29 = .ok (.iload_n 3, 1) := dk_29 (dk_at dksX0_isHeard_1 7 rfl rfl)
theorem dX0_isHeard_30 : decode cX0_isHeard 30 = .ok (.invokevirtual 280, 3) := dk_182 1 24 (dk_at dksX0_isHeard_1 8 rfl rfl)
theorem dX0_isHeard_33 : decode cX0_isHeard 33 = .ok (.l2i, 1) := dk_136 (dk_at dksX0_isHeard_1 11 rfl rfl)
theorem dX0_isHeard_34 : decode cX0_isHeard 34 = .ok (.invokevirtual 194, 3) := dk_182 0 194 (dk_at dksX0_isHeard_1 12 rfl rfl)
theorem dX0_isHeard_37 : decode cX0_isHeard 37 = .ok (.i2l, 1) := dk_133 (dk_at dksX0_isHeard_1 15 rfl rfl)
theorem dX0_isHeard_38 : decode cX0_isHeard 38 = .ok (.aload_n 0, 1) := dk_42 (dk_at dksX0_isHeard_1 16 rfl rfl)
theorem dX0_isHeard_39 : decode cX0_isHeard 39 = .ok (.iload_n 1, 1) := dk_27 (dk_at dksX0_isHeard_1 17 rfl rfl)
theorem dX0_isHeard_40 : decode cX0_isHeard 40 = .ok (.iload_n 3, 1) := dk_29 (dk_at dksX0_isHeard_1 18 rfl rfl)
theorem dX0_isHeard_41 : decode cX0_isHeard 41 = .ok (.iconst 1, 1) := dk_4 (dk_at dksX0_isHeard_1 19 rfl rfl)
theorem dX0_isHeard_42 : decode cX0_isHeard 42 = .ok (.iadd, 1) := dk_96 (dk_at dksX0_isHeard_1 20 rfl rfl)
theorem dX0_isHeard_43 : decode cX0_isHeard 43 = .ok (.invokevirtual 280, 3) := dk_182 1 24 (dk_at dksX0_isHeard_1 21 rfl rfl)
theorem dX0_isHeard_46 : decode cX0_isHeard 46 = .ok (.lcmp, 1) := dk_148 (dk_at dksX0_isHeard_2 0 rfl rfl)
theorem dX0_isHeard_47 : decode cX0_isHeard 47 = .ok (.ifCond .eq 5, 3) := dk_153 0 5 (dk_at dksX0_isHeard_2 1 rfl rfl)
theorem dX0_isHeard_50 : decode cX0_isHeard 50 = .ok (.iconst 0, 1) := dk_3 (dk_at dksX0_isHeard_2 4 rfl rfl)
theorem dX0_isHeard_51 : decode cX0_isHeard 51 = .ok (.ireturn, 1) := dk_172 (dk_at dksX0_isHeard_2 5 rfl rfl)
theorem dX0_isHeard_52 : decode cX0_isHeard 52 = .ok (.iinc 3 2, 3) := dk_132 3 2 (dk_at dksX0_isHeard_2 6 rfl rfl)
theorem dX0_isHeard_55 : decode cX0_isHeard 55 = .ok (.goto (-43), 3) := dk_167 255 213 (dk_at dksX0_isHeard_2 9 rfl rfl)
theorem dX0_isHeard_58 : decode cX0_isHeard 58 = .ok (.iconst 1, 1) := dk_4 (dk_at dksX0_isHeard_2 12 rfl rfl)
theorem dX0_isHeard_59 : decode cX0_isHeard 59 = .ok (.ireturn, 1) := dk_172 (dk_at dksX0_isHeard_2 13 rfl rfl)
abbrev cX0_first : ByteArray := prog_1_method_62_code
def yX0_first : MethodName := ⟨RX0, "first", "(II)I"⟩
def dkwX0_first_0 : List UInt8 := [42, 27, 28, 182, 1, 50, 62, 29, 156, 0, 5, 29, 172, 42, 27, 28, 182, 1, 53, 42, 180, 1, 38, 172]
abbrev dktX0_first_0 : List UInt8 := dkwX0_first_0 ++ []
theorem dksX0_first_0 : cX0_first.data.toList.drop 0 = dktX0_first_0 := by decide +kernel
theorem dX0_first_0 : decode cX0_first 0 = .ok (.aload_n 0, 1) := dk_42 (dk_at dksX0_first_0 0 rfl rfl)
theorem dX0_first_1 : decode cX0_first 1 = .ok (.iload_n 1, 1) := dk_27 (dk_at dksX0_first_0 1 rfl rfl)
theorem dX0_first_2 : decode cX0_first 2 = .ok (.iload_n 2, 1) := dk_28 (dk_at dksX0_first_0 2 rfl rfl)
theorem dX0_first_3 : decode cX0_first 3 = .ok (.invokevirtual 306, 3) := dk_182 1 50 (dk_at dksX0_first_0 3 rfl rfl)
theorem dX0_first_6 : decode cX0_first 6 = .ok (.istore_n 3, 1) := dk_62 (dk_at dksX0_first_0 6 rfl rfl)
theorem dX0_first_7 : decode cX0_first 7 = .ok (.iload_n 3, 1) := dk_29 (dk_at dksX0_first_0 7 rfl rfl)
theorem dX0_first_8 : decode cX0_first 8 = .ok (.ifCond .ge 5, 3) := dk_156 0 5 (dk_at dksX0_first_0 8 rfl rfl)
theorem dX0_first_11 : decode cX0_first 11 = .ok (.iload_n 3, 1) := dk_29 (dk_at dksX0_first_0 11 rfl rfl)
theorem dX0_first_12 : decode cX0_first 12 = .ok (.ireturn, 1) := dk_172 (dk_at dksX0_first_0 12 rfl rfl)
theorem dX0_first_13 : decode cX0_first 13 = .ok (.aload_n 0, 1) := dk_42 (dk_at dksX0_first_0 13 rfl rfl)
theorem dX0_first_14 : decode cX0_first 14 = .ok (.iload_n 1, 1) := dk_27 (dk_at dksX0_first_0 14 rfl rfl)
theorem dX0_first_15 : decode cX0_first 15 = .ok (.iload_n 2, 1) := dk_28 (dk_at dksX0_first_0 15 rfl rfl)
theorem dX0_first_16 : decode cX0_first 16 = .ok (.invokevirtual 309, 3) := dk_182 1 53 (dk_at dksX0_first_0 16 rfl rfl)
theorem dX0_first_19 : decode cX0_first 19 = .ok (.aload_n 0, 1) := dk_42 (dk_at dksX0_first_0 19 rfl rfl)
theorem dX0_first_20 : decode cX0_first 20 = .ok (.getfield 294, 3) := dk_180 1 38 (dk_at dksX0_first_0 20 rfl rfl)
theorem dX0_first_23 : decode cX0_first 23 = .ok (.ireturn, 1) := dk_172 (dk_at dksX0_first_0 23 rfl rfl)
abbrev cX0_when : ByteArray := prog_1_method_63_code
def yX0_when : MethodName := ⟨RX0, "when", "(II)J"⟩
def dkwX0_when_1 : List UInt8 := [173]
abbrev dktX0_when_1 : List UInt8 := dkwX0_when_1 ++ []
def dkwX0_when_0 : List UInt8 := [42, 27, 28, 182, 1, 50, 62, 29, 156, 0, 6, 29, 133, 173, 42, 27, 28, 182, 1, 53, 42, 180, 1, 41]
abbrev dktX0_when_0 : List UInt8 := dkwX0_when_0 ++ dktX0_when_1
theorem dksX0_when_0 : cX0_when.data.toList.drop 0 = dktX0_when_0 := by decide +kernel
theorem dksX0_when_1 : cX0_when.data.toList.drop 24 = dktX0_when_1 := dk_seg dksX0_when_0 24 rfl rfl
theorem dX0_when_0 : decode cX0_when 0 = .ok (.aload_n 0, 1) := dk_42 (dk_at dksX0_when_0 0 rfl rfl)
theorem dX0_when_1 : decode cX0_when 1 = .ok (.iload_n 1, 1) := dk_27 (dk_at dksX0_when_0 1 rfl rfl)
theorem dX0_when_2 : decode cX0_when 2 = .ok (.iload_n 2, 1) := dk_28 (dk_at dksX0_when_0 2 rfl rfl)
theorem dX0_when_3 : decode cX0_when 3 = .ok (.invokevirtual 306, 3) := dk_182 1 50 (dk_at dksX0_when_0 3 rfl rfl)
theorem dX0_when_6 : decode cX0_when 6 = .ok (.istore_n 3, 1) := dk_62 (dk_at dksX0_when_0 6 rfl rfl)
theorem dX0_when_7 : decode cX0_when 7 = .ok (.iload_n 3, 1) := dk_29 (dk_at dksX0_when_0 7 rfl rfl)
theorem dX0_when_8 : decode cX0_when 8 = .ok (.ifCond .ge 6, 3) := dk_156 0 6 (dk_at dksX0_when_0 8 rfl rfl)
theorem dX0_when_11 : decode cX0_when 11 = .ok (.iload_n 3, 1) := dk_29 (dk_at dksX0_when_0 11 rfl rfl)
theorem dX0_when_12 : decode cX0_when 12 = .ok (.i2l, 1) := dk_133 (dk_at dksX0_when_0 12 rfl rfl)
theorem dX0_when_13 : decode cX0_when 13 = .ok (.lreturn, 1) := dk_173 (dk_at dksX0_when_0 13 rfl rfl)
theorem dX0_when_14 : decode cX0_when 14 = .ok (.aload_n 0, 1) := dk_42 (dk_at dksX0_when_0 14 rfl rfl)
theorem dX0_when_15 : decode cX0_when 15 = .ok (.iload_n 1, 1) := dk_27 (dk_at dksX0_when_0 15 rfl rfl)
theorem dX0_when_16 : decode cX0_when 16 = .ok (.iload_n 2, 1) := dk_28 (dk_at dksX0_when_0 16 rfl rfl)
theorem dX0_when_17 : decode cX0_when 17 = .ok (.invokevirtual 309, 3) := dk_182 1 53 (dk_at dksX0_when_0 17 rfl rfl)
theorem dX0_when_20 : decode cX0_when 20 = .ok (.aload_n 0, 1) := dk_42 (dk_at dksX0_when_0 20 rfl rfl)
theorem dX0_when_21 : decode cX0_when 21 = .ok (.getfield 297, 3) := dk_180 1 41 (dk_at dksX0_when_0 21 rfl rfl)
theorem dX0_when_24 : decode cX0_when 24 = .ok (.lreturn, 1) := dk_173 (dk_at dksX0_when_1 0 rfl rfl)
abbrev cX0_listen : ByteArray := prog_1_method_66_code
def yX0_listen : MethodName := ⟨RX0, "listen", "(II)I"⟩
def dkwX0_listen_0 : List UInt8 := [42, 27, 28, 182, 1, 50, 62, 29, 156, 0, 7, 29, 167, 0, 9, 42, 27, 28, 182, 1, 65, 172]
abbrev dktX0_listen_0 : List UInt8 := dkwX0_listen_0 ++ []
theorem dksX0_listen_0 : cX0_listen.data.toList.drop 0 = dktX0_listen_0 := by decide +kernel
theorem dX0_listen_0 : decode cX0_listen 0 = .ok (.aload_n 0, 1) := dk_42 (dk_at dksX0_listen_0 0 rfl rfl)
theorem dX0_listen_1 : decode cX0_listen 1 = .ok (.iload_n 1, 1) := dk_27 (dk_at dksX0_listen_0 1 rfl rfl)
theorem dX0_listen_2 : decode cX0_listen 2 = .ok (.iload_n 2, 1) := dk_28 (dk_at dksX0_listen_0 2 rfl rfl)
theorem dX0_listen_3 : decode cX0_listen 3 = .ok (.invokevirtual 306, 3) := dk_182 1 50 (dk_at dksX0_listen_0 3 rfl rfl)
theorem dX0_listen_6 : decode cX0_listen 6 = .ok (.istore_n 3, 1) := dk_62 (dk_at dksX0_listen_0 6 rfl rfl)
theorem dX0_listen_7 : decode cX0_listen 7 = .ok (.iload_n 3, 1) := dk_29 (dk_at dksX0_listen_0 7 rfl rfl)
theorem dX0_listen_8 : decode cX0_listen 8 = .ok (.ifCond .ge 7, 3) := dk_156 0 7 (dk_at dksX0_listen_0 8 rfl rfl)
theorem dX0_listen_11 : decode cX0_listen 11 = .ok (.iload_n 3, 1) := dk_29 (dk_at dksX0_listen_0 11 rfl rfl)
theorem dX0_listen_12 : decode cX0_listen 12 = .ok (.goto 9, 3) := dk_167 0 9 (dk_at dksX0_listen_0 12 rfl rfl)
theorem dX0_listen_15 : decode cX0_listen 15 = .ok (.aload_n 0, 1) := dk_42 (dk_at dksX0_listen_0 15 rfl rfl)
theorem dX0_listen_16 : decode cX0_listen 16 = .ok (.iload_n 1, 1) := dk_27 (dk_at dksX0_listen_0 16 rfl rfl)
theorem dX0_listen_17 : decode cX0_listen 17 = .ok (.iload_n 2, 1) := dk_28 (dk_at dksX0_listen_0 17 rfl rfl)
theorem dX0_listen_18 : decode cX0_listen 18 = .ok (.invokevirtual 321, 3) := dk_182 1 65 (dk_at dksX0_listen_0 18 rfl rfl)
theorem dX0_listen_21 : decode cX0_listen 21 = .ok (.ireturn, 1) := dk_172 (dk_at dksX0_listen_0 21 rfl rfl)
abbrev cX0_listensTo : ByteArray := prog_1_method_65_code
def yX0_listensTo : MethodName := ⟨RX0, "listensTo", "(II)I"⟩
def dkwX0_listensTo_2 : List UInt8 := [182, 1, 62, 181, 1, 59, 21, 4, 62, 132, 4, 1, 167, 255, 217, 29, 172]
abbrev dktX0_listensTo_2 : List UInt8 := dkwX0_listensTo_2 ++ []
def dkwX0_listensTo_1 : List UInt8 := [162, 0, 38, 42, 21, 4, 182, 1, 62, 42, 180, 1, 59, 161, 0, 6, 167, 0, 16, 42, 42, 21, 4]
abbrev dktX0_listensTo_1 : List UInt8 := dkwX0_listensTo_1 ++ dktX0_listensTo_2
def dkwX0_listensTo_0 : List UInt8 := [42, 27, 28, 182, 1, 53, 42, 42, 180, 1, 35, 181, 1, 59, 2, 62, 3, 54, 4, 21, 4, 16, 80]
abbrev dktX0_listensTo_0 : List UInt8 := dkwX0_listensTo_0 ++ dktX0_listensTo_1
theorem dksX0_listensTo_0 : cX0_listensTo.data.toList.drop 0 = dktX0_listensTo_0 := by decide +kernel
theorem dksX0_listensTo_1 : cX0_listensTo.data.toList.drop 23 = dktX0_listensTo_1 := dk_seg dksX0_listensTo_0 23 rfl rfl
theorem dksX0_listensTo_2 : cX0_listensTo.data.toList.drop 46 = dktX0_listensTo_2 := dk_seg dksX0_listensTo_1 23 rfl rfl
theorem dX0_listensTo_0 : decode cX0_listensTo 0 = .ok (.aload_n 0, 1) := dk_42 (dk_at dksX0_listensTo_0 0 rfl rfl)
theorem dX0_listensTo_1 : decode cX0_listensTo 1 = .ok (.iload_n 1, 1) := dk_27 (dk_at dksX0_listensTo_0 1 rfl rfl)
theorem dX0_listensTo_2 : decode cX0_listensTo 2 = .ok (.iload_n 2, 1) := dk_28 (dk_at dksX0_listensTo_0 2 rfl rfl)
theorem dX0_listensTo_3 : decode cX0_listensTo 3 = .ok (.invokevirtual 309, 3) := dk_182 1 53 (dk_at dksX0_listensTo_0 3 rfl rfl)
theorem dX0_listensTo_6 : decode cX0_listensTo 6 = .ok (.aload_n 0, 1) := dk_42 (dk_at dksX0_listensTo_0 6 rfl rfl)
theorem dX0_listensTo_7 : decode cX0_listensTo 7 = .ok (.aload_n 0, 1) := dk_42 (dk_at dksX0_listensTo_0 7 rfl rfl)
theorem dX0_listensTo_8 : decode cX0_listensTo 8 = .ok (.getfield 291, 3) := dk_180 1 35 (dk_at dksX0_listensTo_0 8 rfl rfl)
theorem dX0_listensTo_11 : decode cX0_listensTo 11 = .ok (.putfield 315, 3) := dk_181 1 59 (dk_at dksX0_listensTo_0 11 rfl rfl)
theorem dX0_listensTo_14 : decode cX0_listensTo 14 = .ok (.iconst (-1), 1) := dk_2 (dk_at dksX0_listensTo_0 14 rfl rfl)
theorem dX0_listensTo_15 : decode cX0_listensTo 15 = .ok (.istore_n 3, 1) := dk_62 (dk_at dksX0_listensTo_0 15 rfl rfl)
theorem dX0_listensTo_16 : decode cX0_listensTo 16 = .ok (.iconst 0, 1) := dk_3 (dk_at dksX0_listensTo_0 16 rfl rfl)
theorem dX0_listensTo_17 : decode cX0_listensTo 17 = .ok (.istore 4, 2) := dk_54 4 (dk_at dksX0_listensTo_0 17 rfl rfl)
theorem dX0_listensTo_19 : decode cX0_listensTo 19 = .ok (.iload 4, 2) := dk_21 4 (dk_at dksX0_listensTo_0 19 rfl rfl)
theorem dX0_listensTo_21 : decode cX0_listensTo 21 = .ok (.bipush 80, 2) := dk_16 80 (dk_at dksX0_listensTo_0 21 rfl rfl)
theorem dX0_listensTo_23 : decode cX0_listensTo 23 = .ok (.if_icmp .ge 38, 3) := dk_162 0 38 (dk_at dksX0_listensTo_1 0 rfl rfl)
theorem dX0_listensTo_26 : decode cX0_listensTo 26 = .ok (.aload_n 0, 1) := dk_42 (dk_at dksX0_listensTo_1 3 rfl rfl)
theorem dX0_listensTo_27 : decode cX0_listensTo 27 = .ok (.iload 4, 2) := dk_21 4 (dk_at dksX0_listensTo_1 4 rfl rfl)
theorem dX0_listensTo_29 : decode cX0_listensTo 29 = .ok (.invokevirtual 318, 3) := dk_182 1 62 (dk_at dksX0_listensTo_1 6 rfl rfl)
theorem dX0_listensTo_32 : decode cX0_listensTo 32 = .ok (.aload_n 0, 1) := dk_42 (dk_at dksX0_listensTo_1 9 rfl rfl)
theorem dX0_listensTo_33 : decode cX0_listensTo 33 = .ok (.getfield 315, 3) := dk_180 1 59 (dk_at dksX0_listensTo_1 10 rfl rfl)
theorem dX0_listensTo_36 : decode cX0_listensTo 36 = .ok (.if_icmp .lt 6, 3) := dk_161 0 6 (dk_at dksX0_listensTo_1 13 rfl rfl)
theorem dX0_listensTo_39 : decode cX0_listensTo 39 = .ok (.goto 16, 3) := dk_167 0 16 (dk_at dksX0_listensTo_1 16 rfl rfl)
theorem dX0_listensTo_42 : decode cX0_listensTo 42 = .ok (.aload_n 0, 1) := dk_42 (dk_at dksX0_listensTo_1 19 rfl rfl)
theorem dX0_listensTo_43 : decode cX0_listensTo 43 = .ok (.aload_n 0, 1) := dk_42 (dk_at dksX0_listensTo_1 20 rfl rfl)
theorem dX0_listensTo_44 : decode cX0_listensTo 44 = .ok (.iload 4, 2) := dk_21 4 (dk_at dksX0_listensTo_1 21 rfl rfl)
theorem dX0_listensTo_46 : decode cX0_listensTo 46 = .ok (.invokevirtual 318, 3) := dk_182 1 62 (dk_at dksX0_listensTo_2 0 rfl rfl)
theorem dX0_listensTo_49 : decode cX0_listensTo 49 = .ok (.putfield 315, 3) := dk_181 1 59 (dk_at dksX0_listensTo_2 3 rfl rfl)
theorem dX0_listensTo_52 : decode cX0_listensTo 52 = .ok (.iload 4, 2) := dk_21 4 (dk_at dksX0_listensTo_2 6 rfl rfl)
theorem dX0_listensTo_54 : decode cX0_listensTo 54 = .ok (.istore_n 3, 1) := dk_62 (dk_at dksX0_listensTo_2 8 rfl rfl)
theorem dX0_listensTo_55 : decode cX0_listensTo 55 = .ok (.iinc 4 1, 3) := dk_132 4 1 (dk_at dksX0_listensTo_2 9 rfl rfl)
theorem dX0_listensTo_58 : decode cX0_listensTo 58 = .ok (.goto (-39), 3) := dk_167 255 217 (dk_at dksX0_listensTo_2 12 rfl rfl)
theorem dX0_listensTo_61 : decode cX0_listensTo 61 = .ok (.iload_n 3, 1) := dk_29 (dk_at dksX0_listensTo_2 15 rfl rfl)
theorem dX0_listensTo_62 : decode cX0_listensTo 62 = .ok (.ireturn, 1) := dk_172 (dk_at dksX0_listensTo_2 16 rfl rfl)
abbrev cX0_worstOf : ByteArray := prog_1_method_64_code
def yX0_worstOf : MethodName := ⟨RX0, "worstOf", "(I)I"⟩
def dkwX0_worstOf_1 : List UInt8 := [184, 1, 56, 61, 132, 3, 1, 167, 255, 231, 28, 172]
abbrev dktX0_worstOf_1 : List UInt8 := dkwX0_worstOf_1 ++ []
def dkwX0_worstOf_0 : List UInt8 := [3, 61, 3, 62, 29, 16, 6, 163, 0, 25, 28, 42, 180, 0, 61, 16, 7, 27, 104, 29, 96, 46]
abbrev dktX0_worstOf_0 : List UInt8 := dkwX0_worstOf_0 ++ dktX0_worstOf_1
theorem dksX0_worstOf_0 : cX0_worstOf.data.toList.drop 0 = dktX0_worstOf_0 := by decide +kernel
theorem dksX0_worstOf_1 : cX0_worstOf.data.toList.drop 22 = dktX0_worstOf_1 := dk_seg dksX0_worstOf_0 22 rfl rfl
theorem dX0_worstOf_0 : decode cX0_worstOf 0 = .ok (.iconst 0, 1) := dk_3 (dk_at dksX0_worstOf_0 0 rfl rfl)
theorem dX0_worstOf_1 : decode cX0_worstOf 1 = .ok (.istore_n 2, 1) := dk_61 (dk_at dksX0_worstOf_0 1 rfl rfl)
theorem dX0_worstOf_2 : decode cX0_worstOf 2 = .ok (.iconst 0, 1) := dk_3 (dk_at dksX0_worstOf_0 2 rfl rfl)
theorem dX0_worstOf_3 : decode cX0_worstOf 3 = .ok (.istore_n 3, 1) := dk_62 (dk_at dksX0_worstOf_0 3 rfl rfl)
theorem dX0_worstOf_4 : decode cX0_worstOf 4 = .ok (.iload_n 3, 1) := dk_29 (dk_at dksX0_worstOf_0 4 rfl rfl)
theorem dX0_worstOf_5 : decode cX0_worstOf 5 = .ok (.bipush 6, 2) := dk_16 6 (dk_at dksX0_worstOf_0 5 rfl rfl)
theorem dX0_worstOf_7 : decode cX0_worstOf 7 = .ok (.if_icmp .gt 25, 3) := dk_163 0 25 (dk_at dksX0_worstOf_0 7 rfl rfl)
theorem dX0_worstOf_10 : decode cX0_worstOf 10 = .ok (.iload_n 2, 1) := dk_28 (dk_at dksX0_worstOf_0 10 rfl rfl)
theorem dX0_worstOf_11 : decode cX0_worstOf 11 = .ok (.aload_n 0, 1) := dk_42 (dk_at dksX0_worstOf_0 11 rfl rfl)
theorem dX0_worstOf_12 : decode cX0_worstOf 12 = .ok (.getfield 61, 3) := dk_180 0 61 (dk_at dksX0_worstOf_0 12 rfl rfl)
theorem dX0_worstOf_15 : decode cX0_worstOf 15 = .ok (.bipush 7, 2) := dk_16 7 (dk_at dksX0_worstOf_0 15 rfl rfl)
theorem dX0_worstOf_17 : decode cX0_worstOf 17 = .ok (.iload_n 1, 1) := dk_27 (dk_at dksX0_worstOf_0 17 rfl rfl)
theorem dX0_worstOf_18 : decode cX0_worstOf 18 = .ok (.imul, 1) := dk_104 (dk_at dksX0_worstOf_0 18 rfl rfl)
theorem dX0_worstOf_19 : decode cX0_worstOf 19 = .ok (.iload_n 3, 1) := dk_29 (dk_at dksX0_worstOf_0 19 rfl rfl)
theorem dX0_worstOf_20 : decode cX0_worstOf 20 = .ok (.iadd, 1) := dk_96 (dk_at dksX0_worstOf_0 20 rfl rfl)
theorem dX0_worstOf_21 : decode cX0_worstOf 21 = .ok (.iaload, 1) := dk_46 (dk_at dksX0_worstOf_0 21 rfl rfl)
theorem dX0_worstOf_22 : decode cX0_worstOf 22 = .ok (.invokestatic 312, 3) := dk_184 1 56 (dk_at dksX0_worstOf_1 0 rfl rfl)
theorem dX0_worstOf_25 : decode cX0_worstOf 25 = .ok (.istore_n 2, 1) := dk_61 (dk_at dksX0_worstOf_1 3 rfl rfl)
theorem dX0_worstOf_26 : decode cX0_worstOf 26 = .ok (.iinc 3 1, 3) := dk_132 3 1 (dk_at dksX0_worstOf_1 4 rfl rfl)
theorem dX0_worstOf_29 : decode cX0_worstOf 29 = .ok (.goto (-25), 3) := dk_167 255 231 (dk_at dksX0_worstOf_1 7 rfl rfl)
theorem dX0_worstOf_32 : decode cX0_worstOf 32 = .ok (.iload_n 2, 1) := dk_28 (dk_at dksX0_worstOf_1 10 rfl rfl)
theorem dX0_worstOf_33 : decode cX0_worstOf 33 = .ok (.ireturn, 1) := dk_172 (dk_at dksX0_worstOf_1 11 rfl rfl)
abbrev cX0_leaves : ByteArray := prog_1_method_67_code
def yX0_leaves : MethodName := ⟨RX0, "leaves", "(II)I"⟩
def dkwX0_leaves_1 : List UInt8 := [172]
abbrev dktX0_leaves_1 : List UInt8 := dkwX0_leaves_1 ++ []
def dkwX0_leaves_0 : List UInt8 := [42, 27, 28, 182, 1, 50, 62, 29, 156, 0, 5, 29, 172, 42, 27, 28, 182, 1, 65, 87, 42, 180, 1, 59]
abbrev dktX0_leaves_0 : List UInt8 := dkwX0_leaves_0 ++ dktX0_leaves_1
theorem dksX0_leaves_0 : cX0_leaves.data.toList.drop 0 = dktX0_leaves_0 := by decide +kernel
theorem dksX0_leaves_1 : cX0_leaves.data.toList.drop 24 = dktX0_leaves_1 := dk_seg dksX0_leaves_0 24 rfl rfl
theorem dX0_leaves_0 : decode cX0_leaves 0 = .ok (.aload_n 0, 1) := dk_42 (dk_at dksX0_leaves_0 0 rfl rfl)
theorem dX0_leaves_1 : decode cX0_leaves 1 = .ok (.iload_n 1, 1) := dk_27 (dk_at dksX0_leaves_0 1 rfl rfl)
theorem dX0_leaves_2 : decode cX0_leaves 2 = .ok (.iload_n 2, 1) := dk_28 (dk_at dksX0_leaves_0 2 rfl rfl)
theorem dX0_leaves_3 : decode cX0_leaves 3 = .ok (.invokevirtual 306, 3) := dk_182 1 50 (dk_at dksX0_leaves_0 3 rfl rfl)
theorem dX0_leaves_6 : decode cX0_leaves 6 = .ok (.istore_n 3, 1) := dk_62 (dk_at dksX0_leaves_0 6 rfl rfl)
theorem dX0_leaves_7 : decode cX0_leaves 7 = .ok (.iload_n 3, 1) := dk_29 (dk_at dksX0_leaves_0 7 rfl rfl)
theorem dX0_leaves_8 : decode cX0_leaves 8 = .ok (.ifCond .ge 5, 3) := dk_156 0 5 (dk_at dksX0_leaves_0 8 rfl rfl)
theorem dX0_leaves_11 : decode cX0_leaves 11 = .ok (.iload_n 3, 1) := dk_29 (dk_at dksX0_leaves_0 11 rfl rfl)
theorem dX0_leaves_12 : decode cX0_leaves 12 = .ok (.ireturn, 1) := dk_172 (dk_at dksX0_leaves_0 12 rfl rfl)
theorem dX0_leaves_13 : decode cX0_leaves 13 = .ok (.aload_n 0, 1) := dk_42 (dk_at dksX0_leaves_0 13 rfl rfl)
theorem dX0_leaves_14 : decode cX0_leaves 14 = .ok (.iload_n 1, 1) := dk_27 (dk_at dksX0_leaves_0 14 rfl rfl)
theorem dX0_leaves_15 : decode cX0_leaves 15 = .ok (.iload_n 2, 1) := dk_28 (dk_at dksX0_leaves_0 15 rfl rfl)
theorem dX0_leaves_16 : decode cX0_leaves 16 = .ok (.invokevirtual 321, 3) := dk_182 1 65 (dk_at dksX0_leaves_0 16 rfl rfl)
theorem dX0_leaves_19 : decode cX0_leaves 19 = .ok (.pop, 1) := dk_87 (dk_at dksX0_leaves_0 19 rfl rfl)
theorem dX0_leaves_20 : decode cX0_leaves 20 = .ok (.aload_n 0, 1) := dk_42 (dk_at dksX0_leaves_0 20 rfl rfl)
theorem dX0_leaves_21 : decode cX0_leaves 21 = .ok (.getfield 315, 3) := dk_180 1 59 (dk_at dksX0_leaves_0 21 rfl rfl)
theorem dX0_leaves_24 : decode cX0_leaves 24 = .ok (.ireturn, 1) := dk_172 (dk_at dksX0_leaves_1 0 rfl rfl)
abbrev cX0_crosses : ByteArray := prog_1_method_71_code
def yX0_crosses : MethodName := ⟨RX0, "crosses", "(I)I"⟩
def dkwX0_crosses_0 : List UInt8 := [42, 27, 133, 182, 0, 181, 153, 0, 11, 42, 27, 182, 1, 79, 167, 0, 5, 16, 254, 172]
abbrev dktX0_crosses_0 : List UInt8 := dkwX0_crosses_0 ++ []
theorem dksX0_crosses_0 : cX0_crosses.data.toList.drop 0 = dktX0_crosses_0 := by decide +kernel
theorem dX0_crosses_0 : decode cX0_crosses 0 = .ok (.aload_n 0, 1) := dk_42 (dk_at dksX0_crosses_0 0 rfl rfl)
theorem dX0_crosses_1 : decode cX0_crosses 1 = .ok (.iload_n 1, 1) := dk_27 (dk_at dksX0_crosses_0 1 rfl rfl)
theorem dX0_crosses_2 : decode cX0_crosses 2 = .ok (.i2l, 1) := dk_133 (dk_at dksX0_crosses_0 2 rfl rfl)
theorem dX0_crosses_3 : decode cX0_crosses 3 = .ok (.invokevirtual 181, 3) := dk_182 0 181 (dk_at dksX0_crosses_0 3 rfl rfl)
theorem dX0_crosses_6 : decode cX0_crosses 6 = .ok (.ifCond .eq 11, 3) := dk_153 0 11 (dk_at dksX0_crosses_0 6 rfl rfl)
theorem dX0_crosses_9 : decode cX0_crosses 9 = .ok (.aload_n 0, 1) := dk_42 (dk_at dksX0_crosses_0 9 rfl rfl)
theorem dX0_crosses_10 : decode cX0_crosses 10 = .ok (.iload_n 1, 1) := dk_27 (dk_at dksX0_crosses_0 10 rfl rfl)
theorem dX0_crosses_11 : decode cX0_crosses 11 = .ok (.invokevirtual 335, 3) := dk_182 1 79 (dk_at dksX0_crosses_0 11 rfl rfl)
theorem dX0_crosses_14 : decode cX0_crosses 14 = .ok (.goto 5, 3) := dk_167 0 5 (dk_at dksX0_crosses_0 14 rfl rfl)
theorem dX0_crosses_17 : decode cX0_crosses 17 = .ok (.bipush (-2), 2) := dk_16 254 (dk_at dksX0_crosses_0 17 rfl rfl)
theorem dX0_crosses_19 : decode cX0_crosses 19 = .ok (.ireturn, 1) := dk_172 (dk_at dksX0_crosses_0 19 rfl rfl)
abbrev cX0_goesOver : ByteArray := prog_1_method_69_code
def yX0_goesOver : MethodName := ⟨RX0, "goesOver", "(I)I"⟩
def dkwX0_goesOver_1 : List UInt8 := [180, 0, 64, 29, 28, 79, 132, 3, 1, 167, 255, 228, 28, 4, 96, 172]
abbrev dktX0_goesOver_1 : List UInt8 := dkwX0_goesOver_1 ++ []
def dkwX0_goesOver_0 : List UInt8 := [27, 61, 3, 62, 29, 42, 180, 0, 12, 180, 1, 73, 162, 0, 23, 42, 28, 29, 182, 1, 76, 61, 42]
abbrev dktX0_goesOver_0 : List UInt8 := dkwX0_goesOver_0 ++ dktX0_goesOver_1
theorem dksX0_goesOver_0 : cX0_goesOver.data.toList.drop 0 = dktX0_goesOver_0 := by decide +kernel
theorem dksX0_goesOver_1 : cX0_goesOver.data.toList.drop 23 = dktX0_goesOver_1 := dk_seg dksX0_goesOver_0 23 rfl rfl
theorem dX0_goesOver_0 : decode cX0_goesOver 0 = .ok (.iload_n 1, 1) := dk_27 (dk_at dksX0_goesOver_0 0 rfl rfl)
theorem dX0_goesOver_1 : decode cX0_goesOver 1 = .ok (.istore_n 2, 1) := dk_61 (dk_at dksX0_goesOver_0 1 rfl rfl)
theorem dX0_goesOver_2 : decode cX0_goesOver 2 = .ok (.iconst 0, 1) := dk_3 (dk_at dksX0_goesOver_0 2 rfl rfl)
theorem dX0_goesOver_3 : decode cX0_goesOver 3 = .ok (.istore_n 3, 1) := dk_62 (dk_at dksX0_goesOver_0 3 rfl rfl)
theorem dX0_goesOver_4 : decode cX0_goesOver 4 = .ok (.iload_n 3, 1) := dk_29 (dk_at dksX0_goesOver_0 4 rfl rfl)
theorem dX0_goesOver_5 : decode cX0_goesOver 5 = .ok (.aload_n 0, 1) := dk_42 (dk_at dksX0_goesOver_0 5 rfl rfl)
theorem dX0_goesOver_6 : decode cX0_goesOver 6 = .ok (.getfield 12, 3) := dk_180 0 12 (dk_at dksX0_goesOver_0 6 rfl rfl)
theorem dX0_goesOver_9 : decode cX0_goesOver 9 = .ok (.getfield 329, 3) := dk_180 1 73 (dk_at dksX0_goesOver_0 9 rfl rfl)
theorem dX0_goesOver_12 : decode cX0_goesOver 12 = .ok (.if_icmp .ge 23, 3) := dk_162 0 23 (dk_at dksX0_goesOver_0 12 rfl rfl)
theorem dX0_goesOver_15 : decode cX0_goesOver 15 = .ok (.aload_n 0, 1) := dk_42 (dk_at dksX0_goesOver_0 15 rfl rfl)
theorem dX0_goesOver_16 : decode cX0_goesOver 16 = .ok (.iload_n 2, 1) := dk_28 (dk_at dksX0_goesOver_0 16 rfl rfl)
theorem dX0_goesOver_17 : decode cX0_goesOver 17 = .ok (.iload_n 3, 1) := dk_29 (dk_at dksX0_goesOver_0 17 rfl rfl)
theorem dX0_goesOver_18 : decode cX0_goesOver 18 = .ok (.invokevirtual 332, 3) := dk_182 1 76 (dk_at dksX0_goesOver_0 18 rfl rfl)
theorem dX0_goesOver_21 : decode cX0_goesOver 21 = .ok (.istore_n 2, 1) := dk_61 (dk_at dksX0_goesOver_0 21 rfl rfl)
theorem dX0_goesOver_22 : decode cX0_goesOver 22 = .ok (.aload_n 0, 1) := dk_42 (dk_at dksX0_goesOver_0 22 rfl rfl)
theorem dX0_goesOver_23 : decode cX0_goesOver 23 = .ok (.getfield 64, 3) := dk_180 0 64 (dk_at dksX0_goesOver_1 0 rfl rfl)
theorem dX0_goesOver_26 : decode cX0_goesOver 26 = .ok (.iload_n 3, 1) := dk_29 (dk_at dksX0_goesOver_1 3 rfl rfl)
theorem dX0_goesOver_27 : decode cX0_goesOver 27 = .ok (.iload_n 2, 1) := dk_28 (dk_at dksX0_goesOver_1 4 rfl rfl)
theorem dX0_goesOver_28 : decode cX0_goesOver 28 = .ok (.iastore, 1) := dk_79 (dk_at dksX0_goesOver_1 5 rfl rfl)
theorem dX0_goesOver_29 : decode cX0_goesOver 29 = .ok (.iinc 3 1, 3) := dk_132 3 1 (dk_at dksX0_goesOver_1 6 rfl rfl)
theorem dX0_goesOver_32 : decode cX0_goesOver 32 = .ok (.goto (-28), 3) := dk_167 255 228 (dk_at dksX0_goesOver_1 9 rfl rfl)
theorem dX0_goesOver_35 : decode cX0_goesOver 35 = .ok (.iload_n 2, 1) := dk_28 (dk_at dksX0_goesOver_1 12 rfl rfl)
theorem dX0_goesOver_36 : decode cX0_goesOver 36 = .ok (.iconst 1, 1) := dk_4 (dk_at dksX0_goesOver_1 13 rfl rfl)
theorem dX0_goesOver_37 : decode cX0_goesOver 37 = .ok (.iadd, 1) := dk_96 (dk_at dksX0_goesOver_1 14 rfl rfl)
theorem dX0_goesOver_38 : decode cX0_goesOver 38 = .ok (.ireturn, 1) := dk_172 (dk_at dksX0_goesOver_1 15 rfl rfl)
abbrev cX0_entered : ByteArray := prog_1_method_68_code
def yX0_entered : MethodName := ⟨RX0, "entered", "(II)I"⟩
def dkwX0_entered_1 : List UInt8 := [159, 0, 9, 132, 3, 1, 167, 255, 230, 29, 4, 96, 172]
abbrev dktX0_entered_1 : List UInt8 := dkwX0_entered_1 ++ []
def dkwX0_entered_0 : List UInt8 := [27, 62, 29, 42, 180, 0, 12, 180, 1, 68, 28, 46, 112, 42, 180, 0, 12, 180, 1, 71, 28, 46]
abbrev dktX0_entered_0 : List UInt8 := dkwX0_entered_0 ++ dktX0_entered_1
theorem dksX0_entered_0 : cX0_entered.data.toList.drop 0 = dktX0_entered_0 := by decide +kernel
theorem dksX0_entered_1 : cX0_entered.data.toList.drop 22 = dktX0_entered_1 := dk_seg dksX0_entered_0 22 rfl rfl
theorem dX0_entered_0 : decode cX0_entered 0 = .ok (.iload_n 1, 1) := dk_27 (dk_at dksX0_entered_0 0 rfl rfl)
theorem dX0_entered_1 : decode cX0_entered 1 = .ok (.istore_n 3, 1) := dk_62 (dk_at dksX0_entered_0 1 rfl rfl)
theorem dX0_entered_2 : decode cX0_entered 2 = .ok (.iload_n 3, 1) := dk_29 (dk_at dksX0_entered_0 2 rfl rfl)
theorem dX0_entered_3 : decode cX0_entered 3 = .ok (.aload_n 0, 1) := dk_42 (dk_at dksX0_entered_0 3 rfl rfl)
theorem dX0_entered_4 : decode cX0_entered 4 = .ok (.getfield 12, 3) := dk_180 0 12 (dk_at dksX0_entered_0 4 rfl rfl)
theorem dX0_entered_7 : decode cX0_entered 7 = .ok (.getfield 324, 3) := dk_180 1 68 (dk_at dksX0_entered_0 7 rfl rfl)
theorem dX0_entered_10 : decode cX0_entered 10 = .ok (.iload_n 2, 1) := dk_28 (dk_at dksX0_entered_0 10 rfl rfl)
theorem dX0_entered_11 : decode cX0_entered 11 = .ok (.iaload, 1) := dk_46 (dk_at dksX0_entered_0 11 rfl rfl)
theorem dX0_entered_12 : decode cX0_entered 12 = .ok (.irem, 1) := dk_112 (dk_at dksX0_entered_0 12 rfl rfl)
theorem dX0_entered_13 : decode cX0_entered 13 = .ok (.aload_n 0, 1) := dk_42 (dk_at dksX0_entered_0 13 rfl rfl)
theorem dX0_entered_14 : decode cX0_entered 14 = .ok (.getfield 12, 3) := dk_180 0 12 (dk_at dksX0_entered_0 14 rfl rfl)
theorem dX0_entered_17 : decode cX0_entered 17 = .ok (.getfield 327, 3) := dk_180 1 71 (dk_at dksX0_entered_0 17 rfl rfl)
theorem dX0_entered_20 : decode cX0_entered 20 = .ok (.iload_n 2, 1) := dk_28 (dk_at dksX0_entered_0 20 rfl rfl)
theorem dX0_entered_21 : decode cX0_entered 21 = .ok (.iaload, 1) := dk_46 (dk_at dksX0_entered_0 21 rfl rfl)
theorem dX0_entered_22 : decode cX0_entered 22 = .ok (.if_icmp .eq 9, 3) := dk_159 0 9 (dk_at dksX0_entered_1 0 rfl rfl)
theorem dX0_entered_25 : decode cX0_entered 25 = .ok (.iinc 3 1, 3) := dk_132 3 1 (dk_at dksX0_entered_1 3 rfl rfl)
theorem dX0_entered_28 : decode cX0_entered 28 = .ok (.goto (-26), 3) := dk_167 255 230 (dk_at dksX0_entered_1 6 rfl rfl)
theorem dX0_entered_31 : decode cX0_entered 31 = .ok (.iload_n 3, 1) := dk_29 (dk_at dksX0_entered_1 9 rfl rfl)
theorem dX0_entered_32 : decode cX0_entered 32 = .ok (.iconst 1, 1) := dk_4 (dk_at dksX0_entered_1 10 rfl rfl)
theorem dX0_entered_33 : decode cX0_entered 33 = .ok (.iadd, 1) := dk_96 (dk_at dksX0_entered_1 11 rfl rfl)
theorem dX0_entered_34 : decode cX0_entered 34 = .ok (.ireturn, 1) := dk_172 (dk_at dksX0_entered_1 12 rfl rfl)
abbrev cX0_returns : ByteArray := prog_1_method_72_code
def yX0_returns : MethodName := ⟨RX0, "returns", "(I)I"⟩
def dkwX0_returns_0 : List UInt8 := [42, 27, 133, 182, 0, 181, 153, 0, 11, 42, 27, 182, 1, 82, 167, 0, 5, 16, 254, 172]
abbrev dktX0_returns_0 : List UInt8 := dkwX0_returns_0 ++ []
theorem dksX0_returns_0 : cX0_returns.data.toList.drop 0 = dktX0_returns_0 := by decide +kernel
theorem dX0_returns_0 : decode cX0_returns 0 = .ok (.aload_n 0, 1) := dk_42 (dk_at dksX0_returns_0 0 rfl rfl)
theorem dX0_returns_1 : decode cX0_returns 1 = .ok (.iload_n 1, 1) := dk_27 (dk_at dksX0_returns_0 1 rfl rfl)
theorem dX0_returns_2 : decode cX0_returns 2 = .ok (.i2l, 1) := dk_133 (dk_at dksX0_returns_0 2 rfl rfl)
theorem dX0_returns_3 : decode cX0_returns 3 = .ok (.invokevirtual 181, 3) := dk_182 0 181 (dk_at dksX0_returns_0 3 rfl rfl)
theorem dX0_returns_6 : decode cX0_returns 6 = .ok (.ifCond .eq 11, 3) := dk_153 0 11 (dk_at dksX0_returns_0 6 rfl rfl)
theorem dX0_returns_9 : decode cX0_returns 9 = .ok (.aload_n 0, 1) := dk_42 (dk_at dksX0_returns_0 9 rfl rfl)
theorem dX0_returns_10 : decode cX0_returns 10 = .ok (.iload_n 1, 1) := dk_27 (dk_at dksX0_returns_0 10 rfl rfl)
theorem dX0_returns_11 : decode cX0_returns 11 = .ok (.invokevirtual 338, 3) := dk_182 1 82 (dk_at dksX0_returns_0 11 rfl rfl)
theorem dX0_returns_14 : decode cX0_returns 14 = .ok (.goto 5, 3) := dk_167 0 5 (dk_at dksX0_returns_0 14 rfl rfl)
theorem dX0_returns_17 : decode cX0_returns 17 = .ok (.bipush (-2), 2) := dk_16 254 (dk_at dksX0_returns_0 17 rfl rfl)
theorem dX0_returns_19 : decode cX0_returns 19 = .ok (.ireturn, 1) := dk_172 (dk_at dksX0_returns_0 19 rfl rfl)
abbrev cX0_goesBack : ByteArray := prog_1_method_70_code
def yX0_goesBack : MethodName := ⟨RX0, "goesBack", "(I)I"⟩
def dkwX0_goesBack_1 : List UInt8 := [180, 0, 67, 29, 28, 79, 132, 3, 255, 167, 255, 235, 28, 4, 96, 172]
abbrev dktX0_goesBack_1 : List UInt8 := dkwX0_goesBack_1 ++ []
def dkwX0_goesBack_0 : List UInt8 := [27, 61, 42, 180, 0, 12, 180, 1, 73, 4, 100, 62, 29, 155, 0, 23, 42, 28, 29, 182, 1, 76, 61, 42]
abbrev dktX0_goesBack_0 : List UInt8 := dkwX0_goesBack_0 ++ dktX0_goesBack_1
theorem dksX0_goesBack_0 : cX0_goesBack.data.toList.drop 0 = dktX0_goesBack_0 := by decide +kernel
theorem dksX0_goesBack_1 : cX0_goesBack.data.toList.drop 24 = dktX0_goesBack_1 := dk_seg dksX0_goesBack_0 24 rfl rfl
theorem dX0_goesBack_0 : decode cX0_goesBack 0 = .ok (.iload_n 1, 1) := dk_27 (dk_at dksX0_goesBack_0 0 rfl rfl)
theorem dX0_goesBack_1 : decode cX0_goesBack 1 = .ok (.istore_n 2, 1) := dk_61 (dk_at dksX0_goesBack_0 1 rfl rfl)
theorem dX0_goesBack_2 : decode cX0_goesBack 2 = .ok (.aload_n 0, 1) := dk_42 (dk_at dksX0_goesBack_0 2 rfl rfl)
theorem dX0_goesBack_3 : decode cX0_goesBack 3 = .ok (.getfield 12, 3) := dk_180 0 12 (dk_at dksX0_goesBack_0 3 rfl rfl)
theorem dX0_goesBack_6 : decode cX0_goesBack 6 = .ok (.getfield 329, 3) := dk_180 1 73 (dk_at dksX0_goesBack_0 6 rfl rfl)
theorem dX0_goesBack_9 : decode cX0_goesBack 9 = .ok (.iconst 1, 1) := dk_4 (dk_at dksX0_goesBack_0 9 rfl rfl)
theorem dX0_goesBack_10 : decode cX0_goesBack 10 = .ok (.isub, 1) := dk_100 (dk_at dksX0_goesBack_0 10 rfl rfl)
theorem dX0_goesBack_11 : decode cX0_goesBack 11 = .ok (.istore_n 3, 1) := dk_62 (dk_at dksX0_goesBack_0 11 rfl rfl)
theorem dX0_goesBack_12 : decode cX0_goesBack 12 = .ok (.iload_n 3, 1) := dk_29 (dk_at dksX0_goesBack_0 12 rfl rfl)
theorem dX0_goesBack_13 : decode cX0_goesBack 13 = .ok (.ifCond .lt 23, 3) := dk_155 0 23 (dk_at dksX0_goesBack_0 13 rfl rfl)
theorem dX0_goesBack_16 : decode cX0_goesBack 16 = .ok (.aload_n 0, 1) := dk_42 (dk_at dksX0_goesBack_0 16 rfl rfl)
theorem dX0_goesBack_17 : decode cX0_goesBack 17 = .ok (.iload_n 2, 1) := dk_28 (dk_at dksX0_goesBack_0 17 rfl rfl)
theorem dX0_goesBack_18 : decode cX0_goesBack 18 = .ok (.iload_n 3, 1) := dk_29 (dk_at dksX0_goesBack_0 18 rfl rfl)
theorem dX0_goesBack_19 : decode cX0_goesBack 19 = .ok (.invokevirtual 332, 3) := dk_182 1 76 (dk_at dksX0_goesBack_0 19 rfl rfl)
theorem dX0_goesBack_22 : decode cX0_goesBack 22 = .ok (.istore_n 2, 1) := dk_61 (dk_at dksX0_goesBack_0 22 rfl rfl)
theorem dX0_goesBack_23 : decode cX0_goesBack 23 = .ok (.aload_n 0, 1) := dk_42 (dk_at dksX0_goesBack_0 23 rfl rfl)
theorem dX0_goesBack_24 : decode cX0_goesBack 24 = .ok (.getfield 67, 3) := dk_180 0 67 (dk_at dksX0_goesBack_1 0 rfl rfl)
theorem dX0_goesBack_27 : decode cX0_goesBack 27 = .ok (.iload_n 3, 1) := dk_29 (dk_at dksX0_goesBack_1 3 rfl rfl)
theorem dX0_goesBack_28 : decode cX0_goesBack 28 = .ok (.iload_n 2, 1) := dk_28 (dk_at dksX0_goesBack_1 4 rfl rfl)
theorem dX0_goesBack_29 : decode cX0_goesBack 29 = .ok (.iastore, 1) := dk_79 (dk_at dksX0_goesBack_1 5 rfl rfl)
theorem dX0_goesBack_30 : decode cX0_goesBack 30 = .ok (.iinc 3 (-1), 3) := dk_132 3 255 (dk_at dksX0_goesBack_1 6 rfl rfl)
theorem dX0_goesBack_33 : decode cX0_goesBack 33 = .ok (.goto (-21), 3) := dk_167 255 235 (dk_at dksX0_goesBack_1 9 rfl rfl)
theorem dX0_goesBack_36 : decode cX0_goesBack 36 = .ok (.iload_n 2, 1) := dk_28 (dk_at dksX0_goesBack_1 12 rfl rfl)
theorem dX0_goesBack_37 : decode cX0_goesBack 37 = .ok (.iconst 1, 1) := dk_4 (dk_at dksX0_goesBack_1 13 rfl rfl)
theorem dX0_goesBack_38 : decode cX0_goesBack 38 = .ok (.iadd, 1) := dk_96 (dk_at dksX0_goesBack_1 14 rfl rfl)
theorem dX0_goesBack_39 : decode cX0_goesBack 39 = .ok (.ireturn, 1) := dk_172 (dk_at dksX0_goesBack_1 15 rfl rfl)
abbrev cX0_meet : ByteArray := prog_1_method_74_code
def yX0_meet : MethodName := ⟨RX0, "meet", "(II)I"⟩
def dkwX0_meet_1 : List UInt8 := [182, 1, 88, 87, 42, 180, 1, 85, 172]
abbrev dktX0_meet_1 : List UInt8 := dkwX0_meet_1 ++ []
def dkwX0_meet_0 : List UInt8 := [42, 27, 133, 182, 0, 181, 153, 0, 12, 42, 28, 133, 182, 0, 181, 154, 0, 6, 16, 254, 172, 42, 27, 28]
abbrev dktX0_meet_0 : List UInt8 := dkwX0_meet_0 ++ dktX0_meet_1
theorem dksX0_meet_0 : cX0_meet.data.toList.drop 0 = dktX0_meet_0 := by decide +kernel
theorem dksX0_meet_1 : cX0_meet.data.toList.drop 24 = dktX0_meet_1 := dk_seg dksX0_meet_0 24 rfl rfl
theorem dX0_meet_0 : decode cX0_meet 0 = .ok (.aload_n 0, 1) := dk_42 (dk_at dksX0_meet_0 0 rfl rfl)
theorem dX0_meet_1 : decode cX0_meet 1 = .ok (.iload_n 1, 1) := dk_27 (dk_at dksX0_meet_0 1 rfl rfl)
theorem dX0_meet_2 : decode cX0_meet 2 = .ok (.i2l, 1) := dk_133 (dk_at dksX0_meet_0 2 rfl rfl)
theorem dX0_meet_3 : decode cX0_meet 3 = .ok (.invokevirtual 181, 3) := dk_182 0 181 (dk_at dksX0_meet_0 3 rfl rfl)
theorem dX0_meet_6 : decode cX0_meet 6 = .ok (.ifCond .eq 12, 3) := dk_153 0 12 (dk_at dksX0_meet_0 6 rfl rfl)
theorem dX0_meet_9 : decode cX0_meet 9 = .ok (.aload_n 0, 1) := dk_42 (dk_at dksX0_meet_0 9 rfl rfl)
theorem dX0_meet_10 : decode cX0_meet 10 = .ok (.iload_n 2, 1) := dk_28 (dk_at dksX0_meet_0 10 rfl rfl)
theorem dX0_meet_11 : decode cX0_meet 11 = .ok (.i2l, 1) := dk_133 (dk_at dksX0_meet_0 11 rfl rfl)
theorem dX0_meet_12 : decode cX0_meet 12 = .ok (.invokevirtual 181, 3) := dk_182 0 181 (dk_at dksX0_meet_0 12 rfl rfl)
theorem dX0_meet_15 : decode cX0_meet 15 = .ok (.ifCond .ne 6, 3) := dk_154 0 6 (dk_at dksX0_meet_0 15 rfl rfl)
theorem dX0_meet_18 : decode cX0_meet 18 = .ok (.bipush (-2), 2) := dk_16 254 (dk_at dksX0_meet_0 18 rfl rfl)
theorem dX0_meet_20 : decode cX0_meet 20 = .ok (.ireturn, 1) := dk_172 (dk_at dksX0_meet_0 20 rfl rfl)
theorem dX0_meet_21 : decode cX0_meet 21 = .ok (.aload_n 0, 1) := dk_42 (dk_at dksX0_meet_0 21 rfl rfl)
theorem dX0_meet_22 : decode cX0_meet 22 = .ok (.iload_n 1, 1) := dk_27 (dk_at dksX0_meet_0 22 rfl rfl)
theorem dX0_meet_23 : decode cX0_meet 23 = .ok (.iload_n 2, 1) := dk_28 (dk_at dksX0_meet_0 23 rfl rfl)
theorem dX0_meet_24 : decode cX0_meet 24 = .ok (.invokevirtual 344, 3) := dk_182 1 88 (dk_at dksX0_meet_1 0 rfl rfl)
theorem dX0_meet_27 : decode cX0_meet 27 = .ok (.pop, 1) := dk_87 (dk_at dksX0_meet_1 3 rfl rfl)
theorem dX0_meet_28 : decode cX0_meet 28 = .ok (.aload_n 0, 1) := dk_42 (dk_at dksX0_meet_1 4 rfl rfl)
theorem dX0_meet_29 : decode cX0_meet 29 = .ok (.getfield 341, 3) := dk_180 1 85 (dk_at dksX0_meet_1 5 rfl rfl)
theorem dX0_meet_32 : decode cX0_meet 32 = .ok (.ireturn, 1) := dk_172 (dk_at dksX0_meet_1 8 rfl rfl)
abbrev cX0_meetCell : ByteArray := prog_1_method_73_code
def yX0_meetCell : MethodName := ⟨RX0, "meetCell", "(II)I"⟩
def dkwX0_meetCell_3 : List UInt8 := [21, 5, 181, 1, 85, 21, 4, 62, 132, 4, 1, 167, 255, 196, 29, 172]
abbrev dktX0_meetCell_3 : List UInt8 := dkwX0_meetCell_3 ++ []
def dkwX0_meetCell_2 : List UInt8 := [184, 1, 56, 54, 5, 29, 2, 159, 0, 15, 21, 5, 42, 180, 1, 85, 161, 0, 6, 167, 0, 12, 42]
abbrev dktX0_meetCell_2 : List UInt8 := dkwX0_meetCell_2 ++ dktX0_meetCell_3
def dkwX0_meetCell_1 : List UInt8 := [42, 180, 0, 12, 180, 1, 73, 162, 0, 54, 42, 180, 0, 64, 21, 4, 46, 42, 180, 0, 67, 21, 4, 46]
abbrev dktX0_meetCell_1 : List UInt8 := dkwX0_meetCell_1 ++ dktX0_meetCell_2
def dkwX0_meetCell_0 : List UInt8 := [42, 27, 182, 1, 79, 87, 42, 28, 182, 1, 82, 87, 42, 2, 181, 1, 85, 2, 62, 3, 54, 4, 21, 4]
abbrev dktX0_meetCell_0 : List UInt8 := dkwX0_meetCell_0 ++ dktX0_meetCell_1
theorem dksX0_meetCell_0 : cX0_meetCell.data.toList.drop 0 = dktX0_meetCell_0 := by decide +kernel
theorem dksX0_meetCell_1 : cX0_meetCell.data.toList.drop 24 = dktX0_meetCell_1 := dk_seg dksX0_meetCell_0 24 rfl rfl
theorem dksX0_meetCell_2 : cX0_meetCell.data.toList.drop 48 = dktX0_meetCell_2 := dk_seg dksX0_meetCell_1 24 rfl rfl
theorem dksX0_meetCell_3 : cX0_meetCell.data.toList.drop 71 = dktX0_meetCell_3 := dk_seg dksX0_meetCell_2 23 rfl rfl
theorem dX0_meetCell_0 : decode cX0_meetCell 0 = .ok (.aload_n 0, 1) := dk_42 (dk_at dksX0_meetCell_0 0 rfl rfl)
theorem dX0_meetCell_1 : decode cX0_meetCell 1 = .ok (.iload_n 1, 1) := dk_27 (dk_at dksX0_meetCell_0 1 rfl rfl)
theorem dX0_meetCell_2 : decode cX0_meetCell 2 = .ok (.invokevirtual 335, 3) := dk_182 1 79 (dk_at dksX0_meetCell_0 2 rfl rfl)
theorem dX0_meetCell_5 : decode cX0_meetCell 5 = .ok (.pop, 1) := dk_87 (dk_at dksX0_meetCell_0 5 rfl rfl)
theorem dX0_meetCell_6 : decode cX0_meetCell 6 = .ok (.aload_n 0, 1) := dk_42 (dk_at dksX0_meetCell_0 6 rfl rfl)
theorem dX0_meetCell_7 : decode cX0_meetCell 7 = .ok (.iload_n 2, 1) := dk_28 (dk_at dksX0_meetCell_0 7 rfl rfl)
theorem dX0_meetCell_8 : decode cX0_meetCell 8 = .ok (.invokevirtual 338, 3) := dk_182 1 82 (dk_at dksX0_meetCell_0 8 rfl rfl)
theorem dX0_meetCell_11 : decode cX0_meetCell 11 = .ok (.pop, 1) := dk_87 (dk_at dksX0_meetCell_0 11 rfl rfl)
theorem dX0_meetCell_12 : decode cX0_meetCell 12 = .ok (.aload_n 0, 1) := dk_42 (dk_at dksX0_meetCell_0 12 rfl rfl)
theorem dX0_meetCell_13 : decode cX0_meetCell 13 = .ok (.iconst (-1), 1) := dk_2 (dk_at dksX0_meetCell_0 13 rfl rfl)
theorem dX0_meetCell_14 : decode cX0_meetCell 14 = .ok (.putfield 341, 3) := dk_181 1 85 (dk_at dksX0_meetCell_0 14 rfl rfl)
theorem dX0_meetCell_17 : decode cX0_meetCell 17 = .ok (.iconst (-1), 1) := dk_2 (dk_at dksX0_meetCell_0 17 rfl rfl)
theorem dX0_meetCell_18 : decode cX0_meetCell 18 = .ok (.istore_n 3, 1) := dk_62 (dk_at dksX0_meetCell_0 18 rfl rfl)
theorem dX0_meetCell_19 : decode cX0_meetCell 19 = .ok (.iconst 0, 1) := dk_3 (dk_at dksX0_meetCell_0 19 rfl rfl)
theorem dX0_meetCell_20 : decode cX0_meetCell 20 = .ok (.istore 4, 2) := dk_54 4 (dk_at dksX0_meetCell_0 20 rfl rfl)
theorem dX0_meetCell_22 : decode cX0_meetCell 22 = .ok (.iload 4, 2) := dk_21 4 (dk_at dksX0_meetCell_0 22 rfl rfl)
theorem dX0_meetCell_24 : decode cX0_meetCell 24 = .ok (.aload_n 0, 1) := dk_42 (dk_at dksX0_meetCell_1 0 rfl rfl)
theorem dX0_meetCell_25 : decode cX0_meetCell 25 = .ok (.getfield 12, 3) := dk_180 0 12 (dk_at dksX0_meetCell_1 1 rfl rfl)
theorem dX0_meetCell_28 : decode cX0_meetCell 28 = .ok (.getfield 329, 3) := dk_180 1 73 (dk_at dksX0_meetCell_1 4 rfl rfl)
theorem dX0_meetCell_31 : decode cX0_meetCell 31 = .ok (.if_icmp .ge 54, 3) := dk_162 0 54 (dk_at dksX0_meetCell_1 7 rfl rfl)
theorem dX0_meetCell_34 : decode cX0_meetCell 34 = .ok (.aload_n 0, 1) := dk_42 (dk_at dksX0_meetCell_1 10 rfl rfl)
theorem dX0_meetCell_35 : decode cX0_meetCell 35 = .ok (.getfield 64, 3) := dk_180 0 64 (dk_at dksX0_meetCell_1 11 rfl rfl)
theorem dX0_meetCell_38 : decode cX0_meetCell 38 = .ok (.iload 4, 2) := dk_21 4 (dk_at dksX0_meetCell_1 14 rfl rfl)
theorem dX0_meetCell_40 : decode cX0_meetCell 40 = .ok (.iaload, 1) := dk_46 (dk_at dksX0_meetCell_1 16 rfl rfl)
theorem dX0_meetCell_41 : decode cX0_meetCell 41 = .ok (.aload_n 0, 1) := dk_42 (dk_at dksX0_meetCell_1 17 rfl rfl)
theorem dX0_meetCell_42 : decode cX0_meetCell 42 = .ok (.getfield 67, 3) := dk_180 0 67 (dk_at dksX0_meetCell_1 18 rfl rfl)
theorem dX0_meetCell_45 : decode cX0_meetCell 45 = .ok (.iload 4, 2) := dk_21 4 (dk_at dksX0_meetCell_1 21 rfl rfl)
theorem dX0_meetCell_47 : decode cX0_meetCell 47 = .ok (.iaload, 1) := dk_46 (dk_at dksX0_meetCell_1 23 rfl rfl)
theorem dX0_meetCell_48 : decode cX0_meetCell 48 = .ok (.invokestatic 312, 3) := dk_184 1 56 (dk_at dksX0_meetCell_2 0 rfl rfl)
theorem dX0_meetCell_51 : decode cX0_meetCell 51 = .ok (.istore 5, 2) := dk_54 5 (dk_at dksX0_meetCell_2 3 rfl rfl)
theorem dX0_meetCell_53 : decode cX0_meetCell 53 = .ok (.iload_n 3, 1) := dk_29 (dk_at dksX0_meetCell_2 5 rfl rfl)
theorem dX0_meetCell_54 : decode cX0_meetCell 54 = .ok (.iconst (-1), 1) := dk_2 (dk_at dksX0_meetCell_2 6 rfl rfl)
theorem dX0_meetCell_55 : decode cX0_meetCell 55 = .ok (.if_icmp .eq 15, 3) := dk_159 0 15 (dk_at dksX0_meetCell_2 7 rfl rfl)
theorem dX0_meetCell_58 : decode cX0_meetCell 58 = .ok (.iload 5, 2) := dk_21 5 (dk_at dksX0_meetCell_2 10 rfl rfl)
theorem dX0_meetCell_60 : decode cX0_meetCell 60 = .ok (.aload_n 0, 1) := dk_42 (dk_at dksX0_meetCell_2 12 rfl rfl)
theorem dX0_meetCell_61 : decode cX0_meetCell 61 = .ok (.getfield 341, 3) := dk_180 1 85 (dk_at dksX0_meetCell_2 13 rfl rfl)
theorem dX0_meetCell_64 : decode cX0_meetCell 64 = .ok (.if_icmp .lt 6, 3) := dk_161 0 6 (dk_at dksX0_meetCell_2 16 rfl rfl)
theorem dX0_meetCell_67 : decode cX0_meetCell 67 = .ok (.goto 12, 3) := dk_167 0 12 (dk_at dksX0_meetCell_2 19 rfl rfl)
theorem dX0_meetCell_70 : decode cX0_meetCell 70 = .ok (.aload_n 0, 1) := dk_42 (dk_at dksX0_meetCell_2 22 rfl rfl)
theorem dX0_meetCell_71 : decode cX0_meetCell 71 = .ok (.iload 5, 2) := dk_21 5 (dk_at dksX0_meetCell_3 0 rfl rfl)
theorem dX0_meetCell_73 : decode cX0_meetCell 73 = .ok (.putfield 341, 3) := dk_181 1 85 (dk_at dksX0_meetCell_3 2 rfl rfl)
theorem dX0_meetCell_76 : decode cX0_meetCell 76 = .ok (.iload 4, 2) := dk_21 4 (dk_at dksX0_meetCell_3 5 rfl rfl)
theorem dX0_meetCell_78 : decode cX0_meetCell 78 = .ok (.istore_n 3, 1) := dk_62 (dk_at dksX0_meetCell_3 7 rfl rfl)
theorem dX0_meetCell_79 : decode cX0_meetCell 79 = .ok (.iinc 4 1, 3) := dk_132 4 1 (dk_at dksX0_meetCell_3 8 rfl rfl)
theorem dX0_meetCell_82 : decode cX0_meetCell 82 = .ok (.goto (-60), 3) := dk_167 255 196 (dk_at dksX0_meetCell_3 11 rfl rfl)
theorem dX0_meetCell_85 : decode cX0_meetCell 85 = .ok (.iload_n 3, 1) := dk_29 (dk_at dksX0_meetCell_3 14 rfl rfl)
theorem dX0_meetCell_86 : decode cX0_meetCell 86 = .ok (.ireturn, 1) := dk_172 (dk_at dksX0_meetCell_3 15 rfl rfl)
abbrev cX0_cell : ByteArray := prog_1_method_75_code
def yX0_cell : MethodName := ⟨RX0, "cell", "(II)I"⟩
def dkwX0_cell_1 : List UInt8 := [167, 0, 5, 16, 254, 172]
abbrev dktX0_cell_1 : List UInt8 := dkwX0_cell_1 ++ []
def dkwX0_cell_0 : List UInt8 := [42, 27, 133, 182, 0, 181, 153, 0, 21, 42, 28, 133, 182, 0, 181, 153, 0, 12, 42, 27, 28, 182, 1, 88]
abbrev dktX0_cell_0 : List UInt8 := dkwX0_cell_0 ++ dktX0_cell_1
theorem dksX0_cell_0 : cX0_cell.data.toList.drop 0 = dktX0_cell_0 := by decide +kernel
theorem dksX0_cell_1 : cX0_cell.data.toList.drop 24 = dktX0_cell_1 := dk_seg dksX0_cell_0 24 rfl rfl
theorem dX0_cell_0 : decode cX0_cell 0 = .ok (.aload_n 0, 1) := dk_42 (dk_at dksX0_cell_0 0 rfl rfl)
theorem dX0_cell_1 : decode cX0_cell 1 = .ok (.iload_n 1, 1) := dk_27 (dk_at dksX0_cell_0 1 rfl rfl)
theorem dX0_cell_2 : decode cX0_cell 2 = .ok (.i2l, 1) := dk_133 (dk_at dksX0_cell_0 2 rfl rfl)
theorem dX0_cell_3 : decode cX0_cell 3 = .ok (.invokevirtual 181, 3) := dk_182 0 181 (dk_at dksX0_cell_0 3 rfl rfl)
theorem dX0_cell_6 : decode cX0_cell 6 = .ok (.ifCond .eq 21, 3) := dk_153 0 21 (dk_at dksX0_cell_0 6 rfl rfl)
theorem dX0_cell_9 : decode cX0_cell 9 = .ok (.aload_n 0, 1) := dk_42 (dk_at dksX0_cell_0 9 rfl rfl)
theorem dX0_cell_10 : decode cX0_cell 10 = .ok (.iload_n 2, 1) := dk_28 (dk_at dksX0_cell_0 10 rfl rfl)
theorem dX0_cell_11 : decode cX0_cell 11 = .ok (.i2l, 1) := dk_133 (dk_at dksX0_cell_0 11 rfl rfl)
theorem dX0_cell_12 : decode cX0_cell 12 = .ok (.invokevirtual 181, 3) := dk_182 0 181 (dk_at dksX0_cell_0 12 rfl rfl)
theorem dX0_cell_15 : decode cX0_cell 15 = .ok (.ifCond .eq 12, 3) := dk_153 0 12 (dk_at dksX0_cell_0 15 rfl rfl)
theorem dX0_cell_18 : decode cX0_cell 18 = .ok (.aload_n 0, 1) := dk_42 (dk_at dksX0_cell_0 18 rfl rfl)
theorem dX0_cell_19 : decode cX0_cell 19 = .ok (.iload_n 1, 1) := dk_27 (dk_at dksX0_cell_0 19 rfl rfl)
theorem dX0_cell_20 : decode cX0_cell 20 = .ok (.iload_n 2, 1) := dk_28 (dk_at dksX0_cell_0 20 rfl rfl)
theorem dX0_cell_21 : decode cX0_cell 21 = .ok (.invokevirtual 344, 3) := dk_182 1 88 (dk_at dksX0_cell_0 21 rfl rfl)
theorem dX0_cell_24 : decode cX0_cell 24 = .ok (.goto 5, 3) := dk_167 0 5 (dk_at dksX0_cell_1 0 rfl rfl)
theorem dX0_cell_27 : decode cX0_cell 27 = .ok (.bipush (-2), 2) := dk_16 254 (dk_at dksX0_cell_1 3 rfl rfl)
theorem dX0_cell_29 : decode cX0_cell 29 = .ok (.ireturn, 1) := dk_172 (dk_at dksX0_cell_1 5 rfl rfl)
abbrev cX0_longest : ByteArray := prog_1_method_76_code
def yX0_longest : MethodName := ⟨RX0, "longest", "()I"⟩
def dkwX0_longest_1 : List UInt8 := [182, 1, 79, 28, 100, 184, 1, 56, 60, 132, 2, 1, 167, 255, 234, 27, 172]
abbrev dktX0_longest_1 : List UInt8 := dkwX0_longest_1 ++ []
def dkwX0_longest_0 : List UInt8 := [42, 182, 0, 128, 154, 0, 6, 16, 254, 172, 3, 60, 3, 61, 28, 17, 0, 200, 162, 0, 21, 27, 42, 28]
abbrev dktX0_longest_0 : List UInt8 := dkwX0_longest_0 ++ dktX0_longest_1
theorem dksX0_longest_0 : cX0_longest.data.toList.drop 0 = dktX0_longest_0 := by decide +kernel
theorem dksX0_longest_1 : cX0_longest.data.toList.drop 24 = dktX0_longest_1 := dk_seg dksX0_longest_0 24 rfl rfl
theorem dX0_longest_0 : decode cX0_longest 0 = .ok (.aload_n 0, 1) := dk_42 (dk_at dksX0_longest_0 0 rfl rfl)
theorem dX0_longest_1 : decode cX0_longest 1 = .ok (.invokevirtual 128, 3) := dk_182 0 128 (dk_at dksX0_longest_0 1 rfl rfl)
theorem dX0_longest_4 : decode cX0_longest 4 = .ok (.ifCond .ne 6, 3) := dk_154 0 6 (dk_at dksX0_longest_0 4 rfl rfl)
theorem dX0_longest_7 : decode cX0_longest 7 = .ok (.bipush (-2), 2) := dk_16 254 (dk_at dksX0_longest_0 7 rfl rfl)
theorem dX0_longest_9 : decode cX0_longest 9 = .ok (.ireturn, 1) := dk_172 (dk_at dksX0_longest_0 9 rfl rfl)
theorem dX0_longest_10 : decode cX0_longest 10 = .ok (.iconst 0, 1) := dk_3 (dk_at dksX0_longest_0 10 rfl rfl)
theorem dX0_longest_11 : decode cX0_longest 11 = .ok (.istore_n 1, 1) := dk_60 (dk_at dksX0_longest_0 11 rfl rfl)
theorem dX0_longest_12 : decode cX0_longest 12 = .ok (.iconst 0, 1) := dk_3 (dk_at dksX0_longest_0 12 rfl rfl)
theorem dX0_longest_13 : decode cX0_longest 13 = .ok (.istore_n 2, 1) := dk_61 (dk_at dksX0_longest_0 13 rfl rfl)
theorem dX0_longest_14 : decode cX0_longest 14 = .ok (.iload_n 2, 1) := dk_28 (dk_at dksX0_longest_0 14 rfl rfl)
theorem dX0_longest_15 : decode cX0_longest 15 = .ok (.sipush 200, 3) := dk_17 0 200 (dk_at dksX0_longest_0 15 rfl rfl)
theorem dX0_longest_18 : decode cX0_longest 18 = .ok (.if_icmp .ge 21, 3) := dk_162 0 21 (dk_at dksX0_longest_0 18 rfl rfl)
theorem dX0_longest_21 : decode cX0_longest 21 = .ok (.iload_n 1, 1) := dk_27 (dk_at dksX0_longest_0 21 rfl rfl)
theorem dX0_longest_22 : decode cX0_longest 22 = .ok (.aload_n 0, 1) := dk_42 (dk_at dksX0_longest_0 22 rfl rfl)
theorem dX0_longest_23 : decode cX0_longest 23 = .ok (.iload_n 2, 1) := dk_28 (dk_at dksX0_longest_0 23 rfl rfl)
theorem dX0_longest_24 : decode cX0_longest 24 = .ok (.invokevirtual 335, 3) := dk_182 1 79 (dk_at dksX0_longest_1 0 rfl rfl)
theorem dX0_longest_27 : decode cX0_longest 27 = .ok (.iload_n 2, 1) := dk_28 (dk_at dksX0_longest_1 3 rfl rfl)
theorem dX0_longest_28 : decode cX0_longest 28 = .ok (.isub, 1) := dk_100 (dk_at dksX0_longest_1 4 rfl rfl)
theorem dX0_longest_29 : decode cX0_longest 29 = .ok (.invokestatic 312, 3) := dk_184 1 56 (dk_at dksX0_longest_1 5 rfl rfl)
theorem dX0_longest_32 : decode cX0_longest 32 = .ok (.istore_n 1, 1) := dk_60 (dk_at dksX0_longest_1 8 rfl rfl)
theorem dX0_longest_33 : decode cX0_longest 33 = .ok (.iinc 2 1, 3) := dk_132 2 1 (dk_at dksX0_longest_1 9 rfl rfl)
theorem dX0_longest_36 : decode cX0_longest 36 = .ok (.goto (-22), 3) := dk_167 255 234 (dk_at dksX0_longest_1 12 rfl rfl)
theorem dX0_longest_39 : decode cX0_longest 39 = .ok (.iload_n 1, 1) := dk_27 (dk_at dksX0_longest_1 15 rfl rfl)
theorem dX0_longest_40 : decode cX0_longest 40 = .ok (.ireturn, 1) := dk_172 (dk_at dksX0_longest_1 16 rfl rfl)
abbrev cX0_half : ByteArray := prog_1_method_80_code
def yX0_half : MethodName := ⟨RX0, "half", "(I)I"⟩
def dkwX0_half_0 : List UInt8 := [42, 27, 182, 1, 94, 61, 28, 156, 0, 7, 28, 167, 0, 8, 42, 27, 182, 1, 97, 172]
abbrev dktX0_half_0 : List UInt8 := dkwX0_half_0 ++ []
theorem dksX0_half_0 : cX0_half.data.toList.drop 0 = dktX0_half_0 := by decide +kernel
theorem dX0_half_0 : decode cX0_half 0 = .ok (.aload_n 0, 1) := dk_42 (dk_at dksX0_half_0 0 rfl rfl)
theorem dX0_half_1 : decode cX0_half 1 = .ok (.iload_n 1, 1) := dk_27 (dk_at dksX0_half_0 1 rfl rfl)
theorem dX0_half_2 : decode cX0_half 2 = .ok (.invokevirtual 350, 3) := dk_182 1 94 (dk_at dksX0_half_0 2 rfl rfl)
theorem dX0_half_5 : decode cX0_half 5 = .ok (.istore_n 2, 1) := dk_61 (dk_at dksX0_half_0 5 rfl rfl)
theorem dX0_half_6 : decode cX0_half 6 = .ok (.iload_n 2, 1) := dk_28 (dk_at dksX0_half_0 6 rfl rfl)
theorem dX0_half_7 : decode cX0_half 7 = .ok (.ifCond .ge 7, 3) := dk_156 0 7 (dk_at dksX0_half_0 7 rfl rfl)
theorem dX0_half_10 : decode cX0_half 10 = .ok (.iload_n 2, 1) := dk_28 (dk_at dksX0_half_0 10 rfl rfl)
theorem dX0_half_11 : decode cX0_half 11 = .ok (.goto 8, 3) := dk_167 0 8 (dk_at dksX0_half_0 11 rfl rfl)
theorem dX0_half_14 : decode cX0_half 14 = .ok (.aload_n 0, 1) := dk_42 (dk_at dksX0_half_0 14 rfl rfl)
theorem dX0_half_15 : decode cX0_half 15 = .ok (.iload_n 1, 1) := dk_27 (dk_at dksX0_half_0 15 rfl rfl)
theorem dX0_half_16 : decode cX0_half 16 = .ok (.invokevirtual 353, 3) := dk_182 1 97 (dk_at dksX0_half_0 16 rfl rfl)
theorem dX0_half_19 : decode cX0_half 19 = .ok (.ireturn, 1) := dk_172 (dk_at dksX0_half_0 19 rfl rfl)
abbrev cX0_asksHalf : ByteArray := prog_1_method_77_code
def yX0_asksHalf : MethodName := ⟨RX0, "asksHalf", "(I)I"⟩
def dkwX0_asksHalf_2 : List UInt8 := [132, 3, 1, 167, 255, 227, 3, 172, 77, 16, 250, 172]
abbrev dktX0_asksHalf_2 : List UInt8 := dkwX0_asksHalf_2 ++ []
def dkwX0_asksHalf_1 : List UInt8 := [162, 0, 30, 42, 27, 29, 182, 1, 24, 20, 1, 28, 20, 0, 138, 184, 0, 103, 154, 0, 6, 16, 254, 172]
abbrev dktX0_asksHalf_1 : List UInt8 := dkwX0_asksHalf_1 ++ dktX0_asksHalf_2
def dkwX0_asksHalf_0 : List UInt8 := [27, 184, 1, 18, 154, 0, 6, 16, 254, 172, 42, 180, 0, 85, 27, 50, 182, 1, 21, 61, 3, 62, 29, 28]
abbrev dktX0_asksHalf_0 : List UInt8 := dkwX0_asksHalf_0 ++ dktX0_asksHalf_1
theorem dksX0_asksHalf_0 : cX0_asksHalf.data.toList.drop 0 = dktX0_asksHalf_0 := by decide +kernel
theorem dksX0_asksHalf_1 : cX0_asksHalf.data.toList.drop 24 = dktX0_asksHalf_1 := dk_seg dksX0_asksHalf_0 24 rfl rfl
theorem dksX0_asksHalf_2 : cX0_asksHalf.data.toList.drop 48 = dktX0_asksHalf_2 := dk_seg dksX0_asksHalf_1 24 rfl rfl
theorem dX0_asksHalf_0 : decode cX0_asksHalf 0 = .ok (.iload_n 1, 1) := dk_27 (dk_at dksX0_asksHalf_0 0 rfl rfl)
theorem dX0_asksHalf_1 : decode cX0_asksHalf 1 = .ok (.invokestatic 274, 3) := dk_184 1 18 (dk_at dksX0_asksHalf_0 1 rfl rfl)
theorem dX0_asksHalf_4 : decode cX0_asksHalf 4 = .ok (.ifCond .ne 6, 3) := dk_154 0 6 (dk_at dksX0_asksHalf_0 4 rfl rfl)
theorem dX0_asksHalf_7 : decode cX0_asksHalf 7 = .ok (.bipush (-2), 2) := dk_16 254 (dk_at dksX0_asksHalf_0 7 rfl rfl)
theorem dX0_asksHalf_9 : decode cX0_asksHalf 9 = .ok (.ireturn, 1) := dk_172 (dk_at dksX0_asksHalf_0 9 rfl rfl)
theorem dX0_asksHalf_10 : decode cX0_asksHalf 10 = .ok (.aload_n 0, 1) := dk_42 (dk_at dksX0_asksHalf_0 10 rfl rfl)
theorem dX0_asksHalf_11 : decode cX0_asksHalf 11 = .ok (.getfield 85, 3) := dk_180 0 85 (dk_at dksX0_asksHalf_0 11 rfl rfl)
theorem dX0_asksHalf_14 : decode cX0_asksHalf 14 = .ok (.iload_n 1, 1) := dk_27 (dk_at dksX0_asksHalf_0 14 rfl rfl)
theorem dX0_asksHalf_15 : decode cX0_asksHalf 15 = .ok (.aaload, 1) := dk_50 (dk_at dksX0_asksHalf_0 15 rfl rfl)
theorem dX0_asksHalf_16 : decode cX0_asksHalf 16 = .ok (.invokevirtual 277, 3) := dk_182 1 21 (dk_at dksX0_asksHalf_0 16 rfl rfl)
theorem dX0_asksHalf_19 : decode cX0_asksHalf 19 = .ok (.istore_n 2, 1) := dk_61 (dk_at dksX0_asksHalf_0 19 rfl rfl)
theorem dX0_asksHalf_20 : decode cX0_asksHalf 20 = .ok (.iconst 0, 1) := dk_3 (dk_at dksX0_asksHalf_0 20 rfl rfl)
theorem dX0_asksHalf_21 : decode cX0_asksHalf 21 = .ok (.istore_n 3, 1) := dk_62 (dk_at dksX0_asksHalf_0 21 rfl rfl)
theorem dX0_asksHalf_22 : decode cX0_asksHalf 22 = .ok (.iload_n 3, 1) := dk_29 (dk_at dksX0_asksHalf_0 22 rfl rfl)
theorem dX0_asksHalf_23 : decode cX0_asksHalf 23 = .ok (.iload_n 2, 1) := dk_28 (dk_at dksX0_asksHalf_0 23 rfl rfl)
theorem dX0_asksHalf_24 : decode cX0_asksHalf 24 = .ok (.if_icmp .ge 30, 3) := dk_162 0 30 (dk_at dksX0_asksHalf_1 0 rfl rfl)
theorem dX0_asksHalf_27 : decode cX0_asksHalf 27 = .ok (.aload_n 0, 1) := dk_42 (dk_at dksX0_asksHalf_1 3 rfl rfl)
theorem dX0_asksHalf_28 : decode cX0_asksHalf 28 = .ok (.iload_n 1, 1) := dk_27 (dk_at dksX0_asksHalf_1 4 rfl rfl)
theorem dX0_asksHalf_29 : decode cX0_asksHalf 29 = .ok (.iload_n 3, 1) := dk_29 (dk_at dksX0_asksHalf_1 5 rfl rfl)
theorem dX0_asksHalf_30 : decode cX0_asksHalf 30 = .ok (.invokevirtual 280, 3) := dk_182 1 24 (dk_at dksX0_asksHalf_1 6 rfl rfl)
theorem dX0_asksHalf_33 : decode cX0_asksHalf 33 = .ok (.ldc2_w 284, 3) := dk_20 1 28 (dk_at dksX0_asksHalf_1 9 rfl rfl)
theorem dX0_asksHalf_36 : decode cX0_asksHalf 36 = .ok (.ldc2_w 138, 3) := dk_20 0 138 (dk_at dksX0_asksHalf_1 12 rfl rfl)
theorem dX0_asksHalf_39 : decode cX0_asksHalf 39 = .ok (.invokestatic 103, 3) := dk_184 0 103 (dk_at dksX0_asksHalf_1 15 rfl rfl)
theorem dX0_asksHalf_42 : decode cX0_asksHalf 42 = .ok (.ifCond .ne 6, 3) := dk_154 0 6 (dk_at dksX0_asksHalf_1 18 rfl rfl)
theorem dX0_asksHalf_45 : decode cX0_asksHalf 45 = .ok (.bipush (-2), 2) := dk_16 254 (dk_at dksX0_asksHalf_1 21 rfl rfl)
theorem dX0_asksHalf_47 : decode cX0_asksHalf 47 = .ok (.ireturn, 1) := dk_172 (dk_at dksX0_asksHalf_1 23 rfl rfl)
theorem dX0_asksHalf_48 : decode cX0_asksHalf 48 = .ok (.iinc 3 1, 3) := dk_132 3 1 (dk_at dksX0_asksHalf_2 0 rfl rfl)
theorem dX0_asksHalf_51 : decode cX0_asksHalf 51 = .ok (.goto (-29), 3) := dk_167 255 227 (dk_at dksX0_asksHalf_2 3 rfl rfl)
theorem dX0_asksHalf_54 : decode cX0_asksHalf 54 = .ok (.iconst 0, 1) := dk_3 (dk_at dksX0_asksHalf_2 6 rfl rfl)
theorem dX0_asksHalf_55 : decode cX0_asksHalf 55 = .ok (.ireturn, 1) := dk_172 (dk_at dksX0_asksHalf_2 7 rfl rfl)
theorem dX0_asksHalf_56 : decode cX0_asksHalf 56 = .ok (.astore_n 2, 1) := dk_77 (dk_at dksX0_asksHalf_2 8 rfl rfl)
theorem dX0_asksHalf_57 : decode cX0_asksHalf 57 = .ok (.bipush (-6), 2) := dk_16 250 (dk_at dksX0_asksHalf_2 9 rfl rfl)
theorem dX0_asksHalf_59 : decode cX0_asksHalf 59 = .ok (.ireturn, 1) := dk_172 (dk_at dksX0_asksHalf_2 11 rfl rfl)
abbrev cX0_halfOf : ByteArray := prog_1_method_79_code
def yX0_halfOf : MethodName := ⟨RX0, "halfOf", "(I)I"⟩
def dkwX0_halfOf_1 : List UInt8 := [167, 255, 236, 2, 172]
abbrev dktX0_halfOf_1 : List UInt8 := dkwX0_halfOf_1 ++ []
def dkwX0_halfOf_0 : List UInt8 := [4, 61, 28, 16, 12, 163, 0, 20, 42, 27, 28, 182, 1, 91, 153, 0, 5, 28, 172, 132, 2, 1]
abbrev dktX0_halfOf_0 : List UInt8 := dkwX0_halfOf_0 ++ dktX0_halfOf_1
theorem dksX0_halfOf_0 : cX0_halfOf.data.toList.drop 0 = dktX0_halfOf_0 := by decide +kernel
theorem dksX0_halfOf_1 : cX0_halfOf.data.toList.drop 22 = dktX0_halfOf_1 := dk_seg dksX0_halfOf_0 22 rfl rfl
theorem dX0_halfOf_0 : decode cX0_halfOf 0 = .ok (.iconst 1, 1) := dk_4 (dk_at dksX0_halfOf_0 0 rfl rfl)
theorem dX0_halfOf_1 : decode cX0_halfOf 1 = .ok (.istore_n 2, 1) := dk_61 (dk_at dksX0_halfOf_0 1 rfl rfl)
theorem dX0_halfOf_2 : decode cX0_halfOf 2 = .ok (.iload_n 2, 1) := dk_28 (dk_at dksX0_halfOf_0 2 rfl rfl)
theorem dX0_halfOf_3 : decode cX0_halfOf 3 = .ok (.bipush 12, 2) := dk_16 12 (dk_at dksX0_halfOf_0 3 rfl rfl)
theorem dX0_halfOf_5 : decode cX0_halfOf 5 = .ok (.if_icmp .gt 20, 3) := dk_163 0 20 (dk_at dksX0_halfOf_0 5 rfl rfl)
theorem dX0_halfOf_8 : decode cX0_halfOf 8 = .ok (.aload_n 0, 1) := dk_42 (dk_at dksX0_halfOf_0 8 rfl rfl)
theorem dX0_halfOf_9 : decode cX0_halfOf 9 = .ok (.iload_n 1, 1) := dk_27 (dk_at dksX0_halfOf_0 9 rfl rfl)
theorem dX0_halfOf_10 : decode cX0_halfOf 10 = .ok (.iload_n 2, 1) := dk_28 (dk_at dksX0_halfOf_0 10 rfl rfl)
theorem dX0_halfOf_11 : decode cX0_halfOf 11 = .ok (.invokevirtual 347, 3) := dk_182 1 91 (dk_at dksX0_halfOf_0 11 rfl rfl)
theorem dX0_halfOf_14 : decode cX0_halfOf 14 = .ok (.ifCond .eq 5, 3) := dk_153 0 5 (dk_at dksX0_halfOf_0 14 rfl rfl)
theorem dX0_halfOf_17 : decode cX0_halfOf 17 = .ok (.iload_n 2, 1) := dk_28 (dk_at dksX0_halfOf_0 17 rfl rfl)
theorem dX0_halfOf_18 : decode cX0_halfOf 18 = .ok (.ireturn, 1) := dk_172 (dk_at dksX0_halfOf_0 18 rfl rfl)
theorem dX0_halfOf_19 : decode cX0_halfOf 19 = .ok (.iinc 2 1, 3) := dk_132 2 1 (dk_at dksX0_halfOf_0 19 rfl rfl)
theorem dX0_halfOf_22 : decode cX0_halfOf 22 = .ok (.goto (-20), 3) := dk_167 255 236 (dk_at dksX0_halfOf_1 0 rfl rfl)
theorem dX0_halfOf_25 : decode cX0_halfOf 25 = .ok (.iconst (-1), 1) := dk_2 (dk_at dksX0_halfOf_1 3 rfl rfl)
theorem dX0_halfOf_26 : decode cX0_halfOf 26 = .ok (.ireturn, 1) := dk_172 (dk_at dksX0_halfOf_1 4 rfl rfl)
abbrev cX0_fitsLength : ByteArray := prog_1_method_78_code
def yX0_fitsLength : MethodName := ⟨RX0, "fitsLength", "(II)Z"⟩
def dkwX0_fitsLength_4 : List UInt8 := [167, 255, 185, 4, 172]
abbrev dktX0_fitsLength_4 : List UInt8 := dkwX0_fitsLength_4 ++ []
def dkwX0_fitsLength_3 : List UInt8 := [112, 46, 21, 4, 159, 0, 5, 3, 172, 42, 180, 0, 70, 29, 28, 112, 21, 4, 79, 132, 3, 1]
abbrev dktX0_fitsLength_3 : List UInt8 := dkwX0_fitsLength_3 ++ dktX0_fitsLength_4
def dkwX0_fitsLength_2 : List UInt8 := [160, 0, 6, 167, 0, 40, 42, 180, 0, 70, 29, 28, 112, 46, 2, 159, 0, 18, 42, 180, 0, 70, 29, 28]
abbrev dktX0_fitsLength_2 : List UInt8 := dkwX0_fitsLength_2 ++ dktX0_fitsLength_3
def dkwX0_fitsLength_1 : List UInt8 := [42, 180, 0, 85, 27, 50, 182, 1, 21, 162, 0, 64, 42, 27, 29, 182, 1, 24, 136, 54, 4, 21, 4, 2]
abbrev dktX0_fitsLength_1 : List UInt8 := dkwX0_fitsLength_1 ++ dktX0_fitsLength_2
def dkwX0_fitsLength_0 : List UInt8 := [3, 62, 29, 16, 12, 162, 0, 16, 42, 180, 0, 70, 29, 2, 79, 132, 3, 1, 167, 255, 240, 3, 62, 29]
abbrev dktX0_fitsLength_0 : List UInt8 := dkwX0_fitsLength_0 ++ dktX0_fitsLength_1
theorem dksX0_fitsLength_0 : cX0_fitsLength.data.toList.drop 0 = dktX0_fitsLength_0 := by decide +kernel
theorem dksX0_fitsLength_1 : cX0_fitsLength.data.toList.drop 24 = dktX0_fitsLength_1 := dk_seg dksX0_fitsLength_0 24 rfl rfl
theorem dksX0_fitsLength_2 : cX0_fitsLength.data.toList.drop 48 = dktX0_fitsLength_2 := dk_seg dksX0_fitsLength_1 24 rfl rfl
theorem dksX0_fitsLength_3 : cX0_fitsLength.data.toList.drop 72 = dktX0_fitsLength_3 := dk_seg dksX0_fitsLength_2 24 rfl rfl
theorem dksX0_fitsLength_4 : cX0_fitsLength.data.toList.drop 94 = dktX0_fitsLength_4 := dk_seg dksX0_fitsLength_3 22 rfl rfl
theorem dX0_fitsLength_0 : decode cX0_fitsLength 0 = .ok (.iconst 0, 1) := dk_3 (dk_at dksX0_fitsLength_0 0 rfl rfl)
theorem dX0_fitsLength_1 : decode cX0_fitsLength 1 = .ok (.istore_n 3, 1) := dk_62 (dk_at dksX0_fitsLength_0 1 rfl rfl)
theorem dX0_fitsLength_2 : decode cX0_fitsLength 2 = .ok (.iload_n 3, 1) := dk_29 (dk_at dksX0_fitsLength_0 2 rfl rfl)
theorem dX0_fitsLength_3 : decode cX0_fitsLength 3 = .ok (.bipush 12, 2) := dk_16 12 (dk_at dksX0_fitsLength_0 3 rfl rfl)
theorem dX0_fitsLength_5 : decode cX0_fitsLength 5 = .ok (.if_icmp .ge 16, 3) := dk_162 0 16 (dk_at dksX0_fitsLength_0 5 rfl rfl)
theorem dX0_fitsLength_8 : decode cX0_fitsLength 8 = .ok (.aload_n 0, 1) := dk_42 (dk_at dksX0_fitsLength_0 8 rfl rfl)
theorem dX0_fitsLength_9 : decode cX0_fitsLength 9 = .ok (.getfield 70, 3) := dk_180 0 70 (dk_at dksX0_fitsLength_0 9 rfl rfl)
theorem dX0_fitsLength_12 : decode cX0_fitsLength 12 = .ok (.iload_n 3, 1) := dk_29 (dk_at dksX0_fitsLength_0 12 rfl rfl)
theorem dX0_fitsLength_13 : decode cX0_fitsLength 13 = .ok (.iconst (-1), 1) := dk_2 (dk_at dksX0_fitsLength_0 13 rfl rfl)
theorem dX0_fitsLength_14 : decode cX0_fitsLength 14 = .ok (.iastore, 1) := dk_79 (dk_at dksX0_fitsLength_0 14 rfl rfl)
theorem dX0_fitsLength_15 : decode cX0_fitsLength 15 = .ok (.iinc 3 1, 3) := dk_132 3 1 (dk_at dksX0_fitsLength_0 15 rfl rfl)
theorem dX0_fitsLength_18 : decode cX0_fitsLength 18 = .ok (.goto (-16), 3) := dk_167 255 240 (dk_at dksX0_fitsLength_0 18 rfl rfl)
theorem dX0_fitsLength_21 : decode cX0_fitsLength 21 = .ok (.iconst 0, 1) := dk_3 (dk_at dksX0_fitsLength_0 21 rfl rfl)
theorem dX0_fitsLength_22 : decode cX0_fitsLength 22 = .ok (.istore_n 3, 1) := dk_62 (dk_at dksX0_fitsLength_0 22 rfl rfl)
theorem dX0_fitsLength_23 : decode cX0_fitsLength 23 = .ok (.iload_n 3, 1) := dk_29 (dk_at dksX0_fitsLength_0 23 rfl rfl)
theorem dX0_fitsLength_24 : decode cX0_fitsLength 24 = .ok (.aload_n 0, 1) := dk_42 (dk_at dksX0_fitsLength_1 0 rfl rfl)
theorem dX0_fitsLength_25 : decode cX0_fitsLength 25 = .ok (.getfield 85, 3) := dk_180 0 85 (dk_at dksX0_fitsLength_1 1 rfl rfl)
theorem dX0_fitsLength_28 : decode cX0_fitsLength 28 = .ok (.iload_n 1, 1) := dk_27 (dk_at dksX0_fitsLength_1 4 rfl rfl)
theorem dX0_fitsLength_29 : decode cX0_fitsLength 29 = .ok (.aaload, 1) := dk_50 (dk_at dksX0_fitsLength_1 5 rfl rfl)
theorem dX0_fitsLength_30 : decode cX0_fitsLength 30 = .ok (.invokevirtual 277, 3) := dk_182 1 21 (dk_at dksX0_fitsLength_1 6 rfl rfl)
theorem dX0_fitsLength_33 : decode cX0_fitsLength 33 = .ok (.if_icmp .ge 64, 3) := dk_162 0 64 (dk_at dksX0_fitsLength_1 9 rfl rfl)
theorem dX0_fitsLength_36 : decode cX0_fitsLength 36 = .ok (.aload_n 0, 1) := dk_42 (dk_at dksX0_fitsLength_1 12 rfl rfl)
theorem dX0_fitsLength_37 : decode cX0_fitsLength 37 = .ok (.iload_n 1, 1) := dk_27 (dk_at dksX0_fitsLength_1 13 rfl rfl)
theorem dX0_fitsLength_38 : decode cX0_fitsLength 38 = .ok (.iload_n 3, 1) := dk_29 (dk_at dksX0_fitsLength_1 14 rfl rfl)
theorem dX0_fitsLength_39 : decode cX0_fitsLength 39 = .ok (.invokevirtual 280, 3) := dk_182 1 24 (dk_at dksX0_fitsLength_1 15 rfl rfl)
theorem dX0_fitsLength_42 : decode cX0_fitsLength 42 = .ok (.l2i, 1) := dk_136 (dk_at dksX0_fitsLength_1 18 rfl rfl)
theorem dX0_fitsLength_43 : decode cX0_fitsLength 43 = .ok (.istore 4, 2) := dk_54 4 (dk_at dksX0_fitsLength_1 19 rfl rfl)
theorem dX0_fitsLength_45 : decode cX0_fitsLength 45 = .ok (.iload 4, 2) := dk_21 4 (dk_at dksX0_fitsLength_1 21 rfl rfl)
theorem dX0_fitsLength_47 : decode cX0_fitsLength 47 = .ok (.iconst (-1), 1) := dk_2 (dk_at dksX0_fitsLength_1 23 rfl rfl)
theorem dX0_fitsLength_48 : decode cX0_fitsLength 48 = .ok (.if_icmp .ne 6, 3) := dk_160 0 6 (dk_at dksX0_fitsLength_2 0 rfl rfl)
theorem dX0_fitsLength_51 : decode cX0_fitsLength 51 = .ok (.goto 40, 3) := dk_167 0 40 (dk_at dksX0_fitsLength_2 3 rfl rfl)
theorem dX0_fitsLength_54 : decode cX0_fitsLength 54 = .ok (.aload_n 0, 1) := dk_42 (dk_at dksX0_fitsLength_2 6 rfl rfl)
theorem dX0_fitsLength_55 : decode cX0_fitsLength 55 = .ok (.getfield 70, 3) := dk_180 0 70 (dk_at dksX0_fitsLength_2 7 rfl rfl)
theorem dX0_fitsLength_58 : decode cX0_fitsLength 58 = .ok (.iload_n 3, 1) := dk_29 (dk_at dksX0_fitsLength_2 10 rfl rfl)
theorem dX0_fitsLength_59 : decode cX0_fitsLength 59 = .ok (.iload_n 2, 1) := dk_28 (dk_at dksX0_fitsLength_2 11 rfl rfl)
theorem dX0_fitsLength_60 : decode cX0_fitsLength 60 = .ok (.irem, 1) := dk_112 (dk_at dksX0_fitsLength_2 12 rfl rfl)
theorem dX0_fitsLength_61 : decode cX0_fitsLength 61 = .ok (.iaload, 1) := dk_46 (dk_at dksX0_fitsLength_2 13 rfl rfl)
theorem dX0_fitsLength_62 : decode cX0_fitsLength 62 = .ok (.iconst (-1), 1) := dk_2 (dk_at dksX0_fitsLength_2 14 rfl rfl)
theorem dX0_fitsLength_63 : decode cX0_fitsLength 63 = .ok (.if_icmp .eq 18, 3) := dk_159 0 18 (dk_at dksX0_fitsLength_2 15 rfl rfl)
theorem dX0_fitsLength_66 : decode cX0_fitsLength 66 = .ok (.aload_n 0, 1) := dk_42 (dk_at dksX0_fitsLength_2 18 rfl rfl)
theorem dX0_fitsLength_67 : decode cX0_fitsLength 67 = .ok (.getfield 70, 3) := dk_180 0 70 (dk_at dksX0_fitsLength_2 19 rfl rfl)
theorem dX0_fitsLength_70 : decode cX0_fitsLength 70 = .ok (.iload_n 3, 1) := dk_29 (dk_at dksX0_fitsLength_2 22 rfl rfl)
theorem dX0_fitsLength_71 : decode cX0_fitsLength 71 = .ok (.iload_n 2, 1) := dk_28 (dk_at dksX0_fitsLength_2 23 rfl rfl)
theorem dX0_fitsLength_72 : decode cX0_fitsLength 72 = .ok (.irem, 1) := dk_112 (dk_at dksX0_fitsLength_3 0 rfl rfl)
theorem dX0_fitsLength_73 : decode cX0_fitsLength 73 = .ok (.iaload, 1) := dk_46 (dk_at dksX0_fitsLength_3 1 rfl rfl)
theorem dX0_fitsLength_74 : decode cX0_fitsLength 74 = .ok (.iload 4, 2) := dk_21 4 (dk_at dksX0_fitsLength_3 2 rfl rfl)
theorem dX0_fitsLength_76 : decode cX0_fitsLength 76 = .ok (.if_icmp .eq 5, 3) := dk_159 0 5 (dk_at dksX0_fitsLength_3 4 rfl rfl)
theorem dX0_fitsLength_79 : decode cX0_fitsLength 79 = .ok (.iconst 0, 1) := dk_3 (dk_at dksX0_fitsLength_3 7 rfl rfl)
theorem dX0_fitsLength_80 : decode cX0_fitsLength 80 = .ok (.ireturn, 1) := dk_172 (dk_at dksX0_fitsLength_3 8 rfl rfl)
theorem dX0_fitsLength_81 : decode cX0_fitsLength 81 = .ok (.aload_n 0, 1) := dk_42 (dk_at dksX0_fitsLength_3 9 rfl rfl)
theorem dX0_fitsLength_82 : decode cX0_fitsLength 82 = .ok (.getfield 70, 3) := dk_180 0 70 (dk_at dksX0_fitsLength_3 10 rfl rfl)
theorem dX0_fitsLength_85 : decode cX0_fitsLength 85 = .ok (.iload_n 3, 1) := dk_29 (dk_at dksX0_fitsLength_3 13 rfl rfl)
theorem dX0_fitsLength_86 : decode cX0_fitsLength 86 = .ok (.iload_n 2, 1) := dk_28 (dk_at dksX0_fitsLength_3 14 rfl rfl)
theorem dX0_fitsLength_87 : decode cX0_fitsLength 87 = .ok (.irem, 1) := dk_112 (dk_at dksX0_fitsLength_3 15 rfl rfl)
theorem dX0_fitsLength_88 : decode cX0_fitsLength 88 = .ok (.iload 4, 2) := dk_21 4 (dk_at dksX0_fitsLength_3 16 rfl rfl)
theorem dX0_fitsLength_90 : decode cX0_fitsLength 90 = .ok (.iastore, 1) := dk_79 (dk_at dksX0_fitsLength_3 18 rfl rfl)
theorem dX0_fitsLength_91 : decode cX0_fitsLength 91 = .ok (.iinc 3 1, 3) := dk_132 3 1 (dk_at dksX0_fitsLength_3 19 rfl rfl)
theorem dX0_fitsLength_94 : decode cX0_fitsLength 94 = .ok (.goto (-71), 3) := dk_167 255 185 (dk_at dksX0_fitsLength_4 0 rfl rfl)
theorem dX0_fitsLength_97 : decode cX0_fitsLength 97 = .ok (.iconst 1, 1) := dk_4 (dk_at dksX0_fitsLength_4 3 rfl rfl)
theorem dX0_fitsLength_98 : decode cX0_fitsLength 98 = .ok (.ireturn, 1) := dk_172 (dk_at dksX0_fitsLength_4 4 rfl rfl)
abbrev cX0_fills : ByteArray := prog_1_method_81_code
def yX0_fills : MethodName := ⟨RX0, "fills", "(II)I"⟩
def dkwX0_fills_1 : List UInt8 := [159, 0, 12, 28, 21, 4, 184, 0, 132, 154, 0, 7, 2, 167, 0, 9, 42, 180, 0, 70, 28, 46, 172]
abbrev dktX0_fills_1 : List UInt8 := dkwX0_fills_1 ++ []
def dkwX0_fills_0 : List UInt8 := [42, 27, 182, 1, 94, 62, 29, 156, 0, 5, 29, 172, 42, 27, 182, 1, 97, 54, 4, 21, 4, 2]
abbrev dktX0_fills_0 : List UInt8 := dkwX0_fills_0 ++ dktX0_fills_1
theorem dksX0_fills_0 : cX0_fills.data.toList.drop 0 = dktX0_fills_0 := by decide +kernel
theorem dksX0_fills_1 : cX0_fills.data.toList.drop 22 = dktX0_fills_1 := dk_seg dksX0_fills_0 22 rfl rfl
theorem dX0_fills_0 : decode cX0_fills 0 = .ok (.aload_n 0, 1) := dk_42 (dk_at dksX0_fills_0 0 rfl rfl)
theorem dX0_fills_1 : decode cX0_fills 1 = .ok (.iload_n 1, 1) := dk_27 (dk_at dksX0_fills_0 1 rfl rfl)
theorem dX0_fills_2 : decode cX0_fills 2 = .ok (.invokevirtual 350, 3) := dk_182 1 94 (dk_at dksX0_fills_0 2 rfl rfl)
theorem dX0_fills_5 : decode cX0_fills 5 = .ok (.istore_n 3, 1) := dk_62 (dk_at dksX0_fills_0 5 rfl rfl)
theorem dX0_fills_6 : decode cX0_fills 6 = .ok (.iload_n 3, 1) := dk_29 (dk_at dksX0_fills_0 6 rfl rfl)
theorem dX0_fills_7 : decode cX0_fills 7 = .ok (.ifCond .ge 5, 3) := dk_156 0 5 (dk_at dksX0_fills_0 7 rfl rfl)
theorem dX0_fills_10 : decode cX0_fills 10 = .ok (.iload_n 3, 1) := dk_29 (dk_at dksX0_fills_0 10 rfl rfl)
theorem dX0_fills_11 : decode cX0_fills 11 = .ok (.ireturn, 1) := dk_172 (dk_at dksX0_fills_0 11 rfl rfl)
theorem dX0_fills_12 : decode cX0_fills 12 = .ok (.aload_n 0, 1) := dk_42 (dk_at dksX0_fills_0 12 rfl rfl)
theorem dX0_fills_13 : decode cX0_fills 13 = .ok (.iload_n 1, 1) := dk_27 (dk_at dksX0_fills_0 13 rfl rfl)
theorem dX0_fills_14 : decode cX0_fills 14 = .ok (.invokevirtual 353, 3) := dk_182 1 97 (dk_at dksX0_fills_0 14 rfl rfl)
theorem dX0_fills_17 : decode cX0_fills 17 = .ok (.istore 4, 2) := dk_54 4 (dk_at dksX0_fills_0 17 rfl rfl)
theorem dX0_fills_19 : decode cX0_fills 19 = .ok (.iload 4, 2) := dk_21 4 (dk_at dksX0_fills_0 19 rfl rfl)
theorem dX0_fills_21 : decode cX0_fills 21 = .ok (.iconst (-1), 1) := dk_2 (dk_at dksX0_fills_0 21 rfl rfl)
theorem dX0_fills_22 : decode cX0_fills 22 = .ok (.if_icmp .eq 12, 3) := dk_159 0 12 (dk_at dksX0_fills_1 0 rfl rfl)
theorem dX0_fills_25 : decode cX0_fills 25 = .ok (.iload_n 2, 1) := dk_28 (dk_at dksX0_fills_1 3 rfl rfl)
theorem dX0_fills_26 : decode cX0_fills 26 = .ok (.iload 4, 2) := dk_21 4 (dk_at dksX0_fills_1 4 rfl rfl)
theorem dX0_fills_28 : decode cX0_fills 28 = .ok (.invokestatic 132, 3) := dk_184 0 132 (dk_at dksX0_fills_1 6 rfl rfl)
theorem dX0_fills_31 : decode cX0_fills 31 = .ok (.ifCond .ne 7, 3) := dk_154 0 7 (dk_at dksX0_fills_1 9 rfl rfl)
theorem dX0_fills_34 : decode cX0_fills 34 = .ok (.iconst (-1), 1) := dk_2 (dk_at dksX0_fills_1 12 rfl rfl)
theorem dX0_fills_35 : decode cX0_fills 35 = .ok (.goto 9, 3) := dk_167 0 9 (dk_at dksX0_fills_1 13 rfl rfl)
theorem dX0_fills_38 : decode cX0_fills 38 = .ok (.aload_n 0, 1) := dk_42 (dk_at dksX0_fills_1 16 rfl rfl)
theorem dX0_fills_39 : decode cX0_fills 39 = .ok (.getfield 70, 3) := dk_180 0 70 (dk_at dksX0_fills_1 17 rfl rfl)
theorem dX0_fills_42 : decode cX0_fills 42 = .ok (.iload_n 2, 1) := dk_28 (dk_at dksX0_fills_1 20 rfl rfl)
theorem dX0_fills_43 : decode cX0_fills 43 = .ok (.iaload, 1) := dk_46 (dk_at dksX0_fills_1 21 rfl rfl)
theorem dX0_fills_44 : decode cX0_fills 44 = .ok (.ireturn, 1) := dk_172 (dk_at dksX0_fills_1 22 rfl rfl)
abbrev cX0_open : ByteArray := prog_1_method_82_code
def yX0_open : MethodName := ⟨RX0, "open", "(I)I"⟩
def dkwX0_open_2 : List UInt8 := [96, 54, 4, 132, 5, 1, 167, 255, 226, 29, 2, 160, 0, 7, 2, 167, 0, 5, 21, 4, 172]
abbrev dktX0_open_2 : List UInt8 := dkwX0_open_2 ++ []
def dkwX0_open_1 : List UInt8 := [21, 5, 29, 162, 0, 30, 21, 4, 42, 180, 0, 70, 21, 5, 46, 2, 160, 0, 7, 4, 167, 0, 4, 3]
abbrev dktX0_open_1 : List UInt8 := dkwX0_open_1 ++ dktX0_open_2
def dkwX0_open_0 : List UInt8 := [42, 27, 182, 1, 94, 61, 28, 156, 0, 5, 28, 172, 42, 27, 182, 1, 97, 62, 3, 54, 4, 3, 54, 5]
abbrev dktX0_open_0 : List UInt8 := dkwX0_open_0 ++ dktX0_open_1
theorem dksX0_open_0 : cX0_open.data.toList.drop 0 = dktX0_open_0 := by decide +kernel
theorem dksX0_open_1 : cX0_open.data.toList.drop 24 = dktX0_open_1 := dk_seg dksX0_open_0 24 rfl rfl
theorem dksX0_open_2 : cX0_open.data.toList.drop 48 = dktX0_open_2 := dk_seg dksX0_open_1 24 rfl rfl
theorem dX0_open_0 : decode cX0_open 0 = .ok (.aload_n 0, 1) := dk_42 (dk_at dksX0_open_0 0 rfl rfl)
theorem dX0_open_1 : decode cX0_open 1 = .ok (.iload_n 1, 1) := dk_27 (dk_at dksX0_open_0 1 rfl rfl)
theorem dX0_open_2 : decode cX0_open 2 = .ok (.invokevirtual 350, 3) := dk_182 1 94 (dk_at dksX0_open_0 2 rfl rfl)
theorem dX0_open_5 : decode cX0_open 5 = .ok (.istore_n 2, 1) := dk_61 (dk_at dksX0_open_0 5 rfl rfl)
theorem dX0_open_6 : decode cX0_open 6 = .ok (.iload_n 2, 1) := dk_28 (dk_at dksX0_open_0 6 rfl rfl)
theorem dX0_open_7 : decode cX0_open 7 = .ok (.ifCond .ge 5, 3) := dk_156 0 5 (dk_at dksX0_open_0 7 rfl rfl)
theorem dX0_open_10 : decode cX0_open 10 = .ok (.iload_n 2, 1) := dk_28 (dk_at dksX0_open_0 10 rfl rfl)
theorem dX0_open_11 : decode cX0_open 11 = .ok (.ireturn, 1) := dk_172 (dk_at dksX0_open_0 11 rfl rfl)
theorem dX0_open_12 : decode cX0_open 12 = .ok (.aload_n 0, 1) := dk_42 (dk_at dksX0_open_0 12 rfl rfl)
theorem dX0_open_13 : decode cX0_open 13 = .ok (.iload_n 1, 1) := dk_27 (dk_at dksX0_open_0 13 rfl rfl)
theorem dX0_open_14 : decode cX0_open 14 = .ok (.invokevirtual 353, 3) := dk_182 1 97 (dk_at dksX0_open_0 14 rfl rfl)
theorem dX0_open_17 : decode cX0_open 17 = .ok (.istore_n 3, 1) := dk_62 (dk_at dksX0_open_0 17 rfl rfl)
theorem dX0_open_18 : decode cX0_open 18 = .ok (.iconst 0, 1) := dk_3 (dk_at dksX0_open_0 18 rfl rfl)
theorem dX0_open_19 : decode cX0_open 19 = .ok (.istore 4, 2) := dk_54 4 (dk_at dksX0_open_0 19 rfl rfl)
theorem dX0_open_21 : decode cX0_open 21 = .ok (.iconst 0, 1) := dk_3 (dk_at dksX0_open_0 21 rfl rfl)
theorem dX0_open_22 : decode cX0_open 22 = .ok (.istore 5, 2) := dk_54 5 (dk_at dksX0_open_0 22 rfl rfl)
theorem dX0_open_24 : decode cX0_open 24 = .ok (.iload 5, 2) := dk_21 5 (dk_at dksX0_open_1 0 rfl rfl)
theorem dX0_open_26 : decode cX0_open 26 = .ok (.iload_n 3, 1) := dk_29 (dk_at dksX0_open_1 2 rfl rfl)
theorem dX0_open_27 : decode cX0_open 27 = .ok (.if_icmp .ge 30, 3) := dk_162 0 30 (dk_at dksX0_open_1 3 rfl rfl)
theorem dX0_open_30 : decode cX0_open 30 = .ok (.iload 4, 2) := dk_21 4 (dk_at dksX0_open_1 6 rfl rfl)
theorem dX0_open_32 : decode cX0_open 32 = .ok (.aload_n 0, 1) := dk_42 (dk_at dksX0_open_1 8 rfl rfl)
theorem dX0_open_33 : decode cX0_open 33 = .ok (.getfield 70, 3) := dk_180 0 70 (dk_at dksX0_open_1 9 rfl rfl)
theorem dX0_open_36 : decode cX0_open 36 = .ok (.iload 5, 2) := dk_21 5 (dk_at dksX0_open_1 12 rfl rfl)
theorem dX0_open_38 : decode cX0_open 38 = .ok (.iaload, 1) := dk_46 (dk_at dksX0_open_1 14 rfl rfl)
theorem dX0_open_39 : decode cX0_open 39 = .ok (.iconst (-1), 1) := dk_2 (dk_at dksX0_open_1 15 rfl rfl)
theorem dX0_open_40 : decode cX0_open 40 = .ok (.if_icmp .ne 7, 3) := dk_160 0 7 (dk_at dksX0_open_1 16 rfl rfl)
theorem dX0_open_43 : decode cX0_open 43 = .ok (.iconst 1, 1) := dk_4 (dk_at dksX0_open_1 19 rfl rfl)
theorem dX0_open_44 : decode cX0_open 44 = .ok (.goto 4, 3) := dk_167 0 4 (dk_at dksX0_open_1 20 rfl rfl)
theorem dX0_open_47 : decode cX0_open 47 = .ok (.iconst 0, 1) := dk_3 (dk_at dksX0_open_1 23 rfl rfl)
theorem dX0_open_48 : decode cX0_open 48 = .ok (.iadd, 1) := dk_96 (dk_at dksX0_open_2 0 rfl rfl)
theorem dX0_open_49 : decode cX0_open 49 = .ok (.istore 4, 2) := dk_54 4 (dk_at dksX0_open_2 1 rfl rfl)
theorem dX0_open_51 : decode cX0_open 51 = .ok (.iinc 5 1, 3) := dk_132 5 1 (dk_at dksX0_open_2 3 rfl rfl)
theorem dX0_open_54 : decode cX0_open 54 = .ok (.goto (-30), 3) := dk_167 255 226 (dk_at dksX0_open_2 6 rfl rfl)
theorem dX0_open_57 : decode cX0_open 57 = .ok (.iload_n 3, 1) := dk_29 (dk_at dksX0_open_2 9 rfl rfl)
theorem dX0_open_58 : decode cX0_open 58 = .ok (.iconst (-1), 1) := dk_2 (dk_at dksX0_open_2 10 rfl rfl)
theorem dX0_open_59 : decode cX0_open 59 = .ok (.if_icmp .ne 7, 3) := dk_160 0 7 (dk_at dksX0_open_2 11 rfl rfl)
theorem dX0_open_62 : decode cX0_open 62 = .ok (.iconst (-1), 1) := dk_2 (dk_at dksX0_open_2 14 rfl rfl)
theorem dX0_open_63 : decode cX0_open 63 = .ok (.goto 5, 3) := dk_167 0 5 (dk_at dksX0_open_2 15 rfl rfl)
theorem dX0_open_66 : decode cX0_open 66 = .ok (.iload 4, 2) := dk_21 4 (dk_at dksX0_open_2 18 rfl rfl)
theorem dX0_open_68 : decode cX0_open 68 = .ok (.ireturn, 1) := dk_172 (dk_at dksX0_open_2 20 rfl rfl)
abbrev cX0_together : ByteArray := prog_1_method_85_code
def yX0_together : MethodName := ⟨RX0, "together", "(II)J"⟩
def dkwX0_together_3 : List UInt8 := [180, 1, 103, 97, 10, 101, 42, 180, 1, 103, 109, 42, 180, 1, 103, 105, 97, 173]
abbrev dktX0_together_3 : List UInt8 := dkwX0_together_3 ++ []
def dkwX0_together_2 : List UInt8 := [180, 1, 103, 113, 66, 33, 28, 133, 148, 155, 0, 7, 33, 167, 0, 26, 33, 28, 133, 33, 101, 42]
abbrev dktX0_together_2 : List UInt8 := dkwX0_together_2 ++ dktX0_together_3
def dkwX0_together_1 : List UInt8 := [182, 1, 120, 42, 180, 1, 100, 20, 1, 28, 148, 154, 0, 7, 20, 1, 28, 173, 42, 180, 1, 100, 42]
abbrev dktX0_together_1 : List UInt8 := dkwX0_together_1 ++ dktX0_together_2
def dkwX0_together_0 : List UInt8 := [42, 27, 182, 1, 115, 153, 0, 12, 42, 28, 133, 182, 0, 181, 154, 0, 7, 20, 1, 118, 173, 42, 27]
abbrev dktX0_together_0 : List UInt8 := dkwX0_together_0 ++ dktX0_together_1
theorem dksX0_together_0 : cX0_together.data.toList.drop 0 = dktX0_together_0 := by decide +kernel
theorem dksX0_together_1 : cX0_together.data.toList.drop 23 = dktX0_together_1 := dk_seg dksX0_together_0 23 rfl rfl
theorem dksX0_together_2 : cX0_together.data.toList.drop 46 = dktX0_together_2 := dk_seg dksX0_together_1 23 rfl rfl
theorem dksX0_together_3 : cX0_together.data.toList.drop 68 = dktX0_together_3 := dk_seg dksX0_together_2 22 rfl rfl
theorem dX0_together_0 : decode cX0_together 0 = .ok (.aload_n 0, 1) := dk_42 (dk_at dksX0_together_0 0 rfl rfl)
theorem dX0_together_1 : decode cX0_together 1 = .ok (.iload_n 1, 1) := dk_27 (dk_at dksX0_together_0 1 rfl rfl)
theorem dX0_together_2 : decode cX0_together 2 = .ok (.invokevirtual 371, 3) := dk_182 1 115 (dk_at dksX0_together_0 2 rfl rfl)
theorem dX0_together_5 : decode cX0_together 5 = .ok (.ifCond .eq 12, 3) := dk_153 0 12 (dk_at dksX0_together_0 5 rfl rfl)
theorem dX0_together_8 : decode cX0_together 8 = .ok (.aload_n 0, 1) := dk_42 (dk_at dksX0_together_0 8 rfl rfl)
theorem dX0_together_9 : decode cX0_together 9 = .ok (.iload_n 2, 1) := dk_28 (dk_at dksX0_together_0 9 rfl rfl)
theorem dX0_together_10 : decode cX0_together 10 = .ok (.i2l, 1) := dk_133 (dk_at dksX0_together_0 10 rfl rfl)
theorem dX0_together_11 : decode cX0_together 11 = .ok (.invokevirtual 181, 3) := dk_182 0 181 (dk_at dksX0_together_0 11 rfl rfl)
theorem dX0_together_14 : decode cX0_together 14 = .ok (.ifCond .ne 7, 3) := dk_154 0 7 (dk_at dksX0_together_0 14 rfl rfl)
theorem dX0_together_17 : decode cX0_together 17 = .ok (.ldc2_w 374, 3) := dk_20 1 118 (dk_at dksX0_together_0 17 rfl rfl)
theorem dX0_together_20 : decode cX0_together 20 = .ok (.lreturn, 1) := dk_173 (dk_at dksX0_together_0 20 rfl rfl)
theorem dX0_together_21 : decode cX0_together 21 = .ok (.aload_n 0, 1) := dk_42 (dk_at dksX0_together_0 21 rfl rfl)
theorem dX0_together_22 : decode cX0_together 22 = .ok (.iload_n 1, 1) := dk_27 (dk_at dksX0_together_0 22 rfl rfl)
theorem dX0_together_23 : decode cX0_together 23 = .ok (.invokevirtual 376, 3) := dk_182 1 120 (dk_at dksX0_together_1 0 rfl rfl)
theorem dX0_together_26 : decode cX0_together 26 = .ok (.aload_n 0, 1) := dk_42 (dk_at dksX0_together_1 3 rfl rfl)
theorem dX0_together_27 : decode cX0_together 27 = .ok (.getfield 356, 3) := dk_180 1 100 (dk_at dksX0_together_1 4 rfl rfl)
theorem dX0_together_30 : decode cX0_together 30 = .ok (.ldc2_w 284, 3) := dk_20 1 28 (dk_at dksX0_together_1 7 rfl rfl)
theorem dX0_together_33 : decode cX0_together 33 = .ok (.lcmp, 1) := dk_148 (dk_at dksX0_together_1 10 rfl rfl)
theorem dX0_together_34 : decode cX0_together 34 = .ok (.ifCond .ne 7, 3) := dk_154 0 7 (dk_at dksX0_together_1 11 rfl rfl)
theorem dX0_together_37 : decode cX0_together 37 = .ok (.ldc2_w 284, 3) := dk_20 1 28 (dk_at dksX0_together_1 14 rfl rfl)
theorem dX0_together_40 : decode cX0_together 40 = .ok (.lreturn, 1) := dk_173 (dk_at dksX0_together_1 17 rfl rfl)
theorem dX0_together_41 : decode cX0_together 41 = .ok (.aload_n 0, 1) := dk_42 (dk_at dksX0_together_1 18 rfl rfl)
theorem dX0_together_42 : decode cX0_together 42 = .ok (.getfield 356, 3) := dk_180 1 100 (dk_at dksX0_together_1 19 rfl rfl)
theorem dX0_together_45 : decode cX0_together 45 = .ok (.aload_n 0, 1) := dk_42 (dk_at dksX0_together_1 22 rfl rfl)
theorem dX0_together_46 : decode cX0_together 46 = .ok (.getfield 359, 3) := dk_180 1 103 (dk_at dksX0_together_2 0 rfl rfl)
theorem dX0_together_49 : decode cX0_together 49 = .ok (.lrem, 1) := dk_113 (dk_at dksX0_together_2 3 rfl rfl)
theorem dX0_together_50 : decode cX0_together 50 = .ok (.lstore_n 3, 1) := dk_66 (dk_at dksX0_together_2 4 rfl rfl)
theorem dX0_together_51 : decode cX0_together 51 = .ok (.lload_n 3, 1) := dk_33 (dk_at dksX0_together_2 5 rfl rfl)
theorem dX0_together_52 : decode cX0_together 52 = .ok (.iload_n 2, 1) := dk_28 (dk_at dksX0_together_2 6 rfl rfl)
theorem dX0_together_53 : decode cX0_together 53 = .ok (.i2l, 1) := dk_133 (dk_at dksX0_together_2 7 rfl rfl)
theorem dX0_together_54 : decode cX0_together 54 = .ok (.lcmp, 1) := dk_148 (dk_at dksX0_together_2 8 rfl rfl)
theorem dX0_together_55 : decode cX0_together 55 = .ok (.ifCond .lt 7, 3) := dk_155 0 7 (dk_at dksX0_together_2 9 rfl rfl)
theorem dX0_together_58 : decode cX0_together 58 = .ok (.lload_n 3, 1) := dk_33 (dk_at dksX0_together_2 12 rfl rfl)
theorem dX0_together_59 : decode cX0_together 59 = .ok (.goto 26, 3) := dk_167 0 26 (dk_at dksX0_together_2 13 rfl rfl)
theorem dX0_together_62 : decode cX0_together 62 = .ok (.lload_n 3, 1) := dk_33 (dk_at dksX0_together_2 16 rfl rfl)
theorem dX0_together_63 : decode cX0_together 63 = .ok (.iload_n 2, 1) := dk_28 (dk_at dksX0_together_2 17 rfl rfl)
theorem dX0_together_64 : decode cX0_together 64 = .ok (.i2l, 1) := dk_133 (dk_at dksX0_together_2 18 rfl rfl)
theorem dX0_together_65 : decode cX0_together 65 = .ok (.lload_n 3, 1) := dk_33 (dk_at dksX0_together_2 19 rfl rfl)
theorem dX0_together_66 : decode cX0_together 66 = .ok (.lsub, 1) := dk_101 (dk_at dksX0_together_2 20 rfl rfl)
theorem dX0_together_67 : decode cX0_together 67 = .ok (.aload_n 0, 1) := dk_42 (dk_at dksX0_together_2 21 rfl rfl)
theorem dX0_together_68 : decode cX0_together 68 = .ok (.getfield 359, 3) := dk_180 1 103 (dk_at dksX0_together_3 0 rfl rfl)
theorem dX0_together_71 : decode cX0_together 71 = .ok (.ladd, 1) := dk_97 (dk_at dksX0_together_3 3 rfl rfl)
theorem dX0_together_72 : decode cX0_together 72 = .ok (.lconst 1, 1) := dk_10 (dk_at dksX0_together_3 4 rfl rfl)
theorem dX0_together_73 : decode cX0_together 73 = .ok (.lsub, 1) := dk_101 (dk_at dksX0_together_3 5 rfl rfl)
theorem dX0_together_74 : decode cX0_together 74 = .ok (.aload_n 0, 1) := dk_42 (dk_at dksX0_together_3 6 rfl rfl)
theorem dX0_together_75 : decode cX0_together 75 = .ok (.getfield 359, 3) := dk_180 1 103 (dk_at dksX0_together_3 7 rfl rfl)
theorem dX0_together_78 : decode cX0_together 78 = .ok (.ldiv, 1) := dk_109 (dk_at dksX0_together_3 10 rfl rfl)
theorem dX0_together_79 : decode cX0_together 79 = .ok (.aload_n 0, 1) := dk_42 (dk_at dksX0_together_3 11 rfl rfl)
theorem dX0_together_80 : decode cX0_together 80 = .ok (.getfield 359, 3) := dk_180 1 103 (dk_at dksX0_together_3 12 rfl rfl)
theorem dX0_together_83 : decode cX0_together 83 = .ok (.lmul, 1) := dk_105 (dk_at dksX0_together_3 15 rfl rfl)
theorem dX0_together_84 : decode cX0_together 84 = .ok (.ladd, 1) := dk_97 (dk_at dksX0_together_3 16 rfl rfl)
theorem dX0_together_85 : decode cX0_together 85 = .ok (.lreturn, 1) := dk_173 (dk_at dksX0_together_3 17 rfl rfl)
abbrev cX0_areTunes : ByteArray := prog_1_method_84_code
def yX0_areTunes : MethodName := ⟨RX0, "areTunes", "(I)Z"⟩
def dkwX0_areTunes_1 : List UInt8 := [184, 0, 103, 153, 0, 7, 4, 167, 0, 4, 3, 172]
abbrev dktX0_areTunes_1 : List UInt8 := dkwX0_areTunes_1 ++ []
def dkwX0_areTunes_0 : List UInt8 := [42, 182, 0, 128, 153, 0, 28, 27, 133, 9, 4, 42, 180, 0, 12, 180, 1, 106, 120, 4, 100, 133]
abbrev dktX0_areTunes_0 : List UInt8 := dkwX0_areTunes_0 ++ dktX0_areTunes_1
theorem dksX0_areTunes_0 : cX0_areTunes.data.toList.drop 0 = dktX0_areTunes_0 := by decide +kernel
theorem dksX0_areTunes_1 : cX0_areTunes.data.toList.drop 22 = dktX0_areTunes_1 := dk_seg dksX0_areTunes_0 22 rfl rfl
theorem dX0_areTunes_0 : decode cX0_areTunes 0 = .ok (.aload_n 0, 1) := dk_42 (dk_at dksX0_areTunes_0 0 rfl rfl)
theorem dX0_areTunes_1 : decode cX0_areTunes 1 = .ok (.invokevirtual 128, 3) := dk_182 0 128 (dk_at dksX0_areTunes_0 1 rfl rfl)
theorem dX0_areTunes_4 : decode cX0_areTunes 4 = .ok (.ifCond .eq 28, 3) := dk_153 0 28 (dk_at dksX0_areTunes_0 4 rfl rfl)
theorem dX0_areTunes_7 : decode cX0_areTunes 7 = .ok (.iload_n 1, 1) := dk_27 (dk_at dksX0_areTunes_0 7 rfl rfl)
theorem dX0_areTunes_8 : decode cX0_areTunes 8 = .ok (.i2l, 1) := dk_133 (dk_at dksX0_areTunes_0 8 rfl rfl)
theorem dX0_areTunes_9 : decode cX0_areTunes 9 = .ok (.lconst 0, 1) := dk_9 (dk_at dksX0_areTunes_0 9 rfl rfl)
theorem dX0_areTunes_10 : decode cX0_areTunes 10 = .ok (.iconst 1, 1) := dk_4 (dk_at dksX0_areTunes_0 10 rfl rfl)
theorem dX0_areTunes_11 : decode cX0_areTunes 11 = .ok (.aload_n 0, 1) := dk_42 (dk_at dksX0_areTunes_0 11 rfl rfl)
theorem dX0_areTunes_12 : decode cX0_areTunes 12 = .ok (.getfield 12, 3) := dk_180 0 12 (dk_at dksX0_areTunes_0 12 rfl rfl)
theorem dX0_areTunes_15 : decode cX0_areTunes 15 = .ok (.getfield 362, 3) := dk_180 1 106 (dk_at dksX0_areTunes_0 15 rfl rfl)
theorem dX0_areTunes_18 : decode cX0_areTunes 18 = .ok (.ishl, 1) := dk_120 (dk_at dksX0_areTunes_0 18 rfl rfl)
theorem dX0_areTunes_19 : decode cX0_areTunes 19 = .ok (.iconst 1, 1) := dk_4 (dk_at dksX0_areTunes_0 19 rfl rfl)
theorem dX0_areTunes_20 : decode cX0_areTunes 20 = .ok (.isub, 1) := dk_100 (dk_at dksX0_areTunes_0 20 rfl rfl)
theorem dX0_areTunes_21 : decode cX0_areTunes 21 = .ok (.i2l, 1) := dk_133 (dk_at dksX0_areTunes_0 21 rfl rfl)
theorem dX0_areTunes_22 : decode cX0_areTunes 22 = .ok (.invokestatic 103, 3) := dk_184 0 103 (dk_at dksX0_areTunes_1 0 rfl rfl)
theorem dX0_areTunes_25 : decode cX0_areTunes 25 = .ok (.ifCond .eq 7, 3) := dk_153 0 7 (dk_at dksX0_areTunes_1 3 rfl rfl)
theorem dX0_areTunes_28 : decode cX0_areTunes 28 = .ok (.iconst 1, 1) := dk_4 (dk_at dksX0_areTunes_1 6 rfl rfl)
theorem dX0_areTunes_29 : decode cX0_areTunes 29 = .ok (.goto 4, 3) := dk_167 0 4 (dk_at dksX0_areTunes_1 7 rfl rfl)
theorem dX0_areTunes_32 : decode cX0_areTunes 32 = .ok (.iconst 0, 1) := dk_3 (dk_at dksX0_areTunes_1 10 rfl rfl)
theorem dX0_areTunes_33 : decode cX0_areTunes 33 = .ok (.ireturn, 1) := dk_172 (dk_at dksX0_areTunes_1 11 rfl rfl)
abbrev cX0_joins : ByteArray := prog_1_method_83_code
def yX0_joins : MethodName := ⟨RX0, "joins", "(I)V"⟩
def dkwX0_joins_6 : List UInt8 := [167, 255, 129, 177]
abbrev dktX0_joins_6 : List UInt8 := dkwX0_joins_6 ++ []
def dkwX0_joins_5 : List UInt8 := [180, 1, 103, 29, 133, 113, 136, 29, 184, 0, 241, 133, 109, 29, 133, 105, 181, 1, 103, 132, 2, 1]
abbrev dktX0_joins_5 : List UInt8 := dkwX0_joins_5 ++ dktX0_joins_6
def dkwX0_joins_4 : List UInt8 := [21, 4, 29, 164, 255, 205, 42, 20, 1, 28, 181, 1, 100, 167, 255, 195, 42, 42, 180, 1, 103, 42]
abbrev dktX0_joins_4 : List UInt8 := dkwX0_joins_4 ++ dktX0_joins_5
def dkwX0_joins_3 : List UInt8 := [28, 46, 133, 148, 153, 0, 35, 42, 89, 180, 1, 100, 42, 180, 1, 103, 97, 181, 1, 100, 132, 4, 1]
abbrev dktX0_joins_3 : List UInt8 := dkwX0_joins_3 ++ dktX0_joins_4
def dkwX0_joins_2 : List UInt8 := [180, 1, 100, 20, 1, 28, 148, 153, 0, 56, 42, 180, 1, 100, 29, 133, 113, 42, 180, 0, 12, 180, 1, 112]
abbrev dktX0_joins_2 : List UInt8 := dkwX0_joins_2 ++ dktX0_joins_3
def dkwX0_joins_1 : List UInt8 := [28, 184, 0, 197, 154, 0, 6, 167, 0, 105, 42, 180, 0, 12, 180, 1, 109, 28, 46, 62, 3, 54, 4, 42]
abbrev dktX0_joins_1 : List UInt8 := dkwX0_joins_1 ++ dktX0_joins_2
def dkwX0_joins_0 : List UInt8 := [42, 9, 181, 1, 100, 42, 10, 181, 1, 103, 3, 61, 28, 42, 180, 0, 12, 180, 1, 106, 162, 0, 122, 27]
abbrev dktX0_joins_0 : List UInt8 := dkwX0_joins_0 ++ dktX0_joins_1
theorem dksX0_joins_0 : cX0_joins.data.toList.drop 0 = dktX0_joins_0 := by decide +kernel
theorem dksX0_joins_1 : cX0_joins.data.toList.drop 24 = dktX0_joins_1 := dk_seg dksX0_joins_0 24 rfl rfl
theorem dksX0_joins_2 : cX0_joins.data.toList.drop 48 = dktX0_joins_2 := dk_seg dksX0_joins_1 24 rfl rfl
theorem dksX0_joins_3 : cX0_joins.data.toList.drop 72 = dktX0_joins_3 := dk_seg dksX0_joins_2 24 rfl rfl
theorem dksX0_joins_4 : cX0_joins.data.toList.drop 95 = dktX0_joins_4 := dk_seg dksX0_joins_3 23 rfl rfl
theorem dksX0_joins_5 : cX0_joins.data.toList.drop 117 = dktX0_joins_5 := dk_seg dksX0_joins_4 22 rfl rfl
theorem dksX0_joins_6 : cX0_joins.data.toList.drop 139 = dktX0_joins_6 := dk_seg dksX0_joins_5 22 rfl rfl
theorem dX0_joins_0 : decode cX0_joins 0 = .ok (.aload_n 0, 1) := dk_42 (dk_at dksX0_joins_0 0 rfl rfl)
theorem dX0_joins_1 : decode cX0_joins 1 = .ok (.lconst 0, 1) := dk_9 (dk_at dksX0_joins_0 1 rfl rfl)
theorem dX0_joins_2 : decode cX0_joins 2 = .ok (.putfield 356, 3) := dk_181 1 100 (dk_at dksX0_joins_0 2 rfl rfl)
theorem dX0_joins_5 : decode cX0_joins 5 = .ok (.aload_n 0, 1) := dk_42 (dk_at dksX0_joins_0 5 rfl rfl)
theorem dX0_joins_6 : decode cX0_joins 6 = .ok (.lconst 1, 1) := dk_10 (dk_at dksX0_joins_0 6 rfl rfl)
theorem dX0_joins_7 : decode cX0_joins 7 = .ok (.putfield 359, 3) := dk_181 1 103 (dk_at dksX0_joins_0 7 rfl rfl)
theorem dX0_joins_10 : decode cX0_joins 10 = .ok (.iconst 0, 1) := dk_3 (dk_at dksX0_joins_0 10 rfl rfl)
theorem dX0_joins_11 : decode cX0_joins 11 = .ok (.istore_n 2, 1) := dk_61 (dk_at dksX0_joins_0 11 rfl rfl)
theorem dX0_joins_12 : decode cX0_joins 12 = .ok (.iload_n 2, 1) := dk_28 (dk_at dksX0_joins_0 12 rfl rfl)
theorem dX0_joins_13 : decode cX0_joins 13 = .ok (.aload_n 0, 1) := dk_42 (dk_at dksX0_joins_0 13 rfl rfl)
theorem dX0_joins_14 : decode cX0_joins 14 = .ok (.getfield 12, 3) := dk_180 0 12 (dk_at dksX0_joins_0 14 rfl rfl)
theorem dX0_joins_17 : decode cX0_joins 17 = .ok (.getfield 362, 3) := dk_180 1 106 (dk_at dksX0_joins_0 17 rfl rfl)
theorem dX0_joins_20 : decode cX0_joins 20 = .ok (.if_icmp .ge 122, 3) := dk_162 0 122 (dk_at dksX0_joins_0 20 rfl rfl)
theorem dX0_joins_23 : decode cX0_joins 23 = .ok (.iload_n 1, 1) := dk_27 (dk_at dksX0_joins_0 23 rfl rfl)
theorem dX0_joins_24 : decode cX0_joins 24 = .ok (.iload_n 2, 1) := dk_28 (dk_at dksX0_joins_1 0 rfl rfl)
theorem dX0_joins_25 : decode cX0_joins 25 = .ok (.invokestatic 197, 3) := dk_184 0 197 (dk_at dksX0_joins_1 1 rfl rfl)
theorem dX0_joins_28 : decode cX0_joins 28 = .ok (.ifCond .ne 6, 3) := dk_154 0 6 (dk_at dksX0_joins_1 4 rfl rfl)
theorem dX0_joins_31 : decode cX0_joins 31 = .ok (.goto 105, 3) := dk_167 0 105 (dk_at dksX0_joins_1 7 rfl rfl)
theorem dX0_joins_34 : decode cX0_joins 34 = .ok (.aload_n 0, 1) := dk_42 (dk_at dksX0_joins_1 10 rfl rfl)
theorem dX0_joins_35 : decode cX0_joins 35 = .ok (.getfield 12, 3) := dk_180 0 12 (dk_at dksX0_joins_1 11 rfl rfl)
theorem dX0_joins_38 : decode cX0_joins 38 = .ok (.getfield 365, 3) := dk_180 1 109 (dk_at dksX0_joins_1 14 rfl rfl)
theorem dX0_joins_41 : decode cX0_joins 41 = .ok (.iload_n 2, 1) := dk_28 (dk_at dksX0_joins_1 17 rfl rfl)
theorem dX0_joins_42 : decode cX0_joins 42 = .ok (.iaload, 1) := dk_46 (dk_at dksX0_joins_1 18 rfl rfl)
theorem dX0_joins_43 : decode cX0_joins 43 = .ok (.istore_n 3, 1) := dk_62 (dk_at dksX0_joins_1 19 rfl rfl)
theorem dX0_joins_44 : decode cX0_joins 44 = .ok (.iconst 0, 1) := dk_3 (dk_at dksX0_joins_1 20 rfl rfl)
theorem dX0_joins_45 : decode cX0_joins 45 = .ok (.istore 4, 2) := dk_54 4 (dk_at dksX0_joins_1 21 rfl rfl)
theorem dX0_joins_47 : decode cX0_joins 47 = .ok (.aload_n 0, 1) := dk_42 (dk_at dksX0_joins_1 23 rfl rfl)
theorem dX0_joins_48 : decode cX0_joins 48 = .ok (.getfield 356, 3) := dk_180 1 100 (dk_at dksX0_joins_2 0 rfl rfl)
theorem dX0_joins_51 : decode cX0_joins 51 = .ok (.ldc2_w 284, 3) := dk_20 1 28 (dk_at dksX0_joins_2 3 rfl rfl)
theorem dX0_joins_54 : decode cX0_joins 54 = .ok (.lcmp, 1) := dk_148 (dk_at dksX0_joins_2 6 rfl rfl)
theorem dX0_joins_55 : decode cX0_joins 55 = .ok (.ifCond .eq 56, 3) := dk_153 0 56 (dk_at dksX0_joins_2 7 rfl rfl)
theorem dX0_joins_58 : decode cX0_joins 58 = .ok (.aload_n 0, 1) := dk_42 (dk_at dksX0_joins_2 10 rfl rfl)
theorem dX0_joins_59 : decode cX0_joins 59 = .ok (.getfield 356, 3) := dk_180 1 100 (dk_at dksX0_joins_2 11 rfl rfl)
theorem dX0_joins_62 : decode cX0_joins 62 = .ok (.iload_n 3, 1) := dk_29 (dk_at dksX0_joins_2 14 rfl rfl)
theorem dX0_joins_63 : decode cX0_joins 63 = .ok (.i2l, 1) := dk_133 (dk_at dksX0_joins_2 15 rfl rfl)
theorem dX0_joins_64 : decode cX0_joins 64 = .ok (.lrem, 1) := dk_113 (dk_at dksX0_joins_2 16 rfl rfl)
theorem dX0_joins_65 : decode cX0_joins 65 = .ok (.aload_n 0, 1) := dk_42 (dk_at dksX0_joins_2 17 rfl rfl)
theorem dX0_joins_66 : decode cX0_joins 66 = .ok (.getfield 12, 3) := dk_180 0 12 (dk_at dksX0_joins_2 18 rfl rfl)
theorem dX0_joins_69 : decode cX0_joins 69 = .ok (.getfield 368, 3) := dk_180 1 112 (dk_at dksX0_joins_2 21 rfl rfl)
theorem dX0_joins_72 : decode cX0_joins 72 = .ok (.iload_n 2, 1) := dk_28 (dk_at dksX0_joins_3 0 rfl rfl)
theorem dX0_joins_73 : decode cX0_joins 73 = .ok (.iaload, 1) := dk_46 (dk_at dksX0_joins_3 1 rfl rfl)
theorem dX0_joins_74 : decode cX0_joins 74 = .ok (.i2l, 1) := dk_133 (dk_at dksX0_joins_3 2 rfl rfl)
theorem dX0_joins_75 : decode cX0_joins 75 = .ok (.lcmp, 1) := dk_148 (dk_at dksX0_joins_3 3 rfl rfl)
theorem dX0_joins_76 : decode cX0_joins 76 = .ok (.ifCond .eq 35, 3) := dk_153 0 35 (dk_at dksX0_joins_3 4 rfl rfl)
theorem dX0_joins_79 : decode cX0_joins 79 = .ok (.aload_n 0, 1) := dk_42 (dk_at dksX0_joins_3 7 rfl rfl)
theorem dX0_joins_80 : decode cX0_joins 80 = .ok (.dup, 1) := dk_89 (dk_at dksX0_joins_3 8 rfl rfl)
theorem dX0_joins_81 : decode cX0_joins 81 = .ok (.getfield 356, 3) := dk_180 1 100 (dk_at dksX0_joins_3 9 rfl rfl)
theorem dX0_joins_84 : decode cX0_joins 84 = .ok (.aload_n 0, 1) := dk_42 (dk_at dksX0_joins_3 12 rfl rfl)
theorem dX0_joins_85 : decode cX0_joins 85 = .ok (.getfield 359, 3) := dk_180 1 103 (dk_at dksX0_joins_3 13 rfl rfl)
theorem dX0_joins_88 : decode cX0_joins 88 = .ok (.ladd, 1) := dk_97 (dk_at dksX0_joins_3 16 rfl rfl)
theorem dX0_joins_89 : decode cX0_joins 89 = .ok (.putfield 356, 3) := dk_181 1 100 (dk_at dksX0_joins_3 17 rfl rfl)
theorem dX0_joins_92 : decode cX0_joins 92 = .ok (.iinc 4 1, 3) := dk_132 4 1 (dk_at dksX0_joins_3 20 rfl rfl)
theorem dX0_joins_95 : decode cX0_joins 95 = .ok (.iload 4, 2) := dk_21 4 (dk_at dksX0_joins_4 0 rfl rfl)
theorem dX0_joins_97 : decode cX0_joins 97 = .ok (.iload_n 3, 1) := dk_29 (dk_at dksX0_joins_4 2 rfl rfl)
theorem dX0_joins_98 : decode cX0_joins 98 = .ok (.if_icmp .le (-51), 3) := dk_164 255 205 (dk_at dksX0_joins_4 3 rfl rfl)
theorem dX0_joins_101 : decode cX0_joins 101 = .ok (.aload_n 0, 1) := dk_42 (dk_at dksX0_joins_4 6 rfl rfl)
theorem dX0_joins_102 : decode cX0_joins 102 = .ok (.ldc2_w 284, 3) := dk_20 1 28 (dk_at dksX0_joins_4 7 rfl rfl)
theorem dX0_joins_105 : decode cX0_joins 105 = .ok (.putfield 356, 3) := dk_181 1 100 (dk_at dksX0_joins_4 10 rfl rfl)
theorem dX0_joins_108 : decode cX0_joins 108 = .ok (.goto (-61), 3) := dk_167 255 195 (dk_at dksX0_joins_4 13 rfl rfl)
theorem dX0_joins_111 : decode cX0_joins 111 = .ok (.aload_n 0, 1) := dk_42 (dk_at dksX0_joins_4 16 rfl rfl)
theorem dX0_joins_112 : decode cX0_joins 112 = .ok (.aload_n 0, 1) := dk_42 (dk_at dksX0_joins_4 17 rfl rfl)
theorem dX0_joins_113 : decode cX0_joins 113 = .ok (.getfield 359, 3) := dk_180 1 103 (dk_at dksX0_joins_4 18 rfl rfl)
theorem dX0_joins_116 : decode cX0_joins 116 = .ok (.aload_n 0, 1) := dk_42 (dk_at dksX0_joins_4 21 rfl rfl)
theorem dX0_joins_117 : decode cX0_joins 117 = .ok (.getfield 359, 3) := dk_180 1 103 (dk_at dksX0_joins_5 0 rfl rfl)
theorem dX0_joins_120 : decode cX0_joins 120 = .ok (.iload_n 3, 1) := dk_29 (dk_at dksX0_joins_5 3 rfl rfl)
theorem dX0_joins_121 : decode cX0_joins 121 = .ok (.i2l, 1) := dk_133 (dk_at dksX0_joins_5 4 rfl rfl)
theorem dX0_joins_122 : decode cX0_joins 122 = .ok (.lrem, 1) := dk_113 (dk_at dksX0_joins_5 5 rfl rfl)
theorem dX0_joins_123 : decode cX0_joins 123 = .ok (.l2i, 1) := dk_136 (dk_at dksX0_joins_5 6 rfl rfl)
theorem dX0_joins_124 : decode cX0_joins 124 = .ok (.iload_n 3, 1) := dk_29 (dk_at dksX0_joins_5 7 rfl rfl)
theorem dX0_joins_125 : decode cX0_joins 125 = .ok (.invokestatic 241, 3) := dk_184 0 241 (dk_at dksX0_joins_5 8 rfl rfl)
theorem dX0_joins_128 : decode cX0_joins 128 = .ok (.i2l, 1) := dk_133 (dk_at dksX0_joins_5 11 rfl rfl)
theorem dX0_joins_129 : decode cX0_joins 129 = .ok (.ldiv, 1) := dk_109 (dk_at dksX0_joins_5 12 rfl rfl)
theorem dX0_joins_130 : decode cX0_joins 130 = .ok (.iload_n 3, 1) := dk_29 (dk_at dksX0_joins_5 13 rfl rfl)
theorem dX0_joins_131 : decode cX0_joins 131 = .ok (.i2l, 1) := dk_133 (dk_at dksX0_joins_5 14 rfl rfl)
theorem dX0_joins_132 : decode cX0_joins 132 = .ok (.lmul, 1) := dk_105 (dk_at dksX0_joins_5 15 rfl rfl)
theorem dX0_joins_133 : decode cX0_joins 133 = .ok (.putfield 359, 3) := dk_181 1 103 (dk_at dksX0_joins_5 16 rfl rfl)
theorem dX0_joins_136 : decode cX0_joins 136 = .ok (.iinc 2 1, 3) := dk_132 2 1 (dk_at dksX0_joins_5 19 rfl rfl)
theorem dX0_joins_139 : decode cX0_joins 139 = .ok (.goto (-127), 3) := dk_167 255 129 (dk_at dksX0_joins_6 0 rfl rfl)
theorem dX0_joins_142 : decode cX0_joins 142 = .ok (.return_, 1) := dk_177 (dk_at dksX0_joins_6 3 rfl rfl)
abbrev cX0_again : ByteArray := prog_1_method_86_code
def yX0_again : MethodName := ⟨RX0, "again", "(I)J"⟩
def dkwX0_again_0 : List UInt8 := [42, 27, 182, 1, 115, 154, 0, 7, 20, 1, 118, 173, 42, 27, 182, 1, 120, 42, 180, 1, 103, 173]
abbrev dktX0_again_0 : List UInt8 := dkwX0_again_0 ++ []
theorem dksX0_again_0 : cX0_again.data.toList.drop 0 = dktX0_again_0 := by decide +kernel
theorem dX0_again_0 : decode cX0_again 0 = .ok (.aload_n 0, 1) := dk_42 (dk_at dksX0_again_0 0 rfl rfl)
theorem dX0_again_1 : decode cX0_again 1 = .ok (.iload_n 1, 1) := dk_27 (dk_at dksX0_again_0 1 rfl rfl)
theorem dX0_again_2 : decode cX0_again 2 = .ok (.invokevirtual 371, 3) := dk_182 1 115 (dk_at dksX0_again_0 2 rfl rfl)
theorem dX0_again_5 : decode cX0_again 5 = .ok (.ifCond .ne 7, 3) := dk_154 0 7 (dk_at dksX0_again_0 5 rfl rfl)
theorem dX0_again_8 : decode cX0_again 8 = .ok (.ldc2_w 374, 3) := dk_20 1 118 (dk_at dksX0_again_0 8 rfl rfl)
theorem dX0_again_11 : decode cX0_again 11 = .ok (.lreturn, 1) := dk_173 (dk_at dksX0_again_0 11 rfl rfl)
theorem dX0_again_12 : decode cX0_again 12 = .ok (.aload_n 0, 1) := dk_42 (dk_at dksX0_again_0 12 rfl rfl)
theorem dX0_again_13 : decode cX0_again 13 = .ok (.iload_n 1, 1) := dk_27 (dk_at dksX0_again_0 13 rfl rfl)
theorem dX0_again_14 : decode cX0_again 14 = .ok (.invokevirtual 376, 3) := dk_182 1 120 (dk_at dksX0_again_0 14 rfl rfl)
theorem dX0_again_17 : decode cX0_again 17 = .ok (.aload_n 0, 1) := dk_42 (dk_at dksX0_again_0 17 rfl rfl)
theorem dX0_again_18 : decode cX0_again 18 = .ok (.getfield 359, 3) := dk_180 1 103 (dk_at dksX0_again_0 18 rfl rfl)
theorem dX0_again_21 : decode cX0_again 21 = .ok (.lreturn, 1) := dk_173 (dk_at dksX0_again_0 21 rfl rfl)
abbrev cX0_most : ByteArray := prog_1_method_88_code
def yX0_most : MethodName := ⟨RX0, "most", "()I"⟩
def dkwX0_most_0 : List UInt8 := [42, 182, 0, 128, 153, 0, 13, 42, 182, 1, 128, 184, 1, 123, 167, 0, 5, 16, 254, 172]
abbrev dktX0_most_0 : List UInt8 := dkwX0_most_0 ++ []
theorem dksX0_most_0 : cX0_most.data.toList.drop 0 = dktX0_most_0 := by decide +kernel
theorem dX0_most_0 : decode cX0_most 0 = .ok (.aload_n 0, 1) := dk_42 (dk_at dksX0_most_0 0 rfl rfl)
theorem dX0_most_1 : decode cX0_most 1 = .ok (.invokevirtual 128, 3) := dk_182 0 128 (dk_at dksX0_most_0 1 rfl rfl)
theorem dX0_most_4 : decode cX0_most 4 = .ok (.ifCond .eq 13, 3) := dk_153 0 13 (dk_at dksX0_most_0 4 rfl rfl)
theorem dX0_most_7 : decode cX0_most 7 = .ok (.aload_n 0, 1) := dk_42 (dk_at dksX0_most_0 7 rfl rfl)
theorem dX0_most_8 : decode cX0_most 8 = .ok (.invokevirtual 384, 3) := dk_182 1 128 (dk_at dksX0_most_0 8 rfl rfl)
theorem dX0_most_11 : decode cX0_most 11 = .ok (.invokestatic 379, 3) := dk_184 1 123 (dk_at dksX0_most_0 11 rfl rfl)
theorem dX0_most_14 : decode cX0_most 14 = .ok (.goto 5, 3) := dk_167 0 5 (dk_at dksX0_most_0 14 rfl rfl)
theorem dX0_most_17 : decode cX0_most 17 = .ok (.bipush (-2), 2) := dk_16 254 (dk_at dksX0_most_0 17 rfl rfl)
theorem dX0_most_19 : decode cX0_most 19 = .ok (.ireturn, 1) := dk_172 (dk_at dksX0_most_0 19 rfl rfl)
abbrev cX0_chorusOf : ByteArray := prog_1_method_87_code
def yX0_chorusOf : MethodName := ⟨RX0, "chorusOf", "()I"⟩
def dkwX0_chorusOf_2 : List UInt8 := [167, 0, 4, 27, 60, 132, 2, 1, 167, 255, 207, 27, 172]
abbrev dktX0_chorusOf_2 : List UInt8 := dkwX0_chorusOf_2 ++ []
def dkwX0_chorusOf_1 : List UInt8 := [180, 1, 100, 20, 1, 28, 148, 153, 0, 18, 28, 184, 1, 123, 27, 184, 1, 123, 164, 0, 7, 28]
abbrev dktX0_chorusOf_1 : List UInt8 := dkwX0_chorusOf_1 ++ dktX0_chorusOf_2
def dkwX0_chorusOf_0 : List UInt8 := [3, 60, 3, 61, 28, 4, 42, 180, 0, 12, 180, 1, 106, 120, 162, 0, 42, 42, 28, 182, 1, 120, 42]
abbrev dktX0_chorusOf_0 : List UInt8 := dkwX0_chorusOf_0 ++ dktX0_chorusOf_1
theorem dksX0_chorusOf_0 : cX0_chorusOf.data.toList.drop 0 = dktX0_chorusOf_0 := by decide +kernel
theorem dksX0_chorusOf_1 : cX0_chorusOf.data.toList.drop 23 = dktX0_chorusOf_1 := dk_seg dksX0_chorusOf_0 23 rfl rfl
theorem dksX0_chorusOf_2 : cX0_chorusOf.data.toList.drop 45 = dktX0_chorusOf_2 := dk_seg dksX0_chorusOf_1 22 rfl rfl
theorem dX0_chorusOf_0 : decode cX0_chorusOf 0 = .ok (.iconst 0, 1) := dk_3 (dk_at dksX0_chorusOf_0 0 rfl rfl)
theorem dX0_chorusOf_1 : decode cX0_chorusOf 1 = .ok (.istore_n 1, 1) := dk_60 (dk_at dksX0_chorusOf_0 1 rfl rfl)
theorem dX0_chorusOf_2 : decode cX0_chorusOf 2 = .ok (.iconst 0, 1) := dk_3 (dk_at dksX0_chorusOf_0 2 rfl rfl)
theorem dX0_chorusOf_3 : decode cX0_chorusOf 3 = .ok (.istore_n 2, 1) := dk_61 (dk_at dksX0_chorusOf_0 3 rfl rfl)
theorem dX0_chorusOf_4 : decode cX0_chorusOf 4 = .ok (.iload_n 2, 1) := dk_28 (dk_at dksX0_chorusOf_0 4 rfl rfl)
theorem dX0_chorusOf_5 : decode cX0_chorusOf 5 = .ok (.iconst 1, 1) := dk_4 (dk_at dksX0_chorusOf_0 5 rfl rfl)
theorem dX0_chorusOf_6 : decode cX0_chorusOf 6 = .ok (.aload_n 0, 1) := dk_42 (dk_at dksX0_chorusOf_0 6 rfl rfl)
theorem dX0_chorusOf_7 : decode cX0_chorusOf 7 = .ok (.getfield 12, 3) := dk_180 0 12 (dk_at dksX0_chorusOf_0 7 rfl rfl)
theorem dX0_chorusOf_10 : decode cX0_chorusOf 10 = .ok (.getfield 362, 3) := dk_180 1 106 (dk_at dksX0_chorusOf_0 10 rfl rfl)
theorem dX0_chorusOf_13 : decode cX0_chorusOf 13 = .ok (.ishl, 1) := dk_120 (dk_at dksX0_chorusOf_0 13 rfl rfl)
theorem dX0_chorusOf_14 : decode cX0_chorusOf 14 = .ok (.if_icmp .ge 42, 3) := dk_162 0 42 (dk_at dksX0_chorusOf_0 14 rfl rfl)
theorem dX0_chorusOf_17 : decode cX0_chorusOf 17 = .ok (.aload_n 0, 1) := dk_42 (dk_at dksX0_chorusOf_0 17 rfl rfl)
theorem dX0_chorusOf_18 : decode cX0_chorusOf 18 = .ok (.iload_n 2, 1) := dk_28 (dk_at dksX0_chorusOf_0 18 rfl rfl)
theorem dX0_chorusOf_19 : decode cX0_chorusOf 19 = .ok (.invokevirtual 376, 3) := dk_182 1 120 (dk_at dksX0_chorusOf_0 19 rfl rfl)
theorem dX0_chorusOf_22 : decode cX0_chorusOf 22 = .ok (.aload_n 0, 1) := dk_42 (dk_at dksX0_chorusOf_0 22 rfl rfl)
theorem dX0_chorusOf_23 : decode cX0_chorusOf 23 = .ok (.getfield 356, 3) := dk_180 1 100 (dk_at dksX0_chorusOf_1 0 rfl rfl)
theorem dX0_chorusOf_26 : decode cX0_chorusOf 26 = .ok (.ldc2_w 284, 3) := dk_20 1 28 (dk_at dksX0_chorusOf_1 3 rfl rfl)
theorem dX0_chorusOf_29 : decode cX0_chorusOf 29 = .ok (.lcmp, 1) := dk_148 (dk_at dksX0_chorusOf_1 6 rfl rfl)
theorem dX0_chorusOf_30 : decode cX0_chorusOf 30 = .ok (.ifCond .eq 18, 3) := dk_153 0 18 (dk_at dksX0_chorusOf_1 7 rfl rfl)
theorem dX0_chorusOf_33 : decode cX0_chorusOf 33 = .ok (.iload_n 2, 1) := dk_28 (dk_at dksX0_chorusOf_1 10 rfl rfl)
theorem dX0_chorusOf_34 : decode cX0_chorusOf 34 = .ok (.invokestatic 379, 3) := dk_184 1 123 (dk_at dksX0_chorusOf_1 11 rfl rfl)
theorem dX0_chorusOf_37 : decode cX0_chorusOf 37 = .ok (.iload_n 1, 1) := dk_27 (dk_at dksX0_chorusOf_1 14 rfl rfl)
theorem dX0_chorusOf_38 : decode cX0_chorusOf 38 = .ok (.invokestatic 379, 3) := dk_184 1 123 (dk_at dksX0_chorusOf_1 15 rfl rfl)
theorem dX0_chorusOf_41 : decode cX0_chorusOf 41 = .ok (.if_icmp .le 7, 3) := dk_164 0 7 (dk_at dksX0_chorusOf_1 18 rfl rfl)
theorem dX0_chorusOf_44 : decode cX0_chorusOf 44 = .ok (.iload_n 2, 1) := dk_28 (dk_at dksX0_chorusOf_1 21 rfl rfl)
theorem dX0_chorusOf_45 : decode cX0_chorusOf 45 = .ok (.goto 4, 3) := dk_167 0 4 (dk_at dksX0_chorusOf_2 0 rfl rfl)
theorem dX0_chorusOf_48 : decode cX0_chorusOf 48 = .ok (.iload_n 1, 1) := dk_27 (dk_at dksX0_chorusOf_2 3 rfl rfl)
theorem dX0_chorusOf_49 : decode cX0_chorusOf 49 = .ok (.istore_n 1, 1) := dk_60 (dk_at dksX0_chorusOf_2 4 rfl rfl)
theorem dX0_chorusOf_50 : decode cX0_chorusOf 50 = .ok (.iinc 2 1, 3) := dk_132 2 1 (dk_at dksX0_chorusOf_2 5 rfl rfl)
theorem dX0_chorusOf_53 : decode cX0_chorusOf 53 = .ok (.goto (-49), 3) := dk_167 255 207 (dk_at dksX0_chorusOf_2 8 rfl rfl)
theorem dX0_chorusOf_56 : decode cX0_chorusOf 56 = .ok (.iload_n 1, 1) := dk_27 (dk_at dksX0_chorusOf_2 11 rfl rfl)
theorem dX0_chorusOf_57 : decode cX0_chorusOf 57 = .ok (.ireturn, 1) := dk_172 (dk_at dksX0_chorusOf_2 12 rfl rfl)
abbrev cX0_chorus : ByteArray := prog_1_method_89_code
def yX0_chorus : MethodName := ⟨RX0, "chorus", "()I"⟩
def dkwX0_chorus_0 : List UInt8 := [42, 182, 0, 128, 153, 0, 10, 42, 182, 1, 128, 167, 0, 5, 16, 254, 172]
abbrev dktX0_chorus_0 : List UInt8 := dkwX0_chorus_0 ++ []
theorem dksX0_chorus_0 : cX0_chorus.data.toList.drop 0 = dktX0_chorus_0 := by decide +kernel
theorem dX0_chorus_0 : decode cX0_chorus 0 = .ok (.aload_n 0, 1) := dk_42 (dk_at dksX0_chorus_0 0 rfl rfl)
theorem dX0_chorus_1 : decode cX0_chorus 1 = .ok (.invokevirtual 128, 3) := dk_182 0 128 (dk_at dksX0_chorus_0 1 rfl rfl)
theorem dX0_chorus_4 : decode cX0_chorus 4 = .ok (.ifCond .eq 10, 3) := dk_153 0 10 (dk_at dksX0_chorus_0 4 rfl rfl)
theorem dX0_chorus_7 : decode cX0_chorus 7 = .ok (.aload_n 0, 1) := dk_42 (dk_at dksX0_chorus_0 7 rfl rfl)
theorem dX0_chorus_8 : decode cX0_chorus 8 = .ok (.invokevirtual 384, 3) := dk_182 1 128 (dk_at dksX0_chorus_0 8 rfl rfl)
theorem dX0_chorus_11 : decode cX0_chorus 11 = .ok (.goto 5, 3) := dk_167 0 5 (dk_at dksX0_chorus_0 11 rfl rfl)
theorem dX0_chorus_14 : decode cX0_chorus 14 = .ok (.bipush (-2), 2) := dk_16 254 (dk_at dksX0_chorus_0 14 rfl rfl)
theorem dX0_chorus_16 : decode cX0_chorus 16 = .ok (.ireturn, 1) := dk_172 (dk_at dksX0_chorus_0 16 rfl rfl)
abbrev cX0_treaties : ByteArray := prog_1_method_90_code
def yX0_treaties : MethodName := ⟨RX0, "treaties", "()I"⟩
def dkwX0_treaties_3 : List UInt8 := [132, 3, 1, 167, 255, 207, 132, 2, 1, 167, 255, 193, 27, 172]
abbrev dktX0_treaties_3 : List UInt8 := dkwX0_treaties_3 ++ []
def dkwX0_treaties_2 : List UInt8 := [180, 0, 12, 180, 0, 163, 29, 46, 28, 184, 0, 197, 153, 0, 7, 4, 167, 0, 4, 3, 96, 60]
abbrev dktX0_treaties_2 : List UInt8 := dkwX0_treaties_2 ++ dktX0_treaties_3
def dkwX0_treaties_1 : List UInt8 := [16, 6, 162, 0, 49, 27, 42, 180, 0, 12, 180, 0, 163, 28, 46, 29, 184, 0, 197, 153, 0, 23, 42]
abbrev dktX0_treaties_1 : List UInt8 := dkwX0_treaties_1 ++ dktX0_treaties_2
def dkwX0_treaties_0 : List UInt8 := [42, 182, 0, 128, 154, 0, 6, 16, 254, 172, 3, 60, 3, 61, 28, 16, 6, 162, 0, 63, 3, 62, 29]
abbrev dktX0_treaties_0 : List UInt8 := dkwX0_treaties_0 ++ dktX0_treaties_1
theorem dksX0_treaties_0 : cX0_treaties.data.toList.drop 0 = dktX0_treaties_0 := by decide +kernel
theorem dksX0_treaties_1 : cX0_treaties.data.toList.drop 23 = dktX0_treaties_1 := dk_seg dksX0_treaties_0 23 rfl rfl
theorem dksX0_treaties_2 : cX0_treaties.data.toList.drop 46 = dktX0_treaties_2 := dk_seg dksX0_treaties_1 23 rfl rfl
theorem dksX0_treaties_3 : cX0_treaties.data.toList.drop 68 = dktX0_treaties_3 := dk_seg dksX0_treaties_2 22 rfl rfl
theorem dX0_treaties_0 : decode cX0_treaties 0 = .ok (.aload_n 0, 1) := dk_42 (dk_at dksX0_treaties_0 0 rfl rfl)
theorem dX0_treaties_1 : decode cX0_treaties 1 = .ok (.invokevirtual 128, 3) := dk_182 0 128 (dk_at dksX0_treaties_0 1 rfl rfl)
theorem dX0_treaties_4 : decode cX0_treaties 4 = .ok (.ifCond .ne 6, 3) := dk_154 0 6 (dk_at dksX0_treaties_0 4 rfl rfl)
theorem dX0_treaties_7 : decode cX0_treaties 7 = .ok (.bipush (-2), 2) := dk_16 254 (dk_at dksX0_treaties_0 7 rfl rfl)
theorem dX0_treaties_9 : decode cX0_treaties 9 = .ok (.ireturn, 1) := dk_172 (dk_at dksX0_treaties_0 9 rfl rfl)
theorem dX0_treaties_10 : decode cX0_treaties 10 = .ok (.iconst 0, 1) := dk_3 (dk_at dksX0_treaties_0 10 rfl rfl)
theorem dX0_treaties_11 : decode cX0_treaties 11 = .ok (.istore_n 1, 1) := dk_60 (dk_at dksX0_treaties_0 11 rfl rfl)
theorem dX0_treaties_12 : decode cX0_treaties 12 = .ok (.iconst 0, 1) := dk_3 (dk_at dksX0_treaties_0 12 rfl rfl)
theorem dX0_treaties_13 : decode cX0_treaties 13 = .ok (.istore_n 2, 1) := dk_61 (dk_at dksX0_treaties_0 13 rfl rfl)
theorem dX0_treaties_14 : decode cX0_treaties 14 = .ok (.iload_n 2, 1) := dk_28 (dk_at dksX0_treaties_0 14 rfl rfl)
theorem dX0_treaties_15 : decode cX0_treaties 15 = .ok (.bipush 6, 2) := dk_16 6 (dk_at dksX0_treaties_0 15 rfl rfl)
theorem dX0_treaties_17 : decode cX0_treaties 17 = .ok (.if_icmp .ge 63, 3) := dk_162 0 63 (dk_at dksX0_treaties_0 17 rfl rfl)
theorem dX0_treaties_20 : decode cX0_treaties 20 = .ok (.iconst 0, 1) := dk_3 (dk_at dksX0_treaties_0 20 rfl rfl)
theorem dX0_treaties_21 : decode cX0_treaties 21 = .ok (.istore_n 3, 1) := dk_62 (dk_at dksX0_treaties_0 21 rfl rfl)
theorem dX0_treaties_22 : decode cX0_treaties 22 = .ok (.iload_n 3, 1) := dk_29 (dk_at dksX0_treaties_0 22 rfl rfl)
theorem dX0_treaties_23 : decode cX0_treaties 23 = .ok (.bipush 6, 2) := dk_16 6 (dk_at dksX0_treaties_1 0 rfl rfl)
theorem dX0_treaties_25 : decode cX0_treaties 25 = .ok (.if_icmp .ge 49, 3) := dk_162 0 49 (dk_at dksX0_treaties_1 2 rfl rfl)
theorem dX0_treaties_28 : decode cX0_treaties 28 = .ok (.iload_n 1, 1) := dk_27 (dk_at dksX0_treaties_1 5 rfl rfl)
theorem dX0_treaties_29 : decode cX0_treaties 29 = .ok (.aload_n 0, 1) := dk_42 (dk_at dksX0_treaties_1 6 rfl rfl)
theorem dX0_treaties_30 : decode cX0_treaties 30 = .ok (.getfield 12, 3) := dk_180 0 12 (dk_at dksX0_treaties_1 7 rfl rfl)
theorem dX0_treaties_33 : decode cX0_treaties 33 = .ok (.getfield 163, 3) := dk_180 0 163 (dk_at dksX0_treaties_1 10 rfl rfl)
theorem dX0_treaties_36 : decode cX0_treaties 36 = .ok (.iload_n 2, 1) := dk_28 (dk_at dksX0_treaties_1 13 rfl rfl)
theorem dX0_treaties_37 : decode cX0_treaties 37 = .ok (.iaload, 1) := dk_46 (dk_at dksX0_treaties_1 14 rfl rfl)
theorem dX0_treaties_38 : decode cX0_treaties 38 = .ok (.iload_n 3, 1) := dk_29 (dk_at dksX0_treaties_1 15 rfl rfl)
theorem dX0_treaties_39 : decode cX0_treaties 39 = .ok (.invokestatic 197, 3) := dk_184 0 197 (dk_at dksX0_treaties_1 16 rfl rfl)
theorem dX0_treaties_42 : decode cX0_treaties 42 = .ok (.ifCond .eq 23, 3) := dk_153 0 23 (dk_at dksX0_treaties_1 19 rfl rfl)
theorem dX0_treaties_45 : decode cX0_treaties 45 = .ok (.aload_n 0, 1) := dk_42 (dk_at dksX0_treaties_1 22 rfl rfl)
theorem dX0_treaties_46 : decode cX0_treaties 46 = .ok (.getfield 12, 3) := dk_180 0 12 (dk_at dksX0_treaties_2 0 rfl rfl)
theorem dX0_treaties_49 : decode cX0_treaties 49 = .ok (.getfield 163, 3) := dk_180 0 163 (dk_at dksX0_treaties_2 3 rfl rfl)
theorem dX0_treaties_52 : decode cX0_treaties 52 = .ok (.iload_n 3, 1) := dk_29 (dk_at dksX0_treaties_2 6 rfl rfl)
theorem dX0_treaties_53 : decode cX0_treaties 53 = .ok (.iaload, 1) := dk_46 (dk_at dksX0_treaties_2 7 rfl rfl)
theorem dX0_treaties_54 : decode cX0_treaties 54 = .ok (.iload_n 2, 1) := dk_28 (dk_at dksX0_treaties_2 8 rfl rfl)
theorem dX0_treaties_55 : decode cX0_treaties 55 = .ok (.invokestatic 197, 3) := dk_184 0 197 (dk_at dksX0_treaties_2 9 rfl rfl)
theorem dX0_treaties_58 : decode cX0_treaties 58 = .ok (.ifCond .eq 7, 3) := dk_153 0 7 (dk_at dksX0_treaties_2 12 rfl rfl)
theorem dX0_treaties_61 : decode cX0_treaties 61 = .ok (.iconst 1, 1) := dk_4 (dk_at dksX0_treaties_2 15 rfl rfl)
theorem dX0_treaties_62 : decode cX0_treaties 62 = .ok (.goto 4, 3) := dk_167 0 4 (dk_at dksX0_treaties_2 16 rfl rfl)
theorem dX0_treaties_65 : decode cX0_treaties 65 = .ok (.iconst 0, 1) := dk_3 (dk_at dksX0_treaties_2 19 rfl rfl)
theorem dX0_treaties_66 : decode cX0_treaties 66 = .ok (.iadd, 1) := dk_96 (dk_at dksX0_treaties_2 20 rfl rfl)
theorem dX0_treaties_67 : decode cX0_treaties 67 = .ok (.istore_n 1, 1) := dk_60 (dk_at dksX0_treaties_2 21 rfl rfl)
theorem dX0_treaties_68 : decode cX0_treaties 68 = .ok (.iinc 3 1, 3) := dk_132 3 1 (dk_at dksX0_treaties_3 0 rfl rfl)
theorem dX0_treaties_71 : decode cX0_treaties 71 = .ok (.goto (-49), 3) := dk_167 255 207 (dk_at dksX0_treaties_3 3 rfl rfl)
theorem dX0_treaties_74 : decode cX0_treaties 74 = .ok (.iinc 2 1, 3) := dk_132 2 1 (dk_at dksX0_treaties_3 6 rfl rfl)
theorem dX0_treaties_77 : decode cX0_treaties 77 = .ok (.goto (-63), 3) := dk_167 255 193 (dk_at dksX0_treaties_3 9 rfl rfl)
theorem dX0_treaties_80 : decode cX0_treaties 80 = .ok (.iload_n 1, 1) := dk_27 (dk_at dksX0_treaties_3 12 rfl rfl)
theorem dX0_treaties_81 : decode cX0_treaties 81 = .ok (.ireturn, 1) := dk_172 (dk_at dksX0_treaties_3 13 rfl rfl)
abbrev cX0_leads : ByteArray := prog_1_method_91_code
def yX0_leads : MethodName := ⟨RX0, "leads", "(I)I"⟩
def dkwX0_leads_3 : List UInt8 := [156, 0, 7, 29, 167, 0, 4, 28, 61, 132, 3, 1, 167, 255, 195, 28, 172]
abbrev dktX0_leads_3 : List UInt8 := dkwX0_leads_3 ++ []
def dkwX0_leads_2 : List UInt8 := [28, 46, 184, 1, 123, 100, 54, 4, 27, 154, 0, 8, 21, 4, 157, 0, 13, 27, 4, 160, 0, 12, 21, 4]
abbrev dktX0_leads_2 : List UInt8 := dkwX0_leads_2 ++ dktX0_leads_3
def dkwX0_leads_1 : List UInt8 := [16, 6, 162, 0, 61, 42, 180, 0, 12, 180, 0, 163, 29, 46, 184, 1, 123, 42, 180, 0, 12, 180, 0, 163]
abbrev dktX0_leads_1 : List UInt8 := dkwX0_leads_1 ++ dktX0_leads_2
def dkwX0_leads_0 : List UInt8 := [42, 182, 0, 128, 153, 0, 11, 27, 5, 184, 0, 132, 154, 0, 6, 16, 254, 172, 3, 61, 4, 62, 29]
abbrev dktX0_leads_0 : List UInt8 := dkwX0_leads_0 ++ dktX0_leads_1
theorem dksX0_leads_0 : cX0_leads.data.toList.drop 0 = dktX0_leads_0 := by decide +kernel
theorem dksX0_leads_1 : cX0_leads.data.toList.drop 23 = dktX0_leads_1 := dk_seg dksX0_leads_0 23 rfl rfl
theorem dksX0_leads_2 : cX0_leads.data.toList.drop 47 = dktX0_leads_2 := dk_seg dksX0_leads_1 24 rfl rfl
theorem dksX0_leads_3 : cX0_leads.data.toList.drop 71 = dktX0_leads_3 := dk_seg dksX0_leads_2 24 rfl rfl
theorem dX0_leads_0 : decode cX0_leads 0 = .ok (.aload_n 0, 1) := dk_42 (dk_at dksX0_leads_0 0 rfl rfl)
theorem dX0_leads_1 : decode cX0_leads 1 = .ok (.invokevirtual 128, 3) := dk_182 0 128 (dk_at dksX0_leads_0 1 rfl rfl)
theorem dX0_leads_4 : decode cX0_leads 4 = .ok (.ifCond .eq 11, 3) := dk_153 0 11 (dk_at dksX0_leads_0 4 rfl rfl)
theorem dX0_leads_7 : decode cX0_leads 7 = .ok (.iload_n 1, 1) := dk_27 (dk_at dksX0_leads_0 7 rfl rfl)
theorem dX0_leads_8 : decode cX0_leads 8 = .ok (.iconst 2, 1) := dk_5 (dk_at dksX0_leads_0 8 rfl rfl)
theorem dX0_leads_9 : decode cX0_leads 9 = .ok (.invokestatic 132, 3) := dk_184 0 132 (dk_at dksX0_leads_0 9 rfl rfl)
theorem dX0_leads_12 : decode cX0_leads 12 = .ok (.ifCond .ne 6, 3) := dk_154 0 6 (dk_at dksX0_leads_0 12 rfl rfl)
theorem dX0_leads_15 : decode cX0_leads 15 = .ok (.bipush (-2), 2) := dk_16 254 (dk_at dksX0_leads_0 15 rfl rfl)
theorem dX0_leads_17 : decode cX0_leads 17 = .ok (.ireturn, 1) := dk_172 (dk_at dksX0_leads_0 17 rfl rfl)
theorem dX0_leads_18 : decode cX0_leads 18 = .ok (.iconst 0, 1) := dk_3 (dk_at dksX0_leads_0 18 rfl rfl)
theorem dX0_leads_19 : decode cX0_leads 19 = .ok (.istore_n 2, 1) := dk_61 (dk_at dksX0_leads_0 19 rfl rfl)
theorem dX0_leads_20 : decode cX0_leads 20 = .ok (.iconst 1, 1) := dk_4 (dk_at dksX0_leads_0 20 rfl rfl)
theorem dX0_leads_21 : decode cX0_leads 21 = .ok (.istore_n 3, 1) := dk_62 (dk_at dksX0_leads_0 21 rfl rfl)
theorem dX0_leads_22 : decode cX0_leads 22 = .ok (.iload_n 3, 1) := dk_29 (dk_at dksX0_leads_0 22 rfl rfl)
theorem dX0_leads_23 : decode cX0_leads 23 = .ok (.bipush 6, 2) := dk_16 6 (dk_at dksX0_leads_1 0 rfl rfl)
theorem dX0_leads_25 : decode cX0_leads 25 = .ok (.if_icmp .ge 61, 3) := dk_162 0 61 (dk_at dksX0_leads_1 2 rfl rfl)
theorem dX0_leads_28 : decode cX0_leads 28 = .ok (.aload_n 0, 1) := dk_42 (dk_at dksX0_leads_1 5 rfl rfl)
theorem dX0_leads_29 : decode cX0_leads 29 = .ok (.getfield 12, 3) := dk_180 0 12 (dk_at dksX0_leads_1 6 rfl rfl)
theorem dX0_leads_32 : decode cX0_leads 32 = .ok (.getfield 163, 3) := dk_180 0 163 (dk_at dksX0_leads_1 9 rfl rfl)
theorem dX0_leads_35 : decode cX0_leads 35 = .ok (.iload_n 3, 1) := dk_29 (dk_at dksX0_leads_1 12 rfl rfl)
theorem dX0_leads_36 : decode cX0_leads 36 = .ok (.iaload, 1) := dk_46 (dk_at dksX0_leads_1 13 rfl rfl)
theorem dX0_leads_37 : decode cX0_leads 37 = .ok (.invokestatic 379, 3) := dk_184 1 123 (dk_at dksX0_leads_1 14 rfl rfl)
theorem dX0_leads_40 : decode cX0_leads 40 = .ok (.aload_n 0, 1) := dk_42 (dk_at dksX0_leads_1 17 rfl rfl)
theorem dX0_leads_41 : decode cX0_leads 41 = .ok (.getfield 12, 3) := dk_180 0 12 (dk_at dksX0_leads_1 18 rfl rfl)
theorem dX0_leads_44 : decode cX0_leads 44 = .ok (.getfield 163, 3) := dk_180 0 163 (dk_at dksX0_leads_1 21 rfl rfl)
theorem dX0_leads_47 : decode cX0_leads 47 = .ok (.iload_n 2, 1) := dk_28 (dk_at dksX0_leads_2 0 rfl rfl)
theorem dX0_leads_48 : decode cX0_leads 48 = .ok (.iaload, 1) := dk_46 (dk_at dksX0_leads_2 1 rfl rfl)
theorem dX0_leads_49 : decode cX0_leads 49 = .ok (.invokestatic 379, 3) := dk_184 1 123 (dk_at dksX0_leads_2 2 rfl rfl)
theorem dX0_leads_52 : decode cX0_leads 52 = .ok (.isub, 1) := dk_100 (dk_at dksX0_leads_2 5 rfl rfl)
theorem dX0_leads_53 : decode cX0_leads 53 = .ok (.istore 4, 2) := dk_54 4 (dk_at dksX0_leads_2 6 rfl rfl)
theorem dX0_leads_55 : decode cX0_leads 55 = .ok (.iload_n 1, 1) := dk_27 (dk_at dksX0_leads_2 8 rfl rfl)
theorem dX0_leads_56 : decode cX0_leads 56 = .ok (.ifCond .ne 8, 3) := dk_154 0 8 (dk_at dksX0_leads_2 9 rfl rfl)
theorem dX0_leads_59 : decode cX0_leads 59 = .ok (.iload 4, 2) := dk_21 4 (dk_at dksX0_leads_2 12 rfl rfl)
theorem dX0_leads_61 : decode cX0_leads 61 = .ok (.ifCond .gt 13, 3) := dk_157 0 13 (dk_at dksX0_leads_2 14 rfl rfl)
theorem dX0_leads_64 : decode cX0_leads 64 = .ok (.iload_n 1, 1) := dk_27 (dk_at dksX0_leads_2 17 rfl rfl)
theorem dX0_leads_65 : decode cX0_leads 65 = .ok (.iconst 1, 1) := dk_4 (dk_at dksX0_leads_2 18 rfl rfl)
theorem dX0_leads_66 : decode cX0_leads 66 = .ok (.if_icmp .ne 12, 3) := dk_160 0 12 (dk_at dksX0_leads_2 19 rfl rfl)
theorem dX0_leads_69 : decode cX0_leads 69 = .ok (.iload 4, 2) := dk_21 4 (dk_at dksX0_leads_2 22 rfl rfl)
theorem dX0_leads_71 : decode cX0_leads 71 = .ok (.ifCond .ge 7, 3) := dk_156 0 7 (dk_at dksX0_leads_3 0 rfl rfl)
theorem dX0_leads_74 : decode cX0_leads 74 = .ok (.iload_n 3, 1) := dk_29 (dk_at dksX0_leads_3 3 rfl rfl)
theorem dX0_leads_75 : decode cX0_leads 75 = .ok (.goto 4, 3) := dk_167 0 4 (dk_at dksX0_leads_3 4 rfl rfl)
theorem dX0_leads_78 : decode cX0_leads 78 = .ok (.iload_n 2, 1) := dk_28 (dk_at dksX0_leads_3 7 rfl rfl)
theorem dX0_leads_79 : decode cX0_leads 79 = .ok (.istore_n 2, 1) := dk_61 (dk_at dksX0_leads_3 8 rfl rfl)
theorem dX0_leads_80 : decode cX0_leads 80 = .ok (.iinc 3 1, 3) := dk_132 3 1 (dk_at dksX0_leads_3 9 rfl rfl)
theorem dX0_leads_83 : decode cX0_leads 83 = .ok (.goto (-61), 3) := dk_167 255 195 (dk_at dksX0_leads_3 12 rfl rfl)
theorem dX0_leads_86 : decode cX0_leads 86 = .ok (.iload_n 2, 1) := dk_28 (dk_at dksX0_leads_3 15 rfl rfl)
theorem dX0_leads_87 : decode cX0_leads 87 = .ok (.ireturn, 1) := dk_172 (dk_at dksX0_leads_3 16 rfl rfl)
abbrev cX0_game : ByteArray := prog_1_method_95_code
def yX0_game : MethodName := ⟨RX0, "game", "(I)I"⟩
def dkwX0_game_1 : List UInt8 := [167, 0, 5, 16, 254, 172]
abbrev dktX0_game_1 : List UInt8 := dkwX0_game_1 ++ []
def dkwX0_game_0 : List UInt8 := [42, 27, 133, 182, 0, 159, 153, 0, 20, 42, 27, 182, 1, 137, 2, 160, 0, 7, 3, 167, 0, 9, 4]
abbrev dktX0_game_0 : List UInt8 := dkwX0_game_0 ++ dktX0_game_1
theorem dksX0_game_0 : cX0_game.data.toList.drop 0 = dktX0_game_0 := by decide +kernel
theorem dksX0_game_1 : cX0_game.data.toList.drop 23 = dktX0_game_1 := dk_seg dksX0_game_0 23 rfl rfl
theorem dX0_game_0 : decode cX0_game 0 = .ok (.aload_n 0, 1) := dk_42 (dk_at dksX0_game_0 0 rfl rfl)
theorem dX0_game_1 : decode cX0_game 1 = .ok (.iload_n 1, 1) := dk_27 (dk_at dksX0_game_0 1 rfl rfl)
theorem dX0_game_2 : decode cX0_game 2 = .ok (.i2l, 1) := dk_133 (dk_at dksX0_game_0 2 rfl rfl)
theorem dX0_game_3 : decode cX0_game 3 = .ok (.invokevirtual 159, 3) := dk_182 0 159 (dk_at dksX0_game_0 3 rfl rfl)
theorem dX0_game_6 : decode cX0_game 6 = .ok (.ifCond .eq 20, 3) := dk_153 0 20 (dk_at dksX0_game_0 6 rfl rfl)
theorem dX0_game_9 : decode cX0_game 9 = .ok (.aload_n 0, 1) := dk_42 (dk_at dksX0_game_0 9 rfl rfl)
theorem dX0_game_10 : decode cX0_game 10 = .ok (.iload_n 1, 1) := dk_27 (dk_at dksX0_game_0 10 rfl rfl)
theorem dX0_game_11 : decode cX0_game 11 = .ok (.invokevirtual 393, 3) := dk_182 1 137 (dk_at dksX0_game_0 11 rfl rfl)
theorem dX0_game_14 : decode cX0_game 14 = .ok (.iconst (-1), 1) := dk_2 (dk_at dksX0_game_0 14 rfl rfl)
theorem dX0_game_15 : decode cX0_game 15 = .ok (.if_icmp .ne 7, 3) := dk_160 0 7 (dk_at dksX0_game_0 15 rfl rfl)
theorem dX0_game_18 : decode cX0_game 18 = .ok (.iconst 0, 1) := dk_3 (dk_at dksX0_game_0 18 rfl rfl)
theorem dX0_game_19 : decode cX0_game 19 = .ok (.goto 9, 3) := dk_167 0 9 (dk_at dksX0_game_0 19 rfl rfl)
theorem dX0_game_22 : decode cX0_game 22 = .ok (.iconst 1, 1) := dk_4 (dk_at dksX0_game_0 22 rfl rfl)
theorem dX0_game_23 : decode cX0_game 23 = .ok (.goto 5, 3) := dk_167 0 5 (dk_at dksX0_game_1 0 rfl rfl)
theorem dX0_game_26 : decode cX0_game 26 = .ok (.bipush (-2), 2) := dk_16 254 (dk_at dksX0_game_1 3 rfl rfl)
theorem dX0_game_28 : decode cX0_game 28 = .ok (.ireturn, 1) := dk_172 (dk_at dksX0_game_1 5 rfl rfl)
abbrev cX0_winnerFrom : ByteArray := prog_1_method_94_code
def yX0_winnerFrom : MethodName := ⟨RX0, "winnerFrom", "(I)I"⟩
def dkwX0_winnerFrom_1 : List UInt8 := [42, 42, 180, 0, 76, 27, 46, 27, 182, 1, 131, 172]
abbrev dktX0_winnerFrom_1 : List UInt8 := dkwX0_winnerFrom_1 ++ []
def dkwX0_winnerFrom_0 : List UInt8 := [3, 61, 28, 42, 180, 0, 73, 190, 162, 0, 16, 42, 180, 0, 73, 28, 3, 84, 132, 2, 1, 167, 255, 237]
abbrev dktX0_winnerFrom_0 : List UInt8 := dkwX0_winnerFrom_0 ++ dktX0_winnerFrom_1
theorem dksX0_winnerFrom_0 : cX0_winnerFrom.data.toList.drop 0 = dktX0_winnerFrom_0 := by decide +kernel
theorem dksX0_winnerFrom_1 : cX0_winnerFrom.data.toList.drop 24 = dktX0_winnerFrom_1 := dk_seg dksX0_winnerFrom_0 24 rfl rfl
theorem dX0_winnerFrom_0 : decode cX0_winnerFrom 0 = .ok (.iconst 0, 1) := dk_3 (dk_at dksX0_winnerFrom_0 0 rfl rfl)
theorem dX0_winnerFrom_1 : decode cX0_winnerFrom 1 = .ok (.istore_n 2, 1) := dk_61 (dk_at dksX0_winnerFrom_0 1 rfl rfl)
theorem dX0_winnerFrom_2 : decode cX0_winnerFrom 2 = .ok (.iload_n 2, 1) := dk_28 (dk_at dksX0_winnerFrom_0 2 rfl rfl)
theorem dX0_winnerFrom_3 : decode cX0_winnerFrom 3 = .ok (.aload_n 0, 1) := dk_42 (dk_at dksX0_winnerFrom_0 3 rfl rfl)
theorem dX0_winnerFrom_4 : decode cX0_winnerFrom 4 = .ok (.getfield 73, 3) := dk_180 0 73 (dk_at dksX0_winnerFrom_0 4 rfl rfl)
theorem dX0_winnerFrom_7 : decode cX0_winnerFrom 7 = .ok (.arraylength, 1) := dk_190 (dk_at dksX0_winnerFrom_0 7 rfl rfl)
theorem dX0_winnerFrom_8 : decode cX0_winnerFrom 8 = .ok (.if_icmp .ge 16, 3) := dk_162 0 16 (dk_at dksX0_winnerFrom_0 8 rfl rfl)
theorem dX0_winnerFrom_11 : decode cX0_winnerFrom 11 = .ok (.aload_n 0, 1) := dk_42 (dk_at dksX0_winnerFrom_0 11 rfl rfl)
theorem dX0_winnerFrom_12 : decode cX0_winnerFrom 12 = .ok (.getfield 73, 3) := dk_180 0 73 (dk_at dksX0_winnerFrom_0 12 rfl rfl)
theorem dX0_winnerFrom_15 : decode cX0_winnerFrom 15 = .ok (.iload_n 2, 1) := dk_28 (dk_at dksX0_winnerFrom_0 15 rfl rfl)
theorem dX0_winnerFrom_16 : decode cX0_winnerFrom 16 = .ok (.iconst 0, 1) := dk_3 (dk_at dksX0_winnerFrom_0 16 rfl rfl)
theorem dX0_winnerFrom_17 : decode cX0_winnerFrom 17 = .ok (.bastore, 1) := dk_84 (dk_at dksX0_winnerFrom_0 17 rfl rfl)
theorem dX0_winnerFrom_18 : decode cX0_winnerFrom 18 = .ok (.iinc 2 1, 3) := dk_132 2 1 (dk_at dksX0_winnerFrom_0 18 rfl rfl)
theorem dX0_winnerFrom_21 : decode cX0_winnerFrom 21 = .ok (.goto (-19), 3) := dk_167 255 237 (dk_at dksX0_winnerFrom_0 21 rfl rfl)
theorem dX0_winnerFrom_24 : decode cX0_winnerFrom 24 = .ok (.aload_n 0, 1) := dk_42 (dk_at dksX0_winnerFrom_1 0 rfl rfl)
theorem dX0_winnerFrom_25 : decode cX0_winnerFrom 25 = .ok (.aload_n 0, 1) := dk_42 (dk_at dksX0_winnerFrom_1 1 rfl rfl)
theorem dX0_winnerFrom_26 : decode cX0_winnerFrom 26 = .ok (.getfield 76, 3) := dk_180 0 76 (dk_at dksX0_winnerFrom_1 2 rfl rfl)
theorem dX0_winnerFrom_29 : decode cX0_winnerFrom 29 = .ok (.iload_n 1, 1) := dk_27 (dk_at dksX0_winnerFrom_1 5 rfl rfl)
theorem dX0_winnerFrom_30 : decode cX0_winnerFrom 30 = .ok (.iaload, 1) := dk_46 (dk_at dksX0_winnerFrom_1 6 rfl rfl)
theorem dX0_winnerFrom_31 : decode cX0_winnerFrom 31 = .ok (.iload_n 1, 1) := dk_27 (dk_at dksX0_winnerFrom_1 7 rfl rfl)
theorem dX0_winnerFrom_32 : decode cX0_winnerFrom 32 = .ok (.invokevirtual 387, 3) := dk_182 1 131 (dk_at dksX0_winnerFrom_1 8 rfl rfl)
theorem dX0_winnerFrom_35 : decode cX0_winnerFrom 35 = .ok (.ireturn, 1) := dk_172 (dk_at dksX0_winnerFrom_1 11 rfl rfl)
abbrev cX0_winner : ByteArray := prog_1_method_93_code
def yX0_winner : MethodName := ⟨RX0, "winner", "(II)I"⟩
def dkwX0_winner_2 : List UInt8 := [182, 1, 134, 154, 0, 5, 29, 172, 132, 3, 1, 167, 255, 199, 2, 172]
abbrev dktX0_winner_2 : List UInt8 := dkwX0_winner_2 ++ []
def dkwX0_winner_1 : List UInt8 := [27, 42, 180, 0, 76, 29, 46, 108, 6, 112, 5, 162, 0, 21, 42, 27, 42, 180, 0, 76, 29, 46, 96, 29]
abbrev dktX0_winner_1 : List UInt8 := dkwX0_winner_1 ++ dktX0_winner_2
def dkwX0_winner_0 : List UInt8 := [3, 62, 29, 16, 6, 162, 0, 57, 42, 180, 0, 12, 180, 0, 163, 28, 46, 29, 184, 0, 197, 153, 0, 35]
abbrev dktX0_winner_0 : List UInt8 := dkwX0_winner_0 ++ dktX0_winner_1
theorem dksX0_winner_0 : cX0_winner.data.toList.drop 0 = dktX0_winner_0 := by decide +kernel
theorem dksX0_winner_1 : cX0_winner.data.toList.drop 24 = dktX0_winner_1 := dk_seg dksX0_winner_0 24 rfl rfl
theorem dksX0_winner_2 : cX0_winner.data.toList.drop 48 = dktX0_winner_2 := dk_seg dksX0_winner_1 24 rfl rfl
theorem dX0_winner_0 : decode cX0_winner 0 = .ok (.iconst 0, 1) := dk_3 (dk_at dksX0_winner_0 0 rfl rfl)
theorem dX0_winner_1 : decode cX0_winner 1 = .ok (.istore_n 3, 1) := dk_62 (dk_at dksX0_winner_0 1 rfl rfl)
theorem dX0_winner_2 : decode cX0_winner 2 = .ok (.iload_n 3, 1) := dk_29 (dk_at dksX0_winner_0 2 rfl rfl)
theorem dX0_winner_3 : decode cX0_winner 3 = .ok (.bipush 6, 2) := dk_16 6 (dk_at dksX0_winner_0 3 rfl rfl)
theorem dX0_winner_5 : decode cX0_winner 5 = .ok (.if_icmp .ge 57, 3) := dk_162 0 57 (dk_at dksX0_winner_0 5 rfl rfl)
theorem dX0_winner_8 : decode cX0_winner 8 = .ok (.aload_n 0, 1) := dk_42 (dk_at dksX0_winner_0 8 rfl rfl)
theorem dX0_winner_9 : decode cX0_winner 9 = .ok (.getfield 12, 3) := dk_180 0 12 (dk_at dksX0_winner_0 9 rfl rfl)
theorem dX0_winner_12 : decode cX0_winner 12 = .ok (.getfield 163, 3) := dk_180 0 163 (dk_at dksX0_winner_0 12 rfl rfl)
theorem dX0_winner_15 : decode cX0_winner 15 = .ok (.iload_n 2, 1) := dk_28 (dk_at dksX0_winner_0 15 rfl rfl)
theorem dX0_winner_16 : decode cX0_winner 16 = .ok (.iaload, 1) := dk_46 (dk_at dksX0_winner_0 16 rfl rfl)
theorem dX0_winner_17 : decode cX0_winner 17 = .ok (.iload_n 3, 1) := dk_29 (dk_at dksX0_winner_0 17 rfl rfl)
theorem dX0_winner_18 : decode cX0_winner 18 = .ok (.invokestatic 197, 3) := dk_184 0 197 (dk_at dksX0_winner_0 18 rfl rfl)
theorem dX0_winner_21 : decode cX0_winner 21 = .ok (.ifCond .eq 35, 3) := dk_153 0 35 (dk_at dksX0_winner_0 21 rfl rfl)
theorem dX0_winner_24 : decode cX0_winner 24 = .ok (.iload_n 1, 1) := dk_27 (dk_at dksX0_winner_1 0 rfl rfl)
theorem dX0_winner_25 : decode cX0_winner 25 = .ok (.aload_n 0, 1) := dk_42 (dk_at dksX0_winner_1 1 rfl rfl)
theorem dX0_winner_26 : decode cX0_winner 26 = .ok (.getfield 76, 3) := dk_180 0 76 (dk_at dksX0_winner_1 2 rfl rfl)
theorem dX0_winner_29 : decode cX0_winner 29 = .ok (.iload_n 3, 1) := dk_29 (dk_at dksX0_winner_1 5 rfl rfl)
theorem dX0_winner_30 : decode cX0_winner 30 = .ok (.iaload, 1) := dk_46 (dk_at dksX0_winner_1 6 rfl rfl)
theorem dX0_winner_31 : decode cX0_winner 31 = .ok (.idiv, 1) := dk_108 (dk_at dksX0_winner_1 7 rfl rfl)
theorem dX0_winner_32 : decode cX0_winner 32 = .ok (.iconst 3, 1) := dk_6 (dk_at dksX0_winner_1 8 rfl rfl)
theorem dX0_winner_33 : decode cX0_winner 33 = .ok (.irem, 1) := dk_112 (dk_at dksX0_winner_1 9 rfl rfl)
theorem dX0_winner_34 : decode cX0_winner 34 = .ok (.iconst 2, 1) := dk_5 (dk_at dksX0_winner_1 10 rfl rfl)
theorem dX0_winner_35 : decode cX0_winner 35 = .ok (.if_icmp .ge 21, 3) := dk_162 0 21 (dk_at dksX0_winner_1 11 rfl rfl)
theorem dX0_winner_38 : decode cX0_winner 38 = .ok (.aload_n 0, 1) := dk_42 (dk_at dksX0_winner_1 14 rfl rfl)
theorem dX0_winner_39 : decode cX0_winner 39 = .ok (.iload_n 1, 1) := dk_27 (dk_at dksX0_winner_1 15 rfl rfl)
theorem dX0_winner_40 : decode cX0_winner 40 = .ok (.aload_n 0, 1) := dk_42 (dk_at dksX0_winner_1 16 rfl rfl)
theorem dX0_winner_41 : decode cX0_winner 41 = .ok (.getfield 76, 3) := dk_180 0 76 (dk_at dksX0_winner_1 17 rfl rfl)
theorem dX0_winner_44 : decode cX0_winner 44 = .ok (.iload_n 3, 1) := dk_29 (dk_at dksX0_winner_1 20 rfl rfl)
theorem dX0_winner_45 : decode cX0_winner 45 = .ok (.iaload, 1) := dk_46 (dk_at dksX0_winner_1 21 rfl rfl)
theorem dX0_winner_46 : decode cX0_winner 46 = .ok (.iadd, 1) := dk_96 (dk_at dksX0_winner_1 22 rfl rfl)
theorem dX0_winner_47 : decode cX0_winner 47 = .ok (.iload_n 3, 1) := dk_29 (dk_at dksX0_winner_1 23 rfl rfl)
theorem dX0_winner_48 : decode cX0_winner 48 = .ok (.invokevirtual 390, 3) := dk_182 1 134 (dk_at dksX0_winner_2 0 rfl rfl)
theorem dX0_winner_51 : decode cX0_winner 51 = .ok (.ifCond .ne 5, 3) := dk_154 0 5 (dk_at dksX0_winner_2 3 rfl rfl)
theorem dX0_winner_54 : decode cX0_winner 54 = .ok (.iload_n 3, 1) := dk_29 (dk_at dksX0_winner_2 6 rfl rfl)
theorem dX0_winner_55 : decode cX0_winner 55 = .ok (.ireturn, 1) := dk_172 (dk_at dksX0_winner_2 7 rfl rfl)
theorem dX0_winner_56 : decode cX0_winner 56 = .ok (.iinc 3 1, 3) := dk_132 3 1 (dk_at dksX0_winner_2 8 rfl rfl)
theorem dX0_winner_59 : decode cX0_winner 59 = .ok (.goto (-57), 3) := dk_167 255 199 (dk_at dksX0_winner_2 11 rfl rfl)
theorem dX0_winner_62 : decode cX0_winner 62 = .ok (.iconst (-1), 1) := dk_2 (dk_at dksX0_winner_2 14 rfl rfl)
theorem dX0_winner_63 : decode cX0_winner 63 = .ok (.ireturn, 1) := dk_172 (dk_at dksX0_winner_2 15 rfl rfl)
abbrev cX0_isWon : ByteArray := prog_1_method_92_code
def yX0_isWon : MethodName := ⟨RX0, "isWon", "(II)Z"⟩
def dkwX0_isWon_2 : List UInt8 := [4, 167, 0, 4, 3, 172]
abbrev dktX0_isWon_2 : List UInt8 := dkwX0_isWon_2 ++ []
def dkwX0_isWon_1 : List UInt8 := [182, 1, 131, 2, 160, 0, 7, 5, 167, 0, 4, 4, 145, 84, 42, 180, 0, 73, 29, 51, 4, 160, 0, 7]
abbrev dktX0_isWon_1 : List UInt8 := dkwX0_isWon_1 ++ dktX0_isWon_2
def dkwX0_isWon_0 : List UInt8 := [16, 6, 27, 104, 28, 96, 62, 42, 180, 0, 73, 29, 51, 154, 0, 25, 42, 180, 0, 73, 29, 42, 27, 28]
abbrev dktX0_isWon_0 : List UInt8 := dkwX0_isWon_0 ++ dktX0_isWon_1
theorem dksX0_isWon_0 : cX0_isWon.data.toList.drop 0 = dktX0_isWon_0 := by decide +kernel
theorem dksX0_isWon_1 : cX0_isWon.data.toList.drop 24 = dktX0_isWon_1 := dk_seg dksX0_isWon_0 24 rfl rfl
theorem dksX0_isWon_2 : cX0_isWon.data.toList.drop 48 = dktX0_isWon_2 := dk_seg dksX0_isWon_1 24 rfl rfl
theorem dX0_isWon_0 : decode cX0_isWon 0 = .ok (.bipush 6, 2) := dk_16 6 (dk_at dksX0_isWon_0 0 rfl rfl)
theorem dX0_isWon_2 : decode cX0_isWon 2 = .ok (.iload_n 1, 1) := dk_27 (dk_at dksX0_isWon_0 2 rfl rfl)
theorem dX0_isWon_3 : decode cX0_isWon 3 = .ok (.imul, 1) := dk_104 (dk_at dksX0_isWon_0 3 rfl rfl)
theorem dX0_isWon_4 : decode cX0_isWon 4 = .ok (.iload_n 2, 1) := dk_28 (dk_at dksX0_isWon_0 4 rfl rfl)
theorem dX0_isWon_5 : decode cX0_isWon 5 = .ok (.iadd, 1) := dk_96 (dk_at dksX0_isWon_0 5 rfl rfl)
theorem dX0_isWon_6 : decode cX0_isWon 6 = .ok (.istore_n 3, 1) := dk_62 (dk_at dksX0_isWon_0 6 rfl rfl)
theorem dX0_isWon_7 : decode cX0_isWon 7 = .ok (.aload_n 0, 1) := dk_42 (dk_at dksX0_isWon_0 7 rfl rfl)
theorem dX0_isWon_8 : decode cX0_isWon 8 = .ok (.getfield 73, 3) := dk_180 0 73 (dk_at dksX0_isWon_0 8 rfl rfl)
theorem dX0_isWon_11 : decode cX0_isWon 11 = .ok (.iload_n 3, 1) := dk_29 (dk_at dksX0_isWon_0 11 rfl rfl)
theorem dX0_isWon_12 : decode cX0_isWon 12 = .ok (.baload, 1) := dk_51 (dk_at dksX0_isWon_0 12 rfl rfl)
theorem dX0_isWon_13 : decode cX0_isWon 13 = .ok (.ifCond .ne 25, 3) := dk_154 0 25 (dk_at dksX0_isWon_0 13 rfl rfl)
theorem dX0_isWon_16 : decode cX0_isWon 16 = .ok (.aload_n 0, 1) := dk_42 (dk_at dksX0_isWon_0 16 rfl rfl)
theorem dX0_isWon_17 : decode cX0_isWon 17 = .ok (.getfield 73, 3) := dk_180 0 73 (dk_at dksX0_isWon_0 17 rfl rfl)
theorem dX0_isWon_20 : decode cX0_isWon 20 = .ok (.iload_n 3, 1) := dk_29 (dk_at dksX0_isWon_0 20 rfl rfl)
theorem dX0_isWon_21 : decode cX0_isWon 21 = .ok (.aload_n 0, 1) := dk_42 (dk_at dksX0_isWon_0 21 rfl rfl)
theorem dX0_isWon_22 : decode cX0_isWon 22 = .ok (.iload_n 1, 1) := dk_27 (dk_at dksX0_isWon_0 22 rfl rfl)
theorem dX0_isWon_23 : decode cX0_isWon 23 = .ok (.iload_n 2, 1) := dk_28 (dk_at dksX0_isWon_0 23 rfl rfl)
theorem dX0_isWon_24 : decode cX0_isWon 24 = .ok (.invokevirtual 387, 3) := dk_182 1 131 (dk_at dksX0_isWon_1 0 rfl rfl)
theorem dX0_isWon_27 : decode cX0_isWon 27 = .ok (.iconst (-1), 1) := dk_2 (dk_at dksX0_isWon_1 3 rfl rfl)
theorem dX0_isWon_28 : decode cX0_isWon 28 = .ok (.if_icmp .ne 7, 3) := dk_160 0 7 (dk_at dksX0_isWon_1 4 rfl rfl)
theorem dX0_isWon_31 : decode cX0_isWon 31 = .ok (.iconst 2, 1) := dk_5 (dk_at dksX0_isWon_1 7 rfl rfl)
theorem dX0_isWon_32 : decode cX0_isWon 32 = .ok (.goto 4, 3) := dk_167 0 4 (dk_at dksX0_isWon_1 8 rfl rfl)
theorem dX0_isWon_35 : decode cX0_isWon 35 = .ok (.iconst 1, 1) := dk_4 (dk_at dksX0_isWon_1 11 rfl rfl)
theorem dX0_isWon_36 : decode cX0_isWon 36 = .ok (.i2b, 1) := dk_145 (dk_at dksX0_isWon_1 12 rfl rfl)
theorem dX0_isWon_37 : decode cX0_isWon 37 = .ok (.bastore, 1) := dk_84 (dk_at dksX0_isWon_1 13 rfl rfl)
theorem dX0_isWon_38 : decode cX0_isWon 38 = .ok (.aload_n 0, 1) := dk_42 (dk_at dksX0_isWon_1 14 rfl rfl)
theorem dX0_isWon_39 : decode cX0_isWon 39 = .ok (.getfield 73, 3) := dk_180 0 73 (dk_at dksX0_isWon_1 15 rfl rfl)
theorem dX0_isWon_42 : decode cX0_isWon 42 = .ok (.iload_n 3, 1) := dk_29 (dk_at dksX0_isWon_1 18 rfl rfl)
theorem dX0_isWon_43 : decode cX0_isWon 43 = .ok (.baload, 1) := dk_51 (dk_at dksX0_isWon_1 19 rfl rfl)
theorem dX0_isWon_44 : decode cX0_isWon 44 = .ok (.iconst 1, 1) := dk_4 (dk_at dksX0_isWon_1 20 rfl rfl)
theorem dX0_isWon_45 : decode cX0_isWon 45 = .ok (.if_icmp .ne 7, 3) := dk_160 0 7 (dk_at dksX0_isWon_1 21 rfl rfl)
theorem dX0_isWon_48 : decode cX0_isWon 48 = .ok (.iconst 1, 1) := dk_4 (dk_at dksX0_isWon_2 0 rfl rfl)
theorem dX0_isWon_49 : decode cX0_isWon 49 = .ok (.goto 4, 3) := dk_167 0 4 (dk_at dksX0_isWon_2 1 rfl rfl)
theorem dX0_isWon_52 : decode cX0_isWon 52 = .ok (.iconst 0, 1) := dk_3 (dk_at dksX0_isWon_2 4 rfl rfl)
theorem dX0_isWon_53 : decode cX0_isWon 53 = .ok (.ireturn, 1) := dk_172 (dk_at dksX0_isWon_2 5 rfl rfl)
abbrev cX0_plays : ByteArray := prog_1_method_96_code
def yX0_plays : MethodName := ⟨RX0, "plays", "(I)I"⟩
def dkwX0_plays_0 : List UInt8 := [42, 27, 133, 182, 0, 159, 153, 0, 11, 42, 27, 182, 1, 137, 167, 0, 5, 16, 254, 172]
abbrev dktX0_plays_0 : List UInt8 := dkwX0_plays_0 ++ []
theorem dksX0_plays_0 : cX0_plays.data.toList.drop 0 = dktX0_plays_0 := by decide +kernel
theorem dX0_plays_0 : decode cX0_plays 0 = .ok (.aload_n 0, 1) := dk_42 (dk_at dksX0_plays_0 0 rfl rfl)
theorem dX0_plays_1 : decode cX0_plays 1 = .ok (.iload_n 1, 1) := dk_27 (dk_at dksX0_plays_0 1 rfl rfl)
theorem dX0_plays_2 : decode cX0_plays 2 = .ok (.i2l, 1) := dk_133 (dk_at dksX0_plays_0 2 rfl rfl)
theorem dX0_plays_3 : decode cX0_plays 3 = .ok (.invokevirtual 159, 3) := dk_182 0 159 (dk_at dksX0_plays_0 3 rfl rfl)
theorem dX0_plays_6 : decode cX0_plays 6 = .ok (.ifCond .eq 11, 3) := dk_153 0 11 (dk_at dksX0_plays_0 6 rfl rfl)
theorem dX0_plays_9 : decode cX0_plays 9 = .ok (.aload_n 0, 1) := dk_42 (dk_at dksX0_plays_0 9 rfl rfl)
theorem dX0_plays_10 : decode cX0_plays 10 = .ok (.iload_n 1, 1) := dk_27 (dk_at dksX0_plays_0 10 rfl rfl)
theorem dX0_plays_11 : decode cX0_plays 11 = .ok (.invokevirtual 393, 3) := dk_182 1 137 (dk_at dksX0_plays_0 11 rfl rfl)
theorem dX0_plays_14 : decode cX0_plays 14 = .ok (.goto 5, 3) := dk_167 0 5 (dk_at dksX0_plays_0 14 rfl rfl)
theorem dX0_plays_17 : decode cX0_plays 17 = .ok (.bipush (-2), 2) := dk_16 254 (dk_at dksX0_plays_0 17 rfl rfl)
theorem dX0_plays_19 : decode cX0_plays 19 = .ok (.ireturn, 1) := dk_172 (dk_at dksX0_plays_0 19 rfl rfl)
abbrev cX0_dry : ByteArray := prog_1_method_101_code
def yX0_dry : MethodName := ⟨RX0, "dry", "(II)J"⟩
def dkwX0_dry_1 : List UInt8 := [153, 0, 13, 42, 27, 3, 28, 182, 1, 158, 167, 0, 6, 20, 1, 118, 173]
abbrev dktX0_dry_1 : List UInt8 := dkwX0_dry_1 ++ []
def dkwX0_dry_0 : List UInt8 := [42, 182, 0, 128, 153, 0, 33, 27, 133, 10, 20, 1, 156, 184, 0, 103, 153, 0, 21, 28, 5, 184, 0, 132]
abbrev dktX0_dry_0 : List UInt8 := dkwX0_dry_0 ++ dktX0_dry_1
theorem dksX0_dry_0 : cX0_dry.data.toList.drop 0 = dktX0_dry_0 := by decide +kernel
theorem dksX0_dry_1 : cX0_dry.data.toList.drop 24 = dktX0_dry_1 := dk_seg dksX0_dry_0 24 rfl rfl
theorem dX0_dry_0 : decode cX0_dry 0 = .ok (.aload_n 0, 1) := dk_42 (dk_at dksX0_dry_0 0 rfl rfl)
theorem dX0_dry_1 : decode cX0_dry 1 = .ok (.invokevirtual 128, 3) := dk_182 0 128 (dk_at dksX0_dry_0 1 rfl rfl)
theorem dX0_dry_4 : decode cX0_dry 4 = .ok (.ifCond .eq 33, 3) := dk_153 0 33 (dk_at dksX0_dry_0 4 rfl rfl)
theorem dX0_dry_7 : decode cX0_dry 7 = .ok (.iload_n 1, 1) := dk_27 (dk_at dksX0_dry_0 7 rfl rfl)
theorem dX0_dry_8 : decode cX0_dry 8 = .ok (.i2l, 1) := dk_133 (dk_at dksX0_dry_0 8 rfl rfl)
theorem dX0_dry_9 : decode cX0_dry 9 = .ok (.lconst 1, 1) := dk_10 (dk_at dksX0_dry_0 9 rfl rfl)
theorem dX0_dry_10 : decode cX0_dry 10 = .ok (.ldc2_w 412, 3) := dk_20 1 156 (dk_at dksX0_dry_0 10 rfl rfl)
theorem dX0_dry_13 : decode cX0_dry 13 = .ok (.invokestatic 103, 3) := dk_184 0 103 (dk_at dksX0_dry_0 13 rfl rfl)
theorem dX0_dry_16 : decode cX0_dry 16 = .ok (.ifCond .eq 21, 3) := dk_153 0 21 (dk_at dksX0_dry_0 16 rfl rfl)
theorem dX0_dry_19 : decode cX0_dry 19 = .ok (.iload_n 2, 1) := dk_28 (dk_at dksX0_dry_0 19 rfl rfl)
theorem dX0_dry_20 : decode cX0_dry 20 = .ok (.iconst 2, 1) := dk_5 (dk_at dksX0_dry_0 20 rfl rfl)
theorem dX0_dry_21 : decode cX0_dry 21 = .ok (.invokestatic 132, 3) := dk_184 0 132 (dk_at dksX0_dry_0 21 rfl rfl)
theorem dX0_dry_24 : decode cX0_dry 24 = .ok (.ifCond .eq 13, 3) := dk_153 0 13 (dk_at dksX0_dry_1 0 rfl rfl)
theorem dX0_dry_27 : decode cX0_dry 27 = .ok (.aload_n 0, 1) := dk_42 (dk_at dksX0_dry_1 3 rfl rfl)
theorem dX0_dry_28 : decode cX0_dry 28 = .ok (.iload_n 1, 1) := dk_27 (dk_at dksX0_dry_1 4 rfl rfl)
theorem dX0_dry_29 : decode cX0_dry 29 = .ok (.iconst 0, 1) := dk_3 (dk_at dksX0_dry_1 5 rfl rfl)
theorem dX0_dry_30 : decode cX0_dry 30 = .ok (.iload_n 2, 1) := dk_28 (dk_at dksX0_dry_1 6 rfl rfl)
theorem dX0_dry_31 : decode cX0_dry 31 = .ok (.invokevirtual 414, 3) := dk_182 1 158 (dk_at dksX0_dry_1 7 rfl rfl)
theorem dX0_dry_34 : decode cX0_dry 34 = .ok (.goto 6, 3) := dk_167 0 6 (dk_at dksX0_dry_1 10 rfl rfl)
theorem dX0_dry_37 : decode cX0_dry 37 = .ok (.ldc2_w 374, 3) := dk_20 1 118 (dk_at dksX0_dry_1 13 rfl rfl)
theorem dX0_dry_40 : decode cX0_dry 40 = .ok (.lreturn, 1) := dk_173 (dk_at dksX0_dry_1 16 rfl rfl)
abbrev cX0_wetOf : ByteArray := prog_1_method_100_code
def yX0_wetOf : MethodName := ⟨RX0, "wetOf", "(III)J"⟩
def dkwX0_wetOf_2 : List UInt8 := [184, 1, 152, 173]
abbrev dktX0_wetOf_2 : List UInt8 := dkwX0_wetOf_2 ++ []
def dkwX0_wetOf_1 : List UInt8 := [180, 0, 12, 180, 1, 143, 133, 101, 27, 28, 100, 184, 1, 146, 105, 20, 1, 150, 27, 184, 1, 146, 29]
abbrev dktX0_wetOf_1 : List UInt8 := dkwX0_wetOf_1 ++ dktX0_wetOf_2
def dkwX0_wetOf_0 : List UInt8 := [27, 28, 184, 1, 140, 42, 180, 0, 12, 180, 1, 143, 133, 28, 184, 1, 146, 105, 20, 1, 150, 42]
abbrev dktX0_wetOf_0 : List UInt8 := dkwX0_wetOf_0 ++ dktX0_wetOf_1
theorem dksX0_wetOf_0 : cX0_wetOf.data.toList.drop 0 = dktX0_wetOf_0 := by decide +kernel
theorem dksX0_wetOf_1 : cX0_wetOf.data.toList.drop 22 = dktX0_wetOf_1 := dk_seg dksX0_wetOf_0 22 rfl rfl
theorem dksX0_wetOf_2 : cX0_wetOf.data.toList.drop 45 = dktX0_wetOf_2 := dk_seg dksX0_wetOf_1 23 rfl rfl
theorem dX0_wetOf_0 : decode cX0_wetOf 0 = .ok (.iload_n 1, 1) := dk_27 (dk_at dksX0_wetOf_0 0 rfl rfl)
theorem dX0_wetOf_1 : decode cX0_wetOf 1 = .ok (.iload_n 2, 1) := dk_28 (dk_at dksX0_wetOf_0 1 rfl rfl)
theorem dX0_wetOf_2 : decode cX0_wetOf 2 = .ok (.invokestatic 396, 3) := dk_184 1 140 (dk_at dksX0_wetOf_0 2 rfl rfl)
theorem dX0_wetOf_5 : decode cX0_wetOf 5 = .ok (.aload_n 0, 1) := dk_42 (dk_at dksX0_wetOf_0 5 rfl rfl)
theorem dX0_wetOf_6 : decode cX0_wetOf 6 = .ok (.getfield 12, 3) := dk_180 0 12 (dk_at dksX0_wetOf_0 6 rfl rfl)
theorem dX0_wetOf_9 : decode cX0_wetOf 9 = .ok (.getfield 399, 3) := dk_180 1 143 (dk_at dksX0_wetOf_0 9 rfl rfl)
theorem dX0_wetOf_12 : decode cX0_wetOf 12 = .ok (.i2l, 1) := dk_133 (dk_at dksX0_wetOf_0 12 rfl rfl)
theorem dX0_wetOf_13 : decode cX0_wetOf 13 = .ok (.iload_n 2, 1) := dk_28 (dk_at dksX0_wetOf_0 13 rfl rfl)
theorem dX0_wetOf_14 : decode cX0_wetOf 14 = .ok (.invokestatic 402, 3) := dk_184 1 146 (dk_at dksX0_wetOf_0 14 rfl rfl)
theorem dX0_wetOf_17 : decode cX0_wetOf 17 = .ok (.lmul, 1) := dk_105 (dk_at dksX0_wetOf_0 17 rfl rfl)
theorem dX0_wetOf_18 : decode cX0_wetOf 18 = .ok (.ldc2_w 406, 3) := dk_20 1 150 (dk_at dksX0_wetOf_0 18 rfl rfl)
theorem dX0_wetOf_21 : decode cX0_wetOf 21 = .ok (.aload_n 0, 1) := dk_42 (dk_at dksX0_wetOf_0 21 rfl rfl)
theorem dX0_wetOf_22 : decode cX0_wetOf 22 = .ok (.getfield 12, 3) := dk_180 0 12 (dk_at dksX0_wetOf_1 0 rfl rfl)
theorem dX0_wetOf_25 : decode cX0_wetOf 25 = .ok (.getfield 399, 3) := dk_180 1 143 (dk_at dksX0_wetOf_1 3 rfl rfl)
theorem dX0_wetOf_28 : decode cX0_wetOf 28 = .ok (.i2l, 1) := dk_133 (dk_at dksX0_wetOf_1 6 rfl rfl)
theorem dX0_wetOf_29 : decode cX0_wetOf 29 = .ok (.lsub, 1) := dk_101 (dk_at dksX0_wetOf_1 7 rfl rfl)
theorem dX0_wetOf_30 : decode cX0_wetOf 30 = .ok (.iload_n 1, 1) := dk_27 (dk_at dksX0_wetOf_1 8 rfl rfl)
theorem dX0_wetOf_31 : decode cX0_wetOf 31 = .ok (.iload_n 2, 1) := dk_28 (dk_at dksX0_wetOf_1 9 rfl rfl)
theorem dX0_wetOf_32 : decode cX0_wetOf 32 = .ok (.isub, 1) := dk_100 (dk_at dksX0_wetOf_1 10 rfl rfl)
theorem dX0_wetOf_33 : decode cX0_wetOf 33 = .ok (.invokestatic 402, 3) := dk_184 1 146 (dk_at dksX0_wetOf_1 11 rfl rfl)
theorem dX0_wetOf_36 : decode cX0_wetOf 36 = .ok (.lmul, 1) := dk_105 (dk_at dksX0_wetOf_1 14 rfl rfl)
theorem dX0_wetOf_37 : decode cX0_wetOf 37 = .ok (.ldc2_w 406, 3) := dk_20 1 150 (dk_at dksX0_wetOf_1 15 rfl rfl)
theorem dX0_wetOf_40 : decode cX0_wetOf 40 = .ok (.iload_n 1, 1) := dk_27 (dk_at dksX0_wetOf_1 18 rfl rfl)
theorem dX0_wetOf_41 : decode cX0_wetOf 41 = .ok (.invokestatic 402, 3) := dk_184 1 146 (dk_at dksX0_wetOf_1 19 rfl rfl)
theorem dX0_wetOf_44 : decode cX0_wetOf 44 = .ok (.iload_n 3, 1) := dk_29 (dk_at dksX0_wetOf_1 22 rfl rfl)
theorem dX0_wetOf_45 : decode cX0_wetOf 45 = .ok (.invokestatic 408, 3) := dk_184 1 152 (dk_at dksX0_wetOf_2 0 rfl rfl)
theorem dX0_wetOf_48 : decode cX0_wetOf 48 = .ok (.lreturn, 1) := dk_173 (dk_at dksX0_wetOf_2 3 rfl rfl)
abbrev cX0_choose : ByteArray := prog_1_method_99_code
def yX0_choose : MethodName := ⟨RX0, "choose", "(II)J"⟩
def dkwX0_choose_1 : List UInt8 := [65, 132, 4, 1, 167, 255, 233, 32, 173]
abbrev dktX0_choose_1 : List UInt8 := dkwX0_choose_1 ++ []
def dkwX0_choose_0 : List UInt8 := [10, 65, 3, 54, 4, 21, 4, 27, 162, 0, 23, 32, 26, 21, 4, 100, 133, 105, 21, 4, 4, 96, 133, 109]
abbrev dktX0_choose_0 : List UInt8 := dkwX0_choose_0 ++ dktX0_choose_1
theorem dksX0_choose_0 : cX0_choose.data.toList.drop 0 = dktX0_choose_0 := by decide +kernel
theorem dksX0_choose_1 : cX0_choose.data.toList.drop 24 = dktX0_choose_1 := dk_seg dksX0_choose_0 24 rfl rfl
theorem dX0_choose_0 : decode cX0_choose 0 = .ok (.lconst 1, 1) := dk_10 (dk_at dksX0_choose_0 0 rfl rfl)
theorem dX0_choose_1 : decode cX0_choose 1 = .ok (.lstore_n 2, 1) := dk_65 (dk_at dksX0_choose_0 1 rfl rfl)
theorem dX0_choose_2 : decode cX0_choose 2 = .ok (.iconst 0, 1) := dk_3 (dk_at dksX0_choose_0 2 rfl rfl)
theorem dX0_choose_3 : decode cX0_choose 3 = .ok (.istore 4, 2) := dk_54 4 (dk_at dksX0_choose_0 3 rfl rfl)
theorem dX0_choose_5 : decode cX0_choose 5 = .ok (.iload 4, 2) := dk_21 4 (dk_at dksX0_choose_0 5 rfl rfl)
theorem dX0_choose_7 : decode cX0_choose 7 = .ok (.iload_n 1, 1) := dk_27 (dk_at dksX0_choose_0 7 rfl rfl)
theorem dX0_choose_8 : decode cX0_choose 8 = .ok (.if_icmp .ge 23, 3) := dk_162 0 23 (dk_at dksX0_choose_0 8 rfl rfl)
theorem dX0_choose_11 : decode cX0_choose 11 = .ok (.lload_n 2, 1) := dk_32 (dk_at dksX0_choose_0 11 rfl rfl)
theorem dX0_choose_12 : decode cX0_choose 12 = .ok (.iload_n 0, 1) := dk_26 (dk_at dksX0_choose_0 12 rfl rfl)
theorem dX0_choose_13 : decode cX0_choose 13 = .ok (.iload 4, 2) := dk_21 4 (dk_at dksX0_choose_0 13 rfl rfl)
theorem dX0_choose_15 : decode cX0_choose 15 = .ok (.isub, 1) := dk_100 (dk_at dksX0_choose_0 15 rfl rfl)
theorem dX0_choose_16 : decode cX0_choose 16 = .ok (.i2l, 1) := dk_133 (dk_at dksX0_choose_0 16 rfl rfl)
theorem dX0_choose_17 : decode cX0_choose 17 = .ok (.lmul, 1) := dk_105 (dk_at dksX0_choose_0 17 rfl rfl)
theorem dX0_choose_18 : decode cX0_choose 18 = .ok (.iload 4, 2) := dk_21 4 (dk_at dksX0_choose_0 18 rfl rfl)
theorem dX0_choose_20 : decode cX0_choose 20 = .ok (.iconst 1, 1) := dk_4 (dk_at dksX0_choose_0 20 rfl rfl)
theorem dX0_choose_21 : decode cX0_choose 21 = .ok (.iadd, 1) := dk_96 (dk_at dksX0_choose_0 21 rfl rfl)
theorem dX0_choose_22 : decode cX0_choose 22 = .ok (.i2l, 1) := dk_133 (dk_at dksX0_choose_0 22 rfl rfl)
theorem dX0_choose_23 : decode cX0_choose 23 = .ok (.ldiv, 1) := dk_109 (dk_at dksX0_choose_0 23 rfl rfl)
theorem dX0_choose_24 : decode cX0_choose 24 = .ok (.lstore_n 2, 1) := dk_65 (dk_at dksX0_choose_1 0 rfl rfl)
theorem dX0_choose_25 : decode cX0_choose 25 = .ok (.iinc 4 1, 3) := dk_132 4 1 (dk_at dksX0_choose_1 1 rfl rfl)
theorem dX0_choose_28 : decode cX0_choose 28 = .ok (.goto (-23), 3) := dk_167 255 233 (dk_at dksX0_choose_1 4 rfl rfl)
theorem dX0_choose_31 : decode cX0_choose 31 = .ok (.lload_n 2, 1) := dk_32 (dk_at dksX0_choose_1 7 rfl rfl)
theorem dX0_choose_32 : decode cX0_choose 32 = .ok (.lreturn, 1) := dk_173 (dk_at dksX0_choose_1 8 rfl rfl)
abbrev cX0_power : ByteArray := prog_1_method_97_code
def yX0_power : MethodName := ⟨RX0, "power", "(JI)J"⟩
def dkwX0_power_0 : List UInt8 := [10, 66, 3, 54, 5, 21, 5, 28, 162, 0, 13, 33, 30, 105, 66, 132, 5, 1, 167, 255, 243, 33, 173]
abbrev dktX0_power_0 : List UInt8 := dkwX0_power_0 ++ []
theorem dksX0_power_0 : cX0_power.data.toList.drop 0 = dktX0_power_0 := by decide +kernel
theorem dX0_power_0 : decode cX0_power 0 = .ok (.lconst 1, 1) := dk_10 (dk_at dksX0_power_0 0 rfl rfl)
theorem dX0_power_1 : decode cX0_power 1 = .ok (.lstore_n 3, 1) := dk_66 (dk_at dksX0_power_0 1 rfl rfl)
theorem dX0_power_2 : decode cX0_power 2 = .ok (.iconst 0, 1) := dk_3 (dk_at dksX0_power_0 2 rfl rfl)
theorem dX0_power_3 : decode cX0_power 3 = .ok (.istore 5, 2) := dk_54 5 (dk_at dksX0_power_0 3 rfl rfl)
theorem dX0_power_5 : decode cX0_power 5 = .ok (.iload 5, 2) := dk_21 5 (dk_at dksX0_power_0 5 rfl rfl)
theorem dX0_power_7 : decode cX0_power 7 = .ok (.iload_n 2, 1) := dk_28 (dk_at dksX0_power_0 7 rfl rfl)
theorem dX0_power_8 : decode cX0_power 8 = .ok (.if_icmp .ge 13, 3) := dk_162 0 13 (dk_at dksX0_power_0 8 rfl rfl)
theorem dX0_power_11 : decode cX0_power 11 = .ok (.lload_n 3, 1) := dk_33 (dk_at dksX0_power_0 11 rfl rfl)
theorem dX0_power_12 : decode cX0_power 12 = .ok (.lload_n 0, 1) := dk_30 (dk_at dksX0_power_0 12 rfl rfl)
theorem dX0_power_13 : decode cX0_power 13 = .ok (.lmul, 1) := dk_105 (dk_at dksX0_power_0 13 rfl rfl)
theorem dX0_power_14 : decode cX0_power 14 = .ok (.lstore_n 3, 1) := dk_66 (dk_at dksX0_power_0 14 rfl rfl)
theorem dX0_power_15 : decode cX0_power 15 = .ok (.iinc 5 1, 3) := dk_132 5 1 (dk_at dksX0_power_0 15 rfl rfl)
theorem dX0_power_18 : decode cX0_power 18 = .ok (.goto (-13), 3) := dk_167 255 243 (dk_at dksX0_power_0 18 rfl rfl)
theorem dX0_power_21 : decode cX0_power 21 = .ok (.lload_n 3, 1) := dk_33 (dk_at dksX0_power_0 21 rfl rfl)
theorem dX0_power_22 : decode cX0_power 22 = .ok (.lreturn, 1) := dk_173 (dk_at dksX0_power_0 22 rfl rfl)
abbrev cX0_part : ByteArray := prog_1_method_98_code
def yX0_part : MethodName := ⟨RX0, "part", "(JJI)J"⟩
def dkwX0_part_1 : List UInt8 := [22, 9, 55, 7, 167, 255, 234, 21, 4, 154, 0, 7, 30, 167, 0, 4, 32, 22, 5, 109, 173]
abbrev dktX0_part_1 : List UInt8 := dkwX0_part_1 ++ []
def dkwX0_part_0 : List UInt8 := [30, 55, 5, 32, 55, 7, 22, 7, 9, 148, 153, 0, 21, 22, 5, 22, 7, 113, 55, 9, 22, 7, 55, 5]
abbrev dktX0_part_0 : List UInt8 := dkwX0_part_0 ++ dktX0_part_1
theorem dksX0_part_0 : cX0_part.data.toList.drop 0 = dktX0_part_0 := by decide +kernel
theorem dksX0_part_1 : cX0_part.data.toList.drop 24 = dktX0_part_1 := dk_seg dksX0_part_0 24 rfl rfl
theorem dX0_part_0 : decode cX0_part 0 = .ok (.lload_n 0, 1) := dk_30 (dk_at dksX0_part_0 0 rfl rfl)
theorem dX0_part_1 : decode cX0_part 1 = .ok (.lstore 5, 2) := dk_55 5 (dk_at dksX0_part_0 1 rfl rfl)
theorem dX0_part_3 : decode cX0_part 3 = .ok (.lload_n 2, 1) := dk_32 (dk_at dksX0_part_0 3 rfl rfl)
theorem dX0_part_4 : decode cX0_part 4 = .ok (.lstore 7, 2) := dk_55 7 (dk_at dksX0_part_0 4 rfl rfl)
theorem dX0_part_6 : decode cX0_part 6 = .ok (.lload 7, 2) := dk_22 7 (dk_at dksX0_part_0 6 rfl rfl)
theorem dX0_part_8 : decode cX0_part 8 = .ok (.lconst 0, 1) := dk_9 (dk_at dksX0_part_0 8 rfl rfl)
theorem dX0_part_9 : decode cX0_part 9 = .ok (.lcmp, 1) := dk_148 (dk_at dksX0_part_0 9 rfl rfl)
theorem dX0_part_10 : decode cX0_part 10 = .ok (.ifCond .eq 21, 3) := dk_153 0 21 (dk_at dksX0_part_0 10 rfl rfl)
theorem dX0_part_13 : decode cX0_part 13 = .ok (.lload 5, 2) := dk_22 5 (dk_at dksX0_part_0 13 rfl rfl)
theorem dX0_part_15 : decode cX0_part 15 = .ok (.lload 7, 2) := dk_22 7 (dk_at dksX0_part_0 15 rfl rfl)
theorem dX0_part_17 : decode cX0_part 17 = .ok (.lrem, 1) := dk_113 (dk_at dksX0_part_0 17 rfl rfl)
theorem dX0_part_18 : decode cX0_part 18 = .ok (.lstore 9, 2) := dk_55 9 (dk_at dksX0_part_0 18 rfl rfl)
theorem dX0_part_20 : decode cX0_part 20 = .ok (.lload 7, 2) := dk_22 7 (dk_at dksX0_part_0 20 rfl rfl)
theorem dX0_part_22 : decode cX0_part 22 = .ok (.lstore 5, 2) := dk_55 5 (dk_at dksX0_part_0 22 rfl rfl)
theorem dX0_part_24 : decode cX0_part 24 = .ok (.lload 9, 2) := dk_22 9 (dk_at dksX0_part_1 0 rfl rfl)
theorem dX0_part_26 : decode cX0_part 26 = .ok (.lstore 7, 2) := dk_55 7 (dk_at dksX0_part_1 2 rfl rfl)
theorem dX0_part_28 : decode cX0_part 28 = .ok (.goto (-22), 3) := dk_167 255 234 (dk_at dksX0_part_1 4 rfl rfl)
theorem dX0_part_31 : decode cX0_part 31 = .ok (.iload 4, 2) := dk_21 4 (dk_at dksX0_part_1 7 rfl rfl)
theorem dX0_part_33 : decode cX0_part 33 = .ok (.ifCond .ne 7, 3) := dk_154 0 7 (dk_at dksX0_part_1 9 rfl rfl)
theorem dX0_part_36 : decode cX0_part 36 = .ok (.lload_n 0, 1) := dk_30 (dk_at dksX0_part_1 12 rfl rfl)
theorem dX0_part_37 : decode cX0_part 37 = .ok (.goto 4, 3) := dk_167 0 4 (dk_at dksX0_part_1 13 rfl rfl)
theorem dX0_part_40 : decode cX0_part 40 = .ok (.lload_n 2, 1) := dk_32 (dk_at dksX0_part_1 16 rfl rfl)
theorem dX0_part_41 : decode cX0_part 41 = .ok (.lload 5, 2) := dk_22 5 (dk_at dksX0_part_1 17 rfl rfl)
theorem dX0_part_43 : decode cX0_part 43 = .ok (.ldiv, 1) := dk_109 (dk_at dksX0_part_1 19 rfl rfl)
theorem dX0_part_44 : decode cX0_part 44 = .ok (.lreturn, 1) := dk_173 (dk_at dksX0_part_1 20 rfl rfl)
abbrev cX0_wet : ByteArray := prog_1_method_102_code
def yX0_wet : MethodName := ⟨RX0, "wet", "(III)J"⟩
def dkwX0_wet_2 : List UInt8 := [20, 1, 118, 173]
abbrev dktX0_wet_2 : List UInt8 := dkwX0_wet_2 ++ []
def dkwX0_wet_1 : List UInt8 := [184, 0, 103, 153, 0, 21, 29, 5, 184, 0, 132, 153, 0, 13, 42, 27, 28, 29, 182, 1, 158, 167, 0, 6]
abbrev dktX0_wet_1 : List UInt8 := dkwX0_wet_1 ++ dktX0_wet_2
def dkwX0_wet_0 : List UInt8 := [42, 182, 0, 128, 153, 0, 44, 27, 133, 10, 20, 1, 156, 184, 0, 103, 153, 0, 32, 28, 133, 9, 27, 133]
abbrev dktX0_wet_0 : List UInt8 := dkwX0_wet_0 ++ dktX0_wet_1
theorem dksX0_wet_0 : cX0_wet.data.toList.drop 0 = dktX0_wet_0 := by decide +kernel
theorem dksX0_wet_1 : cX0_wet.data.toList.drop 24 = dktX0_wet_1 := dk_seg dksX0_wet_0 24 rfl rfl
theorem dksX0_wet_2 : cX0_wet.data.toList.drop 48 = dktX0_wet_2 := dk_seg dksX0_wet_1 24 rfl rfl
theorem dX0_wet_0 : decode cX0_wet 0 = .ok (.aload_n 0, 1) := dk_42 (dk_at dksX0_wet_0 0 rfl rfl)
theorem dX0_wet_1 : decode cX0_wet 1 = .ok (.invokevirtual 128, 3) := dk_182 0 128 (dk_at dksX0_wet_0 1 rfl rfl)
theorem dX0_wet_4 : decode cX0_wet 4 = .ok (.ifCond .eq 44, 3) := dk_153 0 44 (dk_at dksX0_wet_0 4 rfl rfl)
theorem dX0_wet_7 : decode cX0_wet 7 = .ok (.iload_n 1, 1) := dk_27 (dk_at dksX0_wet_0 7 rfl rfl)
theorem dX0_wet_8 : decode cX0_wet 8 = .ok (.i2l, 1) := dk_133 (dk_at dksX0_wet_0 8 rfl rfl)
theorem dX0_wet_9 : decode cX0_wet 9 = .ok (.lconst 1, 1) := dk_10 (dk_at dksX0_wet_0 9 rfl rfl)
theorem dX0_wet_10 : decode cX0_wet 10 = .ok (.ldc2_w 412, 3) := dk_20 1 156 (dk_at dksX0_wet_0 10 rfl rfl)
theorem dX0_wet_13 : decode cX0_wet 13 = .ok (.invokestatic 103, 3) := dk_184 0 103 (dk_at dksX0_wet_0 13 rfl rfl)
theorem dX0_wet_16 : decode cX0_wet 16 = .ok (.ifCond .eq 32, 3) := dk_153 0 32 (dk_at dksX0_wet_0 16 rfl rfl)
theorem dX0_wet_19 : decode cX0_wet 19 = .ok (.iload_n 2, 1) := dk_28 (dk_at dksX0_wet_0 19 rfl rfl)
theorem dX0_wet_20 : decode cX0_wet 20 = .ok (.i2l, 1) := dk_133 (dk_at dksX0_wet_0 20 rfl rfl)
theorem dX0_wet_21 : decode cX0_wet 21 = .ok (.lconst 0, 1) := dk_9 (dk_at dksX0_wet_0 21 rfl rfl)
theorem dX0_wet_22 : decode cX0_wet 22 = .ok (.iload_n 1, 1) := dk_27 (dk_at dksX0_wet_0 22 rfl rfl)
theorem dX0_wet_23 : decode cX0_wet 23 = .ok (.i2l, 1) := dk_133 (dk_at dksX0_wet_0 23 rfl rfl)
theorem dX0_wet_24 : decode cX0_wet 24 = .ok (.invokestatic 103, 3) := dk_184 0 103 (dk_at dksX0_wet_1 0 rfl rfl)
theorem dX0_wet_27 : decode cX0_wet 27 = .ok (.ifCond .eq 21, 3) := dk_153 0 21 (dk_at dksX0_wet_1 3 rfl rfl)
theorem dX0_wet_30 : decode cX0_wet 30 = .ok (.iload_n 3, 1) := dk_29 (dk_at dksX0_wet_1 6 rfl rfl)
theorem dX0_wet_31 : decode cX0_wet 31 = .ok (.iconst 2, 1) := dk_5 (dk_at dksX0_wet_1 7 rfl rfl)
theorem dX0_wet_32 : decode cX0_wet 32 = .ok (.invokestatic 132, 3) := dk_184 0 132 (dk_at dksX0_wet_1 8 rfl rfl)
theorem dX0_wet_35 : decode cX0_wet 35 = .ok (.ifCond .eq 13, 3) := dk_153 0 13 (dk_at dksX0_wet_1 11 rfl rfl)
theorem dX0_wet_38 : decode cX0_wet 38 = .ok (.aload_n 0, 1) := dk_42 (dk_at dksX0_wet_1 14 rfl rfl)
theorem dX0_wet_39 : decode cX0_wet 39 = .ok (.iload_n 1, 1) := dk_27 (dk_at dksX0_wet_1 15 rfl rfl)
theorem dX0_wet_40 : decode cX0_wet 40 = .ok (.iload_n 2, 1) := dk_28 (dk_at dksX0_wet_1 16 rfl rfl)
theorem dX0_wet_41 : decode cX0_wet 41 = .ok (.iload_n 3, 1) := dk_29 (dk_at dksX0_wet_1 17 rfl rfl)
theorem dX0_wet_42 : decode cX0_wet 42 = .ok (.invokevirtual 414, 3) := dk_182 1 158 (dk_at dksX0_wet_1 18 rfl rfl)
theorem dX0_wet_45 : decode cX0_wet 45 = .ok (.goto 6, 3) := dk_167 0 6 (dk_at dksX0_wet_1 21 rfl rfl)
theorem dX0_wet_48 : decode cX0_wet 48 = .ok (.ldc2_w 374, 3) := dk_20 1 118 (dk_at dksX0_wet_2 0 rfl rfl)
theorem dX0_wet_51 : decode cX0_wet 51 = .ok (.lreturn, 1) := dk_173 (dk_at dksX0_wet_2 3 rfl rfl)
abbrev cX0_drawn : ByteArray := prog_1_method_107_code
def yX0_drawn : MethodName := ⟨RX0, "drawn", "(III)I"⟩
def dkwX0_drawn_2 : List UInt8 := [167, 0, 19, 29, 5, 160, 0, 10, 42, 180, 1, 188, 167, 0, 7, 42, 180, 1, 179, 172]
abbrev dktX0_drawn_2 : List UInt8 := dkwX0_drawn_2 ++ []
def dkwX0_drawn_1 : List UInt8 := [182, 1, 207, 29, 154, 0, 10, 42, 180, 1, 182, 167, 0, 31, 29, 4, 160, 0, 10, 42, 180, 1, 185]
abbrev dktX0_drawn_1 : List UInt8 := dkwX0_drawn_1 ++ dktX0_drawn_2
def dkwX0_drawn_0 : List UInt8 := [42, 27, 28, 182, 1, 204, 153, 0, 11, 29, 7, 184, 0, 132, 154, 0, 6, 16, 254, 172, 42, 27, 133, 28]
abbrev dktX0_drawn_0 : List UInt8 := dkwX0_drawn_0 ++ dktX0_drawn_1
theorem dksX0_drawn_0 : cX0_drawn.data.toList.drop 0 = dktX0_drawn_0 := by decide +kernel
theorem dksX0_drawn_1 : cX0_drawn.data.toList.drop 24 = dktX0_drawn_1 := dk_seg dksX0_drawn_0 24 rfl rfl
theorem dksX0_drawn_2 : cX0_drawn.data.toList.drop 47 = dktX0_drawn_2 := dk_seg dksX0_drawn_1 23 rfl rfl
theorem dX0_drawn_0 : decode cX0_drawn 0 = .ok (.aload_n 0, 1) := dk_42 (dk_at dksX0_drawn_0 0 rfl rfl)
theorem dX0_drawn_1 : decode cX0_drawn 1 = .ok (.iload_n 1, 1) := dk_27 (dk_at dksX0_drawn_0 1 rfl rfl)
theorem dX0_drawn_2 : decode cX0_drawn 2 = .ok (.iload_n 2, 1) := dk_28 (dk_at dksX0_drawn_0 2 rfl rfl)
theorem dX0_drawn_3 : decode cX0_drawn 3 = .ok (.invokevirtual 460, 3) := dk_182 1 204 (dk_at dksX0_drawn_0 3 rfl rfl)
theorem dX0_drawn_6 : decode cX0_drawn 6 = .ok (.ifCond .eq 11, 3) := dk_153 0 11 (dk_at dksX0_drawn_0 6 rfl rfl)
theorem dX0_drawn_9 : decode cX0_drawn 9 = .ok (.iload_n 3, 1) := dk_29 (dk_at dksX0_drawn_0 9 rfl rfl)
theorem dX0_drawn_10 : decode cX0_drawn 10 = .ok (.iconst 4, 1) := dk_7 (dk_at dksX0_drawn_0 10 rfl rfl)
theorem dX0_drawn_11 : decode cX0_drawn 11 = .ok (.invokestatic 132, 3) := dk_184 0 132 (dk_at dksX0_drawn_0 11 rfl rfl)
theorem dX0_drawn_14 : decode cX0_drawn 14 = .ok (.ifCond .ne 6, 3) := dk_154 0 6 (dk_at dksX0_drawn_0 14 rfl rfl)
theorem dX0_drawn_17 : decode cX0_drawn 17 = .ok (.bipush (-2), 2) := dk_16 254 (dk_at dksX0_drawn_0 17 rfl rfl)
theorem dX0_drawn_19 : decode cX0_drawn 19 = .ok (.ireturn, 1) := dk_172 (dk_at dksX0_drawn_0 19 rfl rfl)
theorem dX0_drawn_20 : decode cX0_drawn 20 = .ok (.aload_n 0, 1) := dk_42 (dk_at dksX0_drawn_0 20 rfl rfl)
theorem dX0_drawn_21 : decode cX0_drawn 21 = .ok (.iload_n 1, 1) := dk_27 (dk_at dksX0_drawn_0 21 rfl rfl)
theorem dX0_drawn_22 : decode cX0_drawn 22 = .ok (.i2l, 1) := dk_133 (dk_at dksX0_drawn_0 22 rfl rfl)
theorem dX0_drawn_23 : decode cX0_drawn 23 = .ok (.iload_n 2, 1) := dk_28 (dk_at dksX0_drawn_0 23 rfl rfl)
theorem dX0_drawn_24 : decode cX0_drawn 24 = .ok (.invokevirtual 463, 3) := dk_182 1 207 (dk_at dksX0_drawn_1 0 rfl rfl)
theorem dX0_drawn_27 : decode cX0_drawn 27 = .ok (.iload_n 3, 1) := dk_29 (dk_at dksX0_drawn_1 3 rfl rfl)
theorem dX0_drawn_28 : decode cX0_drawn 28 = .ok (.ifCond .ne 10, 3) := dk_154 0 10 (dk_at dksX0_drawn_1 4 rfl rfl)
theorem dX0_drawn_31 : decode cX0_drawn 31 = .ok (.aload_n 0, 1) := dk_42 (dk_at dksX0_drawn_1 7 rfl rfl)
theorem dX0_drawn_32 : decode cX0_drawn 32 = .ok (.getfield 438, 3) := dk_180 1 182 (dk_at dksX0_drawn_1 8 rfl rfl)
theorem dX0_drawn_35 : decode cX0_drawn 35 = .ok (.goto 31, 3) := dk_167 0 31 (dk_at dksX0_drawn_1 11 rfl rfl)
theorem dX0_drawn_38 : decode cX0_drawn 38 = .ok (.iload_n 3, 1) := dk_29 (dk_at dksX0_drawn_1 14 rfl rfl)
theorem dX0_drawn_39 : decode cX0_drawn 39 = .ok (.iconst 1, 1) := dk_4 (dk_at dksX0_drawn_1 15 rfl rfl)
theorem dX0_drawn_40 : decode cX0_drawn 40 = .ok (.if_icmp .ne 10, 3) := dk_160 0 10 (dk_at dksX0_drawn_1 16 rfl rfl)
theorem dX0_drawn_43 : decode cX0_drawn 43 = .ok (.aload_n 0, 1) := dk_42 (dk_at dksX0_drawn_1 19 rfl rfl)
theorem dX0_drawn_44 : decode cX0_drawn 44 = .ok (.getfield 441, 3) := dk_180 1 185 (dk_at dksX0_drawn_1 20 rfl rfl)
theorem dX0_drawn_47 : decode cX0_drawn 47 = .ok (.goto 19, 3) := dk_167 0 19 (dk_at dksX0_drawn_2 0 rfl rfl)
theorem dX0_drawn_50 : decode cX0_drawn 50 = .ok (.iload_n 3, 1) := dk_29 (dk_at dksX0_drawn_2 3 rfl rfl)
theorem dX0_drawn_51 : decode cX0_drawn 51 = .ok (.iconst 2, 1) := dk_5 (dk_at dksX0_drawn_2 4 rfl rfl)
theorem dX0_drawn_52 : decode cX0_drawn 52 = .ok (.if_icmp .ne 10, 3) := dk_160 0 10 (dk_at dksX0_drawn_2 5 rfl rfl)
theorem dX0_drawn_55 : decode cX0_drawn 55 = .ok (.aload_n 0, 1) := dk_42 (dk_at dksX0_drawn_2 8 rfl rfl)
theorem dX0_drawn_56 : decode cX0_drawn 56 = .ok (.getfield 444, 3) := dk_180 1 188 (dk_at dksX0_drawn_2 9 rfl rfl)
theorem dX0_drawn_59 : decode cX0_drawn 59 = .ok (.goto 7, 3) := dk_167 0 7 (dk_at dksX0_drawn_2 12 rfl rfl)
theorem dX0_drawn_62 : decode cX0_drawn 62 = .ok (.aload_n 0, 1) := dk_42 (dk_at dksX0_drawn_2 15 rfl rfl)
theorem dX0_drawn_63 : decode cX0_drawn 63 = .ok (.getfield 435, 3) := dk_180 1 179 (dk_at dksX0_drawn_2 16 rfl rfl)
theorem dX0_drawn_66 : decode cX0_drawn 66 = .ok (.ireturn, 1) := dk_172 (dk_at dksX0_drawn_2 19 rfl rfl)
abbrev cX0_isNight : ByteArray := prog_1_method_106_code
def yX0_isNight : MethodName := ⟨RX0, "isNight", "(II)Z"⟩
def dkwX0_isNight_1 : List UInt8 := [153, 0, 7, 4, 167, 0, 4, 3, 172]
abbrev dktX0_isNight_1 : List UInt8 := dkwX0_isNight_1 ++ []
def dkwX0_isNight_0 : List UInt8 := [42, 182, 0, 128, 153, 0, 26, 27, 184, 1, 201, 153, 0, 19, 28, 133, 10, 20, 1, 150, 184, 0, 103]
abbrev dktX0_isNight_0 : List UInt8 := dkwX0_isNight_0 ++ dktX0_isNight_1
theorem dksX0_isNight_0 : cX0_isNight.data.toList.drop 0 = dktX0_isNight_0 := by decide +kernel
theorem dksX0_isNight_1 : cX0_isNight.data.toList.drop 23 = dktX0_isNight_1 := dk_seg dksX0_isNight_0 23 rfl rfl
theorem dX0_isNight_0 : decode cX0_isNight 0 = .ok (.aload_n 0, 1) := dk_42 (dk_at dksX0_isNight_0 0 rfl rfl)
theorem dX0_isNight_1 : decode cX0_isNight 1 = .ok (.invokevirtual 128, 3) := dk_182 0 128 (dk_at dksX0_isNight_0 1 rfl rfl)
theorem dX0_isNight_4 : decode cX0_isNight 4 = .ok (.ifCond .eq 26, 3) := dk_153 0 26 (dk_at dksX0_isNight_0 4 rfl rfl)
theorem dX0_isNight_7 : decode cX0_isNight 7 = .ok (.iload_n 1, 1) := dk_27 (dk_at dksX0_isNight_0 7 rfl rfl)
theorem dX0_isNight_8 : decode cX0_isNight 8 = .ok (.invokestatic 457, 3) := dk_184 1 201 (dk_at dksX0_isNight_0 8 rfl rfl)
theorem dX0_isNight_11 : decode cX0_isNight 11 = .ok (.ifCond .eq 19, 3) := dk_153 0 19 (dk_at dksX0_isNight_0 11 rfl rfl)
theorem dX0_isNight_14 : decode cX0_isNight 14 = .ok (.iload_n 2, 1) := dk_28 (dk_at dksX0_isNight_0 14 rfl rfl)
theorem dX0_isNight_15 : decode cX0_isNight 15 = .ok (.i2l, 1) := dk_133 (dk_at dksX0_isNight_0 15 rfl rfl)
theorem dX0_isNight_16 : decode cX0_isNight 16 = .ok (.lconst 1, 1) := dk_10 (dk_at dksX0_isNight_0 16 rfl rfl)
theorem dX0_isNight_17 : decode cX0_isNight 17 = .ok (.ldc2_w 406, 3) := dk_20 1 150 (dk_at dksX0_isNight_0 17 rfl rfl)
theorem dX0_isNight_20 : decode cX0_isNight 20 = .ok (.invokestatic 103, 3) := dk_184 0 103 (dk_at dksX0_isNight_0 20 rfl rfl)
theorem dX0_isNight_23 : decode cX0_isNight 23 = .ok (.ifCond .eq 7, 3) := dk_153 0 7 (dk_at dksX0_isNight_1 0 rfl rfl)
theorem dX0_isNight_26 : decode cX0_isNight 26 = .ok (.iconst 1, 1) := dk_4 (dk_at dksX0_isNight_1 3 rfl rfl)
theorem dX0_isNight_27 : decode cX0_isNight 27 = .ok (.goto 4, 3) := dk_167 0 4 (dk_at dksX0_isNight_1 4 rfl rfl)
theorem dX0_isNight_30 : decode cX0_isNight 30 = .ok (.iconst 0, 1) := dk_3 (dk_at dksX0_isNight_1 7 rfl rfl)
theorem dX0_isNight_31 : decode cX0_isNight 31 = .ok (.ireturn, 1) := dk_172 (dk_at dksX0_isNight_1 8 rfl rfl)
abbrev cX0_isSeed : ByteArray := prog_1_method_17_code
def yX0_isSeed : MethodName := ⟨RX0, "isSeed", "(I)Z"⟩
def dkwX0_isSeed_0 : List UInt8 := [26, 133, 9, 20, 0, 150, 184, 0, 103, 172]
abbrev dktX0_isSeed_0 : List UInt8 := dkwX0_isSeed_0 ++ []
theorem dksX0_isSeed_0 : cX0_isSeed.data.toList.drop 0 = dktX0_isSeed_0 := by decide +kernel
theorem dX0_isSeed_0 : decode cX0_isSeed 0 = .ok (.iload_n 0, 1) := dk_26 (dk_at dksX0_isSeed_0 0 rfl rfl)
theorem dX0_isSeed_1 : decode cX0_isSeed 1 = .ok (.i2l, 1) := dk_133 (dk_at dksX0_isSeed_0 1 rfl rfl)
theorem dX0_isSeed_2 : decode cX0_isSeed 2 = .ok (.lconst 0, 1) := dk_9 (dk_at dksX0_isSeed_0 2 rfl rfl)
theorem dX0_isSeed_3 : decode cX0_isSeed 3 = .ok (.ldc2_w 150, 3) := dk_20 0 150 (dk_at dksX0_isSeed_0 3 rfl rfl)
theorem dX0_isSeed_6 : decode cX0_isSeed 6 = .ok (.invokestatic 103, 3) := dk_184 0 103 (dk_at dksX0_isSeed_0 6 rfl rfl)
theorem dX0_isSeed_9 : decode cX0_isSeed 9 = .ok (.ireturn, 1) := dk_172 (dk_at dksX0_isSeed_0 9 rfl rfl)
abbrev cX0_goesNight : ByteArray := prog_1_method_105_code
def yX0_goesNight : MethodName := ⟨RX0, "goesNight", "(JI)V"⟩
def dkwX0_goesNight_7 : List UInt8 := [181, 1, 182, 132, 4, 1, 167, 255, 134, 177]
abbrev dktX0_goesNight_7 : List UInt8 := dkwX0_goesNight_7 ++ []
def dkwX0_goesNight_6 : List UInt8 := [160, 0, 14, 21, 6, 158, 0, 9, 42, 21, 4, 181, 1, 185, 42, 89, 180, 1, 182, 21, 6, 96]
abbrev dktX0_goesNight_6 : List UInt8 := dkwX0_goesNight_6 ++ dktX0_goesNight_7
def dkwX0_goesNight_5 : List UInt8 := [4, 21, 4, 182, 0, 200, 153, 0, 7, 4, 167, 0, 4, 3, 96, 54, 6, 42, 180, 1, 185, 2]
abbrev dktX0_goesNight_5 : List UInt8 := dkwX0_goesNight_5 ++ dktX0_goesNight_6
def dkwX0_goesNight_4 : List UInt8 := [4, 21, 4, 21, 5, 182, 1, 197, 42, 3, 21, 4, 182, 0, 200, 153, 0, 7, 4, 167, 0, 4, 3, 42]
abbrev dktX0_goesNight_4 : List UInt8 := dkwX0_goesNight_4 ++ dktX0_goesNight_5
def dkwX0_goesNight_3 : List UInt8 := [21, 5, 153, 0, 7, 4, 167, 0, 4, 3, 96, 181, 1, 188, 42, 3, 21, 4, 21, 5, 182, 1, 197, 42]
abbrev dktX0_goesNight_3 : List UInt8 := dkwX0_goesNight_3 ++ dktX0_goesNight_4
def dkwX0_goesNight_2 : List UInt8 := [21, 4, 29, 162, 0, 122, 42, 42, 180, 0, 12, 180, 1, 143, 182, 1, 176, 54, 5, 42, 89, 180, 1, 188]
abbrev dktX0_goesNight_2 : List UInt8 := dkwX0_goesNight_2 ++ dktX0_goesNight_3
def dkwX0_goesNight_1 : List UInt8 := [181, 1, 179, 42, 180, 0, 12, 180, 0, 209, 3, 42, 180, 0, 79, 3, 5, 184, 1, 191, 3, 54, 4]
abbrev dktX0_goesNight_1 : List UInt8 := dkwX0_goesNight_1 ++ dktX0_goesNight_2
def dkwX0_goesNight_0 : List UInt8 := [42, 31, 181, 1, 164, 42, 3, 181, 1, 182, 42, 2, 181, 1, 185, 42, 3, 181, 1, 188, 42, 3]
abbrev dktX0_goesNight_0 : List UInt8 := dkwX0_goesNight_0 ++ dktX0_goesNight_1
theorem dksX0_goesNight_0 : cX0_goesNight.data.toList.drop 0 = dktX0_goesNight_0 := by decide +kernel
theorem dksX0_goesNight_1 : cX0_goesNight.data.toList.drop 22 = dktX0_goesNight_1 := dk_seg dksX0_goesNight_0 22 rfl rfl
theorem dksX0_goesNight_2 : cX0_goesNight.data.toList.drop 45 = dktX0_goesNight_2 := dk_seg dksX0_goesNight_1 23 rfl rfl
theorem dksX0_goesNight_3 : cX0_goesNight.data.toList.drop 69 = dktX0_goesNight_3 := dk_seg dksX0_goesNight_2 24 rfl rfl
theorem dksX0_goesNight_4 : cX0_goesNight.data.toList.drop 93 = dktX0_goesNight_4 := dk_seg dksX0_goesNight_3 24 rfl rfl
theorem dksX0_goesNight_5 : cX0_goesNight.data.toList.drop 117 = dktX0_goesNight_5 := dk_seg dksX0_goesNight_4 24 rfl rfl
theorem dksX0_goesNight_6 : cX0_goesNight.data.toList.drop 139 = dktX0_goesNight_6 := dk_seg dksX0_goesNight_5 22 rfl rfl
theorem dksX0_goesNight_7 : cX0_goesNight.data.toList.drop 161 = dktX0_goesNight_7 := dk_seg dksX0_goesNight_6 22 rfl rfl
theorem dX0_goesNight_0 : decode cX0_goesNight 0 = .ok (.aload_n 0, 1) := dk_42 (dk_at dksX0_goesNight_0 0 rfl rfl)
theorem dX0_goesNight_1 : decode cX0_goesNight 1 = .ok (.lload_n 1, 1) := dk_31 (dk_at dksX0_goesNight_0 1 rfl rfl)
theorem dX0_goesNight_2 : decode cX0_goesNight 2 = .ok (.putfield 420, 3) := dk_181 1 164 (dk_at dksX0_goesNight_0 2 rfl rfl)
theorem dX0_goesNight_5 : decode cX0_goesNight 5 = .ok (.aload_n 0, 1) := dk_42 (dk_at dksX0_goesNight_0 5 rfl rfl)
theorem dX0_goesNight_6 : decode cX0_goesNight 6 = .ok (.iconst 0, 1) := dk_3 (dk_at dksX0_goesNight_0 6 rfl rfl)
theorem dX0_goesNight_7 : decode cX0_goesNight 7 = .ok (.putfield 438, 3) := dk_181 1 182 (dk_at dksX0_goesNight_0 7 rfl rfl)
theorem dX0_goesNight_10 : decode cX0_goesNight 10 = .ok (.aload_n 0, 1) := dk_42 (dk_at dksX0_goesNight_0 10 rfl rfl)
theorem dX0_goesNight_11 : decode cX0_goesNight 11 = .ok (.iconst (-1), 1) := dk_2 (dk_at dksX0_goesNight_0 11 rfl rfl)
theorem dX0_goesNight_12 : decode cX0_goesNight 12 = .ok (.putfield 441, 3) := dk_181 1 185 (dk_at dksX0_goesNight_0 12 rfl rfl)
theorem dX0_goesNight_15 : decode cX0_goesNight 15 = .ok (.aload_n 0, 1) := dk_42 (dk_at dksX0_goesNight_0 15 rfl rfl)
theorem dX0_goesNight_16 : decode cX0_goesNight 16 = .ok (.iconst 0, 1) := dk_3 (dk_at dksX0_goesNight_0 16 rfl rfl)
theorem dX0_goesNight_17 : decode cX0_goesNight 17 = .ok (.putfield 444, 3) := dk_181 1 188 (dk_at dksX0_goesNight_0 17 rfl rfl)
theorem dX0_goesNight_20 : decode cX0_goesNight 20 = .ok (.aload_n 0, 1) := dk_42 (dk_at dksX0_goesNight_0 20 rfl rfl)
theorem dX0_goesNight_21 : decode cX0_goesNight 21 = .ok (.iconst 0, 1) := dk_3 (dk_at dksX0_goesNight_0 21 rfl rfl)
theorem dX0_goesNight_22 : decode cX0_goesNight 22 = .ok (.putfield 435, 3) := dk_181 1 179 (dk_at dksX0_goesNight_1 0 rfl rfl)
theorem dX0_goesNight_25 : decode cX0_goesNight 25 = .ok (.aload_n 0, 1) := dk_42 (dk_at dksX0_goesNight_1 3 rfl rfl)
theorem dX0_goesNight_26 : decode cX0_goesNight 26 = .ok (.getfield 12, 3) := dk_180 0 12 (dk_at dksX0_goesNight_1 4 rfl rfl)
theorem dX0_goesNight_29 : decode cX0_goesNight 29 = .ok (.getfield 209, 3) := dk_180 0 209 (dk_at dksX0_goesNight_1 7 rfl rfl)
theorem dX0_goesNight_32 : decode cX0_goesNight 32 = .ok (.iconst 0, 1) := dk_3 (dk_at dksX0_goesNight_1 10 rfl rfl)
theorem dX0_goesNight_33 : decode cX0_goesNight 33 = .ok (.aload_n 0, 1) := dk_42 (dk_at dksX0_goesNight_1 11 rfl rfl)
theorem dX0_goesNight_34 : decode cX0_goesNight 34 = .ok (.getfield 79, 3) := dk_180 0 79 (dk_at dksX0_goesNight_1 12 rfl rfl)
theorem dX0_goesNight_37 : decode cX0_goesNight 37 = .ok (.iconst 0, 1) := dk_3 (dk_at dksX0_goesNight_1 15 rfl rfl)
theorem dX0_goesNight_38 : decode cX0_goesNight 38 = .ok (.iconst 2, 1) := dk_5 (dk_at dksX0_goesNight_1 16 rfl rfl)
theorem dX0_goesNight_39 : decode cX0_goesNight 39 = .ok (.invokestatic 447, 3) := dk_184 1 191 (dk_at dksX0_goesNight_1 17 rfl rfl)
theorem dX0_goesNight_42 : decode cX0_goesNight 42 = .ok (.iconst 0, 1) := dk_3 (dk_at dksX0_goesNight_1 20 rfl rfl)
theorem dX0_goesNight_43 : decode cX0_goesNight 43 = .ok (.istore 4, 2) := dk_54 4 (dk_at dksX0_goesNight_1 21 rfl rfl)
theorem dX0_goesNight_45 : decode cX0_goesNight 45 = .ok (.iload 4, 2) := dk_21 4 (dk_at dksX0_goesNight_2 0 rfl rfl)
theorem dX0_goesNight_47 : decode cX0_goesNight 47 = .ok (.iload_n 3, 1) := dk_29 (dk_at dksX0_goesNight_2 2 rfl rfl)
theorem dX0_goesNight_48 : decode cX0_goesNight 48 = .ok (.if_icmp .ge 122, 3) := dk_162 0 122 (dk_at dksX0_goesNight_2 3 rfl rfl)
theorem dX0_goesNight_51 : decode cX0_goesNight 51 = .ok (.aload_n 0, 1) := dk_42 (dk_at dksX0_goesNight_2 6 rfl rfl)
theorem dX0_goesNight_52 : decode cX0_goesNight 52 = .ok (.aload_n 0, 1) := dk_42 (dk_at dksX0_goesNight_2 7 rfl rfl)
theorem dX0_goesNight_53 : decode cX0_goesNight 53 = .ok (.getfield 12, 3) := dk_180 0 12 (dk_at dksX0_goesNight_2 8 rfl rfl)
theorem dX0_goesNight_56 : decode cX0_goesNight 56 = .ok (.getfield 399, 3) := dk_180 1 143 (dk_at dksX0_goesNight_2 11 rfl rfl)
theorem dX0_goesNight_59 : decode cX0_goesNight 59 = .ok (.invokevirtual 432, 3) := dk_182 1 176 (dk_at dksX0_goesNight_2 14 rfl rfl)
theorem dX0_goesNight_62 : decode cX0_goesNight 62 = .ok (.istore 5, 2) := dk_54 5 (dk_at dksX0_goesNight_2 17 rfl rfl)
theorem dX0_goesNight_64 : decode cX0_goesNight 64 = .ok (.aload_n 0, 1) := dk_42 (dk_at dksX0_goesNight_2 19 rfl rfl)
theorem dX0_goesNight_65 : decode cX0_goesNight 65 = .ok (.dup, 1) := dk_89 (dk_at dksX0_goesNight_2 20 rfl rfl)
theorem dX0_goesNight_66 : decode cX0_goesNight 66 = .ok (.getfield 444, 3) := dk_180 1 188 (dk_at dksX0_goesNight_2 21 rfl rfl)
theorem dX0_goesNight_69 : decode cX0_goesNight 69 = .ok (.iload 5, 2) := dk_21 5 (dk_at dksX0_goesNight_3 0 rfl rfl)
theorem dX0_goesNight_71 : decode cX0_goesNight 71 = .ok (.ifCond .eq 7, 3) := dk_153 0 7 (dk_at dksX0_goesNight_3 2 rfl rfl)
theorem dX0_goesNight_74 : decode cX0_goesNight 74 = .ok (.iconst 1, 1) := dk_4 (dk_at dksX0_goesNight_3 5 rfl rfl)
theorem dX0_goesNight_75 : decode cX0_goesNight 75 = .ok (.goto 4, 3) := dk_167 0 4 (dk_at dksX0_goesNight_3 6 rfl rfl)
theorem dX0_goesNight_78 : decode cX0_goesNight 78 = .ok (.iconst 0, 1) := dk_3 (dk_at dksX0_goesNight_3 9 rfl rfl)
theorem dX0_goesNight_79 : decode cX0_goesNight 79 = .ok (.iadd, 1) := dk_96 (dk_at dksX0_goesNight_3 10 rfl rfl)
theorem dX0_goesNight_80 : decode cX0_goesNight 80 = .ok (.putfield 444, 3) := dk_181 1 188 (dk_at dksX0_goesNight_3 11 rfl rfl)
theorem dX0_goesNight_83 : decode cX0_goesNight 83 = .ok (.aload_n 0, 1) := dk_42 (dk_at dksX0_goesNight_3 14 rfl rfl)
theorem dX0_goesNight_84 : decode cX0_goesNight 84 = .ok (.iconst 0, 1) := dk_3 (dk_at dksX0_goesNight_3 15 rfl rfl)
theorem dX0_goesNight_85 : decode cX0_goesNight 85 = .ok (.iload 4, 2) := dk_21 4 (dk_at dksX0_goesNight_3 16 rfl rfl)
theorem dX0_goesNight_87 : decode cX0_goesNight 87 = .ok (.iload 5, 2) := dk_21 5 (dk_at dksX0_goesNight_3 18 rfl rfl)
theorem dX0_goesNight_89 : decode cX0_goesNight 89 = .ok (.invokevirtual 453, 3) := dk_182 1 197 (dk_at dksX0_goesNight_3 20 rfl rfl)
theorem dX0_goesNight_92 : decode cX0_goesNight 92 = .ok (.aload_n 0, 1) := dk_42 (dk_at dksX0_goesNight_3 23 rfl rfl)
theorem dX0_goesNight_93 : decode cX0_goesNight 93 = .ok (.iconst 1, 1) := dk_4 (dk_at dksX0_goesNight_4 0 rfl rfl)
theorem dX0_goesNight_94 : decode cX0_goesNight 94 = .ok (.iload 4, 2) := dk_21 4 (dk_at dksX0_goesNight_4 1 rfl rfl)
theorem dX0_goesNight_96 : decode cX0_goesNight 96 = .ok (.iload 5, 2) := dk_21 5 (dk_at dksX0_goesNight_4 3 rfl rfl)
theorem dX0_goesNight_98 : decode cX0_goesNight 98 = .ok (.invokevirtual 453, 3) := dk_182 1 197 (dk_at dksX0_goesNight_4 5 rfl rfl)
theorem dX0_goesNight_101 : decode cX0_goesNight 101 = .ok (.aload_n 0, 1) := dk_42 (dk_at dksX0_goesNight_4 8 rfl rfl)
theorem dX0_goesNight_102 : decode cX0_goesNight 102 = .ok (.iconst 0, 1) := dk_3 (dk_at dksX0_goesNight_4 9 rfl rfl)
theorem dX0_goesNight_103 : decode cX0_goesNight 103 = .ok (.iload 4, 2) := dk_21 4 (dk_at dksX0_goesNight_4 10 rfl rfl)
theorem dX0_goesNight_105 : decode cX0_goesNight 105 = .ok (.invokevirtual 200, 3) := dk_182 0 200 (dk_at dksX0_goesNight_4 12 rfl rfl)
theorem dX0_goesNight_108 : decode cX0_goesNight 108 = .ok (.ifCond .eq 7, 3) := dk_153 0 7 (dk_at dksX0_goesNight_4 15 rfl rfl)
theorem dX0_goesNight_111 : decode cX0_goesNight 111 = .ok (.iconst 1, 1) := dk_4 (dk_at dksX0_goesNight_4 18 rfl rfl)
theorem dX0_goesNight_112 : decode cX0_goesNight 112 = .ok (.goto 4, 3) := dk_167 0 4 (dk_at dksX0_goesNight_4 19 rfl rfl)
theorem dX0_goesNight_115 : decode cX0_goesNight 115 = .ok (.iconst 0, 1) := dk_3 (dk_at dksX0_goesNight_4 22 rfl rfl)
theorem dX0_goesNight_116 : decode cX0_goesNight 116 = .ok (.aload_n 0, 1) := dk_42 (dk_at dksX0_goesNight_4 23 rfl rfl)
theorem dX0_goesNight_117 : decode cX0_goesNight 117 = .ok (.iconst 1, 1) := dk_4 (dk_at dksX0_goesNight_5 0 rfl rfl)
theorem dX0_goesNight_118 : decode cX0_goesNight 118 = .ok (.iload 4, 2) := dk_21 4 (dk_at dksX0_goesNight_5 1 rfl rfl)
theorem dX0_goesNight_120 : decode cX0_goesNight 120 = .ok (.invokevirtual 200, 3) := dk_182 0 200 (dk_at dksX0_goesNight_5 3 rfl rfl)
theorem dX0_goesNight_123 : decode cX0_goesNight 123 = .ok (.ifCond .eq 7, 3) := dk_153 0 7 (dk_at dksX0_goesNight_5 6 rfl rfl)
theorem dX0_goesNight_126 : decode cX0_goesNight 126 = .ok (.iconst 1, 1) := dk_4 (dk_at dksX0_goesNight_5 9 rfl rfl)
theorem dX0_goesNight_127 : decode cX0_goesNight 127 = .ok (.goto 4, 3) := dk_167 0 4 (dk_at dksX0_goesNight_5 10 rfl rfl)
theorem dX0_goesNight_130 : decode cX0_goesNight 130 = .ok (.iconst 0, 1) := dk_3 (dk_at dksX0_goesNight_5 13 rfl rfl)
theorem dX0_goesNight_131 : decode cX0_goesNight 131 = .ok (.iadd, 1) := dk_96 (dk_at dksX0_goesNight_5 14 rfl rfl)
theorem dX0_goesNight_132 : decode cX0_goesNight 132 = .ok (.istore 6, 2) := dk_54 6 (dk_at dksX0_goesNight_5 15 rfl rfl)
theorem dX0_goesNight_134 : decode cX0_goesNight 134 = .ok (.aload_n 0, 1) := dk_42 (dk_at dksX0_goesNight_5 17 rfl rfl)
theorem dX0_goesNight_135 : decode cX0_goesNight 135 = .ok (.getfield 441, 3) := dk_180 1 185 (dk_at dksX0_goesNight_5 18 rfl rfl)
theorem dX0_goesNight_138 : decode cX0_goesNight 138 = .ok (.iconst (-1), 1) := dk_2 (dk_at dksX0_goesNight_5 21 rfl rfl)
theorem dX0_goesNight_139 : decode cX0_goesNight 139 = .ok (.if_icmp .ne 14, 3) := dk_160 0 14 (dk_at dksX0_goesNight_6 0 rfl rfl)
theorem dX0_goesNight_142 : decode cX0_goesNight 142 = .ok (.iload 6, 2) := dk_21 6 (dk_at dksX0_goesNight_6 3 rfl rfl)
theorem dX0_goesNight_144 : decode cX0_goesNight 144 = .ok (.ifCond .le 9, 3) := dk_158 0 9 (dk_at dksX0_goesNight_6 5 rfl rfl)
theorem dX0_goesNight_147 : decode cX0_goesNight 147 = .ok (.aload_n 0, 1) := dk_42 (dk_at dksX0_goesNight_6 8 rfl rfl)
theorem dX0_goesNight_148 : decode cX0_goesNight 148 = .ok (.iload 4, 2) := dk_21 4 (dk_at dksX0_goesNight_6 9 rfl rfl)
theorem dX0_goesNight_150 : decode cX0_goesNight 150 = .ok (.putfield 441, 3) := dk_181 1 185 (dk_at dksX0_goesNight_6 11 rfl rfl)
theorem dX0_goesNight_153 : decode cX0_goesNight 153 = .ok (.aload_n 0, 1) := dk_42 (dk_at dksX0_goesNight_6 14 rfl rfl)
theorem dX0_goesNight_154 : decode cX0_goesNight 154 = .ok (.dup, 1) := dk_89 (dk_at dksX0_goesNight_6 15 rfl rfl)
theorem dX0_goesNight_155 : decode cX0_goesNight 155 = .ok (.getfield 438, 3) := dk_180 1 182 (dk_at dksX0_goesNight_6 16 rfl rfl)
theorem dX0_goesNight_158 : decode cX0_goesNight 158 = .ok (.iload 6, 2) := dk_21 6 (dk_at dksX0_goesNight_6 19 rfl rfl)
theorem dX0_goesNight_160 : decode cX0_goesNight 160 = .ok (.iadd, 1) := dk_96 (dk_at dksX0_goesNight_6 21 rfl rfl)
theorem dX0_goesNight_161 : decode cX0_goesNight 161 = .ok (.putfield 438, 3) := dk_181 1 182 (dk_at dksX0_goesNight_7 0 rfl rfl)
theorem dX0_goesNight_164 : decode cX0_goesNight 164 = .ok (.iinc 4 1, 3) := dk_132 4 1 (dk_at dksX0_goesNight_7 3 rfl rfl)
theorem dX0_goesNight_167 : decode cX0_goesNight 167 = .ok (.goto (-122), 3) := dk_167 255 134 (dk_at dksX0_goesNight_7 6 rfl rfl)
theorem dX0_goesNight_170 : decode cX0_goesNight 170 = .ok (.return_, 1) := dk_177 (dk_at dksX0_goesNight_7 9 rfl rfl)
abbrev cX0_draws : ByteArray := prog_1_method_103_code
def yX0_draws : MethodName := ⟨RX0, "draws", "(I)Z"⟩
def dkwX0_draws_1 : List UInt8 := [20, 1, 171, 109, 20, 1, 150, 113, 27, 133, 148, 156, 0, 7, 4, 167, 0, 4, 3, 172]
abbrev dktX0_draws_1 : List UInt8 := dkwX0_draws_1 ++ []
def dkwX0_draws_0 : List UInt8 := [42, 20, 1, 162, 42, 180, 1, 164, 105, 20, 1, 167, 97, 20, 1, 169, 113, 181, 1, 164, 42, 180, 1, 164]
abbrev dktX0_draws_0 : List UInt8 := dkwX0_draws_0 ++ dktX0_draws_1
theorem dksX0_draws_0 : cX0_draws.data.toList.drop 0 = dktX0_draws_0 := by decide +kernel
theorem dksX0_draws_1 : cX0_draws.data.toList.drop 24 = dktX0_draws_1 := dk_seg dksX0_draws_0 24 rfl rfl
theorem dX0_draws_0 : decode cX0_draws 0 = .ok (.aload_n 0, 1) := dk_42 (dk_at dksX0_draws_0 0 rfl rfl)
theorem dX0_draws_1 : decode cX0_draws 1 = .ok (.ldc2_w 418, 3) := dk_20 1 162 (dk_at dksX0_draws_0 1 rfl rfl)
theorem dX0_draws_4 : decode cX0_draws 4 = .ok (.aload_n 0, 1) := dk_42 (dk_at dksX0_draws_0 4 rfl rfl)
theorem dX0_draws_5 : decode cX0_draws 5 = .ok (.getfield 420, 3) := dk_180 1 164 (dk_at dksX0_draws_0 5 rfl rfl)
theorem dX0_draws_8 : decode cX0_draws 8 = .ok (.lmul, 1) := dk_105 (dk_at dksX0_draws_0 8 rfl rfl)
theorem dX0_draws_9 : decode cX0_draws 9 = .ok (.ldc2_w 423, 3) := dk_20 1 167 (dk_at dksX0_draws_0 9 rfl rfl)
theorem dX0_draws_12 : decode cX0_draws 12 = .ok (.ladd, 1) := dk_97 (dk_at dksX0_draws_0 12 rfl rfl)
theorem dX0_draws_13 : decode cX0_draws 13 = .ok (.ldc2_w 425, 3) := dk_20 1 169 (dk_at dksX0_draws_0 13 rfl rfl)
theorem dX0_draws_16 : decode cX0_draws 16 = .ok (.lrem, 1) := dk_113 (dk_at dksX0_draws_0 16 rfl rfl)
theorem dX0_draws_17 : decode cX0_draws 17 = .ok (.putfield 420, 3) := dk_181 1 164 (dk_at dksX0_draws_0 17 rfl rfl)
theorem dX0_draws_20 : decode cX0_draws 20 = .ok (.aload_n 0, 1) := dk_42 (dk_at dksX0_draws_0 20 rfl rfl)
theorem dX0_draws_21 : decode cX0_draws 21 = .ok (.getfield 420, 3) := dk_180 1 164 (dk_at dksX0_draws_0 21 rfl rfl)
theorem dX0_draws_24 : decode cX0_draws 24 = .ok (.ldc2_w 427, 3) := dk_20 1 171 (dk_at dksX0_draws_1 0 rfl rfl)
theorem dX0_draws_27 : decode cX0_draws 27 = .ok (.ldiv, 1) := dk_109 (dk_at dksX0_draws_1 3 rfl rfl)
theorem dX0_draws_28 : decode cX0_draws 28 = .ok (.ldc2_w 406, 3) := dk_20 1 150 (dk_at dksX0_draws_1 4 rfl rfl)
theorem dX0_draws_31 : decode cX0_draws 31 = .ok (.lrem, 1) := dk_113 (dk_at dksX0_draws_1 7 rfl rfl)
theorem dX0_draws_32 : decode cX0_draws 32 = .ok (.iload_n 1, 1) := dk_27 (dk_at dksX0_draws_1 8 rfl rfl)
theorem dX0_draws_33 : decode cX0_draws 33 = .ok (.i2l, 1) := dk_133 (dk_at dksX0_draws_1 9 rfl rfl)
theorem dX0_draws_34 : decode cX0_draws 34 = .ok (.lcmp, 1) := dk_148 (dk_at dksX0_draws_1 10 rfl rfl)
theorem dX0_draws_35 : decode cX0_draws 35 = .ok (.ifCond .ge 7, 3) := dk_156 0 7 (dk_at dksX0_draws_1 11 rfl rfl)
theorem dX0_draws_38 : decode cX0_draws 38 = .ok (.iconst 1, 1) := dk_4 (dk_at dksX0_draws_1 14 rfl rfl)
theorem dX0_draws_39 : decode cX0_draws 39 = .ok (.goto 4, 3) := dk_167 0 4 (dk_at dksX0_draws_1 15 rfl rfl)
theorem dX0_draws_42 : decode cX0_draws 42 = .ok (.iconst 0, 1) := dk_3 (dk_at dksX0_draws_1 18 rfl rfl)
theorem dX0_draws_43 : decode cX0_draws 43 = .ok (.ireturn, 1) := dk_172 (dk_at dksX0_draws_1 19 rfl rfl)
abbrev cX0_dances : ByteArray := prog_1_method_104_code
def yX0_dances : MethodName := ⟨RX0, "dances", "(IIZ)V"⟩
def dkwX0_dances_5 : List UInt8 := [21, 4, 4, 96, 16, 6, 112, 167, 0, 5, 21, 4, 79, 177]
abbrev dktX0_dances_5 : List UInt8 := dkwX0_dances_5 ++ []
def dkwX0_dances_4 : List UInt8 := [167, 0, 4, 3, 96, 181, 1, 179, 42, 180, 0, 28, 17, 0, 200, 27, 104, 28, 96, 21, 5, 153, 0, 13]
abbrev dktX0_dances_4 : List UInt8 := dkwX0_dances_4 ++ dktX0_dances_5
def dkwX0_dances_3 : List UInt8 := [42, 180, 0, 12, 180, 1, 173, 182, 1, 176, 54, 5, 42, 89, 180, 1, 179, 21, 5, 153, 0, 7, 4]
abbrev dktX0_dances_3 : List UInt8 := dkwX0_dances_3 ++ dktX0_dances_4
def dkwX0_dances_2 : List UInt8 := [180, 0, 79, 27, 42, 180, 0, 79, 27, 46, 4, 96, 42, 180, 0, 12, 180, 0, 144, 27, 46, 112, 79, 42]
abbrev dktX0_dances_2 : List UInt8 := dkwX0_dances_2 ++ dktX0_dances_3
def dkwX0_dances_1 : List UInt8 := [27, 46, 154, 0, 4, 177, 42, 180, 0, 12, 27, 42, 180, 0, 79, 27, 46, 182, 0, 155, 54, 4, 42]
abbrev dktX0_dances_1 : List UInt8 := dkwX0_dances_1 ++ dktX0_dances_2
def dkwX0_dances_0 : List UInt8 := [42, 180, 0, 28, 17, 0, 200, 27, 104, 28, 96, 2, 79, 29, 154, 0, 15, 42, 180, 0, 12, 180, 0, 144]
abbrev dktX0_dances_0 : List UInt8 := dkwX0_dances_0 ++ dktX0_dances_1
theorem dksX0_dances_0 : cX0_dances.data.toList.drop 0 = dktX0_dances_0 := by decide +kernel
theorem dksX0_dances_1 : cX0_dances.data.toList.drop 24 = dktX0_dances_1 := dk_seg dksX0_dances_0 24 rfl rfl
theorem dksX0_dances_2 : cX0_dances.data.toList.drop 47 = dktX0_dances_2 := dk_seg dksX0_dances_1 23 rfl rfl
theorem dksX0_dances_3 : cX0_dances.data.toList.drop 71 = dktX0_dances_3 := dk_seg dksX0_dances_2 24 rfl rfl
theorem dksX0_dances_4 : cX0_dances.data.toList.drop 94 = dktX0_dances_4 := dk_seg dksX0_dances_3 23 rfl rfl
theorem dksX0_dances_5 : cX0_dances.data.toList.drop 118 = dktX0_dances_5 := dk_seg dksX0_dances_4 24 rfl rfl
theorem dX0_dances_0 : decode cX0_dances 0 = .ok (.aload_n 0, 1) := dk_42 (dk_at dksX0_dances_0 0 rfl rfl)
theorem dX0_dances_1 : decode cX0_dances 1 = .ok (.getfield 28, 3) := dk_180 0 28 (dk_at dksX0_dances_0 1 rfl rfl)
theorem dX0_dances_4 : decode cX0_dances 4 = .ok (.sipush 200, 3) := dk_17 0 200 (dk_at dksX0_dances_0 4 rfl rfl)
theorem dX0_dances_7 : decode cX0_dances 7 = .ok (.iload_n 1, 1) := dk_27 (dk_at dksX0_dances_0 7 rfl rfl)
theorem dX0_dances_8 : decode cX0_dances 8 = .ok (.imul, 1) := dk_104 (dk_at dksX0_dances_0 8 rfl rfl)
theorem dX0_dances_9 : decode cX0_dances 9 = .ok (.iload_n 2, 1) := dk_28 (dk_at dksX0_dances_0 9 rfl rfl)
theorem dX0_dances_10 : decode cX0_dances 10 = .ok (.iadd, 1) := dk_96 (dk_at dksX0_dances_0 10 rfl rfl)
theorem dX0_dances_11 : decode cX0_dances 11 = .ok (.iconst (-1), 1) := dk_2 (dk_at dksX0_dances_0 11 rfl rfl)
theorem dX0_dances_12 : decode cX0_dances 12 = .ok (.iastore, 1) := dk_79 (dk_at dksX0_dances_0 12 rfl rfl)
theorem dX0_dances_13 : decode cX0_dances 13 = .ok (.iload_n 3, 1) := dk_29 (dk_at dksX0_dances_0 13 rfl rfl)
theorem dX0_dances_14 : decode cX0_dances 14 = .ok (.ifCond .ne 15, 3) := dk_154 0 15 (dk_at dksX0_dances_0 14 rfl rfl)
theorem dX0_dances_17 : decode cX0_dances 17 = .ok (.aload_n 0, 1) := dk_42 (dk_at dksX0_dances_0 17 rfl rfl)
theorem dX0_dances_18 : decode cX0_dances 18 = .ok (.getfield 12, 3) := dk_180 0 12 (dk_at dksX0_dances_0 18 rfl rfl)
theorem dX0_dances_21 : decode cX0_dances 21 = .ok (.getfield 144, 3) := dk_180 0 144 (dk_at dksX0_dances_0 21 rfl rfl)
theorem dX0_dances_24 : decode cX0_dances 24 = .ok (.iload_n 1, 1) := dk_27 (dk_at dksX0_dances_1 0 rfl rfl)
theorem dX0_dances_25 : decode cX0_dances 25 = .ok (.iaload, 1) := dk_46 (dk_at dksX0_dances_1 1 rfl rfl)
theorem dX0_dances_26 : decode cX0_dances 26 = .ok (.ifCond .ne 4, 3) := dk_154 0 4 (dk_at dksX0_dances_1 2 rfl rfl)
theorem dX0_dances_29 : decode cX0_dances 29 = .ok (.return_, 1) := dk_177 (dk_at dksX0_dances_1 5 rfl rfl)
theorem dX0_dances_30 : decode cX0_dances 30 = .ok (.aload_n 0, 1) := dk_42 (dk_at dksX0_dances_1 6 rfl rfl)
theorem dX0_dances_31 : decode cX0_dances 31 = .ok (.getfield 12, 3) := dk_180 0 12 (dk_at dksX0_dances_1 7 rfl rfl)
theorem dX0_dances_34 : decode cX0_dances 34 = .ok (.iload_n 1, 1) := dk_27 (dk_at dksX0_dances_1 10 rfl rfl)
theorem dX0_dances_35 : decode cX0_dances 35 = .ok (.aload_n 0, 1) := dk_42 (dk_at dksX0_dances_1 11 rfl rfl)
theorem dX0_dances_36 : decode cX0_dances 36 = .ok (.getfield 79, 3) := dk_180 0 79 (dk_at dksX0_dances_1 12 rfl rfl)
theorem dX0_dances_39 : decode cX0_dances 39 = .ok (.iload_n 1, 1) := dk_27 (dk_at dksX0_dances_1 15 rfl rfl)
theorem dX0_dances_40 : decode cX0_dances 40 = .ok (.iaload, 1) := dk_46 (dk_at dksX0_dances_1 16 rfl rfl)
theorem dX0_dances_41 : decode cX0_dances 41 = .ok (.invokevirtual 155, 3) := dk_182 0 155 (dk_at dksX0_dances_1 17 rfl rfl)
theorem dX0_dances_44 : decode cX0_dances 44 = .ok (.istore 4, 2) := dk_54 4 (dk_at dksX0_dances_1 20 rfl rfl)
theorem dX0_dances_46 : decode cX0_dances 46 = .ok (.aload_n 0, 1) := dk_42 (dk_at dksX0_dances_1 22 rfl rfl)
theorem dX0_dances_47 : decode cX0_dances 47 = .ok (.getfield 79, 3) := dk_180 0 79 (dk_at dksX0_dances_2 0 rfl rfl)
theorem dX0_dances_50 : decode cX0_dances 50 = .ok (.iload_n 1, 1) := dk_27 (dk_at dksX0_dances_2 3 rfl rfl)
theorem dX0_dances_51 : decode cX0_dances 51 = .ok (.aload_n 0, 1) := dk_42 (dk_at dksX0_dances_2 4 rfl rfl)
theorem dX0_dances_52 : decode cX0_dances 52 = .ok (.getfield 79, 3) := dk_180 0 79 (dk_at dksX0_dances_2 5 rfl rfl)
theorem dX0_dances_55 : decode cX0_dances 55 = .ok (.iload_n 1, 1) := dk_27 (dk_at dksX0_dances_2 8 rfl rfl)
theorem dX0_dances_56 : decode cX0_dances 56 = .ok (.iaload, 1) := dk_46 (dk_at dksX0_dances_2 9 rfl rfl)
theorem dX0_dances_57 : decode cX0_dances 57 = .ok (.iconst 1, 1) := dk_4 (dk_at dksX0_dances_2 10 rfl rfl)
theorem dX0_dances_58 : decode cX0_dances 58 = .ok (.iadd, 1) := dk_96 (dk_at dksX0_dances_2 11 rfl rfl)
theorem dX0_dances_59 : decode cX0_dances 59 = .ok (.aload_n 0, 1) := dk_42 (dk_at dksX0_dances_2 12 rfl rfl)
theorem dX0_dances_60 : decode cX0_dances 60 = .ok (.getfield 12, 3) := dk_180 0 12 (dk_at dksX0_dances_2 13 rfl rfl)
theorem dX0_dances_63 : decode cX0_dances 63 = .ok (.getfield 144, 3) := dk_180 0 144 (dk_at dksX0_dances_2 16 rfl rfl)
theorem dX0_dances_66 : decode cX0_dances 66 = .ok (.iload_n 1, 1) := dk_27 (dk_at dksX0_dances_2 19 rfl rfl)
theorem dX0_dances_67 : decode cX0_dances 67 = .ok (.iaload, 1) := dk_46 (dk_at dksX0_dances_2 20 rfl rfl)
theorem dX0_dances_68 : decode cX0_dances 68 = .ok (.irem, 1) := dk_112 (dk_at dksX0_dances_2 21 rfl rfl)
theorem dX0_dances_69 : decode cX0_dances 69 = .ok (.iastore, 1) := dk_79 (dk_at dksX0_dances_2 22 rfl rfl)
theorem dX0_dances_70 : decode cX0_dances 70 = .ok (.aload_n 0, 1) := dk_42 (dk_at dksX0_dances_2 23 rfl rfl)
theorem dX0_dances_71 : decode cX0_dances 71 = .ok (.aload_n 0, 1) := dk_42 (dk_at dksX0_dances_3 0 rfl rfl)
theorem dX0_dances_72 : decode cX0_dances 72 = .ok (.getfield 12, 3) := dk_180 0 12 (dk_at dksX0_dances_3 1 rfl rfl)
theorem dX0_dances_75 : decode cX0_dances 75 = .ok (.getfield 429, 3) := dk_180 1 173 (dk_at dksX0_dances_3 4 rfl rfl)
theorem dX0_dances_78 : decode cX0_dances 78 = .ok (.invokevirtual 432, 3) := dk_182 1 176 (dk_at dksX0_dances_3 7 rfl rfl)
theorem dX0_dances_81 : decode cX0_dances 81 = .ok (.istore 5, 2) := dk_54 5 (dk_at dksX0_dances_3 10 rfl rfl)
theorem dX0_dances_83 : decode cX0_dances 83 = .ok (.aload_n 0, 1) := dk_42 (dk_at dksX0_dances_3 12 rfl rfl)
theorem dX0_dances_84 : decode cX0_dances 84 = .ok (.dup, 1) := dk_89 (dk_at dksX0_dances_3 13 rfl rfl)
theorem dX0_dances_85 : decode cX0_dances 85 = .ok (.getfield 435, 3) := dk_180 1 179 (dk_at dksX0_dances_3 14 rfl rfl)
theorem dX0_dances_88 : decode cX0_dances 88 = .ok (.iload 5, 2) := dk_21 5 (dk_at dksX0_dances_3 17 rfl rfl)
theorem dX0_dances_90 : decode cX0_dances 90 = .ok (.ifCond .eq 7, 3) := dk_153 0 7 (dk_at dksX0_dances_3 19 rfl rfl)
theorem dX0_dances_93 : decode cX0_dances 93 = .ok (.iconst 1, 1) := dk_4 (dk_at dksX0_dances_3 22 rfl rfl)
theorem dX0_dances_94 : decode cX0_dances 94 = .ok (.goto 4, 3) := dk_167 0 4 (dk_at dksX0_dances_4 0 rfl rfl)
theorem dX0_dances_97 : decode cX0_dances 97 = .ok (.iconst 0, 1) := dk_3 (dk_at dksX0_dances_4 3 rfl rfl)
theorem dX0_dances_98 : decode cX0_dances 98 = .ok (.iadd, 1) := dk_96 (dk_at dksX0_dances_4 4 rfl rfl)
theorem dX0_dances_99 : decode cX0_dances 99 = .ok (.putfield 435, 3) := dk_181 1 179 (dk_at dksX0_dances_4 5 rfl rfl)
theorem dX0_dances_102 : decode cX0_dances 102 = .ok (.aload_n 0, 1) := dk_42 (dk_at dksX0_dances_4 8 rfl rfl)
theorem dX0_dances_103 : decode cX0_dances 103 = .ok (.getfield 28, 3) := dk_180 0 28 (dk_at dksX0_dances_4 9 rfl rfl)
theorem dX0_dances_106 : decode cX0_dances 106 = .ok (.sipush 200, 3) := dk_17 0 200 (dk_at dksX0_dances_4 12 rfl rfl)
theorem dX0_dances_109 : decode cX0_dances 109 = .ok (.iload_n 1, 1) := dk_27 (dk_at dksX0_dances_4 15 rfl rfl)
theorem dX0_dances_110 : decode cX0_dances 110 = .ok (.imul, 1) := dk_104 (dk_at dksX0_dances_4 16 rfl rfl)
theorem dX0_dances_111 : decode cX0_dances 111 = .ok (.iload_n 2, 1) := dk_28 (dk_at dksX0_dances_4 17 rfl rfl)
theorem dX0_dances_112 : decode cX0_dances 112 = .ok (.iadd, 1) := dk_96 (dk_at dksX0_dances_4 18 rfl rfl)
theorem dX0_dances_113 : decode cX0_dances 113 = .ok (.iload 5, 2) := dk_21 5 (dk_at dksX0_dances_4 19 rfl rfl)
theorem dX0_dances_115 : decode cX0_dances 115 = .ok (.ifCond .eq 13, 3) := dk_153 0 13 (dk_at dksX0_dances_4 21 rfl rfl)
theorem dX0_dances_118 : decode cX0_dances 118 = .ok (.iload 4, 2) := dk_21 4 (dk_at dksX0_dances_5 0 rfl rfl)
theorem dX0_dances_120 : decode cX0_dances 120 = .ok (.iconst 1, 1) := dk_4 (dk_at dksX0_dances_5 2 rfl rfl)
theorem dX0_dances_121 : decode cX0_dances 121 = .ok (.iadd, 1) := dk_96 (dk_at dksX0_dances_5 3 rfl rfl)
theorem dX0_dances_122 : decode cX0_dances 122 = .ok (.bipush 6, 2) := dk_16 6 (dk_at dksX0_dances_5 4 rfl rfl)
theorem dX0_dances_124 : decode cX0_dances 124 = .ok (.irem, 1) := dk_112 (dk_at dksX0_dances_5 6 rfl rfl)
theorem dX0_dances_125 : decode cX0_dances 125 = .ok (.goto 5, 3) := dk_167 0 5 (dk_at dksX0_dances_5 7 rfl rfl)
theorem dX0_dances_128 : decode cX0_dances 128 = .ok (.iload 4, 2) := dk_21 4 (dk_at dksX0_dances_5 10 rfl rfl)
theorem dX0_dances_130 : decode cX0_dances 130 = .ok (.iastore, 1) := dk_79 (dk_at dksX0_dances_5 12 rfl rfl)
theorem dX0_dances_131 : decode cX0_dances 131 = .ok (.return_, 1) := dk_177 (dk_at dksX0_dances_5 13 rfl rfl)
abbrev cX0_nights : ByteArray := prog_1_method_108_code
def yX0_nights : MethodName := ⟨RX0, "nights", "(III)I"⟩
def dkwX0_nights_3 : List UInt8 := [21, 4, 172]
abbrev dktX0_nights_3 : List UInt8 := dkwX0_nights_3 ++ []
def dkwX0_nights_2 : List UInt8 := [21, 4, 42, 180, 1, 182, 154, 0, 7, 4, 167, 0, 4, 3, 96, 54, 4, 132, 5, 1, 167, 255, 219]
abbrev dktX0_nights_2 : List UInt8 := dkwX0_nights_2 ++ dktX0_nights_3
def dkwX0_nights_1 : List UInt8 := [3, 54, 4, 3, 54, 5, 21, 5, 28, 162, 0, 37, 42, 27, 133, 21, 5, 133, 97, 29, 182, 1, 207]
abbrev dktX0_nights_1 : List UInt8 := dkwX0_nights_1 ++ dktX0_nights_2
def dkwX0_nights_0 : List UInt8 := [42, 27, 29, 182, 1, 204, 153, 0, 15, 28, 133, 10, 20, 1, 211, 184, 0, 103, 154, 0, 6, 16, 254, 172]
abbrev dktX0_nights_0 : List UInt8 := dkwX0_nights_0 ++ dktX0_nights_1
theorem dksX0_nights_0 : cX0_nights.data.toList.drop 0 = dktX0_nights_0 := by decide +kernel
theorem dksX0_nights_1 : cX0_nights.data.toList.drop 24 = dktX0_nights_1 := dk_seg dksX0_nights_0 24 rfl rfl
theorem dksX0_nights_2 : cX0_nights.data.toList.drop 47 = dktX0_nights_2 := dk_seg dksX0_nights_1 23 rfl rfl
theorem dksX0_nights_3 : cX0_nights.data.toList.drop 70 = dktX0_nights_3 := dk_seg dksX0_nights_2 23 rfl rfl
theorem dX0_nights_0 : decode cX0_nights 0 = .ok (.aload_n 0, 1) := dk_42 (dk_at dksX0_nights_0 0 rfl rfl)
theorem dX0_nights_1 : decode cX0_nights 1 = .ok (.iload_n 1, 1) := dk_27 (dk_at dksX0_nights_0 1 rfl rfl)
theorem dX0_nights_2 : decode cX0_nights 2 = .ok (.iload_n 3, 1) := dk_29 (dk_at dksX0_nights_0 2 rfl rfl)
theorem dX0_nights_3 : decode cX0_nights 3 = .ok (.invokevirtual 460, 3) := dk_182 1 204 (dk_at dksX0_nights_0 3 rfl rfl)
theorem dX0_nights_6 : decode cX0_nights 6 = .ok (.ifCond .eq 15, 3) := dk_153 0 15 (dk_at dksX0_nights_0 6 rfl rfl)
theorem dX0_nights_9 : decode cX0_nights 9 = .ok (.iload_n 2, 1) := dk_28 (dk_at dksX0_nights_0 9 rfl rfl)
theorem dX0_nights_10 : decode cX0_nights 10 = .ok (.i2l, 1) := dk_133 (dk_at dksX0_nights_0 10 rfl rfl)
theorem dX0_nights_11 : decode cX0_nights 11 = .ok (.lconst 1, 1) := dk_10 (dk_at dksX0_nights_0 11 rfl rfl)
theorem dX0_nights_12 : decode cX0_nights 12 = .ok (.ldc2_w 467, 3) := dk_20 1 211 (dk_at dksX0_nights_0 12 rfl rfl)
theorem dX0_nights_15 : decode cX0_nights 15 = .ok (.invokestatic 103, 3) := dk_184 0 103 (dk_at dksX0_nights_0 15 rfl rfl)
theorem dX0_nights_18 : decode cX0_nights 18 = .ok (.ifCond .ne 6, 3) := dk_154 0 6 (dk_at dksX0_nights_0 18 rfl rfl)
theorem dX0_nights_21 : decode cX0_nights 21 = .ok (.bipush (-2), 2) := dk_16 254 (dk_at dksX0_nights_0 21 rfl rfl)
theorem dX0_nights_23 : decode cX0_nights 23 = .ok (.ireturn, 1) := dk_172 (dk_at dksX0_nights_0 23 rfl rfl)
theorem dX0_nights_24 : decode cX0_nights 24 = .ok (.iconst 0, 1) := dk_3 (dk_at dksX0_nights_1 0 rfl rfl)
theorem dX0_nights_25 : decode cX0_nights 25 = .ok (.istore 4, 2) := dk_54 4 (dk_at dksX0_nights_1 1 rfl rfl)
theorem dX0_nights_27 : decode cX0_nights 27 = .ok (.iconst 0, 1) := dk_3 (dk_at dksX0_nights_1 3 rfl rfl)
theorem dX0_nights_28 : decode cX0_nights 28 = .ok (.istore 5, 2) := dk_54 5 (dk_at dksX0_nights_1 4 rfl rfl)
theorem dX0_nights_30 : decode cX0_nights 30 = .ok (.iload 5, 2) := dk_21 5 (dk_at dksX0_nights_1 6 rfl rfl)
theorem dX0_nights_32 : decode cX0_nights 32 = .ok (.iload_n 2, 1) := dk_28 (dk_at dksX0_nights_1 8 rfl rfl)
theorem dX0_nights_33 : decode cX0_nights 33 = .ok (.if_icmp .ge 37, 3) := dk_162 0 37 (dk_at dksX0_nights_1 9 rfl rfl)
theorem dX0_nights_36 : decode cX0_nights 36 = .ok (.aload_n 0, 1) := dk_42 (dk_at dksX0_nights_1 12 rfl rfl)
theorem dX0_nights_37 : decode cX0_nights 37 = .ok (.iload_n 1, 1) := dk_27 (dk_at dksX0_nights_1 13 rfl rfl)
theorem dX0_nights_38 : decode cX0_nights 38 = .ok (.i2l, 1) := dk_133 (dk_at dksX0_nights_1 14 rfl rfl)
theorem dX0_nights_39 : decode cX0_nights 39 = .ok (.iload 5, 2) := dk_21 5 (dk_at dksX0_nights_1 15 rfl rfl)
theorem dX0_nights_41 : decode cX0_nights 41 = .ok (.i2l, 1) := dk_133 (dk_at dksX0_nights_1 17 rfl rfl)
theorem dX0_nights_42 : decode cX0_nights 42 = .ok (.ladd, 1) := dk_97 (dk_at dksX0_nights_1 18 rfl rfl)
theorem dX0_nights_43 : decode cX0_nights 43 = .ok (.iload_n 3, 1) := dk_29 (dk_at dksX0_nights_1 19 rfl rfl)
theorem dX0_nights_44 : decode cX0_nights 44 = .ok (.invokevirtual 463, 3) := dk_182 1 207 (dk_at dksX0_nights_1 20 rfl rfl)
theorem dX0_nights_47 : decode cX0_nights 47 = .ok (.iload 4, 2) := dk_21 4 (dk_at dksX0_nights_2 0 rfl rfl)
theorem dX0_nights_49 : decode cX0_nights 49 = .ok (.aload_n 0, 1) := dk_42 (dk_at dksX0_nights_2 2 rfl rfl)
theorem dX0_nights_50 : decode cX0_nights 50 = .ok (.getfield 438, 3) := dk_180 1 182 (dk_at dksX0_nights_2 3 rfl rfl)
theorem dX0_nights_53 : decode cX0_nights 53 = .ok (.ifCond .ne 7, 3) := dk_154 0 7 (dk_at dksX0_nights_2 6 rfl rfl)
theorem dX0_nights_56 : decode cX0_nights 56 = .ok (.iconst 1, 1) := dk_4 (dk_at dksX0_nights_2 9 rfl rfl)
theorem dX0_nights_57 : decode cX0_nights 57 = .ok (.goto 4, 3) := dk_167 0 4 (dk_at dksX0_nights_2 10 rfl rfl)
theorem dX0_nights_60 : decode cX0_nights 60 = .ok (.iconst 0, 1) := dk_3 (dk_at dksX0_nights_2 13 rfl rfl)
theorem dX0_nights_61 : decode cX0_nights 61 = .ok (.iadd, 1) := dk_96 (dk_at dksX0_nights_2 14 rfl rfl)
theorem dX0_nights_62 : decode cX0_nights 62 = .ok (.istore 4, 2) := dk_54 4 (dk_at dksX0_nights_2 15 rfl rfl)
theorem dX0_nights_64 : decode cX0_nights 64 = .ok (.iinc 5 1, 3) := dk_132 5 1 (dk_at dksX0_nights_2 17 rfl rfl)
theorem dX0_nights_67 : decode cX0_nights 67 = .ok (.goto (-37), 3) := dk_167 255 219 (dk_at dksX0_nights_2 20 rfl rfl)
theorem dX0_nights_70 : decode cX0_nights 70 = .ok (.iload 4, 2) := dk_21 4 (dk_at dksX0_nights_3 0 rfl rfl)
theorem dX0_nights_72 : decode cX0_nights 72 = .ok (.ireturn, 1) := dk_172 (dk_at dksX0_nights_3 2 rfl rfl)
abbrev cX0_stumble : ByteArray := prog_1_method_110_code
def yX0_stumble : MethodName := ⟨RX0, "stumble", "(IIII)I"⟩
def dkwX0_stumble_6 : List UInt8 := [42, 180, 0, 12, 89, 180, 0, 147, 4, 96, 181, 0, 147, 21, 5, 172]
abbrev dktX0_stumble_6 : List UInt8 := dkwX0_stumble_6 ++ []
def dkwX0_stumble_5 : List UInt8 := [79, 42, 180, 0, 12, 180, 0, 175, 21, 5, 29, 79, 42, 180, 0, 12, 180, 0, 178, 21, 5, 21, 4, 79]
abbrev dktX0_stumble_5 : List UInt8 := dkwX0_stumble_5 ++ dktX0_stumble_6
def dkwX0_stumble_4 : List UInt8 := [182, 1, 223, 42, 180, 0, 12, 180, 0, 169, 21, 5, 27, 79, 42, 180, 0, 12, 180, 0, 172, 21, 5, 28]
abbrev dktX0_stumble_4 : List UInt8 := dkwX0_stumble_4 ++ dktX0_stumble_5
def dkwX0_stumble_3 : List UInt8 := [160, 0, 15, 42, 180, 0, 12, 180, 1, 216, 16, 40, 160, 0, 6, 16, 251, 172, 42, 3, 3, 3]
abbrev dktX0_stumble_3 : List UInt8 := dkwX0_stumble_3 ++ dktX0_stumble_4
def dkwX0_stumble_2 : List UInt8 := [180, 0, 147, 54, 5, 21, 5, 16, 8, 159, 0, 28, 42, 180, 0, 12, 27, 28, 182, 1, 220, 2]
abbrev dktX0_stumble_2 : List UInt8 := dkwX0_stumble_2 ++ dktX0_stumble_3
def dkwX0_stumble_1 : List UInt8 := [153, 0, 16, 21, 4, 133, 9, 20, 1, 156, 184, 0, 103, 154, 0, 6, 16, 254, 172, 42, 180, 0, 12]
abbrev dktX0_stumble_1 : List UInt8 := dkwX0_stumble_1 ++ dktX0_stumble_2
def dkwX0_stumble_0 : List UInt8 := [42, 27, 182, 0, 140, 153, 0, 34, 42, 28, 133, 182, 0, 181, 153, 0, 25, 42, 29, 133, 182, 0, 159]
abbrev dktX0_stumble_0 : List UInt8 := dkwX0_stumble_0 ++ dktX0_stumble_1
theorem dksX0_stumble_0 : cX0_stumble.data.toList.drop 0 = dktX0_stumble_0 := by decide +kernel
theorem dksX0_stumble_1 : cX0_stumble.data.toList.drop 23 = dktX0_stumble_1 := dk_seg dksX0_stumble_0 23 rfl rfl
theorem dksX0_stumble_2 : cX0_stumble.data.toList.drop 46 = dktX0_stumble_2 := dk_seg dksX0_stumble_1 23 rfl rfl
theorem dksX0_stumble_3 : cX0_stumble.data.toList.drop 68 = dktX0_stumble_3 := dk_seg dksX0_stumble_2 22 rfl rfl
theorem dksX0_stumble_4 : cX0_stumble.data.toList.drop 90 = dktX0_stumble_4 := dk_seg dksX0_stumble_3 22 rfl rfl
theorem dksX0_stumble_5 : cX0_stumble.data.toList.drop 114 = dktX0_stumble_5 := dk_seg dksX0_stumble_4 24 rfl rfl
theorem dksX0_stumble_6 : cX0_stumble.data.toList.drop 138 = dktX0_stumble_6 := dk_seg dksX0_stumble_5 24 rfl rfl
theorem dX0_stumble_0 : decode cX0_stumble 0 = .ok (.aload_n 0, 1) := dk_42 (dk_at dksX0_stumble_0 0 rfl rfl)
theorem dX0_stumble_1 : decode cX0_stumble 1 = .ok (.iload_n 1, 1) := dk_27 (dk_at dksX0_stumble_0 1 rfl rfl)
theorem dX0_stumble_2 : decode cX0_stumble 2 = .ok (.invokevirtual 140, 3) := dk_182 0 140 (dk_at dksX0_stumble_0 2 rfl rfl)
theorem dX0_stumble_5 : decode cX0_stumble 5 = .ok (.ifCond .eq 34, 3) := dk_153 0 34 (dk_at dksX0_stumble_0 5 rfl rfl)
theorem dX0_stumble_8 : decode cX0_stumble 8 = .ok (.aload_n 0, 1) := dk_42 (dk_at dksX0_stumble_0 8 rfl rfl)
theorem dX0_stumble_9 : decode cX0_stumble 9 = .ok (.iload_n 2, 1) := dk_28 (dk_at dksX0_stumble_0 9 rfl rfl)
theorem dX0_stumble_10 : decode cX0_stumble 10 = .ok (.i2l, 1) := dk_133 (dk_at dksX0_stumble_0 10 rfl rfl)
theorem dX0_stumble_11 : decode cX0_stumble 11 = .ok (.invokevirtual 181, 3) := dk_182 0 181 (dk_at dksX0_stumble_0 11 rfl rfl)
theorem dX0_stumble_14 : decode cX0_stumble 14 = .ok (.ifCond .eq 25, 3) := dk_153 0 25 (dk_at dksX0_stumble_0 14 rfl rfl)
theorem dX0_stumble_17 : decode cX0_stumble 17 = .ok (.aload_n 0, 1) := dk_42 (dk_at dksX0_stumble_0 17 rfl rfl)
theorem dX0_stumble_18 : decode cX0_stumble 18 = .ok (.iload_n 3, 1) := dk_29 (dk_at dksX0_stumble_0 18 rfl rfl)
theorem dX0_stumble_19 : decode cX0_stumble 19 = .ok (.i2l, 1) := dk_133 (dk_at dksX0_stumble_0 19 rfl rfl)
theorem dX0_stumble_20 : decode cX0_stumble 20 = .ok (.invokevirtual 159, 3) := dk_182 0 159 (dk_at dksX0_stumble_0 20 rfl rfl)
theorem dX0_stumble_23 : decode cX0_stumble 23 = .ok (.ifCond .eq 16, 3) := dk_153 0 16 (dk_at dksX0_stumble_1 0 rfl rfl)
theorem dX0_stumble_26 : decode cX0_stumble 26 = .ok (.iload 4, 2) := dk_21 4 (dk_at dksX0_stumble_1 3 rfl rfl)
theorem dX0_stumble_28 : decode cX0_stumble 28 = .ok (.i2l, 1) := dk_133 (dk_at dksX0_stumble_1 5 rfl rfl)
theorem dX0_stumble_29 : decode cX0_stumble 29 = .ok (.lconst 0, 1) := dk_9 (dk_at dksX0_stumble_1 6 rfl rfl)
theorem dX0_stumble_30 : decode cX0_stumble 30 = .ok (.ldc2_w 412, 3) := dk_20 1 156 (dk_at dksX0_stumble_1 7 rfl rfl)
theorem dX0_stumble_33 : decode cX0_stumble 33 = .ok (.invokestatic 103, 3) := dk_184 0 103 (dk_at dksX0_stumble_1 10 rfl rfl)
theorem dX0_stumble_36 : decode cX0_stumble 36 = .ok (.ifCond .ne 6, 3) := dk_154 0 6 (dk_at dksX0_stumble_1 13 rfl rfl)
theorem dX0_stumble_39 : decode cX0_stumble 39 = .ok (.bipush (-2), 2) := dk_16 254 (dk_at dksX0_stumble_1 16 rfl rfl)
theorem dX0_stumble_41 : decode cX0_stumble 41 = .ok (.ireturn, 1) := dk_172 (dk_at dksX0_stumble_1 18 rfl rfl)
theorem dX0_stumble_42 : decode cX0_stumble 42 = .ok (.aload_n 0, 1) := dk_42 (dk_at dksX0_stumble_1 19 rfl rfl)
theorem dX0_stumble_43 : decode cX0_stumble 43 = .ok (.getfield 12, 3) := dk_180 0 12 (dk_at dksX0_stumble_1 20 rfl rfl)
theorem dX0_stumble_46 : decode cX0_stumble 46 = .ok (.getfield 147, 3) := dk_180 0 147 (dk_at dksX0_stumble_2 0 rfl rfl)
theorem dX0_stumble_49 : decode cX0_stumble 49 = .ok (.istore 5, 2) := dk_54 5 (dk_at dksX0_stumble_2 3 rfl rfl)
theorem dX0_stumble_51 : decode cX0_stumble 51 = .ok (.iload 5, 2) := dk_21 5 (dk_at dksX0_stumble_2 5 rfl rfl)
theorem dX0_stumble_53 : decode cX0_stumble 53 = .ok (.bipush 8, 2) := dk_16 8 (dk_at dksX0_stumble_2 7 rfl rfl)
theorem dX0_stumble_55 : decode cX0_stumble 55 = .ok (.if_icmp .eq 28, 3) := dk_159 0 28 (dk_at dksX0_stumble_2 9 rfl rfl)
theorem dX0_stumble_58 : decode cX0_stumble 58 = .ok (.aload_n 0, 1) := dk_42 (dk_at dksX0_stumble_2 12 rfl rfl)
theorem dX0_stumble_59 : decode cX0_stumble 59 = .ok (.getfield 12, 3) := dk_180 0 12 (dk_at dksX0_stumble_2 13 rfl rfl)
theorem dX0_stumble_62 : decode cX0_stumble 62 = .ok (.iload_n 1, 1) := dk_27 (dk_at dksX0_stumble_2 16 rfl rfl)
theorem dX0_stumble_63 : decode cX0_stumble 63 = .ok (.iload_n 2, 1) := dk_28 (dk_at dksX0_stumble_2 17 rfl rfl)
theorem dX0_stumble_64 : decode cX0_stumble 64 = .ok (.invokevirtual 476, 3) := dk_182 1 220 (dk_at dksX0_stumble_2 18 rfl rfl)
theorem dX0_stumble_67 : decode cX0_stumble 67 = .ok (.iconst (-1), 1) := dk_2 (dk_at dksX0_stumble_2 21 rfl rfl)
theorem dX0_stumble_68 : decode cX0_stumble 68 = .ok (.if_icmp .ne 15, 3) := dk_160 0 15 (dk_at dksX0_stumble_3 0 rfl rfl)
theorem dX0_stumble_71 : decode cX0_stumble 71 = .ok (.aload_n 0, 1) := dk_42 (dk_at dksX0_stumble_3 3 rfl rfl)
theorem dX0_stumble_72 : decode cX0_stumble 72 = .ok (.getfield 12, 3) := dk_180 0 12 (dk_at dksX0_stumble_3 4 rfl rfl)
theorem dX0_stumble_75 : decode cX0_stumble 75 = .ok (.getfield 472, 3) := dk_180 1 216 (dk_at dksX0_stumble_3 7 rfl rfl)
theorem dX0_stumble_78 : decode cX0_stumble 78 = .ok (.bipush 40, 2) := dk_16 40 (dk_at dksX0_stumble_3 10 rfl rfl)
theorem dX0_stumble_80 : decode cX0_stumble 80 = .ok (.if_icmp .ne 6, 3) := dk_160 0 6 (dk_at dksX0_stumble_3 12 rfl rfl)
theorem dX0_stumble_83 : decode cX0_stumble 83 = .ok (.bipush (-5), 2) := dk_16 251 (dk_at dksX0_stumble_3 15 rfl rfl)
theorem dX0_stumble_85 : decode cX0_stumble 85 = .ok (.ireturn, 1) := dk_172 (dk_at dksX0_stumble_3 17 rfl rfl)
theorem dX0_stumble_86 : decode cX0_stumble 86 = .ok (.aload_n 0, 1) := dk_42 (dk_at dksX0_stumble_3 18 rfl rfl)
theorem dX0_stumble_87 : decode cX0_stumble 87 = .ok (.iconst 0, 1) := dk_3 (dk_at dksX0_stumble_3 19 rfl rfl)
theorem dX0_stumble_88 : decode cX0_stumble 88 = .ok (.iconst 0, 1) := dk_3 (dk_at dksX0_stumble_3 20 rfl rfl)
theorem dX0_stumble_89 : decode cX0_stumble 89 = .ok (.iconst 0, 1) := dk_3 (dk_at dksX0_stumble_3 21 rfl rfl)
theorem dX0_stumble_90 : decode cX0_stumble 90 = .ok (.invokevirtual 479, 3) := dk_182 1 223 (dk_at dksX0_stumble_4 0 rfl rfl)
theorem dX0_stumble_93 : decode cX0_stumble 93 = .ok (.aload_n 0, 1) := dk_42 (dk_at dksX0_stumble_4 3 rfl rfl)
theorem dX0_stumble_94 : decode cX0_stumble 94 = .ok (.getfield 12, 3) := dk_180 0 12 (dk_at dksX0_stumble_4 4 rfl rfl)
theorem dX0_stumble_97 : decode cX0_stumble 97 = .ok (.getfield 169, 3) := dk_180 0 169 (dk_at dksX0_stumble_4 7 rfl rfl)
theorem dX0_stumble_100 : decode cX0_stumble 100 = .ok (.iload 5, 2) := dk_21 5 (dk_at dksX0_stumble_4 10 rfl rfl)
theorem dX0_stumble_102 : decode cX0_stumble 102 = .ok (.iload_n 1, 1) := dk_27 (dk_at dksX0_stumble_4 12 rfl rfl)
theorem dX0_stumble_103 : decode cX0_stumble 103 = .ok (.iastore, 1) := dk_79 (dk_at dksX0_stumble_4 13 rfl rfl)
theorem dX0_stumble_104 : decode cX0_stumble 104 = .ok (.aload_n 0, 1) := dk_42 (dk_at dksX0_stumble_4 14 rfl rfl)
theorem dX0_stumble_105 : decode cX0_stumble 105 = .ok (.getfield 12, 3) := dk_180 0 12 (dk_at dksX0_stumble_4 15 rfl rfl)
theorem dX0_stumble_108 : decode cX0_stumble 108 = .ok (.getfield 172, 3) := dk_180 0 172 (dk_at dksX0_stumble_4 18 rfl rfl)
theorem dX0_stumble_111 : decode cX0_stumble 111 = .ok (.iload 5, 2) := dk_21 5 (dk_at dksX0_stumble_4 21 rfl rfl)
theorem dX0_stumble_113 : decode cX0_stumble 113 = .ok (.iload_n 2, 1) := dk_28 (dk_at dksX0_stumble_4 23 rfl rfl)
theorem dX0_stumble_114 : decode cX0_stumble 114 = .ok (.iastore, 1) := dk_79 (dk_at dksX0_stumble_5 0 rfl rfl)
theorem dX0_stumble_115 : decode cX0_stumble 115 = .ok (.aload_n 0, 1) := dk_42 (dk_at dksX0_stumble_5 1 rfl rfl)
theorem dX0_stumble_116 : decode cX0_stumble 116 = .ok (.getfield 12, 3) := dk_180 0 12 (dk_at dksX0_stumble_5 2 rfl rfl)
theorem dX0_stumble_119 : decode cX0_stumble 119 = .ok (.getfield 175, 3) := dk_180 0 175 (dk_at dksX0_stumble_5 5 rfl rfl)
theorem dX0_stumble_122 : decode cX0_stumble 122 = .ok (.iload 5, 2) := dk_21 5 (dk_at dksX0_stumble_5 8 rfl rfl)
theorem dX0_stumble_124 : decode cX0_stumble 124 = .ok (.iload_n 3, 1) := dk_29 (dk_at dksX0_stumble_5 10 rfl rfl)
theorem dX0_stumble_125 : decode cX0_stumble 125 = .ok (.iastore, 1) := dk_79 (dk_at dksX0_stumble_5 11 rfl rfl)
theorem dX0_stumble_126 : decode cX0_stumble 126 = .ok (.aload_n 0, 1) := dk_42 (dk_at dksX0_stumble_5 12 rfl rfl)
theorem dX0_stumble_127 : decode cX0_stumble 127 = .ok (.getfield 12, 3) := dk_180 0 12 (dk_at dksX0_stumble_5 13 rfl rfl)
theorem dX0_stumble_130 : decode cX0_stumble 130 = .ok (.getfield 178, 3) := dk_180 0 178 (dk_at dksX0_stumble_5 16 rfl rfl)
theorem dX0_stumble_133 : decode cX0_stumble 133 = .ok (.iload 5, 2) := dk_21 5 (dk_at dksX0_stumble_5 19 rfl rfl)
theorem dX0_stumble_135 : decode cX0_stumble 135 = .ok (.iload 4, 2) := dk_21 4 (dk_at dksX0_stumble_5 21 rfl rfl)
theorem dX0_stumble_137 : decode cX0_stumble 137 = .ok (.iastore, 1) := dk_79 (dk_at dksX0_stumble_5 23 rfl rfl)
theorem dX0_stumble_138 : decode cX0_stumble 138 = .ok (.aload_n 0, 1) := dk_42 (dk_at dksX0_stumble_6 0 rfl rfl)
theorem dX0_stumble_139 : decode cX0_stumble 139 = .ok (.getfield 12, 3) := dk_180 0 12 (dk_at dksX0_stumble_6 1 rfl rfl)
theorem dX0_stumble_142 : decode cX0_stumble 142 = .ok (.dup, 1) := dk_89 (dk_at dksX0_stumble_6 4 rfl rfl)
theorem dX0_stumble_143 : decode cX0_stumble 143 = .ok (.getfield 147, 3) := dk_180 0 147 (dk_at dksX0_stumble_6 5 rfl rfl)
theorem dX0_stumble_146 : decode cX0_stumble 146 = .ok (.iconst 1, 1) := dk_4 (dk_at dksX0_stumble_6 8 rfl rfl)
theorem dX0_stumble_147 : decode cX0_stumble 147 = .ok (.iadd, 1) := dk_96 (dk_at dksX0_stumble_6 9 rfl rfl)
theorem dX0_stumble_148 : decode cX0_stumble 148 = .ok (.putfield 147, 3) := dk_181 0 147 (dk_at dksX0_stumble_6 10 rfl rfl)
theorem dX0_stumble_151 : decode cX0_stumble 151 = .ok (.iload 5, 2) := dk_21 5 (dk_at dksX0_stumble_6 13 rfl rfl)
theorem dX0_stumble_153 : decode cX0_stumble 153 = .ok (.ireturn, 1) := dk_172 (dk_at dksX0_stumble_6 15 rfl rfl)
abbrev cX0_keeps : ByteArray := prog_1_method_109_code
def yX0_keeps : MethodName := ⟨RX0, "keeps", "(III)V"⟩
def dkwX0_keeps_1 : List UInt8 := [29, 96, 79, 42, 180, 0, 12, 89, 180, 1, 216, 4, 96, 181, 1, 216, 177]
abbrev dktX0_keeps_1 : List UInt8 := dkwX0_keeps_1 ++ []
def dkwX0_keeps_0 : List UInt8 := [42, 180, 0, 12, 180, 1, 213, 42, 180, 0, 12, 180, 1, 216, 19, 1, 219, 27, 104, 16, 10, 28, 104, 96]
abbrev dktX0_keeps_0 : List UInt8 := dkwX0_keeps_0 ++ dktX0_keeps_1
theorem dksX0_keeps_0 : cX0_keeps.data.toList.drop 0 = dktX0_keeps_0 := by decide +kernel
theorem dksX0_keeps_1 : cX0_keeps.data.toList.drop 24 = dktX0_keeps_1 := dk_seg dksX0_keeps_0 24 rfl rfl
theorem dX0_keeps_0 : decode cX0_keeps 0 = .ok (.aload_n 0, 1) := dk_42 (dk_at dksX0_keeps_0 0 rfl rfl)
theorem dX0_keeps_1 : decode cX0_keeps 1 = .ok (.getfield 12, 3) := dk_180 0 12 (dk_at dksX0_keeps_0 1 rfl rfl)
theorem dX0_keeps_4 : decode cX0_keeps 4 = .ok (.getfield 469, 3) := dk_180 1 213 (dk_at dksX0_keeps_0 4 rfl rfl)
theorem dX0_keeps_7 : decode cX0_keeps 7 = .ok (.aload_n 0, 1) := dk_42 (dk_at dksX0_keeps_0 7 rfl rfl)
theorem dX0_keeps_8 : decode cX0_keeps 8 = .ok (.getfield 12, 3) := dk_180 0 12 (dk_at dksX0_keeps_0 8 rfl rfl)
theorem dX0_keeps_11 : decode cX0_keeps 11 = .ok (.getfield 472, 3) := dk_180 1 216 (dk_at dksX0_keeps_0 11 rfl rfl)
theorem dX0_keeps_14 : decode cX0_keeps 14 = .ok (.ldc_w 475, 3) := dk_19 1 219 (dk_at dksX0_keeps_0 14 rfl rfl)
theorem dX0_keeps_17 : decode cX0_keeps 17 = .ok (.iload_n 1, 1) := dk_27 (dk_at dksX0_keeps_0 17 rfl rfl)
theorem dX0_keeps_18 : decode cX0_keeps 18 = .ok (.imul, 1) := dk_104 (dk_at dksX0_keeps_0 18 rfl rfl)
theorem dX0_keeps_19 : decode cX0_keeps 19 = .ok (.bipush 10, 2) := dk_16 10 (dk_at dksX0_keeps_0 19 rfl rfl)
theorem dX0_keeps_21 : decode cX0_keeps 21 = .ok (.iload_n 2, 1) := dk_28 (dk_at dksX0_keeps_0 21 rfl rfl)
theorem dX0_keeps_22 : decode cX0_keeps 22 = .ok (.imul, 1) := dk_104 (dk_at dksX0_keeps_0 22 rfl rfl)
theorem dX0_keeps_23 : decode cX0_keeps 23 = .ok (.iadd, 1) := dk_96 (dk_at dksX0_keeps_0 23 rfl rfl)
theorem dX0_keeps_24 : decode cX0_keeps 24 = .ok (.iload_n 3, 1) := dk_29 (dk_at dksX0_keeps_1 0 rfl rfl)
theorem dX0_keeps_25 : decode cX0_keeps 25 = .ok (.iadd, 1) := dk_96 (dk_at dksX0_keeps_1 1 rfl rfl)
theorem dX0_keeps_26 : decode cX0_keeps 26 = .ok (.iastore, 1) := dk_79 (dk_at dksX0_keeps_1 2 rfl rfl)
theorem dX0_keeps_27 : decode cX0_keeps 27 = .ok (.aload_n 0, 1) := dk_42 (dk_at dksX0_keeps_1 3 rfl rfl)
theorem dX0_keeps_28 : decode cX0_keeps 28 = .ok (.getfield 12, 3) := dk_180 0 12 (dk_at dksX0_keeps_1 4 rfl rfl)
theorem dX0_keeps_31 : decode cX0_keeps 31 = .ok (.dup, 1) := dk_89 (dk_at dksX0_keeps_1 7 rfl rfl)
theorem dX0_keeps_32 : decode cX0_keeps 32 = .ok (.getfield 472, 3) := dk_180 1 216 (dk_at dksX0_keeps_1 8 rfl rfl)
theorem dX0_keeps_35 : decode cX0_keeps 35 = .ok (.iconst 1, 1) := dk_4 (dk_at dksX0_keeps_1 11 rfl rfl)
theorem dX0_keeps_36 : decode cX0_keeps 36 = .ok (.iadd, 1) := dk_96 (dk_at dksX0_keeps_1 12 rfl rfl)
theorem dX0_keeps_37 : decode cX0_keeps 37 = .ok (.putfield 472, 3) := dk_181 1 216 (dk_at dksX0_keeps_1 13 rfl rfl)
theorem dX0_keeps_40 : decode cX0_keeps 40 = .ok (.return_, 1) := dk_177 (dk_at dksX0_keeps_1 16 rfl rfl)
abbrev cX0_mud : ByteArray := prog_1_method_111_code
def yX0_mud : MethodName := ⟨RX0, "mud", "(II)I"⟩
def dkwX0_mud_3 : List UInt8 := [160, 0, 7, 4, 167, 0, 4, 3, 84, 29, 172]
abbrev dktX0_mud_3 : List UInt8 := dkwX0_mud_3 ++ []
def dkwX0_mud_2 : List UInt8 := [167, 0, 4, 3, 62, 42, 4, 27, 29, 182, 1, 223, 42, 180, 0, 12, 180, 0, 184, 27, 28, 4]
abbrev dktX0_mud_2 : List UInt8 := dkwX0_mud_2 ++ dktX0_mud_3
def dkwX0_mud_1 : List UInt8 := [180, 1, 216, 16, 40, 160, 0, 6, 16, 251, 172, 42, 180, 0, 12, 180, 0, 184, 27, 51, 153, 0, 7, 4]
abbrev dktX0_mud_1 : List UInt8 := dkwX0_mud_1 ++ dktX0_mud_2
def dkwX0_mud_0 : List UInt8 := [42, 27, 133, 182, 0, 181, 153, 0, 11, 28, 5, 184, 0, 132, 154, 0, 6, 16, 254, 172, 42, 180, 0, 12]
abbrev dktX0_mud_0 : List UInt8 := dkwX0_mud_0 ++ dktX0_mud_1
theorem dksX0_mud_0 : cX0_mud.data.toList.drop 0 = dktX0_mud_0 := by decide +kernel
theorem dksX0_mud_1 : cX0_mud.data.toList.drop 24 = dktX0_mud_1 := dk_seg dksX0_mud_0 24 rfl rfl
theorem dksX0_mud_2 : cX0_mud.data.toList.drop 48 = dktX0_mud_2 := dk_seg dksX0_mud_1 24 rfl rfl
theorem dksX0_mud_3 : cX0_mud.data.toList.drop 70 = dktX0_mud_3 := dk_seg dksX0_mud_2 22 rfl rfl
theorem dX0_mud_0 : decode cX0_mud 0 = .ok (.aload_n 0, 1) := dk_42 (dk_at dksX0_mud_0 0 rfl rfl)
theorem dX0_mud_1 : decode cX0_mud 1 = .ok (.iload_n 1, 1) := dk_27 (dk_at dksX0_mud_0 1 rfl rfl)
theorem dX0_mud_2 : decode cX0_mud 2 = .ok (.i2l, 1) := dk_133 (dk_at dksX0_mud_0 2 rfl rfl)
theorem dX0_mud_3 : decode cX0_mud 3 = .ok (.invokevirtual 181, 3) := dk_182 0 181 (dk_at dksX0_mud_0 3 rfl rfl)
theorem dX0_mud_6 : decode cX0_mud 6 = .ok (.ifCond .eq 11, 3) := dk_153 0 11 (dk_at dksX0_mud_0 6 rfl rfl)
theorem dX0_mud_9 : decode cX0_mud 9 = .ok (.iload_n 2, 1) := dk_28 (dk_at dksX0_mud_0 9 rfl rfl)
theorem dX0_mud_10 : decode cX0_mud 10 = .ok (.iconst 2, 1) := dk_5 (dk_at dksX0_mud_0 10 rfl rfl)
theorem dX0_mud_11 : decode cX0_mud 11 = .ok (.invokestatic 132, 3) := dk_184 0 132 (dk_at dksX0_mud_0 11 rfl rfl)
theorem dX0_mud_14 : decode cX0_mud 14 = .ok (.ifCond .ne 6, 3) := dk_154 0 6 (dk_at dksX0_mud_0 14 rfl rfl)
theorem dX0_mud_17 : decode cX0_mud 17 = .ok (.bipush (-2), 2) := dk_16 254 (dk_at dksX0_mud_0 17 rfl rfl)
theorem dX0_mud_19 : decode cX0_mud 19 = .ok (.ireturn, 1) := dk_172 (dk_at dksX0_mud_0 19 rfl rfl)
theorem dX0_mud_20 : decode cX0_mud 20 = .ok (.aload_n 0, 1) := dk_42 (dk_at dksX0_mud_0 20 rfl rfl)
theorem dX0_mud_21 : decode cX0_mud 21 = .ok (.getfield 12, 3) := dk_180 0 12 (dk_at dksX0_mud_0 21 rfl rfl)
theorem dX0_mud_24 : decode cX0_mud 24 = .ok (.getfield 472, 3) := dk_180 1 216 (dk_at dksX0_mud_1 0 rfl rfl)
theorem dX0_mud_27 : decode cX0_mud 27 = .ok (.bipush 40, 2) := dk_16 40 (dk_at dksX0_mud_1 3 rfl rfl)
theorem dX0_mud_29 : decode cX0_mud 29 = .ok (.if_icmp .ne 6, 3) := dk_160 0 6 (dk_at dksX0_mud_1 5 rfl rfl)
theorem dX0_mud_32 : decode cX0_mud 32 = .ok (.bipush (-5), 2) := dk_16 251 (dk_at dksX0_mud_1 8 rfl rfl)
theorem dX0_mud_34 : decode cX0_mud 34 = .ok (.ireturn, 1) := dk_172 (dk_at dksX0_mud_1 10 rfl rfl)
theorem dX0_mud_35 : decode cX0_mud 35 = .ok (.aload_n 0, 1) := dk_42 (dk_at dksX0_mud_1 11 rfl rfl)
theorem dX0_mud_36 : decode cX0_mud 36 = .ok (.getfield 12, 3) := dk_180 0 12 (dk_at dksX0_mud_1 12 rfl rfl)
theorem dX0_mud_39 : decode cX0_mud 39 = .ok (.getfield 184, 3) := dk_180 0 184 (dk_at dksX0_mud_1 15 rfl rfl)
theorem dX0_mud_42 : decode cX0_mud 42 = .ok (.iload_n 1, 1) := dk_27 (dk_at dksX0_mud_1 18 rfl rfl)
theorem dX0_mud_43 : decode cX0_mud 43 = .ok (.baload, 1) := dk_51 (dk_at dksX0_mud_1 19 rfl rfl)
theorem dX0_mud_44 : decode cX0_mud 44 = .ok (.ifCond .eq 7, 3) := dk_153 0 7 (dk_at dksX0_mud_1 20 rfl rfl)
theorem dX0_mud_47 : decode cX0_mud 47 = .ok (.iconst 1, 1) := dk_4 (dk_at dksX0_mud_1 23 rfl rfl)
theorem dX0_mud_48 : decode cX0_mud 48 = .ok (.goto 4, 3) := dk_167 0 4 (dk_at dksX0_mud_2 0 rfl rfl)
theorem dX0_mud_51 : decode cX0_mud 51 = .ok (.iconst 0, 1) := dk_3 (dk_at dksX0_mud_2 3 rfl rfl)
theorem dX0_mud_52 : decode cX0_mud 52 = .ok (.istore_n 3, 1) := dk_62 (dk_at dksX0_mud_2 4 rfl rfl)
theorem dX0_mud_53 : decode cX0_mud 53 = .ok (.aload_n 0, 1) := dk_42 (dk_at dksX0_mud_2 5 rfl rfl)
theorem dX0_mud_54 : decode cX0_mud 54 = .ok (.iconst 1, 1) := dk_4 (dk_at dksX0_mud_2 6 rfl rfl)
theorem dX0_mud_55 : decode cX0_mud 55 = .ok (.iload_n 1, 1) := dk_27 (dk_at dksX0_mud_2 7 rfl rfl)
theorem dX0_mud_56 : decode cX0_mud 56 = .ok (.iload_n 3, 1) := dk_29 (dk_at dksX0_mud_2 8 rfl rfl)
theorem dX0_mud_57 : decode cX0_mud 57 = .ok (.invokevirtual 479, 3) := dk_182 1 223 (dk_at dksX0_mud_2 9 rfl rfl)
theorem dX0_mud_60 : decode cX0_mud 60 = .ok (.aload_n 0, 1) := dk_42 (dk_at dksX0_mud_2 12 rfl rfl)
theorem dX0_mud_61 : decode cX0_mud 61 = .ok (.getfield 12, 3) := dk_180 0 12 (dk_at dksX0_mud_2 13 rfl rfl)
theorem dX0_mud_64 : decode cX0_mud 64 = .ok (.getfield 184, 3) := dk_180 0 184 (dk_at dksX0_mud_2 16 rfl rfl)
theorem dX0_mud_67 : decode cX0_mud 67 = .ok (.iload_n 1, 1) := dk_27 (dk_at dksX0_mud_2 19 rfl rfl)
theorem dX0_mud_68 : decode cX0_mud 68 = .ok (.iload_n 2, 1) := dk_28 (dk_at dksX0_mud_2 20 rfl rfl)
theorem dX0_mud_69 : decode cX0_mud 69 = .ok (.iconst 1, 1) := dk_4 (dk_at dksX0_mud_2 21 rfl rfl)
theorem dX0_mud_70 : decode cX0_mud 70 = .ok (.if_icmp .ne 7, 3) := dk_160 0 7 (dk_at dksX0_mud_3 0 rfl rfl)
theorem dX0_mud_73 : decode cX0_mud 73 = .ok (.iconst 1, 1) := dk_4 (dk_at dksX0_mud_3 3 rfl rfl)
theorem dX0_mud_74 : decode cX0_mud 74 = .ok (.goto 4, 3) := dk_167 0 4 (dk_at dksX0_mud_3 4 rfl rfl)
theorem dX0_mud_77 : decode cX0_mud 77 = .ok (.iconst 0, 1) := dk_3 (dk_at dksX0_mud_3 7 rfl rfl)
theorem dX0_mud_78 : decode cX0_mud 78 = .ok (.bastore, 1) := dk_84 (dk_at dksX0_mud_3 8 rfl rfl)
theorem dX0_mud_79 : decode cX0_mud 79 = .ok (.iload_n 3, 1) := dk_29 (dk_at dksX0_mud_3 9 rfl rfl)
theorem dX0_mud_80 : decode cX0_mud 80 = .ok (.ireturn, 1) := dk_172 (dk_at dksX0_mud_3 10 rfl rfl)
abbrev cX0_teach : ByteArray := prog_1_method_112_code
def yX0_teach : MethodName := ⟨RX0, "teach", "(III)I"⟩
def dkwX0_teach_3 : List UInt8 := [27, 104, 28, 96, 29, 79, 21, 4, 172]
abbrev dktX0_teach_3 : List UInt8 := dkwX0_teach_3 ++ []
def dkwX0_teach_2 : List UInt8 := [54, 4, 42, 5, 16, 12, 27, 104, 28, 96, 21, 4, 182, 1, 223, 42, 180, 0, 12, 180, 1, 227, 16, 12]
abbrev dktX0_teach_2 : List UInt8 := dkwX0_teach_2 ++ dktX0_teach_3
def dkwX0_teach_1 : List UInt8 := [180, 0, 12, 180, 1, 216, 16, 40, 160, 0, 6, 16, 251, 172, 42, 180, 0, 12, 27, 28, 182, 0, 155]
abbrev dktX0_teach_1 : List UInt8 := dkwX0_teach_1 ++ dktX0_teach_2
def dkwX0_teach_0 : List UInt8 := [42, 27, 28, 182, 0, 152, 153, 0, 12, 42, 29, 133, 182, 0, 159, 154, 0, 6, 16, 254, 172, 42]
abbrev dktX0_teach_0 : List UInt8 := dkwX0_teach_0 ++ dktX0_teach_1
theorem dksX0_teach_0 : cX0_teach.data.toList.drop 0 = dktX0_teach_0 := by decide +kernel
theorem dksX0_teach_1 : cX0_teach.data.toList.drop 22 = dktX0_teach_1 := dk_seg dksX0_teach_0 22 rfl rfl
theorem dksX0_teach_2 : cX0_teach.data.toList.drop 45 = dktX0_teach_2 := dk_seg dksX0_teach_1 23 rfl rfl
theorem dksX0_teach_3 : cX0_teach.data.toList.drop 69 = dktX0_teach_3 := dk_seg dksX0_teach_2 24 rfl rfl
theorem dX0_teach_0 : decode cX0_teach 0 = .ok (.aload_n 0, 1) := dk_42 (dk_at dksX0_teach_0 0 rfl rfl)
theorem dX0_teach_1 : decode cX0_teach 1 = .ok (.iload_n 1, 1) := dk_27 (dk_at dksX0_teach_0 1 rfl rfl)
theorem dX0_teach_2 : decode cX0_teach 2 = .ok (.iload_n 2, 1) := dk_28 (dk_at dksX0_teach_0 2 rfl rfl)
theorem dX0_teach_3 : decode cX0_teach 3 = .ok (.invokevirtual 152, 3) := dk_182 0 152 (dk_at dksX0_teach_0 3 rfl rfl)
theorem dX0_teach_6 : decode cX0_teach 6 = .ok (.ifCond .eq 12, 3) := dk_153 0 12 (dk_at dksX0_teach_0 6 rfl rfl)
theorem dX0_teach_9 : decode cX0_teach 9 = .ok (.aload_n 0, 1) := dk_42 (dk_at dksX0_teach_0 9 rfl rfl)
theorem dX0_teach_10 : decode cX0_teach 10 = .ok (.iload_n 3, 1) := dk_29 (dk_at dksX0_teach_0 10 rfl rfl)
theorem dX0_teach_11 : decode cX0_teach 11 = .ok (.i2l, 1) := dk_133 (dk_at dksX0_teach_0 11 rfl rfl)
theorem dX0_teach_12 : decode cX0_teach 12 = .ok (.invokevirtual 159, 3) := dk_182 0 159 (dk_at dksX0_teach_0 12 rfl rfl)
theorem dX0_teach_15 : decode cX0_teach 15 = .ok (.ifCond .ne 6, 3) := dk_154 0 6 (dk_at dksX0_teach_0 15 rfl rfl)
theorem dX0_teach_18 : decode cX0_teach 18 = .ok (.bipush (-2), 2) := dk_16 254 (dk_at dksX0_teach_0 18 rfl rfl)
theorem dX0_teach_20 : decode cX0_teach 20 = .ok (.ireturn, 1) := dk_172 (dk_at dksX0_teach_0 20 rfl rfl)
theorem dX0_teach_21 : decode cX0_teach 21 = .ok (.aload_n 0, 1) := dk_42 (dk_at dksX0_teach_0 21 rfl rfl)
theorem dX0_teach_22 : decode cX0_teach 22 = .ok (.getfield 12, 3) := dk_180 0 12 (dk_at dksX0_teach_1 0 rfl rfl)
theorem dX0_teach_25 : decode cX0_teach 25 = .ok (.getfield 472, 3) := dk_180 1 216 (dk_at dksX0_teach_1 3 rfl rfl)
theorem dX0_teach_28 : decode cX0_teach 28 = .ok (.bipush 40, 2) := dk_16 40 (dk_at dksX0_teach_1 6 rfl rfl)
theorem dX0_teach_30 : decode cX0_teach 30 = .ok (.if_icmp .ne 6, 3) := dk_160 0 6 (dk_at dksX0_teach_1 8 rfl rfl)
theorem dX0_teach_33 : decode cX0_teach 33 = .ok (.bipush (-5), 2) := dk_16 251 (dk_at dksX0_teach_1 11 rfl rfl)
theorem dX0_teach_35 : decode cX0_teach 35 = .ok (.ireturn, 1) := dk_172 (dk_at dksX0_teach_1 13 rfl rfl)
theorem dX0_teach_36 : decode cX0_teach 36 = .ok (.aload_n 0, 1) := dk_42 (dk_at dksX0_teach_1 14 rfl rfl)
theorem dX0_teach_37 : decode cX0_teach 37 = .ok (.getfield 12, 3) := dk_180 0 12 (dk_at dksX0_teach_1 15 rfl rfl)
theorem dX0_teach_40 : decode cX0_teach 40 = .ok (.iload_n 1, 1) := dk_27 (dk_at dksX0_teach_1 18 rfl rfl)
theorem dX0_teach_41 : decode cX0_teach 41 = .ok (.iload_n 2, 1) := dk_28 (dk_at dksX0_teach_1 19 rfl rfl)
theorem dX0_teach_42 : decode cX0_teach 42 = .ok (.invokevirtual 155, 3) := dk_182 0 155 (dk_at dksX0_teach_1 20 rfl rfl)
theorem dX0_teach_45 : decode cX0_teach 45 = .ok (.istore 4, 2) := dk_54 4 (dk_at dksX0_teach_2 0 rfl rfl)
theorem dX0_teach_47 : decode cX0_teach 47 = .ok (.aload_n 0, 1) := dk_42 (dk_at dksX0_teach_2 2 rfl rfl)
theorem dX0_teach_48 : decode cX0_teach 48 = .ok (.iconst 2, 1) := dk_5 (dk_at dksX0_teach_2 3 rfl rfl)
theorem dX0_teach_49 : decode cX0_teach 49 = .ok (.bipush 12, 2) := dk_16 12 (dk_at dksX0_teach_2 4 rfl rfl)
theorem dX0_teach_51 : decode cX0_teach 51 = .ok (.iload_n 1, 1) := dk_27 (dk_at dksX0_teach_2 6 rfl rfl)
theorem dX0_teach_52 : decode cX0_teach 52 = .ok (.imul, 1) := dk_104 (dk_at dksX0_teach_2 7 rfl rfl)
theorem dX0_teach_53 : decode cX0_teach 53 = .ok (.iload_n 2, 1) := dk_28 (dk_at dksX0_teach_2 8 rfl rfl)
theorem dX0_teach_54 : decode cX0_teach 54 = .ok (.iadd, 1) := dk_96 (dk_at dksX0_teach_2 9 rfl rfl)
theorem dX0_teach_55 : decode cX0_teach 55 = .ok (.iload 4, 2) := dk_21 4 (dk_at dksX0_teach_2 10 rfl rfl)
theorem dX0_teach_57 : decode cX0_teach 57 = .ok (.invokevirtual 479, 3) := dk_182 1 223 (dk_at dksX0_teach_2 12 rfl rfl)
theorem dX0_teach_60 : decode cX0_teach 60 = .ok (.aload_n 0, 1) := dk_42 (dk_at dksX0_teach_2 15 rfl rfl)
theorem dX0_teach_61 : decode cX0_teach 61 = .ok (.getfield 12, 3) := dk_180 0 12 (dk_at dksX0_teach_2 16 rfl rfl)
theorem dX0_teach_64 : decode cX0_teach 64 = .ok (.getfield 483, 3) := dk_180 1 227 (dk_at dksX0_teach_2 19 rfl rfl)
theorem dX0_teach_67 : decode cX0_teach 67 = .ok (.bipush 12, 2) := dk_16 12 (dk_at dksX0_teach_2 22 rfl rfl)
theorem dX0_teach_69 : decode cX0_teach 69 = .ok (.iload_n 1, 1) := dk_27 (dk_at dksX0_teach_3 0 rfl rfl)
theorem dX0_teach_70 : decode cX0_teach 70 = .ok (.imul, 1) := dk_104 (dk_at dksX0_teach_3 1 rfl rfl)
theorem dX0_teach_71 : decode cX0_teach 71 = .ok (.iload_n 2, 1) := dk_28 (dk_at dksX0_teach_3 2 rfl rfl)
theorem dX0_teach_72 : decode cX0_teach 72 = .ok (.iadd, 1) := dk_96 (dk_at dksX0_teach_3 3 rfl rfl)
theorem dX0_teach_73 : decode cX0_teach 73 = .ok (.iload_n 3, 1) := dk_29 (dk_at dksX0_teach_3 4 rfl rfl)
theorem dX0_teach_74 : decode cX0_teach 74 = .ok (.iastore, 1) := dk_79 (dk_at dksX0_teach_3 5 rfl rfl)
theorem dX0_teach_75 : decode cX0_teach 75 = .ok (.iload 4, 2) := dk_21 4 (dk_at dksX0_teach_3 6 rfl rfl)
theorem dX0_teach_77 : decode cX0_teach 77 = .ok (.ireturn, 1) := dk_172 (dk_at dksX0_teach_3 8 rfl rfl)
abbrev cX0_undo : ByteArray := prog_1_method_113_code
def yX0_undo : MethodName := ⟨RX0, "undo", "()I"⟩
def dkwX0_undo_5 : List UInt8 := [167, 0, 16, 42, 180, 0, 12, 180, 1, 227, 28, 27, 16, 10, 112, 79, 42, 180, 0, 12, 180, 1, 216, 172]
abbrev dktX0_undo_5 : List UInt8 := dkwX0_undo_5 ++ []
def dkwX0_undo_4 : List UInt8 := [42, 180, 0, 12, 180, 0, 184, 28, 27, 16, 10, 112, 4, 160, 0, 7, 4, 167, 0, 4, 3, 84]
abbrev dktX0_undo_4 : List UInt8 := dkwX0_undo_4 ++ dktX0_undo_5
def dkwX0_undo_3 : List UInt8 := [180, 0, 12, 89, 180, 0, 147, 4, 100, 181, 0, 147, 167, 0, 50, 27, 19, 1, 219, 108, 4, 160, 0, 28]
abbrev dktX0_undo_3 : List UInt8 := dkwX0_undo_3 ++ dktX0_undo_4
def dkwX0_undo_2 : List UInt8 := [180, 1, 216, 46, 60, 27, 19, 1, 219, 112, 16, 10, 108, 61, 27, 19, 1, 219, 108, 154, 0, 19, 42]
abbrev dktX0_undo_2 : List UInt8 := dkwX0_undo_2 ++ dktX0_undo_3
def dkwX0_undo_1 : List UInt8 := [180, 0, 12, 89, 180, 1, 216, 4, 100, 181, 1, 216, 42, 180, 0, 12, 180, 1, 213, 42, 180, 0, 12]
abbrev dktX0_undo_1 : List UInt8 := dkwX0_undo_1 ++ dktX0_undo_2
def dkwX0_undo_0 : List UInt8 := [42, 182, 0, 128, 154, 0, 6, 16, 254, 172, 42, 180, 0, 12, 180, 1, 216, 154, 0, 6, 16, 251, 172, 42]
abbrev dktX0_undo_0 : List UInt8 := dkwX0_undo_0 ++ dktX0_undo_1
theorem dksX0_undo_0 : cX0_undo.data.toList.drop 0 = dktX0_undo_0 := by decide +kernel
theorem dksX0_undo_1 : cX0_undo.data.toList.drop 24 = dktX0_undo_1 := dk_seg dksX0_undo_0 24 rfl rfl
theorem dksX0_undo_2 : cX0_undo.data.toList.drop 47 = dktX0_undo_2 := dk_seg dksX0_undo_1 23 rfl rfl
theorem dksX0_undo_3 : cX0_undo.data.toList.drop 70 = dktX0_undo_3 := dk_seg dksX0_undo_2 23 rfl rfl
theorem dksX0_undo_4 : cX0_undo.data.toList.drop 94 = dktX0_undo_4 := dk_seg dksX0_undo_3 24 rfl rfl
theorem dksX0_undo_5 : cX0_undo.data.toList.drop 116 = dktX0_undo_5 := dk_seg dksX0_undo_4 22 rfl rfl
theorem dX0_undo_0 : decode cX0_undo 0 = .ok (.aload_n 0, 1) := dk_42 (dk_at dksX0_undo_0 0 rfl rfl)
theorem dX0_undo_1 : decode cX0_undo 1 = .ok (.invokevirtual 128, 3) := dk_182 0 128 (dk_at dksX0_undo_0 1 rfl rfl)
theorem dX0_undo_4 : decode cX0_undo 4 = .ok (.ifCond .ne 6, 3) := dk_154 0 6 (dk_at dksX0_undo_0 4 rfl rfl)
theorem dX0_undo_7 : decode cX0_undo 7 = .ok (.bipush (-2), 2) := dk_16 254 (dk_at dksX0_undo_0 7 rfl rfl)
theorem dX0_undo_9 : decode cX0_undo 9 = .ok (.ireturn, 1) := dk_172 (dk_at dksX0_undo_0 9 rfl rfl)
theorem dX0_undo_10 : decode cX0_undo 10 = .ok (.aload_n 0, 1) := dk_42 (dk_at dksX0_undo_0 10 rfl rfl)
theorem dX0_undo_11 : decode cX0_undo 11 = .ok (.getfield 12, 3) := dk_180 0 12 (dk_at dksX0_undo_0 11 rfl rfl)
theorem dX0_undo_14 : decode cX0_undo 14 = .ok (.getfield 472, 3) := dk_180 1 216 (dk_at dksX0_undo_0 14 rfl rfl)
theorem dX0_undo_17 : decode cX0_undo 17 = .ok (.ifCond .ne 6, 3) := dk_154 0 6 (dk_at dksX0_undo_0 17 rfl rfl)
theorem dX0_undo_20 : decode cX0_undo 20 = .ok (.bipush (-5), 2) := dk_16 251 (dk_at dksX0_undo_0 20 rfl rfl)
theorem dX0_undo_22 : decode cX0_undo 22 = .ok (.ireturn, 1) := dk_172 (dk_at dksX0_undo_0 22 rfl rfl)
theorem dX0_undo_23 : decode cX0_undo 23 = .ok (.aload_n 0, 1) := dk_42 (dk_at dksX0_undo_0 23 rfl rfl)
theorem dX0_undo_24 : decode cX0_undo 24 = .ok (.getfield 12, 3) := dk_180 0 12 (dk_at dksX0_undo_1 0 rfl rfl)
theorem dX0_undo_27 : decode cX0_undo 27 = .ok (.dup, 1) := dk_89 (dk_at dksX0_undo_1 3 rfl rfl)
theorem dX0_undo_28 : decode cX0_undo 28 = .ok (.getfield 472, 3) := dk_180 1 216 (dk_at dksX0_undo_1 4 rfl rfl)
theorem dX0_undo_31 : decode cX0_undo 31 = .ok (.iconst 1, 1) := dk_4 (dk_at dksX0_undo_1 7 rfl rfl)
theorem dX0_undo_32 : decode cX0_undo 32 = .ok (.isub, 1) := dk_100 (dk_at dksX0_undo_1 8 rfl rfl)
theorem dX0_undo_33 : decode cX0_undo 33 = .ok (.putfield 472, 3) := dk_181 1 216 (dk_at dksX0_undo_1 9 rfl rfl)
theorem dX0_undo_36 : decode cX0_undo 36 = .ok (.aload_n 0, 1) := dk_42 (dk_at dksX0_undo_1 12 rfl rfl)
theorem dX0_undo_37 : decode cX0_undo 37 = .ok (.getfield 12, 3) := dk_180 0 12 (dk_at dksX0_undo_1 13 rfl rfl)
theorem dX0_undo_40 : decode cX0_undo 40 = .ok (.getfield 469, 3) := dk_180 1 213 (dk_at dksX0_undo_1 16 rfl rfl)
theorem dX0_undo_43 : decode cX0_undo 43 = .ok (.aload_n 0, 1) := dk_42 (dk_at dksX0_undo_1 19 rfl rfl)
theorem dX0_undo_44 : decode cX0_undo 44 = .ok (.getfield 12, 3) := dk_180 0 12 (dk_at dksX0_undo_1 20 rfl rfl)
theorem dX0_undo_47 : decode cX0_undo 47 = .ok (.getfield 472, 3) := dk_180 1 216 (dk_at dksX0_undo_2 0 rfl rfl)
theorem dX0_undo_50 : decode cX0_undo 50 = .ok (.iaload, 1) := dk_46 (dk_at dksX0_undo_2 3 rfl rfl)
theorem dX0_undo_51 : decode cX0_undo 51 = .ok (.istore_n 1, 1) := dk_60 (dk_at dksX0_undo_2 4 rfl rfl)
theorem dX0_undo_52 : decode cX0_undo 52 = .ok (.iload_n 1, 1) := dk_27 (dk_at dksX0_undo_2 5 rfl rfl)
theorem dX0_undo_53 : decode cX0_undo 53 = .ok (.ldc_w 475, 3) := dk_19 1 219 (dk_at dksX0_undo_2 6 rfl rfl)
theorem dX0_undo_56 : decode cX0_undo 56 = .ok (.irem, 1) := dk_112 (dk_at dksX0_undo_2 9 rfl rfl)
theorem dX0_undo_57 : decode cX0_undo 57 = .ok (.bipush 10, 2) := dk_16 10 (dk_at dksX0_undo_2 10 rfl rfl)
theorem dX0_undo_59 : decode cX0_undo 59 = .ok (.idiv, 1) := dk_108 (dk_at dksX0_undo_2 12 rfl rfl)
theorem dX0_undo_60 : decode cX0_undo 60 = .ok (.istore_n 2, 1) := dk_61 (dk_at dksX0_undo_2 13 rfl rfl)
theorem dX0_undo_61 : decode cX0_undo 61 = .ok (.iload_n 1, 1) := dk_27 (dk_at dksX0_undo_2 14 rfl rfl)
theorem dX0_undo_62 : decode cX0_undo 62 = .ok (.ldc_w 475, 3) := dk_19 1 219 (dk_at dksX0_undo_2 15 rfl rfl)
theorem dX0_undo_65 : decode cX0_undo 65 = .ok (.idiv, 1) := dk_108 (dk_at dksX0_undo_2 18 rfl rfl)
theorem dX0_undo_66 : decode cX0_undo 66 = .ok (.ifCond .ne 19, 3) := dk_154 0 19 (dk_at dksX0_undo_2 19 rfl rfl)
theorem dX0_undo_69 : decode cX0_undo 69 = .ok (.aload_n 0, 1) := dk_42 (dk_at dksX0_undo_2 22 rfl rfl)
theorem dX0_undo_70 : decode cX0_undo 70 = .ok (.getfield 12, 3) := dk_180 0 12 (dk_at dksX0_undo_3 0 rfl rfl)
theorem dX0_undo_73 : decode cX0_undo 73 = .ok (.dup, 1) := dk_89 (dk_at dksX0_undo_3 3 rfl rfl)
theorem dX0_undo_74 : decode cX0_undo 74 = .ok (.getfield 147, 3) := dk_180 0 147 (dk_at dksX0_undo_3 4 rfl rfl)
theorem dX0_undo_77 : decode cX0_undo 77 = .ok (.iconst 1, 1) := dk_4 (dk_at dksX0_undo_3 7 rfl rfl)
theorem dX0_undo_78 : decode cX0_undo 78 = .ok (.isub, 1) := dk_100 (dk_at dksX0_undo_3 8 rfl rfl)
theorem dX0_undo_79 : decode cX0_undo 79 = .ok (.putfield 147, 3) := dk_181 0 147 (dk_at dksX0_undo_3 9 rfl rfl)
theorem dX0_undo_82 : decode cX0_undo 82 = .ok (.goto 50, 3) := dk_167 0 50 (dk_at dksX0_undo_3 12 rfl rfl)
theorem dX0_undo_85 : decode cX0_undo 85 = .ok (.iload_n 1, 1) := dk_27 (dk_at dksX0_undo_3 15 rfl rfl)
theorem dX0_undo_86 : decode cX0_undo 86 = .ok (.ldc_w 475, 3) := dk_19 1 219 (dk_at dksX0_undo_3 16 rfl rfl)
theorem dX0_undo_89 : decode cX0_undo 89 = .ok (.idiv, 1) := dk_108 (dk_at dksX0_undo_3 19 rfl rfl)
theorem dX0_undo_90 : decode cX0_undo 90 = .ok (.iconst 1, 1) := dk_4 (dk_at dksX0_undo_3 20 rfl rfl)
theorem dX0_undo_91 : decode cX0_undo 91 = .ok (.if_icmp .ne 28, 3) := dk_160 0 28 (dk_at dksX0_undo_3 21 rfl rfl)
theorem dX0_undo_94 : decode cX0_undo 94 = .ok (.aload_n 0, 1) := dk_42 (dk_at dksX0_undo_4 0 rfl rfl)
theorem dX0_undo_95 : decode cX0_undo 95 = .ok (.getfield 12, 3) := dk_180 0 12 (dk_at dksX0_undo_4 1 rfl rfl)
theorem dX0_undo_98 : decode cX0_undo 98 = .ok (.getfield 184, 3) := dk_180 0 184 (dk_at dksX0_undo_4 4 rfl rfl)
theorem dX0_undo_101 : decode cX0_undo 101 = .ok (.iload_n 2, 1) := dk_28 (dk_at dksX0_undo_4 7 rfl rfl)
theorem dX0_undo_102 : decode cX0_undo 102 = .ok (.iload_n 1, 1) := dk_27 (dk_at dksX0_undo_4 8 rfl rfl)
theorem dX0_undo_103 : decode cX0_undo 103 = .ok (.bipush 10, 2) := dk_16 10 (dk_at dksX0_undo_4 9 rfl rfl)
theorem dX0_undo_105 : decode cX0_undo 105 = .ok (.irem, 1) := dk_112 (dk_at dksX0_undo_4 11 rfl rfl)
theorem dX0_undo_106 : decode cX0_undo 106 = .ok (.iconst 1, 1) := dk_4 (dk_at dksX0_undo_4 12 rfl rfl)
theorem dX0_undo_107 : decode cX0_undo 107 = .ok (.if_icmp .ne 7, 3) := dk_160 0 7 (dk_at dksX0_undo_4 13 rfl rfl)
theorem dX0_undo_110 : decode cX0_undo 110 = .ok (.iconst 1, 1) := dk_4 (dk_at dksX0_undo_4 16 rfl rfl)
theorem dX0_undo_111 : decode cX0_undo 111 = .ok (.goto 4, 3) := dk_167 0 4 (dk_at dksX0_undo_4 17 rfl rfl)
theorem dX0_undo_114 : decode cX0_undo 114 = .ok (.iconst 0, 1) := dk_3 (dk_at dksX0_undo_4 20 rfl rfl)
theorem dX0_undo_115 : decode cX0_undo 115 = .ok (.bastore, 1) := dk_84 (dk_at dksX0_undo_4 21 rfl rfl)
theorem dX0_undo_116 : decode cX0_undo 116 = .ok (.goto 16, 3) := dk_167 0 16 (dk_at dksX0_undo_5 0 rfl rfl)
theorem dX0_undo_119 : decode cX0_undo 119 = .ok (.aload_n 0, 1) := dk_42 (dk_at dksX0_undo_5 3 rfl rfl)
theorem dX0_undo_120 : decode cX0_undo 120 = .ok (.getfield 12, 3) := dk_180 0 12 (dk_at dksX0_undo_5 4 rfl rfl)
theorem dX0_undo_123 : decode cX0_undo 123 = .ok (.getfield 483, 3) := dk_180 1 227 (dk_at dksX0_undo_5 7 rfl rfl)
theorem dX0_undo_126 : decode cX0_undo 126 = .ok (.iload_n 2, 1) := dk_28 (dk_at dksX0_undo_5 10 rfl rfl)
theorem dX0_undo_127 : decode cX0_undo 127 = .ok (.iload_n 1, 1) := dk_27 (dk_at dksX0_undo_5 11 rfl rfl)
theorem dX0_undo_128 : decode cX0_undo 128 = .ok (.bipush 10, 2) := dk_16 10 (dk_at dksX0_undo_5 12 rfl rfl)
theorem dX0_undo_130 : decode cX0_undo 130 = .ok (.irem, 1) := dk_112 (dk_at dksX0_undo_5 14 rfl rfl)
theorem dX0_undo_131 : decode cX0_undo 131 = .ok (.iastore, 1) := dk_79 (dk_at dksX0_undo_5 15 rfl rfl)
theorem dX0_undo_132 : decode cX0_undo 132 = .ok (.aload_n 0, 1) := dk_42 (dk_at dksX0_undo_5 16 rfl rfl)
theorem dX0_undo_133 : decode cX0_undo 133 = .ok (.getfield 12, 3) := dk_180 0 12 (dk_at dksX0_undo_5 17 rfl rfl)
theorem dX0_undo_136 : decode cX0_undo 136 = .ok (.getfield 472, 3) := dk_180 1 216 (dk_at dksX0_undo_5 20 rfl rfl)
theorem dX0_undo_139 : decode cX0_undo 139 = .ok (.ireturn, 1) := dk_172 (dk_at dksX0_undo_5 23 rfl rfl)
abbrev cX0_count : ByteArray := prog_1_method_115_code
def yX0_count : MethodName := ⟨RX0, "count", "(I)I"⟩
def dkwX0_count_9 : List UInt8 := [132, 3, 1, 167, 255, 228, 28, 172, 2, 172]
abbrev dktX0_count_9 : List UInt8 := dkwX0_count_9 ++ []
def dkwX0_count_8 : List UInt8 := [7, 162, 0, 29, 28, 42, 180, 0, 85, 29, 50, 180, 1, 232, 199, 0, 7, 3, 167, 0, 4, 4, 96, 61]
abbrev dktX0_count_8 : List UInt8 := dkwX0_count_8 ++ dktX0_count_9
def dkwX0_count_7 : List UInt8 := [42, 180, 0, 12, 180, 1, 216, 172, 42, 180, 0, 12, 180, 0, 117, 172, 42, 180, 0, 96, 172, 3, 62, 29]
abbrev dktX0_count_7 : List UInt8 := dkwX0_count_7 ++ dktX0_count_8
def dkwX0_count_6 : List UInt8 := [132, 5, 1, 167, 255, 227, 28, 172, 42, 180, 0, 12, 180, 1, 73, 172, 42, 180, 0, 12, 180, 1, 106, 172]
abbrev dktX0_count_6 : List UInt8 := dkwX0_count_6 ++ dktX0_count_7
def dkwX0_count_5 : List UInt8 := [162, 0, 28, 45, 21, 5, 51, 54, 6, 28, 21, 6, 153, 0, 7, 4, 167, 0, 4, 3, 96, 61]
abbrev dktX0_count_5 : List UInt8 := dkwX0_count_5 ++ dktX0_count_6
def dkwX0_count_4 : List UInt8 := [180, 0, 147, 172, 42, 180, 0, 12, 180, 0, 184, 78, 45, 190, 54, 4, 3, 54, 5, 21, 5, 21, 4]
abbrev dktX0_count_4 : List UInt8 := dkwX0_count_4 ++ dktX0_count_5
def dkwX0_count_3 : List UInt8 := [42, 180, 0, 12, 180, 0, 144, 3, 46, 172, 42, 180, 0, 12, 180, 0, 144, 4, 46, 172, 42, 180, 0, 12]
abbrev dktX0_count_3 : List UInt8 := dkwX0_count_3 ++ dktX0_count_4
def dkwX0_count_2 : List UInt8 := [42, 180, 0, 12, 180, 0, 188, 172, 42, 180, 0, 12, 180, 1, 173, 172, 42, 180, 0, 12, 180, 1, 143, 172]
abbrev dktX0_count_2 : List UInt8 := dkwX0_count_2 ++ dktX0_count_3
def dkwX0_count_1 : List UInt8 := [170, 0, 0, 0, 238, 0, 0, 0, 0, 0, 0, 0, 12, 0, 0, 0, 65, 0, 0, 0, 73, 0, 0, 0, 81, 0, 0, 0, 89, 0, 0, 0, 99, 0, 0, 0, 109, 0, 0, 0, 117, 0, 0, 0, 166, 0, 0, 0, 174, 0, 0, 0, 182, 0, 0, 0, 190, 0, 0, 0, 198, 0, 0, 0, 203]
abbrev dktX0_count_1 : List UInt8 := dkwX0_count_1 ++ dktX0_count_2
def dkwX0_count_0 : List UInt8 := [3, 61, 27]
abbrev dktX0_count_0 : List UInt8 := dkwX0_count_0 ++ dktX0_count_1
theorem dksX0_count_0 : cX0_count.data.toList.drop 0 = dktX0_count_0 := by decide +kernel
theorem dksX0_count_1 : cX0_count.data.toList.drop 3 = dktX0_count_1 := dk_seg dksX0_count_0 3 rfl rfl
theorem dksX0_count_2 : cX0_count.data.toList.drop 68 = dktX0_count_2 := dk_seg dksX0_count_1 65 rfl rfl
theorem dksX0_count_3 : cX0_count.data.toList.drop 92 = dktX0_count_3 := dk_seg dksX0_count_2 24 rfl rfl
theorem dksX0_count_4 : cX0_count.data.toList.drop 116 = dktX0_count_4 := dk_seg dksX0_count_3 24 rfl rfl
theorem dksX0_count_5 : cX0_count.data.toList.drop 139 = dktX0_count_5 := dk_seg dksX0_count_4 23 rfl rfl
theorem dksX0_count_6 : cX0_count.data.toList.drop 161 = dktX0_count_6 := dk_seg dksX0_count_5 22 rfl rfl
theorem dksX0_count_7 : cX0_count.data.toList.drop 185 = dktX0_count_7 := dk_seg dksX0_count_6 24 rfl rfl
theorem dksX0_count_8 : cX0_count.data.toList.drop 209 = dktX0_count_8 := dk_seg dksX0_count_7 24 rfl rfl
theorem dksX0_count_9 : cX0_count.data.toList.drop 233 = dktX0_count_9 := dk_seg dksX0_count_8 24 rfl rfl
theorem dX0_count_0 : decode cX0_count 0 = .ok (.iconst 0, 1) := dk_3 (dk_at dksX0_count_0 0 rfl rfl)
theorem dX0_count_1 : decode cX0_count 1 = .ok (.istore_n 2, 1) := dk_61 (dk_at dksX0_count_0 1 rfl rfl)
theorem dX0_count_2 : decode cX0_count 2 = .ok (.iload_n 1, 1) := dk_27 (dk_at dksX0_count_0 2 rfl rfl)
theorem dX0_count_3 : decode cX0_count 3 = .ok (.tableswitch 238 0 12 #[65, 73, 81, 89, 99, 109, 117, 166, 174, 182, 190, 198, 203], 65) := by decide +kernel
theorem dX0_count_68 : decode cX0_count 68 = .ok (.aload_n 0, 1) := dk_42 (dk_at dksX0_count_2 0 rfl rfl)
theorem dX0_count_69 : decode cX0_count 69 = .ok (.getfield 12, 3) := dk_180 0 12 (dk_at dksX0_count_2 1 rfl rfl)
theorem dX0_count_72 : decode cX0_count 72 = .ok (.getfield 188, 3) := dk_180 0 188 (dk_at dksX0_count_2 4 rfl rfl)
theorem dX0_count_75 : decode cX0_count 75 = .ok (.ireturn, 1) := dk_172 (dk_at dksX0_count_2 7 rfl rfl)
theorem dX0_count_76 : decode cX0_count 76 = .ok (.aload_n 0, 1) := dk_42 (dk_at dksX0_count_2 8 rfl rfl)
theorem dX0_count_77 : decode cX0_count 77 = .ok (.getfield 12, 3) := dk_180 0 12 (dk_at dksX0_count_2 9 rfl rfl)
theorem dX0_count_80 : decode cX0_count 80 = .ok (.getfield 429, 3) := dk_180 1 173 (dk_at dksX0_count_2 12 rfl rfl)
theorem dX0_count_83 : decode cX0_count 83 = .ok (.ireturn, 1) := dk_172 (dk_at dksX0_count_2 15 rfl rfl)
theorem dX0_count_84 : decode cX0_count 84 = .ok (.aload_n 0, 1) := dk_42 (dk_at dksX0_count_2 16 rfl rfl)
theorem dX0_count_85 : decode cX0_count 85 = .ok (.getfield 12, 3) := dk_180 0 12 (dk_at dksX0_count_2 17 rfl rfl)
theorem dX0_count_88 : decode cX0_count 88 = .ok (.getfield 399, 3) := dk_180 1 143 (dk_at dksX0_count_2 20 rfl rfl)
theorem dX0_count_91 : decode cX0_count 91 = .ok (.ireturn, 1) := dk_172 (dk_at dksX0_count_2 23 rfl rfl)
theorem dX0_count_92 : decode cX0_count 92 = .ok (.aload_n 0, 1) := dk_42 (dk_at dksX0_count_3 0 rfl rfl)
theorem dX0_count_93 : decode cX0_count 93 = .ok (.getfield 12, 3) := dk_180 0 12 (dk_at dksX0_count_3 1 rfl rfl)
theorem dX0_count_96 : decode cX0_count 96 = .ok (.getfield 144, 3) := dk_180 0 144 (dk_at dksX0_count_3 4 rfl rfl)
theorem dX0_count_99 : decode cX0_count 99 = .ok (.iconst 0, 1) := dk_3 (dk_at dksX0_count_3 7 rfl rfl)
theorem dX0_count_100 : decode cX0_count 100 = .ok (.iaload, 1) := dk_46 (dk_at dksX0_count_3 8 rfl rfl)
theorem dX0_count_101 : decode cX0_count 101 = .ok (.ireturn, 1) := dk_172 (dk_at dksX0_count_3 9 rfl rfl)
theorem dX0_count_102 : decode cX0_count 102 = .ok (.aload_n 0, 1) := dk_42 (dk_at dksX0_count_3 10 rfl rfl)
theorem dX0_count_103 : decode cX0_count 103 = .ok (.getfield 12, 3) := dk_180 0 12 (dk_at dksX0_count_3 11 rfl rfl)
theorem dX0_count_106 : decode cX0_count 106 = .ok (.getfield 144, 3) := dk_180 0 144 (dk_at dksX0_count_3 14 rfl rfl)
theorem dX0_count_109 : decode cX0_count 109 = .ok (.iconst 1, 1) := dk_4 (dk_at dksX0_count_3 17 rfl rfl)
theorem dX0_count_110 : decode cX0_count 110 = .ok (.iaload, 1) := dk_46 (dk_at dksX0_count_3 18 rfl rfl)
theorem dX0_count_111 : decode cX0_count 111 = .ok (.ireturn, 1) := dk_172 (dk_at dksX0_count_3 19 rfl rfl)
theorem dX0_count_112 : decode cX0_count 112 = .ok (.aload_n 0, 1) := dk_42 (dk_at dksX0_count_3 20 rfl rfl)
theorem dX0_count_113 : decode cX0_count 113 = .ok (.getfield 12, 3) := dk_180 0 12 (dk_at dksX0_count_3 21 rfl rfl)
theorem dX0_count_116 : decode cX0_count 116 = .ok (.getfield 147, 3) := dk_180 0 147 (dk_at dksX0_count_4 0 rfl rfl)
theorem dX0_count_119 : decode cX0_count 119 = .ok (.ireturn, 1) := dk_172 (dk_at dksX0_count_4 3 rfl rfl)
theorem dX0_count_120 : decode cX0_count 120 = .ok (.aload_n 0, 1) := dk_42 (dk_at dksX0_count_4 4 rfl rfl)
theorem dX0_count_121 : decode cX0_count 121 = .ok (.getfield 12, 3) := dk_180 0 12 (dk_at dksX0_count_4 5 rfl rfl)
theorem dX0_count_124 : decode cX0_count 124 = .ok (.getfield 184, 3) := dk_180 0 184 (dk_at dksX0_count_4 8 rfl rfl)
theorem dX0_count_127 : decode cX0_count 127 = .ok (.astore_n 3, 1) := dk_78 (dk_at dksX0_count_4 11 rfl rfl)
theorem dX0_count_128 : decode cX0_count 128 = .ok (.aload_n 3, 1) := dk_45 (dk_at dksX0_count_4 12 rfl rfl)
theorem dX0_count_129 : decode cX0_count 129 = .ok (.arraylength, 1) := dk_190 (dk_at dksX0_count_4 13 rfl rfl)
theorem dX0_count_130 : decode cX0_count 130 = .ok (.istore 4, 2) := dk_54 4 (dk_at dksX0_count_4 14 rfl rfl)
theorem dX0_count_132 : decode cX0_count 132 = .ok (.iconst 0, 1) := dk_3 (dk_at dksX0_count_4 16 rfl rfl)
theorem dX0_count_133 : decode cX0_count 133 = .ok (.istore 5, 2) := dk_54 5 (dk_at dksX0_count_4 17 rfl rfl)
theorem dX0_count_135 : decode cX0_count 135 = .ok (.iload 5, 2) := dk_21 5 (dk_at dksX0_count_4 19 rfl rfl)
theorem dX0_count_137 : decode cX0_count 137 = .ok (.iload 4, 2) := dk_21 4 (dk_at dksX0_count_4 21 rfl rfl)
theorem dX0_count_139 : decode cX0_count 139 = .ok (.if_icmp .ge 28, 3) := dk_162 0 28 (dk_at dksX0_count_5 0 rfl rfl)
theorem dX0_count_142 : decode cX0_count 142 = .ok (.aload_n 3, 1) := dk_45 (dk_at dksX0_count_5 3 rfl rfl)
theorem dX0_count_143 : decode cX0_count 143 = .ok (.iload 5, 2) := dk_21 5 (dk_at dksX0_count_5 4 rfl rfl)
theorem dX0_count_145 : decode cX0_count 145 = .ok (.baload, 1) := dk_51 (dk_at dksX0_count_5 6 rfl rfl)
theorem dX0_count_146 : decode cX0_count 146 = .ok (.istore 6, 2) := dk_54 6 (dk_at dksX0_count_5 7 rfl rfl)
theorem dX0_count_148 : decode cX0_count 148 = .ok (.iload_n 2, 1) := dk_28 (dk_at dksX0_count_5 9 rfl rfl)
theorem dX0_count_149 : decode cX0_count 149 = .ok (.iload 6, 2) := dk_21 6 (dk_at dksX0_count_5 10 rfl rfl)
theorem dX0_count_151 : decode cX0_count 151 = .ok (.ifCond .eq 7, 3) := dk_153 0 7 (dk_at dksX0_count_5 12 rfl rfl)
theorem dX0_count_154 : decode cX0_count 154 = .ok (.iconst 1, 1) := dk_4 (dk_at dksX0_count_5 15 rfl rfl)
theorem dX0_count_155 : decode cX0_count 155 = .ok (.goto 4, 3) := dk_167 0 4 (dk_at dksX0_count_5 16 rfl rfl)
theorem dX0_count_158 : decode cX0_count 158 = .ok (.iconst 0, 1) := dk_3 (dk_at dksX0_count_5 19 rfl rfl)
theorem dX0_count_159 : decode cX0_count 159 = .ok (.iadd, 1) := dk_96 (dk_at dksX0_count_5 20 rfl rfl)
theorem dX0_count_160 : decode cX0_count 160 = .ok (.istore_n 2, 1) := dk_61 (dk_at dksX0_count_5 21 rfl rfl)
theorem dX0_count_161 : decode cX0_count 161 = .ok (.iinc 5 1, 3) := dk_132 5 1 (dk_at dksX0_count_6 0 rfl rfl)
theorem dX0_count_164 : decode cX0_count 164 = .ok (.goto (-29), 3) := dk_167 255 227 (dk_at dksX0_count_6 3 rfl rfl)
theorem dX0_count_167 : decode cX0_count 167 = .ok (.iload_n 2, 1) := dk_28 (dk_at dksX0_count_6 6 rfl rfl)
theorem dX0_count_168 : decode cX0_count 168 = .ok (.ireturn, 1) := dk_172 (dk_at dksX0_count_6 7 rfl rfl)
theorem dX0_count_169 : decode cX0_count 169 = .ok (.aload_n 0, 1) := dk_42 (dk_at dksX0_count_6 8 rfl rfl)
theorem dX0_count_170 : decode cX0_count 170 = .ok (.getfield 12, 3) := dk_180 0 12 (dk_at dksX0_count_6 9 rfl rfl)
theorem dX0_count_173 : decode cX0_count 173 = .ok (.getfield 329, 3) := dk_180 1 73 (dk_at dksX0_count_6 12 rfl rfl)
theorem dX0_count_176 : decode cX0_count 176 = .ok (.ireturn, 1) := dk_172 (dk_at dksX0_count_6 15 rfl rfl)
theorem dX0_count_177 : decode cX0_count 177 = .ok (.aload_n 0, 1) := dk_42 (dk_at dksX0_count_6 16 rfl rfl)
theorem dX0_count_178 : decode cX0_count 178 = .ok (.getfield 12, 3) := dk_180 0 12 (dk_at dksX0_count_6 17 rfl rfl)
theorem dX0_count_181 : decode cX0_count 181 = .ok (.getfield 362, 3) := dk_180 1 106 (dk_at dksX0_count_6 20 rfl rfl)
theorem dX0_count_184 : decode cX0_count 184 = .ok (.ireturn, 1) := dk_172 (dk_at dksX0_count_6 23 rfl rfl)
theorem dX0_count_185 : decode cX0_count 185 = .ok (.aload_n 0, 1) := dk_42 (dk_at dksX0_count_7 0 rfl rfl)
theorem dX0_count_186 : decode cX0_count 186 = .ok (.getfield 12, 3) := dk_180 0 12 (dk_at dksX0_count_7 1 rfl rfl)
theorem dX0_count_189 : decode cX0_count 189 = .ok (.getfield 472, 3) := dk_180 1 216 (dk_at dksX0_count_7 4 rfl rfl)
theorem dX0_count_192 : decode cX0_count 192 = .ok (.ireturn, 1) := dk_172 (dk_at dksX0_count_7 7 rfl rfl)
theorem dX0_count_193 : decode cX0_count 193 = .ok (.aload_n 0, 1) := dk_42 (dk_at dksX0_count_7 8 rfl rfl)
theorem dX0_count_194 : decode cX0_count 194 = .ok (.getfield 12, 3) := dk_180 0 12 (dk_at dksX0_count_7 9 rfl rfl)
theorem dX0_count_197 : decode cX0_count 197 = .ok (.getfield 117, 3) := dk_180 0 117 (dk_at dksX0_count_7 12 rfl rfl)
theorem dX0_count_200 : decode cX0_count 200 = .ok (.ireturn, 1) := dk_172 (dk_at dksX0_count_7 15 rfl rfl)
theorem dX0_count_201 : decode cX0_count 201 = .ok (.aload_n 0, 1) := dk_42 (dk_at dksX0_count_7 16 rfl rfl)
theorem dX0_count_202 : decode cX0_count 202 = .ok (.getfield 96, 3) := dk_180 0 96 (dk_at dksX0_count_7 17 rfl rfl)
theorem dX0_count_205 : decode cX0_count 205 = .ok (.ireturn, 1) := dk_172 (dk_at dksX0_count_7 20 rfl rfl)
theorem dX0_count_206 : decode cX0_count 206 = .ok (.iconst 0, 1) := dk_3 (dk_at dksX0_count_7 21 rfl rfl)
theorem dX0_count_207 : decode cX0_count 207 = .ok (.istore_n 3, 1) := dk_62 (dk_at dksX0_count_7 22 rfl rfl)
theorem dX0_count_208 : decode cX0_count 208 = .ok (.iload_n 3, 1) := dk_29 (dk_at dksX0_count_7 23 rfl rfl)
theorem dX0_count_209 : decode cX0_count 209 = .ok (.iconst 4, 1) := dk_7 (dk_at dksX0_count_8 0 rfl rfl)
theorem dX0_count_210 : decode cX0_count 210 = .ok (.if_icmp .ge 29, 3) := dk_162 0 29 (dk_at dksX0_count_8 1 rfl rfl)
theorem dX0_count_213 : decode cX0_count 213 = .ok (.iload_n 2, 1) := dk_28 (dk_at dksX0_count_8 4 rfl rfl)
theorem dX0_count_214 : decode cX0_count 214 = .ok (.aload_n 0, 1) := dk_42 (dk_at dksX0_count_8 5 rfl rfl)
theorem dX0_count_215 : decode cX0_count 215 = .ok (.getfield 85, 3) := dk_180 0 85 (dk_at dksX0_count_8 6 rfl rfl)
theorem dX0_count_218 : decode cX0_count 218 = .ok (.iload_n 3, 1) := dk_29 (dk_at dksX0_count_8 9 rfl rfl)
theorem dX0_count_219 : decode cX0_count 219 = .ok (.aaload, 1) := dk_50 (dk_at dksX0_count_8 10 rfl rfl)
theorem dX0_count_220 : decode cX0_count 220 = .ok (.getfield 488, 3) := dk_180 1 232 (dk_at dksX0_count_8 11 rfl rfl)
theorem dX0_count_223 : decode cX0_count 223 = .ok (.ifnonnull 7, 3) := dk_199 0 7 (dk_at dksX0_count_8 14 rfl rfl)
theorem dX0_count_226 : decode cX0_count 226 = .ok (.iconst 0, 1) := dk_3 (dk_at dksX0_count_8 17 rfl rfl)
theorem dX0_count_227 : decode cX0_count 227 = .ok (.goto 4, 3) := dk_167 0 4 (dk_at dksX0_count_8 18 rfl rfl)
theorem dX0_count_230 : decode cX0_count 230 = .ok (.iconst 1, 1) := dk_4 (dk_at dksX0_count_8 21 rfl rfl)
theorem dX0_count_231 : decode cX0_count 231 = .ok (.iadd, 1) := dk_96 (dk_at dksX0_count_8 22 rfl rfl)
theorem dX0_count_232 : decode cX0_count 232 = .ok (.istore_n 2, 1) := dk_61 (dk_at dksX0_count_8 23 rfl rfl)
theorem dX0_count_233 : decode cX0_count 233 = .ok (.iinc 3 1, 3) := dk_132 3 1 (dk_at dksX0_count_9 0 rfl rfl)
theorem dX0_count_236 : decode cX0_count 236 = .ok (.goto (-28), 3) := dk_167 255 228 (dk_at dksX0_count_9 3 rfl rfl)
theorem dX0_count_239 : decode cX0_count 239 = .ok (.iload_n 2, 1) := dk_28 (dk_at dksX0_count_9 6 rfl rfl)
theorem dX0_count_240 : decode cX0_count 240 = .ok (.ireturn, 1) := dk_172 (dk_at dksX0_count_9 7 rfl rfl)
theorem dX0_count_241 : decode cX0_count 241 = .ok (.iconst (-1), 1) := dk_2 (dk_at dksX0_count_9 8 rfl rfl)
theorem dX0_count_242 : decode cX0_count 242 = .ok (.ireturn, 1) := dk_172 (dk_at dksX0_count_9 9 rfl rfl)
abbrev cX0_image : ByteArray := prog_1_method_116_code
def yX0_image : MethodName := ⟨RX0, "image", "(I)I"⟩
def dkwX0_image_2 : List UInt8 := [182, 1, 243, 182, 1, 246, 87, 3, 172]
abbrev dktX0_image_2 : List UInt8 := dkwX0_image_2 ++ []
def dkwX0_image_1 : List UInt8 := [162, 0, 15, 42, 180, 0, 92, 1, 182, 1, 239, 87, 167, 255, 236, 42, 180, 0, 92, 27, 42, 180, 0, 12]
abbrev dktX0_image_1 : List UInt8 := dkwX0_image_1 ++ dktX0_image_2
def dkwX0_image_0 : List UInt8 := [27, 133, 9, 20, 1, 236, 184, 0, 103, 154, 0, 6, 16, 254, 172, 42, 180, 0, 92, 182, 1, 238, 6]
abbrev dktX0_image_0 : List UInt8 := dkwX0_image_0 ++ dktX0_image_1
theorem dksX0_image_0 : cX0_image.data.toList.drop 0 = dktX0_image_0 := by decide +kernel
theorem dksX0_image_1 : cX0_image.data.toList.drop 23 = dktX0_image_1 := dk_seg dksX0_image_0 23 rfl rfl
theorem dksX0_image_2 : cX0_image.data.toList.drop 47 = dktX0_image_2 := dk_seg dksX0_image_1 24 rfl rfl
theorem dX0_image_0 : decode cX0_image 0 = .ok (.iload_n 1, 1) := dk_27 (dk_at dksX0_image_0 0 rfl rfl)
theorem dX0_image_1 : decode cX0_image 1 = .ok (.i2l, 1) := dk_133 (dk_at dksX0_image_0 1 rfl rfl)
theorem dX0_image_2 : decode cX0_image 2 = .ok (.lconst 0, 1) := dk_9 (dk_at dksX0_image_0 2 rfl rfl)
theorem dX0_image_3 : decode cX0_image 3 = .ok (.ldc2_w 492, 3) := dk_20 1 236 (dk_at dksX0_image_0 3 rfl rfl)
theorem dX0_image_6 : decode cX0_image 6 = .ok (.invokestatic 103, 3) := dk_184 0 103 (dk_at dksX0_image_0 6 rfl rfl)
theorem dX0_image_9 : decode cX0_image 9 = .ok (.ifCond .ne 6, 3) := dk_154 0 6 (dk_at dksX0_image_0 9 rfl rfl)
theorem dX0_image_12 : decode cX0_image 12 = .ok (.bipush (-2), 2) := dk_16 254 (dk_at dksX0_image_0 12 rfl rfl)
theorem dX0_image_14 : decode cX0_image 14 = .ok (.ireturn, 1) := dk_172 (dk_at dksX0_image_0 14 rfl rfl)
theorem dX0_image_15 : decode cX0_image 15 = .ok (.aload_n 0, 1) := dk_42 (dk_at dksX0_image_0 15 rfl rfl)
theorem dX0_image_16 : decode cX0_image 16 = .ok (.getfield 92, 3) := dk_180 0 92 (dk_at dksX0_image_0 16 rfl rfl)
theorem dX0_image_19 : decode cX0_image 19 = .ok (.invokevirtual 494, 3) := dk_182 1 238 (dk_at dksX0_image_0 19 rfl rfl)
theorem dX0_image_22 : decode cX0_image 22 = .ok (.iconst 3, 1) := dk_6 (dk_at dksX0_image_0 22 rfl rfl)
theorem dX0_image_23 : decode cX0_image 23 = .ok (.if_icmp .ge 15, 3) := dk_162 0 15 (dk_at dksX0_image_1 0 rfl rfl)
theorem dX0_image_26 : decode cX0_image 26 = .ok (.aload_n 0, 1) := dk_42 (dk_at dksX0_image_1 3 rfl rfl)
theorem dX0_image_27 : decode cX0_image 27 = .ok (.getfield 92, 3) := dk_180 0 92 (dk_at dksX0_image_1 4 rfl rfl)
theorem dX0_image_30 : decode cX0_image 30 = .ok (.aconst_null, 1) := dk_1 (dk_at dksX0_image_1 7 rfl rfl)
theorem dX0_image_31 : decode cX0_image 31 = .ok (.invokevirtual 495, 3) := dk_182 1 239 (dk_at dksX0_image_1 8 rfl rfl)
theorem dX0_image_34 : decode cX0_image 34 = .ok (.pop, 1) := dk_87 (dk_at dksX0_image_1 11 rfl rfl)
theorem dX0_image_35 : decode cX0_image 35 = .ok (.goto (-20), 3) := dk_167 255 236 (dk_at dksX0_image_1 12 rfl rfl)
theorem dX0_image_38 : decode cX0_image 38 = .ok (.aload_n 0, 1) := dk_42 (dk_at dksX0_image_1 15 rfl rfl)
theorem dX0_image_39 : decode cX0_image 39 = .ok (.getfield 92, 3) := dk_180 0 92 (dk_at dksX0_image_1 16 rfl rfl)
theorem dX0_image_42 : decode cX0_image 42 = .ok (.iload_n 1, 1) := dk_27 (dk_at dksX0_image_1 19 rfl rfl)
theorem dX0_image_43 : decode cX0_image 43 = .ok (.aload_n 0, 1) := dk_42 (dk_at dksX0_image_1 20 rfl rfl)
theorem dX0_image_44 : decode cX0_image 44 = .ok (.getfield 12, 3) := dk_180 0 12 (dk_at dksX0_image_1 21 rfl rfl)
theorem dX0_image_47 : decode cX0_image 47 = .ok (.invokevirtual 499, 3) := dk_182 1 243 (dk_at dksX0_image_2 0 rfl rfl)
theorem dX0_image_50 : decode cX0_image 50 = .ok (.invokevirtual 502, 3) := dk_182 1 246 (dk_at dksX0_image_2 3 rfl rfl)
theorem dX0_image_53 : decode cX0_image 53 = .ok (.pop, 1) := dk_87 (dk_at dksX0_image_2 6 rfl rfl)
theorem dX0_image_54 : decode cX0_image 54 = .ok (.iconst 0, 1) := dk_3 (dk_at dksX0_image_2 7 rfl rfl)
theorem dX0_image_55 : decode cX0_image 55 = .ok (.ireturn, 1) := dk_172 (dk_at dksX0_image_2 8 rfl rfl)
abbrev cX0_back : ByteArray := prog_1_method_117_code
def yX0_back : MethodName := ⟨RX0, "back", "(I)I"⟩
def dkwX0_back_2 : List UInt8 := [182, 1, 253, 192, 0, 9, 182, 1, 243, 181, 0, 12, 3, 172]
abbrev dktX0_back_2 : List UInt8 := dkwX0_back_2 ++ []
def dkwX0_back_1 : List UInt8 := [154, 0, 14, 42, 180, 0, 92, 27, 182, 1, 253, 199, 0, 6, 16, 250, 172, 42, 42, 180, 0, 92, 27]
abbrev dktX0_back_1 : List UInt8 := dkwX0_back_1 ++ dktX0_back_2
def dkwX0_back_0 : List UInt8 := [27, 133, 9, 20, 1, 236, 184, 0, 103, 154, 0, 6, 16, 254, 172, 42, 180, 0, 92, 182, 1, 250]
abbrev dktX0_back_0 : List UInt8 := dkwX0_back_0 ++ dktX0_back_1
theorem dksX0_back_0 : cX0_back.data.toList.drop 0 = dktX0_back_0 := by decide +kernel
theorem dksX0_back_1 : cX0_back.data.toList.drop 22 = dktX0_back_1 := dk_seg dksX0_back_0 22 rfl rfl
theorem dksX0_back_2 : cX0_back.data.toList.drop 45 = dktX0_back_2 := dk_seg dksX0_back_1 23 rfl rfl
theorem dX0_back_0 : decode cX0_back 0 = .ok (.iload_n 1, 1) := dk_27 (dk_at dksX0_back_0 0 rfl rfl)
theorem dX0_back_1 : decode cX0_back 1 = .ok (.i2l, 1) := dk_133 (dk_at dksX0_back_0 1 rfl rfl)
theorem dX0_back_2 : decode cX0_back 2 = .ok (.lconst 0, 1) := dk_9 (dk_at dksX0_back_0 2 rfl rfl)
theorem dX0_back_3 : decode cX0_back 3 = .ok (.ldc2_w 492, 3) := dk_20 1 236 (dk_at dksX0_back_0 3 rfl rfl)
theorem dX0_back_6 : decode cX0_back 6 = .ok (.invokestatic 103, 3) := dk_184 0 103 (dk_at dksX0_back_0 6 rfl rfl)
theorem dX0_back_9 : decode cX0_back 9 = .ok (.ifCond .ne 6, 3) := dk_154 0 6 (dk_at dksX0_back_0 9 rfl rfl)
theorem dX0_back_12 : decode cX0_back 12 = .ok (.bipush (-2), 2) := dk_16 254 (dk_at dksX0_back_0 12 rfl rfl)
theorem dX0_back_14 : decode cX0_back 14 = .ok (.ireturn, 1) := dk_172 (dk_at dksX0_back_0 14 rfl rfl)
theorem dX0_back_15 : decode cX0_back 15 = .ok (.aload_n 0, 1) := dk_42 (dk_at dksX0_back_0 15 rfl rfl)
theorem dX0_back_16 : decode cX0_back 16 = .ok (.getfield 92, 3) := dk_180 0 92 (dk_at dksX0_back_0 16 rfl rfl)
theorem dX0_back_19 : decode cX0_back 19 = .ok (.invokevirtual 506, 3) := dk_182 1 250 (dk_at dksX0_back_0 19 rfl rfl)
theorem dX0_back_22 : decode cX0_back 22 = .ok (.ifCond .ne 14, 3) := dk_154 0 14 (dk_at dksX0_back_1 0 rfl rfl)
theorem dX0_back_25 : decode cX0_back 25 = .ok (.aload_n 0, 1) := dk_42 (dk_at dksX0_back_1 3 rfl rfl)
theorem dX0_back_26 : decode cX0_back 26 = .ok (.getfield 92, 3) := dk_180 0 92 (dk_at dksX0_back_1 4 rfl rfl)
theorem dX0_back_29 : decode cX0_back 29 = .ok (.iload_n 1, 1) := dk_27 (dk_at dksX0_back_1 7 rfl rfl)
theorem dX0_back_30 : decode cX0_back 30 = .ok (.invokevirtual 509, 3) := dk_182 1 253 (dk_at dksX0_back_1 8 rfl rfl)
theorem dX0_back_33 : decode cX0_back 33 = .ok (.ifnonnull 6, 3) := dk_199 0 6 (dk_at dksX0_back_1 11 rfl rfl)
theorem dX0_back_36 : decode cX0_back 36 = .ok (.bipush (-6), 2) := dk_16 250 (dk_at dksX0_back_1 14 rfl rfl)
theorem dX0_back_38 : decode cX0_back 38 = .ok (.ireturn, 1) := dk_172 (dk_at dksX0_back_1 16 rfl rfl)
theorem dX0_back_39 : decode cX0_back 39 = .ok (.aload_n 0, 1) := dk_42 (dk_at dksX0_back_1 17 rfl rfl)
theorem dX0_back_40 : decode cX0_back 40 = .ok (.aload_n 0, 1) := dk_42 (dk_at dksX0_back_1 18 rfl rfl)
theorem dX0_back_41 : decode cX0_back 41 = .ok (.getfield 92, 3) := dk_180 0 92 (dk_at dksX0_back_1 19 rfl rfl)
theorem dX0_back_44 : decode cX0_back 44 = .ok (.iload_n 1, 1) := dk_27 (dk_at dksX0_back_1 22 rfl rfl)
theorem dX0_back_45 : decode cX0_back 45 = .ok (.invokevirtual 509, 3) := dk_182 1 253 (dk_at dksX0_back_2 0 rfl rfl)
theorem dX0_back_48 : decode cX0_back 48 = .ok (.checkcast 9, 3) := dk_192 0 9 (dk_at dksX0_back_2 3 rfl rfl)
theorem dX0_back_51 : decode cX0_back 51 = .ok (.invokevirtual 499, 3) := dk_182 1 243 (dk_at dksX0_back_2 6 rfl rfl)
theorem dX0_back_54 : decode cX0_back 54 = .ok (.putfield 12, 3) := dk_181 0 12 (dk_at dksX0_back_2 9 rfl rfl)
theorem dX0_back_57 : decode cX0_back 57 = .ok (.iconst 0, 1) := dk_3 (dk_at dksX0_back_2 12 rfl rfl)
theorem dX0_back_58 : decode cX0_back 58 = .ok (.ireturn, 1) := dk_172 (dk_at dksX0_back_2 13 rfl rfl)
abbrev cX0_row : ByteArray := prog_1_method_118_code
def yX0_row : MethodName := ⟨RX0, "row", "(III)I"⟩
def dkwX0_row_1 : List UInt8 := [164, 0, 6, 16, 254, 172, 42, 180, 0, 85, 27, 50, 28, 29, 182, 2, 1, 3, 172, 58, 4, 16, 253, 172]
abbrev dktX0_row_1 : List UInt8 := dkwX0_row_1 ++ []
def dkwX0_row_0 : List UInt8 := [27, 184, 1, 18, 153, 0, 21, 28, 133, 9, 20, 1, 230, 184, 0, 103, 153, 0, 9, 29, 16, 60]
abbrev dktX0_row_0 : List UInt8 := dkwX0_row_0 ++ dktX0_row_1
theorem dksX0_row_0 : cX0_row.data.toList.drop 0 = dktX0_row_0 := by decide +kernel
theorem dksX0_row_1 : cX0_row.data.toList.drop 22 = dktX0_row_1 := dk_seg dksX0_row_0 22 rfl rfl
theorem dX0_row_0 : decode cX0_row 0 = .ok (.iload_n 1, 1) := dk_27 (dk_at dksX0_row_0 0 rfl rfl)
theorem dX0_row_1 : decode cX0_row 1 = .ok (.invokestatic 274, 3) := dk_184 1 18 (dk_at dksX0_row_0 1 rfl rfl)
theorem dX0_row_4 : decode cX0_row 4 = .ok (.ifCond .eq 21, 3) := dk_153 0 21 (dk_at dksX0_row_0 4 rfl rfl)
theorem dX0_row_7 : decode cX0_row 7 = .ok (.iload_n 2, 1) := dk_28 (dk_at dksX0_row_0 7 rfl rfl)
theorem dX0_row_8 : decode cX0_row 8 = .ok (.i2l, 1) := dk_133 (dk_at dksX0_row_0 8 rfl rfl)
theorem dX0_row_9 : decode cX0_row 9 = .ok (.lconst 0, 1) := dk_9 (dk_at dksX0_row_0 9 rfl rfl)
theorem dX0_row_10 : decode cX0_row 10 = .ok (.ldc2_w 486, 3) := dk_20 1 230 (dk_at dksX0_row_0 10 rfl rfl)
theorem dX0_row_13 : decode cX0_row 13 = .ok (.invokestatic 103, 3) := dk_184 0 103 (dk_at dksX0_row_0 13 rfl rfl)
theorem dX0_row_16 : decode cX0_row 16 = .ok (.ifCond .eq 9, 3) := dk_153 0 9 (dk_at dksX0_row_0 16 rfl rfl)
theorem dX0_row_19 : decode cX0_row 19 = .ok (.iload_n 3, 1) := dk_29 (dk_at dksX0_row_0 19 rfl rfl)
theorem dX0_row_20 : decode cX0_row 20 = .ok (.bipush 60, 2) := dk_16 60 (dk_at dksX0_row_0 20 rfl rfl)
theorem dX0_row_22 : decode cX0_row 22 = .ok (.if_icmp .le 6, 3) := dk_164 0 6 (dk_at dksX0_row_1 0 rfl rfl)
theorem dX0_row_25 : decode cX0_row 25 = .ok (.bipush (-2), 2) := dk_16 254 (dk_at dksX0_row_1 3 rfl rfl)
theorem dX0_row_27 : decode cX0_row 27 = .ok (.ireturn, 1) := dk_172 (dk_at dksX0_row_1 5 rfl rfl)
theorem dX0_row_28 : decode cX0_row 28 = .ok (.aload_n 0, 1) := dk_42 (dk_at dksX0_row_1 6 rfl rfl)
theorem dX0_row_29 : decode cX0_row 29 = .ok (.getfield 85, 3) := dk_180 0 85 (dk_at dksX0_row_1 7 rfl rfl)
theorem dX0_row_32 : decode cX0_row 32 = .ok (.iload_n 1, 1) := dk_27 (dk_at dksX0_row_1 10 rfl rfl)
theorem dX0_row_33 : decode cX0_row 33 = .ok (.aaload, 1) := dk_50 (dk_at dksX0_row_1 11 rfl rfl)
theorem dX0_row_34 : decode cX0_row 34 = .ok (.iload_n 2, 1) := dk_28 (dk_at dksX0_row_1 12 rfl rfl)
theorem dX0_row_35 : decode cX0_row 35 = .ok (.iload_n 3, 1) := dk_29 (dk_at dksX0_row_1 13 rfl rfl)
theorem dX0_row_36 : decode cX0_row 36 = .ok (.invokevirtual 513, 3) := dk_182 2 1 (dk_at dksX0_row_1 14 rfl rfl)
theorem dX0_row_39 : decode cX0_row 39 = .ok (.iconst 0, 1) := dk_3 (dk_at dksX0_row_1 17 rfl rfl)
theorem dX0_row_40 : decode cX0_row 40 = .ok (.ireturn, 1) := dk_172 (dk_at dksX0_row_1 18 rfl rfl)
theorem dX0_row_41 : decode cX0_row 41 = .ok (.astore 4, 2) := dk_58 4 (dk_at dksX0_row_1 19 rfl rfl)
theorem dX0_row_43 : decode cX0_row 43 = .ok (.bipush (-3), 2) := dk_16 253 (dk_at dksX0_row_1 21 rfl rfl)
theorem dX0_row_45 : decode cX0_row 45 = .ok (.ireturn, 1) := dk_172 (dk_at dksX0_row_1 23 rfl rfl)
abbrev cX0_write : ByteArray := prog_1_method_119_code
def yX0_write : MethodName := ⟨RX0, "write", "(IIJ)I"⟩
def dkwX0_write_1 : List UInt8 := [58, 5, 16, 250, 172, 58, 5, 16, 249, 172]
abbrev dktX0_write_1 : List UInt8 := dkwX0_write_1 ++ []
def dkwX0_write_0 : List UInt8 := [27, 184, 1, 18, 154, 0, 6, 16, 254, 172, 42, 180, 0, 85, 27, 50, 28, 33, 182, 2, 6, 3, 172]
abbrev dktX0_write_0 : List UInt8 := dkwX0_write_0 ++ dktX0_write_1
theorem dksX0_write_0 : cX0_write.data.toList.drop 0 = dktX0_write_0 := by decide +kernel
theorem dksX0_write_1 : cX0_write.data.toList.drop 23 = dktX0_write_1 := dk_seg dksX0_write_0 23 rfl rfl
theorem dX0_write_0 : decode cX0_write 0 = .ok (.iload_n 1, 1) := dk_27 (dk_at dksX0_write_0 0 rfl rfl)
theorem dX0_write_1 : decode cX0_write 1 = .ok (.invokestatic 274, 3) := dk_184 1 18 (dk_at dksX0_write_0 1 rfl rfl)
theorem dX0_write_4 : decode cX0_write 4 = .ok (.ifCond .ne 6, 3) := dk_154 0 6 (dk_at dksX0_write_0 4 rfl rfl)
theorem dX0_write_7 : decode cX0_write 7 = .ok (.bipush (-2), 2) := dk_16 254 (dk_at dksX0_write_0 7 rfl rfl)
theorem dX0_write_9 : decode cX0_write 9 = .ok (.ireturn, 1) := dk_172 (dk_at dksX0_write_0 9 rfl rfl)
theorem dX0_write_10 : decode cX0_write 10 = .ok (.aload_n 0, 1) := dk_42 (dk_at dksX0_write_0 10 rfl rfl)
theorem dX0_write_11 : decode cX0_write 11 = .ok (.getfield 85, 3) := dk_180 0 85 (dk_at dksX0_write_0 11 rfl rfl)
theorem dX0_write_14 : decode cX0_write 14 = .ok (.iload_n 1, 1) := dk_27 (dk_at dksX0_write_0 14 rfl rfl)
theorem dX0_write_15 : decode cX0_write 15 = .ok (.aaload, 1) := dk_50 (dk_at dksX0_write_0 15 rfl rfl)
theorem dX0_write_16 : decode cX0_write 16 = .ok (.iload_n 2, 1) := dk_28 (dk_at dksX0_write_0 16 rfl rfl)
theorem dX0_write_17 : decode cX0_write 17 = .ok (.lload_n 3, 1) := dk_33 (dk_at dksX0_write_0 17 rfl rfl)
theorem dX0_write_18 : decode cX0_write 18 = .ok (.invokevirtual 518, 3) := dk_182 2 6 (dk_at dksX0_write_0 18 rfl rfl)
theorem dX0_write_21 : decode cX0_write 21 = .ok (.iconst 0, 1) := dk_3 (dk_at dksX0_write_0 21 rfl rfl)
theorem dX0_write_22 : decode cX0_write 22 = .ok (.ireturn, 1) := dk_172 (dk_at dksX0_write_0 22 rfl rfl)
theorem dX0_write_23 : decode cX0_write 23 = .ok (.astore 5, 2) := dk_58 5 (dk_at dksX0_write_1 0 rfl rfl)
theorem dX0_write_25 : decode cX0_write 25 = .ok (.bipush (-6), 2) := dk_16 250 (dk_at dksX0_write_1 2 rfl rfl)
theorem dX0_write_27 : decode cX0_write 27 = .ok (.ireturn, 1) := dk_172 (dk_at dksX0_write_1 4 rfl rfl)
theorem dX0_write_28 : decode cX0_write 28 = .ok (.astore 5, 2) := dk_58 5 (dk_at dksX0_write_1 5 rfl rfl)
theorem dX0_write_30 : decode cX0_write 30 = .ok (.bipush (-7), 2) := dk_16 249 (dk_at dksX0_write_1 7 rfl rfl)
theorem dX0_write_32 : decode cX0_write 32 = .ok (.ireturn, 1) := dk_172 (dk_at dksX0_write_1 9 rfl rfl)
abbrev cX0_paste : ByteArray := prog_1_method_120_code
def yX0_paste : MethodName := ⟨RX0, "paste", "(IIIII)I"⟩
def dkwX0_paste_2 : List UInt8 := [16, 250, 172, 58, 6, 16, 248, 172, 58, 6, 16, 249, 172]
abbrev dktX0_paste_2 : List UInt8 := dkwX0_paste_2 ++ []
def dkwX0_paste_1 : List UInt8 := [180, 1, 232, 28, 42, 180, 0, 85, 29, 50, 180, 1, 232, 21, 4, 21, 5, 184, 1, 191, 3, 172, 58, 6]
abbrev dktX0_paste_1 : List UInt8 := dkwX0_paste_1 ++ dktX0_paste_2
def dkwX0_paste_0 : List UInt8 := [27, 184, 1, 18, 153, 0, 10, 29, 184, 1, 18, 154, 0, 6, 16, 254, 172, 42, 180, 0, 85, 27, 50]
abbrev dktX0_paste_0 : List UInt8 := dkwX0_paste_0 ++ dktX0_paste_1
theorem dksX0_paste_0 : cX0_paste.data.toList.drop 0 = dktX0_paste_0 := by decide +kernel
theorem dksX0_paste_1 : cX0_paste.data.toList.drop 23 = dktX0_paste_1 := dk_seg dksX0_paste_0 23 rfl rfl
theorem dksX0_paste_2 : cX0_paste.data.toList.drop 47 = dktX0_paste_2 := dk_seg dksX0_paste_1 24 rfl rfl
theorem dX0_paste_0 : decode cX0_paste 0 = .ok (.iload_n 1, 1) := dk_27 (dk_at dksX0_paste_0 0 rfl rfl)
theorem dX0_paste_1 : decode cX0_paste 1 = .ok (.invokestatic 274, 3) := dk_184 1 18 (dk_at dksX0_paste_0 1 rfl rfl)
theorem dX0_paste_4 : decode cX0_paste 4 = .ok (.ifCond .eq 10, 3) := dk_153 0 10 (dk_at dksX0_paste_0 4 rfl rfl)
theorem dX0_paste_7 : decode cX0_paste 7 = .ok (.iload_n 3, 1) := dk_29 (dk_at dksX0_paste_0 7 rfl rfl)
theorem dX0_paste_8 : decode cX0_paste 8 = .ok (.invokestatic 274, 3) := dk_184 1 18 (dk_at dksX0_paste_0 8 rfl rfl)
theorem dX0_paste_11 : decode cX0_paste 11 = .ok (.ifCond .ne 6, 3) := dk_154 0 6 (dk_at dksX0_paste_0 11 rfl rfl)
theorem dX0_paste_14 : decode cX0_paste 14 = .ok (.bipush (-2), 2) := dk_16 254 (dk_at dksX0_paste_0 14 rfl rfl)
theorem dX0_paste_16 : decode cX0_paste 16 = .ok (.ireturn, 1) := dk_172 (dk_at dksX0_paste_0 16 rfl rfl)
theorem dX0_paste_17 : decode cX0_paste 17 = .ok (.aload_n 0, 1) := dk_42 (dk_at dksX0_paste_0 17 rfl rfl)
theorem dX0_paste_18 : decode cX0_paste 18 = .ok (.getfield 85, 3) := dk_180 0 85 (dk_at dksX0_paste_0 18 rfl rfl)
theorem dX0_paste_21 : decode cX0_paste 21 = .ok (.iload_n 1, 1) := dk_27 (dk_at dksX0_paste_0 21 rfl rfl)
theorem dX0_paste_22 : decode cX0_paste 22 = .ok (.aaload, 1) := dk_50 (dk_at dksX0_paste_0 22 rfl rfl)
theorem dX0_paste_23 : decode cX0_paste 23 = .ok (.getfield 488, 3) := dk_180 1 232 (dk_at dksX0_paste_1 0 rfl rfl)
theorem dX0_paste_26 : decode cX0_paste 26 = .ok (.iload_n 2, 1) := dk_28 (dk_at dksX0_paste_1 3 rfl rfl)
theorem dX0_paste_27 : decode cX0_paste 27 = .ok (.aload_n 0, 1) := dk_42 (dk_at dksX0_paste_1 4 rfl rfl)
theorem dX0_paste_28 : decode cX0_paste 28 = .ok (.getfield 85, 3) := dk_180 0 85 (dk_at dksX0_paste_1 5 rfl rfl)
theorem dX0_paste_31 : decode cX0_paste 31 = .ok (.iload_n 3, 1) := dk_29 (dk_at dksX0_paste_1 8 rfl rfl)
theorem dX0_paste_32 : decode cX0_paste 32 = .ok (.aaload, 1) := dk_50 (dk_at dksX0_paste_1 9 rfl rfl)
theorem dX0_paste_33 : decode cX0_paste 33 = .ok (.getfield 488, 3) := dk_180 1 232 (dk_at dksX0_paste_1 10 rfl rfl)
theorem dX0_paste_36 : decode cX0_paste 36 = .ok (.iload 4, 2) := dk_21 4 (dk_at dksX0_paste_1 13 rfl rfl)
theorem dX0_paste_38 : decode cX0_paste 38 = .ok (.iload 5, 2) := dk_21 5 (dk_at dksX0_paste_1 15 rfl rfl)
theorem dX0_paste_40 : decode cX0_paste 40 = .ok (.invokestatic 447, 3) := dk_184 1 191 (dk_at dksX0_paste_1 17 rfl rfl)
theorem dX0_paste_43 : decode cX0_paste 43 = .ok (.iconst 0, 1) := dk_3 (dk_at dksX0_paste_1 20 rfl rfl)
theorem dX0_paste_44 : decode cX0_paste 44 = .ok (.ireturn, 1) := dk_172 (dk_at dksX0_paste_1 21 rfl rfl)
theorem dX0_paste_45 : decode cX0_paste 45 = .ok (.astore 6, 2) := dk_58 6 (dk_at dksX0_paste_1 22 rfl rfl)
theorem dX0_paste_47 : decode cX0_paste 47 = .ok (.bipush (-6), 2) := dk_16 250 (dk_at dksX0_paste_2 0 rfl rfl)
theorem dX0_paste_49 : decode cX0_paste 49 = .ok (.ireturn, 1) := dk_172 (dk_at dksX0_paste_2 2 rfl rfl)
theorem dX0_paste_50 : decode cX0_paste 50 = .ok (.astore 6, 2) := dk_58 6 (dk_at dksX0_paste_2 3 rfl rfl)
theorem dX0_paste_52 : decode cX0_paste 52 = .ok (.bipush (-8), 2) := dk_16 248 (dk_at dksX0_paste_2 5 rfl rfl)
theorem dX0_paste_54 : decode cX0_paste 54 = .ok (.ireturn, 1) := dk_172 (dk_at dksX0_paste_2 7 rfl rfl)
theorem dX0_paste_55 : decode cX0_paste 55 = .ok (.astore 6, 2) := dk_58 6 (dk_at dksX0_paste_2 8 rfl rfl)
theorem dX0_paste_57 : decode cX0_paste 57 = .ok (.bipush (-7), 2) := dk_16 249 (dk_at dksX0_paste_2 10 rfl rfl)
theorem dX0_paste_59 : decode cX0_paste 59 = .ok (.ireturn, 1) := dk_172 (dk_at dksX0_paste_2 12 rfl rfl)
theorem q139 : (Jvm.Cond.initialized "OverHill") ∈ lw_all := lw_g (lw_at lw_m1 1 rfl) rfl
theorem q174 : (Jvm.Cond.instantiable "OverHill" (34 : Nat)) ∈ lw_all := lw_g (lw_at lw_m1 36 rfl) rfl
theorem q176 : (Jvm.Cond.instanceMethod ({ cls := "OverHill", name := "<init>", desc := "()V" } : Jvm.MethodName)) ∈ lw_all := lw_g (lw_at lw_m1 38 rfl) rfl
theorem q177 : (Jvm.Cond.code ({ cls := "OverHill", name := "<init>", desc := "()V" } : Jvm.MethodName) prog_1_method_3_code (1 : Nat) (Option.none : Option Jvm.ClassFile.FieldType)) ∈ lw_all := lw_g (lw_at lw_m1 39 rfl) rfl
theorem q178 : (Jvm.Cond.methodLink "OverHill" (3 : Nat) ({ cls := "java/lang/Object", name := "<init>", desc := "()V" } : Jvm.MethodName)) ∈ lw_all := lw_g (lw_at lw_m1 40 rfl) rfl
theorem q181 : (Jvm.Cond.classLink "OverHill" (9 : Nat) "OverHill$Dance") ∈ lw_all := lw_g (lw_at lw_m1 43 rfl) rfl
theorem q183 : (Jvm.Cond.methodLinkNest "OverHill" (11 : Nat) ({ cls := "OverHill$Dance", name := "<init>", desc := "()V" } : Jvm.MethodName) "OverHill") ∈ lw_tbl := lw_at lw_m1 45 rfl
theorem q189 : (Jvm.Cond.fieldLinkNest "OverHill" (188 : Nat) "OverHill$Dance" "gap" "I" "OverHill") ∈ lw_tbl := lw_at lw_m1 51 rfl
theorem q192 : (Jvm.Cond.fieldLinkNest "OverHill" (429 : Nat) "OverHill$Dance" "odds" "I" "OverHill") ∈ lw_tbl := lw_at lw_m1 54 rfl
theorem q195 : (Jvm.Cond.fieldLinkNest "OverHill" (399 : Nat) "OverHill$Dance" "rain" "I" "OverHill") ∈ lw_tbl := lw_at lw_m1 57 rfl
theorem q197 : (Jvm.Cond.fieldLinkNest "OverHill" (117 : Nat) "OverHill$Dance" "lines" "I" "OverHill") ∈ lw_tbl := lw_at lw_m1 59 rfl
theorem q201 : (Jvm.Cond.fieldLinkNest "OverHill" (147 : Nat) "OverHill$Dance" "stumbles" "I" "OverHill") ∈ lw_tbl := lw_at lw_m1 63 rfl
theorem q204 : (Jvm.Cond.fieldLinkNest "OverHill" (329 : Nat) "OverHill$Dance" "cells" "I" "OverHill") ∈ lw_tbl := lw_at lw_m1 66 rfl
theorem q207 : (Jvm.Cond.fieldLinkNest "OverHill" (362 : Nat) "OverHill$Dance" "tunes" "I" "OverHill") ∈ lw_tbl := lw_at lw_m1 69 rfl
theorem q209 : (Jvm.Cond.fieldLinkNest "OverHill" (472 : Nat) "OverHill$Dance" "changes" "I" "OverHill") ∈ lw_tbl := lw_at lw_m1 71 rfl
theorem q213 : (Jvm.Cond.fieldLinkNest "OverHill" (144 : Nat) "OverHill$Dance" "length" "[I" "OverHill") ∈ lw_tbl := lw_at lw_m1 75 rfl
theorem q217 : (Jvm.Cond.fieldLinkNest "OverHill" (209 : Nat) "OverHill$Dance" "begins" "[I" "OverHill") ∈ lw_tbl := lw_at lw_m1 79 rfl
theorem q220 : (Jvm.Cond.fieldLinkNest "OverHill" (483 : Nat) "OverHill$Dance" "round" "[I" "OverHill") ∈ lw_tbl := lw_at lw_m1 82 rfl
theorem q223 : (Jvm.Cond.fieldLinkNest "OverHill" (163 : Nat) "OverHill$Dance" "answers" "[I" "OverHill") ∈ lw_tbl := lw_at lw_m1 85 rfl
theorem q226 : (Jvm.Cond.fieldLinkNest "OverHill" (169 : Nat) "OverHill$Dance" "side" "[I" "OverHill") ∈ lw_tbl := lw_at lw_m1 88 rfl
theorem q229 : (Jvm.Cond.fieldLinkNest "OverHill" (172 : Nat) "OverHill$Dance" "beat" "[I" "OverHill") ∈ lw_tbl := lw_at lw_m1 91 rfl
theorem q233 : (Jvm.Cond.fieldLinkNest "OverHill" (175 : Nat) "OverHill$Dance" "does" "[I" "OverHill") ∈ lw_tbl := lw_at lw_m1 95 rfl
theorem q237 : (Jvm.Cond.fieldLinkNest "OverHill" (178 : Nat) "OverHill$Dance" "lag" "[I" "OverHill") ∈ lw_tbl := lw_at lw_m1 99 rfl
theorem q240 : (Jvm.Cond.fieldLinkNest "OverHill" (324 : Nat) "OverHill$Dance" "every" "[I" "OverHill") ∈ lw_tbl := lw_at lw_m1 102 rfl
theorem q243 : (Jvm.Cond.fieldLinkNest "OverHill" (327 : Nat) "OverHill$Dance" "at" "[I" "OverHill") ∈ lw_tbl := lw_at lw_m1 105 rfl
theorem q246 : (Jvm.Cond.fieldLinkNest "OverHill" (365 : Nat) "OverHill$Dance" "tune" "[I" "OverHill") ∈ lw_tbl := lw_at lw_m1 108 rfl
theorem q249 : (Jvm.Cond.fieldLinkNest "OverHill" (368 : Nat) "OverHill$Dance" "tuneAt" "[I" "OverHill") ∈ lw_tbl := lw_at lw_m1 111 rfl
theorem q251 : (Jvm.Cond.fieldLinkNest "OverHill" (469 : Nat) "OverHill$Dance" "changed" "[I" "OverHill") ∈ lw_tbl := lw_at lw_m1 113 rfl
theorem q255 : (Jvm.Cond.fieldLinkNest "OverHill" (184 : Nat) "OverHill$Dance" "mud" "[Z" "OverHill") ∈ lw_tbl := lw_at lw_m1 117 rfl
theorem q303 : (Jvm.Cond.classLink "OverHill" (31 : Nat) "OverHill$Plain") ∈ lw_all := lw_g (lw_at lw_m1 165 rfl) rfl
theorem q305 : (Jvm.Cond.methodLinkNest "OverHill" (33 : Nat) ({ cls := "OverHill$Plain", name := "<init>", desc := "(LOverHill;)V" } : Jvm.MethodName) "OverHill") ∈ lw_tbl := lw_at lw_m1 167 rfl
theorem q314 : (Jvm.Cond.classLink "OverHill" (40 : Nat) "OverHill$Told") ∈ lw_all := lw_g (lw_at lw_m1 176 rfl) rfl
theorem q316 : (Jvm.Cond.methodLinkNest "OverHill" (42 : Nat) ({ cls := "OverHill$Told", name := "<init>", desc := "(LOverHill;)V" } : Jvm.MethodName) "OverHill") ∈ lw_tbl := lw_at lw_m1 178 rfl
theorem q331 : (Jvm.Cond.classLink "OverHill" (47 : Nat) "OverHill$Without") ∈ lw_all := lw_g (lw_at lw_m1 193 rfl) rfl
theorem q333 : (Jvm.Cond.methodLinkNest "OverHill" (49 : Nat) ({ cls := "OverHill$Without", name := "<init>", desc := "(LOverHill;)V" } : Jvm.MethodName) "OverHill") ∈ lw_tbl := lw_at lw_m1 195 rfl
theorem q338 : (Jvm.Cond.fieldLinkNest "OverHill" (238 : Nat) "OverHill$Without" "without" "I" "OverHill") ∈ lw_tbl := lw_at lw_m1 200 rfl
theorem q348 : (Jvm.Cond.classLink "OverHill" (54 : Nat) "OverHill$Thought") ∈ lw_all := lw_g (lw_at lw_m1 210 rfl) rfl
theorem q350 : (Jvm.Cond.methodLinkNest "OverHill" (56 : Nat) ({ cls := "OverHill$Thought", name := "<init>", desc := "(LOverHill;)V" } : Jvm.MethodName) "OverHill") ∈ lw_tbl := lw_at lw_m1 212 rfl
theorem q355 : (Jvm.Cond.fieldLinkNest "OverHill" (301 : Nat) "OverHill$Thought" "number" "I" "OverHill") ∈ lw_tbl := lw_at lw_m1 217 rfl
theorem q364 : (Jvm.Cond.classLink "OverHill" (82 : Nat) "OverHill$Slot") ∈ lw_all := lw_g (lw_at lw_m1 226 rfl) rfl
theorem q367 : (Jvm.Cond.methodLinkNest "OverHill" (84 : Nat) ({ cls := "OverHill$Slot", name := "<init>", desc := "()V" } : Jvm.MethodName) "OverHill") ∈ lw_tbl := lw_at lw_m1 229 rfl
theorem q372 : (Jvm.Cond.fieldLinkNest "OverHill" (488 : Nat) "OverHill$Slot" "row" "Ljava/lang/Object;" "OverHill") ∈ lw_tbl := lw_at lw_m1 234 rfl
theorem q376 : (Jvm.Cond.classLink "OverHill" (89 : Nat) "java/util/ArrayList") ∈ lw_all := lw_g (lw_at lw_m1 238 rfl) rfl
theorem q378 : (Jvm.Cond.methodLink "OverHill" (91 : Nat) ({ cls := "java/util/ArrayList", name := "<init>", desc := "()V" } : Jvm.MethodName)) ∈ lw_all := lw_g (lw_at lw_m2 0 rfl) rfl
theorem q404 : (Jvm.Cond.fieldLink "OverHill" (12 : Nat) "OverHill" "dance" "LOverHill$Dance;") ∈ lw_all := lw_g (lw_at lw_m2 26 rfl) rfl
theorem q407 : (Jvm.Cond.fieldLink "OverHill" (16 : Nat) "OverHill" "tape" "[B") ∈ lw_all := lw_g (lw_at lw_m2 29 rfl) rfl
theorem q409 : (Jvm.Cond.fieldLink "OverHill" (96 : Nat) "OverHill" "taped" "I") ∈ lw_all := lw_g (lw_at lw_m2 31 rfl) rfl
theorem q410 : (Jvm.Cond.fieldLink "OverHill" (114 : Nat) "OverHill" "faultKind" "I") ∈ lw_all := lw_g (lw_at lw_m2 32 rfl) rfl
theorem q411 : (Jvm.Cond.fieldLink "OverHill" (20 : Nat) "OverHill" "faultPlace" "I") ∈ lw_all := lw_g (lw_at lw_m2 33 rfl) rfl
theorem q412 : (Jvm.Cond.fieldLink "OverHill" (24 : Nat) "OverHill" "placeAt" "[I") ∈ lw_all := lw_g (lw_at lw_m2 34 rfl) rfl
theorem q414 : (Jvm.Cond.fieldLink "OverHill" (28 : Nat) "OverHill" "stepAt" "[I") ∈ lw_all := lw_g (lw_at lw_m2 36 rfl) rfl
theorem q416 : (Jvm.Cond.fieldLink "OverHill" (36 : Nat) "OverHill" "plain" "LOverHill$Plain;") ∈ lw_all := lw_g (lw_at lw_m2 38 rfl) rfl
theorem q417 : (Jvm.Cond.fieldLink "OverHill" (43 : Nat) "OverHill" "told" "LOverHill$Told;") ∈ lw_all := lw_g (lw_at lw_m2 39 rfl) rfl
theorem q418 : (Jvm.Cond.fieldLink "OverHill" (50 : Nat) "OverHill" "without" "LOverHill$Without;") ∈ lw_all := lw_g (lw_at lw_m2 40 rfl) rfl
theorem q419 : (Jvm.Cond.fieldLink "OverHill" (57 : Nat) "OverHill" "thought" "LOverHill$Thought;") ∈ lw_all := lw_g (lw_at lw_m2 41 rfl) rfl
theorem q420 : (Jvm.Cond.fieldLink "OverHill" (224 : Nat) "OverHill" "runMost" "I") ∈ lw_all := lw_g (lw_at lw_m2 42 rfl) rfl
theorem q421 : (Jvm.Cond.fieldLink "OverHill" (227 : Nat) "OverHill" "runFrom" "I") ∈ lw_all := lw_g (lw_at lw_m2 43 rfl) rfl
theorem q422 : (Jvm.Cond.fieldLink "OverHill" (291 : Nat) "OverHill" "fitMany" "I") ∈ lw_all := lw_g (lw_at lw_m2 44 rfl) rfl
theorem q423 : (Jvm.Cond.fieldLink "OverHill" (294 : Nat) "OverHill" "fitFirst" "I") ∈ lw_all := lw_g (lw_at lw_m2 45 rfl) rfl
theorem q424 : (Jvm.Cond.fieldLink "OverHill" (297 : Nat) "OverHill" "fitBeats" "J") ∈ lw_all := lw_g (lw_at lw_m2 46 rfl) rfl
theorem q425 : (Jvm.Cond.fieldLink "OverHill" (61 : Nat) "OverHill" "heardBy" "[I") ∈ lw_all := lw_g (lw_at lw_m2 47 rfl) rfl
theorem q426 : (Jvm.Cond.fieldLink "OverHill" (315 : Nat) "OverHill" "listenWorst" "I") ∈ lw_all := lw_g (lw_at lw_m2 48 rfl) rfl
theorem q427 : (Jvm.Cond.fieldLink "OverHill" (64 : Nat) "OverHill" "there" "[I") ∈ lw_all := lw_g (lw_at lw_m2 49 rfl) rfl
theorem q428 : (Jvm.Cond.fieldLink "OverHill" (67 : Nat) "OverHill" "back" "[I") ∈ lw_all := lw_g (lw_at lw_m2 50 rfl) rfl
theorem q429 : (Jvm.Cond.fieldLink "OverHill" (341 : Nat) "OverHill" "meetBeat" "I") ∈ lw_all := lw_g (lw_at lw_m2 51 rfl) rfl
theorem q430 : (Jvm.Cond.fieldLink "OverHill" (70 : Nat) "OverHill" "filled" "[I") ∈ lw_all := lw_g (lw_at lw_m2 52 rfl) rfl
theorem q431 : (Jvm.Cond.fieldLink "OverHill" (356 : Nat) "OverHill" "tunesBegin" "J") ∈ lw_all := lw_g (lw_at lw_m2 53 rfl) rfl
theorem q432 : (Jvm.Cond.fieldLink "OverHill" (359 : Nat) "OverHill" "tunesAgain" "J") ∈ lw_all := lw_g (lw_at lw_m2 54 rfl) rfl
theorem q433 : (Jvm.Cond.fieldLink "OverHill" (73 : Nat) "OverHill" "wins" "[B") ∈ lw_all := lw_g (lw_at lw_m2 55 rfl) rfl
theorem q434 : (Jvm.Cond.fieldLink "OverHill" (76 : Nat) "OverHill" "digit" "[I") ∈ lw_all := lw_g (lw_at lw_m2 56 rfl) rfl
theorem q435 : (Jvm.Cond.fieldLink "OverHill" (420 : Nat) "OverHill" "drawX" "J") ∈ lw_all := lw_g (lw_at lw_m2 57 rfl) rfl
theorem q436 : (Jvm.Cond.fieldLink "OverHill" (79 : Nat) "OverHill" "nightPlace" "[I") ∈ lw_all := lw_g (lw_at lw_m2 58 rfl) rfl
theorem q437 : (Jvm.Cond.fieldLink "OverHill" (438 : Nat) "OverHill" "nightHoles" "I") ∈ lw_all := lw_g (lw_at lw_m2 59 rfl) rfl
theorem q438 : (Jvm.Cond.fieldLink "OverHill" (441 : Nat) "OverHill" "nightFirst" "I") ∈ lw_all := lw_g (lw_at lw_m2 60 rfl) rfl
theorem q439 : (Jvm.Cond.fieldLink "OverHill" (444 : Nat) "OverHill" "nightMud" "I") ∈ lw_all := lw_g (lw_at lw_m2 61 rfl) rfl
theorem q440 : (Jvm.Cond.fieldLink "OverHill" (435 : Nat) "OverHill" "nightSlips" "I") ∈ lw_all := lw_g (lw_at lw_m2 62 rfl) rfl
theorem q441 : (Jvm.Cond.fieldLink "OverHill" (85 : Nat) "OverHill" "slots" "[LOverHill$Slot;") ∈ lw_all := lw_g (lw_at lw_m2 63 rfl) rfl
theorem q442 : (Jvm.Cond.fieldLink "OverHill" (92 : Nat) "OverHill" "images" "Ljava/util/ArrayList;") ∈ lw_all := lw_g (lw_at lw_m2 64 rfl) rfl
theorem q443 : (Jvm.Cond.lays "OverHill" "OverHill" "dance" "LOverHill$Dance;") ∈ lw_all := lw_g (lw_at lw_m2 65 rfl) rfl
theorem q444 : (Jvm.Cond.soleField "OverHill" "dance") ∈ lw_all := lw_g (lw_at lw_m2 66 rfl) rfl
theorem q445 : (Jvm.Cond.laysFinal "OverHill" "OverHill" "tape" "[B") ∈ lw_all := lw_g (lw_at lw_m2 67 rfl) rfl
theorem q446 : (Jvm.Cond.soleField "OverHill" "tape") ∈ lw_all := lw_g (lw_at lw_m2 68 rfl) rfl
theorem q447 : (Jvm.Cond.lays "OverHill" "OverHill" "taped" "I") ∈ lw_all := lw_g (lw_at lw_m2 69 rfl) rfl
theorem q448 : (Jvm.Cond.soleField "OverHill" "taped") ∈ lw_all := lw_g (lw_at lw_m2 70 rfl) rfl
theorem q449 : (Jvm.Cond.lays "OverHill" "OverHill" "faultKind" "I") ∈ lw_all := lw_g (lw_at lw_m2 71 rfl) rfl
theorem q450 : (Jvm.Cond.soleField "OverHill" "faultKind") ∈ lw_all := lw_g (lw_at lw_m2 72 rfl) rfl
theorem q451 : (Jvm.Cond.lays "OverHill" "OverHill" "faultPlace" "I") ∈ lw_all := lw_g (lw_at lw_m2 73 rfl) rfl
theorem q452 : (Jvm.Cond.soleField "OverHill" "faultPlace") ∈ lw_all := lw_g (lw_at lw_m2 74 rfl) rfl
theorem q453 : (Jvm.Cond.laysFinal "OverHill" "OverHill" "placeAt" "[I") ∈ lw_all := lw_g (lw_at lw_m2 75 rfl) rfl
theorem q454 : (Jvm.Cond.soleField "OverHill" "placeAt") ∈ lw_all := lw_g (lw_at lw_m2 76 rfl) rfl
theorem q455 : (Jvm.Cond.laysFinal "OverHill" "OverHill" "stepAt" "[I") ∈ lw_all := lw_g (lw_at lw_m2 77 rfl) rfl
theorem q456 : (Jvm.Cond.soleField "OverHill" "stepAt") ∈ lw_all := lw_g (lw_at lw_m2 78 rfl) rfl
theorem q457 : (Jvm.Cond.laysFinal "OverHill" "OverHill" "plain" "LOverHill$Plain;") ∈ lw_all := lw_g (lw_at lw_m2 79 rfl) rfl
theorem q458 : (Jvm.Cond.soleField "OverHill" "plain") ∈ lw_all := lw_g (lw_at lw_m2 80 rfl) rfl
theorem q459 : (Jvm.Cond.laysFinal "OverHill" "OverHill" "told" "LOverHill$Told;") ∈ lw_all := lw_g (lw_at lw_m2 81 rfl) rfl
theorem q460 : (Jvm.Cond.soleField "OverHill" "told") ∈ lw_all := lw_g (lw_at lw_m2 82 rfl) rfl
theorem q461 : (Jvm.Cond.laysFinal "OverHill" "OverHill" "without" "LOverHill$Without;") ∈ lw_all := lw_g (lw_at lw_m2 83 rfl) rfl
theorem q462 : (Jvm.Cond.soleField "OverHill" "without") ∈ lw_all := lw_g (lw_at lw_m2 84 rfl) rfl
theorem q463 : (Jvm.Cond.laysFinal "OverHill" "OverHill" "thought" "LOverHill$Thought;") ∈ lw_all := lw_g (lw_at lw_m2 85 rfl) rfl
theorem q464 : (Jvm.Cond.soleField "OverHill" "thought") ∈ lw_all := lw_g (lw_at lw_m2 86 rfl) rfl
theorem q465 : (Jvm.Cond.lays "OverHill" "OverHill" "runMost" "I") ∈ lw_all := lw_g (lw_at lw_m2 87 rfl) rfl
theorem q466 : (Jvm.Cond.soleField "OverHill" "runMost") ∈ lw_all := lw_g (lw_at lw_m2 88 rfl) rfl
theorem q467 : (Jvm.Cond.lays "OverHill" "OverHill" "runFrom" "I") ∈ lw_all := lw_g (lw_at lw_m2 89 rfl) rfl
theorem q468 : (Jvm.Cond.soleField "OverHill" "runFrom") ∈ lw_all := lw_g (lw_at lw_m2 90 rfl) rfl
theorem q469 : (Jvm.Cond.lays "OverHill" "OverHill" "fitMany" "I") ∈ lw_all := lw_g (lw_at lw_m2 91 rfl) rfl
theorem q470 : (Jvm.Cond.soleField "OverHill" "fitMany") ∈ lw_all := lw_g (lw_at lw_m2 92 rfl) rfl
theorem q471 : (Jvm.Cond.lays "OverHill" "OverHill" "fitFirst" "I") ∈ lw_all := lw_g (lw_at lw_m2 93 rfl) rfl
theorem q472 : (Jvm.Cond.soleField "OverHill" "fitFirst") ∈ lw_all := lw_g (lw_at lw_m2 94 rfl) rfl
theorem q473 : (Jvm.Cond.lays "OverHill" "OverHill" "fitBeats" "J") ∈ lw_all := lw_g (lw_at lw_m2 95 rfl) rfl
theorem q474 : (Jvm.Cond.soleField "OverHill" "fitBeats") ∈ lw_all := lw_g (lw_at lw_m2 96 rfl) rfl
theorem q475 : (Jvm.Cond.laysFinal "OverHill" "OverHill" "heardBy" "[I") ∈ lw_all := lw_g (lw_at lw_m2 97 rfl) rfl
theorem q476 : (Jvm.Cond.soleField "OverHill" "heardBy") ∈ lw_all := lw_g (lw_at lw_m2 98 rfl) rfl
theorem q477 : (Jvm.Cond.lays "OverHill" "OverHill" "listenWorst" "I") ∈ lw_all := lw_g (lw_at lw_m2 99 rfl) rfl
theorem q478 : (Jvm.Cond.soleField "OverHill" "listenWorst") ∈ lw_all := lw_g (lw_at lw_m2 100 rfl) rfl
theorem q479 : (Jvm.Cond.laysFinal "OverHill" "OverHill" "there" "[I") ∈ lw_all := lw_g (lw_at lw_m2 101 rfl) rfl
theorem q480 : (Jvm.Cond.soleField "OverHill" "there") ∈ lw_all := lw_g (lw_at lw_m2 102 rfl) rfl
theorem q481 : (Jvm.Cond.laysFinal "OverHill" "OverHill" "back" "[I") ∈ lw_all := lw_g (lw_at lw_m2 103 rfl) rfl
theorem q482 : (Jvm.Cond.soleField "OverHill" "back") ∈ lw_all := lw_g (lw_at lw_m2 104 rfl) rfl
theorem q483 : (Jvm.Cond.lays "OverHill" "OverHill" "meetBeat" "I") ∈ lw_all := lw_g (lw_at lw_m2 105 rfl) rfl
theorem q484 : (Jvm.Cond.soleField "OverHill" "meetBeat") ∈ lw_all := lw_g (lw_at lw_m2 106 rfl) rfl
theorem q485 : (Jvm.Cond.laysFinal "OverHill" "OverHill" "filled" "[I") ∈ lw_all := lw_g (lw_at lw_m2 107 rfl) rfl
theorem q486 : (Jvm.Cond.soleField "OverHill" "filled") ∈ lw_all := lw_g (lw_at lw_m2 108 rfl) rfl
theorem q487 : (Jvm.Cond.lays "OverHill" "OverHill" "tunesBegin" "J") ∈ lw_all := lw_g (lw_at lw_m2 109 rfl) rfl
theorem q488 : (Jvm.Cond.soleField "OverHill" "tunesBegin") ∈ lw_all := lw_g (lw_at lw_m2 110 rfl) rfl
theorem q489 : (Jvm.Cond.lays "OverHill" "OverHill" "tunesAgain" "J") ∈ lw_all := lw_g (lw_at lw_m2 111 rfl) rfl
theorem q490 : (Jvm.Cond.soleField "OverHill" "tunesAgain") ∈ lw_all := lw_g (lw_at lw_m2 112 rfl) rfl
theorem q491 : (Jvm.Cond.laysFinal "OverHill" "OverHill" "wins" "[B") ∈ lw_all := lw_g (lw_at lw_m2 113 rfl) rfl
theorem q492 : (Jvm.Cond.soleField "OverHill" "wins") ∈ lw_all := lw_g (lw_at lw_m2 114 rfl) rfl
theorem q493 : (Jvm.Cond.laysFinal "OverHill" "OverHill" "digit" "[I") ∈ lw_all := lw_g (lw_at lw_m2 115 rfl) rfl
theorem q494 : (Jvm.Cond.soleField "OverHill" "digit") ∈ lw_all := lw_g (lw_at lw_m2 116 rfl) rfl
theorem q495 : (Jvm.Cond.lays "OverHill" "OverHill" "drawX" "J") ∈ lw_all := lw_g (lw_at lw_m2 117 rfl) rfl
theorem q496 : (Jvm.Cond.soleField "OverHill" "drawX") ∈ lw_all := lw_g (lw_at lw_m2 118 rfl) rfl
theorem q497 : (Jvm.Cond.laysFinal "OverHill" "OverHill" "nightPlace" "[I") ∈ lw_all := lw_g (lw_at lw_m2 119 rfl) rfl
theorem q498 : (Jvm.Cond.soleField "OverHill" "nightPlace") ∈ lw_all := lw_g (lw_at lw_m2 120 rfl) rfl
theorem q499 : (Jvm.Cond.lays "OverHill" "OverHill" "nightHoles" "I") ∈ lw_all := lw_g (lw_at lw_m2 121 rfl) rfl
theorem q500 : (Jvm.Cond.soleField "OverHill" "nightHoles") ∈ lw_all := lw_g (lw_at lw_m2 122 rfl) rfl
theorem q501 : (Jvm.Cond.lays "OverHill" "OverHill" "nightFirst" "I") ∈ lw_all := lw_g (lw_at lw_m2 123 rfl) rfl
theorem q502 : (Jvm.Cond.soleField "OverHill" "nightFirst") ∈ lw_all := lw_g (lw_at lw_m2 124 rfl) rfl
theorem q503 : (Jvm.Cond.lays "OverHill" "OverHill" "nightMud" "I") ∈ lw_all := lw_g (lw_at lw_m2 125 rfl) rfl
theorem q504 : (Jvm.Cond.soleField "OverHill" "nightMud") ∈ lw_all := lw_g (lw_at lw_m2 126 rfl) rfl
theorem q505 : (Jvm.Cond.lays "OverHill" "OverHill" "nightSlips" "I") ∈ lw_all := lw_g (lw_at lw_m2 127 rfl) rfl
theorem q506 : (Jvm.Cond.soleField "OverHill" "nightSlips") ∈ lw_all := lw_g (lw_at lw_m2 128 rfl) rfl
theorem q507 : (Jvm.Cond.laysFinal "OverHill" "OverHill" "slots" "[LOverHill$Slot;") ∈ lw_all := lw_g (lw_at lw_m2 129 rfl) rfl
theorem q508 : (Jvm.Cond.soleField "OverHill" "slots") ∈ lw_all := lw_g (lw_at lw_m2 130 rfl) rfl
theorem q509 : (Jvm.Cond.laysFinal "OverHill" "OverHill" "images" "Ljava/util/ArrayList;") ∈ lw_all := lw_g (lw_at lw_m2 131 rfl) rfl
theorem q510 : (Jvm.Cond.soleField "OverHill" "images") ∈ lw_all := lw_g (lw_at lw_m2 132 rfl) rfl
theorem q511 : (Jvm.Cond.superclass "OverHill" "java/lang/Object") ∈ lw_all := lw_g (lw_at lw_m2 133 rfl) rfl
theorem q513 : (Jvm.Cond.instanceMethod ({ cls := "OverHill", name := "feed", desc := "(IIIII)I" } : Jvm.MethodName)) ∈ lw_all := lw_g (lw_at lw_m2 135 rfl) rfl
theorem q514 : (Jvm.Cond.selects "OverHill" ({ cls := "OverHill", name := "feed", desc := "(IIIII)I" } : Jvm.MethodName) ({ cls := "OverHill", name := "feed", desc := "(IIIII)I" } : Jvm.MethodName)) ∈ lw_all := lw_g (lw_at lw_m2 136 rfl) rfl
theorem q515 : (Jvm.Cond.code ({ cls := "OverHill", name := "feed", desc := "(IIIII)I" } : Jvm.MethodName) prog_1_method_5_code (6 : Nat) (Option.some Jvm.ClassFile.FieldType.int)) ∈ lw_all := lw_g (lw_at lw_m2 137 rfl) rfl
theorem q516 : (Jvm.Cond.methodLink "OverHill" (99 : Nat) ({ cls := "OverHill", name := "puts", desc := "(I)V" } : Jvm.MethodName)) ∈ lw_all := lw_g (lw_at lw_m2 138 rfl) rfl
theorem q517 : (Jvm.Cond.privateMethod ({ cls := "OverHill", name := "puts", desc := "(I)V" } : Jvm.MethodName)) ∈ lw_tbl := lw_at lw_m2 139 rfl
theorem q518 : (Jvm.Cond.instanceMethod ({ cls := "OverHill", name := "puts", desc := "(I)V" } : Jvm.MethodName)) ∈ lw_all := lw_g (lw_at lw_m2 140 rfl) rfl
theorem q519 : (Jvm.Cond.code ({ cls := "OverHill", name := "puts", desc := "(I)V" } : Jvm.MethodName) prog_1_method_4_code (3 : Nat) (Option.none : Option Jvm.ClassFile.FieldType)) ∈ lw_all := lw_g (lw_at lw_m2 141 rfl) rfl
theorem q521 : (Jvm.Cond.instanceMethod ({ cls := "OverHill", name := "end", desc := "(I)I" } : Jvm.MethodName)) ∈ lw_all := lw_g (lw_at lw_m2 143 rfl) rfl
theorem q522 : (Jvm.Cond.selects "OverHill" ({ cls := "OverHill", name := "end", desc := "(I)I" } : Jvm.MethodName) ({ cls := "OverHill", name := "end", desc := "(I)I" } : Jvm.MethodName)) ∈ lw_all := lw_g (lw_at lw_m2 144 rfl) rfl
theorem q523 : (Jvm.Cond.code ({ cls := "OverHill", name := "end", desc := "(I)I" } : Jvm.MethodName) prog_1_method_6_code (2 : Nat) (Option.some Jvm.ClassFile.FieldType.int)) ∈ lw_all := lw_g (lw_at lw_m2 145 rfl) rfl
theorem q524 : (Jvm.Cond.methodLink "OverHill" (103 : Nat) ({ cls := "OverHill", name := "isIn", desc := "(JJJ)Z" } : Jvm.MethodName)) ∈ lw_all := lw_g (lw_at lw_m2 146 rfl) rfl
theorem q525 : (Jvm.Cond.static ({ cls := "OverHill", name := "isIn", desc := "(JJJ)Z" } : Jvm.MethodName)) ∈ lw_all := lw_g (lw_at lw_m2 147 rfl) rfl
theorem q526 : (Jvm.Cond.code ({ cls := "OverHill", name := "isIn", desc := "(JJJ)Z" } : Jvm.MethodName) prog_1_method_1_code (6 : Nat) (Option.some Jvm.ClassFile.FieldType.boolean)) ∈ lw_all := lw_g (lw_at lw_m2 148 rfl) rfl
theorem q528 : (Jvm.Cond.instanceMethod ({ cls := "OverHill", name := "dance", desc := "()I" } : Jvm.MethodName)) ∈ lw_all := lw_g (lw_at lw_m2 150 rfl) rfl
theorem q529 : (Jvm.Cond.selects "OverHill" ({ cls := "OverHill", name := "dance", desc := "()I" } : Jvm.MethodName) ({ cls := "OverHill", name := "dance", desc := "()I" } : Jvm.MethodName)) ∈ lw_all := lw_g (lw_at lw_m2 151 rfl) rfl
theorem q530 : (Jvm.Cond.codeWith ({ cls := "OverHill", name := "dance", desc := "()I" } : Jvm.MethodName) prog_1_method_7_code (4 : Nat) (Option.some Jvm.ClassFile.FieldType.int) [((0 : Nat), (33 : Nat), (40 : Nat), (120 : Nat)), ((0 : Nat), (33 : Nat), (67 : Nat), (0 : Nat)), ((40 : Nat), (60 : Nat), (67 : Nat), (0 : Nat))]) ∈ lw_all := lw_g (lw_at lw_m2 152 rfl) rfl
theorem q531 : (Jvm.Cond.classLink "OverHill" (120 : Nat) "OverHill$Fault") ∈ lw_all := lw_g (lw_at lw_m2 153 rfl) rfl
theorem q532 : (Jvm.Cond.classLink "OverHill" (107 : Nat) "OverHill$Reader") ∈ lw_all := lw_g (lw_at lw_m2 154 rfl) rfl
theorem q534 : (Jvm.Cond.methodLink "OverHill" (109 : Nat) ({ cls := "OverHill$Reader", name := "<init>", desc := "(LOverHill;)V" } : Jvm.MethodName)) ∈ lw_all := lw_g (lw_at lw_m2 156 rfl) rfl
theorem q585 : (Jvm.Cond.methodLink "OverHill" (110 : Nat) ({ cls := "OverHill$Reader", name := "read", desc := "()LOverHill$Dance;" } : Jvm.MethodName)) ∈ lw_all := lw_g (lw_at lw_m2 207 rfl) rfl
theorem q722 : (Jvm.Cond.fieldLinkNest "OverHill" (122 : Nat) "OverHill$Fault" "kind" "I" "OverHill") ∈ lw_tbl := lw_at lw_m3 104 rfl
theorem q724 : (Jvm.Cond.fieldLinkNest "OverHill" (125 : Nat) "OverHill$Fault" "place" "I" "OverHill") ∈ lw_tbl := lw_at lw_m3 106 rfl
theorem q806 : (Jvm.Cond.instanceMethod ({ cls := "OverHill", name := "fault", desc := "(I)I" } : Jvm.MethodName)) ∈ lw_all := lw_g (lw_at lw_m3 188 rfl) rfl
theorem q807 : (Jvm.Cond.selects "OverHill" ({ cls := "OverHill", name := "fault", desc := "(I)I" } : Jvm.MethodName) ({ cls := "OverHill", name := "fault", desc := "(I)I" } : Jvm.MethodName)) ∈ lw_all := lw_g (lw_at lw_m3 189 rfl) rfl
theorem q808 : (Jvm.Cond.code ({ cls := "OverHill", name := "fault", desc := "(I)I" } : Jvm.MethodName) prog_1_method_8_code (2 : Nat) (Option.some Jvm.ClassFile.FieldType.int)) ∈ lw_all := lw_g (lw_at lw_m3 190 rfl) rfl
theorem q810 : (Jvm.Cond.instanceMethod ({ cls := "OverHill", name := "step", desc := "(II)I" } : Jvm.MethodName)) ∈ lw_all := lw_g (lw_at lw_m3 192 rfl) rfl
theorem q811 : (Jvm.Cond.selects "OverHill" ({ cls := "OverHill", name := "step", desc := "(II)I" } : Jvm.MethodName) ({ cls := "OverHill", name := "step", desc := "(II)I" } : Jvm.MethodName)) ∈ lw_all := lw_g (lw_at lw_m3 193 rfl) rfl
theorem q812 : (Jvm.Cond.code ({ cls := "OverHill", name := "step", desc := "(II)I" } : Jvm.MethodName) prog_1_method_18_code (3 : Nat) (Option.some Jvm.ClassFile.FieldType.int)) ∈ lw_all := lw_g (lw_at lw_m3 194 rfl) rfl
theorem q813 : (Jvm.Cond.methodLink "OverHill" (140 : Nat) ({ cls := "OverHill", name := "isSide", desc := "(I)Z" } : Jvm.MethodName)) ∈ lw_all := lw_g (lw_at lw_m3 195 rfl) rfl
theorem q814 : (Jvm.Cond.privateMethod ({ cls := "OverHill", name := "isSide", desc := "(I)Z" } : Jvm.MethodName)) ∈ lw_tbl := lw_at lw_m3 196 rfl
theorem q815 : (Jvm.Cond.instanceMethod ({ cls := "OverHill", name := "isSide", desc := "(I)Z" } : Jvm.MethodName)) ∈ lw_all := lw_g (lw_at lw_m3 197 rfl) rfl
theorem q816 : (Jvm.Cond.code ({ cls := "OverHill", name := "isSide", desc := "(I)Z" } : Jvm.MethodName) prog_1_method_11_code (2 : Nat) (Option.some Jvm.ClassFile.FieldType.boolean)) ∈ lw_all := lw_g (lw_at lw_m3 198 rfl) rfl
theorem q817 : (Jvm.Cond.methodLink "OverHill" (128 : Nat) ({ cls := "OverHill", name := "isDance", desc := "()Z" } : Jvm.MethodName)) ∈ lw_all := lw_g (lw_at lw_m3 199 rfl) rfl
theorem q818 : (Jvm.Cond.privateMethod ({ cls := "OverHill", name := "isDance", desc := "()Z" } : Jvm.MethodName)) ∈ lw_tbl := lw_at lw_m3 200 rfl
theorem q819 : (Jvm.Cond.instanceMethod ({ cls := "OverHill", name := "isDance", desc := "()Z" } : Jvm.MethodName)) ∈ lw_all := lw_g (lw_at lw_m3 201 rfl) rfl
theorem q820 : (Jvm.Cond.code ({ cls := "OverHill", name := "isDance", desc := "()Z" } : Jvm.MethodName) prog_1_method_9_code (1 : Nat) (Option.some Jvm.ClassFile.FieldType.boolean)) ∈ lw_all := lw_g (lw_at lw_m3 202 rfl) rfl
theorem q821 : (Jvm.Cond.methodLink "OverHill" (132 : Nat) ({ cls := "OverHill", name := "isOneOf", desc := "(II)Z" } : Jvm.MethodName)) ∈ lw_all := lw_g (lw_at lw_m3 203 rfl) rfl
theorem q822 : (Jvm.Cond.static ({ cls := "OverHill", name := "isOneOf", desc := "(II)Z" } : Jvm.MethodName)) ∈ lw_all := lw_g (lw_at lw_m3 204 rfl) rfl
theorem q823 : (Jvm.Cond.code ({ cls := "OverHill", name := "isOneOf", desc := "(II)Z" } : Jvm.MethodName) prog_1_method_10_code (2 : Nat) (Option.some Jvm.ClassFile.FieldType.boolean)) ∈ lw_all := lw_g (lw_at lw_m3 205 rfl) rfl
theorem q824 : (Jvm.Cond.methodLink "OverHill" (152 : Nat) ({ cls := "OverHill", name := "isPlace", desc := "(II)Z" } : Jvm.MethodName)) ∈ lw_all := lw_g (lw_at lw_m3 206 rfl) rfl
theorem q825 : (Jvm.Cond.privateMethod ({ cls := "OverHill", name := "isPlace", desc := "(II)Z" } : Jvm.MethodName)) ∈ lw_tbl := lw_at lw_m3 207 rfl
theorem q826 : (Jvm.Cond.instanceMethod ({ cls := "OverHill", name := "isPlace", desc := "(II)Z" } : Jvm.MethodName)) ∈ lw_all := lw_g (lw_at lw_m3 208 rfl) rfl
theorem q827 : (Jvm.Cond.code ({ cls := "OverHill", name := "isPlace", desc := "(II)Z" } : Jvm.MethodName) prog_1_method_14_code (3 : Nat) (Option.some Jvm.ClassFile.FieldType.boolean)) ∈ lw_all := lw_g (lw_at lw_m3 209 rfl) rfl
theorem q828 : (Jvm.Cond.methodLink "OverHill" (155 : Nat) ({ cls := "OverHill$Dance", name := "step", desc := "(II)I" } : Jvm.MethodName)) ∈ lw_all := lw_g (lw_at lw_m3 210 rfl) rfl
theorem q833 : (Jvm.Cond.instanceMethod ({ cls := "OverHill", name := "answers", desc := "(I)I" } : Jvm.MethodName)) ∈ lw_all := lw_g (lw_at lw_m3 215 rfl) rfl
theorem q834 : (Jvm.Cond.selects "OverHill" ({ cls := "OverHill", name := "answers", desc := "(I)I" } : Jvm.MethodName) ({ cls := "OverHill", name := "answers", desc := "(I)I" } : Jvm.MethodName)) ∈ lw_all := lw_g (lw_at lw_m3 216 rfl) rfl
theorem q835 : (Jvm.Cond.code ({ cls := "OverHill", name := "answers", desc := "(I)I" } : Jvm.MethodName) prog_1_method_19_code (2 : Nat) (Option.some Jvm.ClassFile.FieldType.int)) ∈ lw_all := lw_g (lw_at lw_m3 217 rfl) rfl
theorem q836 : (Jvm.Cond.methodLink "OverHill" (159 : Nat) ({ cls := "OverHill", name := "isStep", desc := "(J)Z" } : Jvm.MethodName)) ∈ lw_all := lw_g (lw_at lw_m3 218 rfl) rfl
theorem q837 : (Jvm.Cond.privateMethod ({ cls := "OverHill", name := "isStep", desc := "(J)Z" } : Jvm.MethodName)) ∈ lw_tbl := lw_at lw_m3 219 rfl
theorem q838 : (Jvm.Cond.instanceMethod ({ cls := "OverHill", name := "isStep", desc := "(J)Z" } : Jvm.MethodName)) ∈ lw_all := lw_g (lw_at lw_m3 220 rfl) rfl
theorem q839 : (Jvm.Cond.code ({ cls := "OverHill", name := "isStep", desc := "(J)Z" } : Jvm.MethodName) prog_1_method_13_code (3 : Nat) (Option.some Jvm.ClassFile.FieldType.boolean)) ∈ lw_all := lw_g (lw_at lw_m3 221 rfl) rfl
theorem q840 : (Jvm.Cond.constantLong "OverHill" (138 : Nat) (5 : Int64)) ∈ lw_all := lw_g (lw_at lw_m3 222 rfl) rfl
theorem q842 : (Jvm.Cond.instanceMethod ({ cls := "OverHill", name := "stumbled", desc := "(II)I" } : Jvm.MethodName)) ∈ lw_all := lw_g (lw_at lw_m3 224 rfl) rfl
theorem q843 : (Jvm.Cond.selects "OverHill" ({ cls := "OverHill", name := "stumbled", desc := "(II)I" } : Jvm.MethodName) ({ cls := "OverHill", name := "stumbled", desc := "(II)I" } : Jvm.MethodName)) ∈ lw_all := lw_g (lw_at lw_m3 225 rfl) rfl
theorem q844 : (Jvm.Cond.code ({ cls := "OverHill", name := "stumbled", desc := "(II)I" } : Jvm.MethodName) prog_1_method_20_code (3 : Nat) (Option.some Jvm.ClassFile.FieldType.int)) ∈ lw_all := lw_g (lw_at lw_m3 226 rfl) rfl
theorem q845 : (Jvm.Cond.methodLink "OverHill" (166 : Nat) ({ cls := "OverHill", name := "isStumble", desc := "(I)Z" } : Jvm.MethodName)) ∈ lw_all := lw_g (lw_at lw_m3 227 rfl) rfl
theorem q846 : (Jvm.Cond.privateMethod ({ cls := "OverHill", name := "isStumble", desc := "(I)Z" } : Jvm.MethodName)) ∈ lw_tbl := lw_at lw_m3 228 rfl
theorem q847 : (Jvm.Cond.instanceMethod ({ cls := "OverHill", name := "isStumble", desc := "(I)Z" } : Jvm.MethodName)) ∈ lw_all := lw_g (lw_at lw_m3 229 rfl) rfl
theorem q848 : (Jvm.Cond.code ({ cls := "OverHill", name := "isStumble", desc := "(I)Z" } : Jvm.MethodName) prog_1_method_15_code (2 : Nat) (Option.some Jvm.ClassFile.FieldType.boolean)) ∈ lw_all := lw_g (lw_at lw_m3 230 rfl) rfl
theorem q850 : (Jvm.Cond.instanceMethod ({ cls := "OverHill", name := "muddy", desc := "(I)I" } : Jvm.MethodName)) ∈ lw_all := lw_g (lw_at lw_m3 232 rfl) rfl
theorem q851 : (Jvm.Cond.selects "OverHill" ({ cls := "OverHill", name := "muddy", desc := "(I)I" } : Jvm.MethodName) ({ cls := "OverHill", name := "muddy", desc := "(I)I" } : Jvm.MethodName)) ∈ lw_all := lw_g (lw_at lw_m3 233 rfl) rfl
theorem q852 : (Jvm.Cond.code ({ cls := "OverHill", name := "muddy", desc := "(I)I" } : Jvm.MethodName) prog_1_method_21_code (2 : Nat) (Option.some Jvm.ClassFile.FieldType.int)) ∈ lw_all := lw_g (lw_at lw_m3 234 rfl) rfl
theorem q853 : (Jvm.Cond.methodLink "OverHill" (181 : Nat) ({ cls := "OverHill", name := "isBeat", desc := "(J)Z" } : Jvm.MethodName)) ∈ lw_all := lw_g (lw_at lw_m3 235 rfl) rfl
theorem q854 : (Jvm.Cond.privateMethod ({ cls := "OverHill", name := "isBeat", desc := "(J)Z" } : Jvm.MethodName)) ∈ lw_tbl := lw_at lw_m3 236 rfl
theorem q855 : (Jvm.Cond.instanceMethod ({ cls := "OverHill", name := "isBeat", desc := "(J)Z" } : Jvm.MethodName)) ∈ lw_all := lw_g (lw_at lw_m3 237 rfl) rfl
theorem q856 : (Jvm.Cond.code ({ cls := "OverHill", name := "isBeat", desc := "(J)Z" } : Jvm.MethodName) prog_1_method_12_code (3 : Nat) (Option.some Jvm.ClassFile.FieldType.boolean)) ∈ lw_all := lw_g (lw_at lw_m3 238 rfl) rfl
theorem q857 : (Jvm.Cond.constantLong "OverHill" (136 : Nat) (199 : Int64)) ∈ lw_all := lw_g (lw_at lw_m3 239 rfl) rfl
theorem q859 : (Jvm.Cond.instanceMethod ({ cls := "OverHill", name := "place", desc := "(II)I" } : Jvm.MethodName)) ∈ lw_all := lw_g (lw_at lw_m4 1 rfl) rfl
theorem q860 : (Jvm.Cond.selects "OverHill" ({ cls := "OverHill", name := "place", desc := "(II)I" } : Jvm.MethodName) ({ cls := "OverHill", name := "place", desc := "(II)I" } : Jvm.MethodName)) ∈ lw_all := lw_g (lw_at lw_m4 2 rfl) rfl
theorem q861 : (Jvm.Cond.code ({ cls := "OverHill", name := "place", desc := "(II)I" } : Jvm.MethodName) prog_1_method_27_code (3 : Nat) (Option.some Jvm.ClassFile.FieldType.int)) ∈ lw_all := lw_g (lw_at lw_m4 3 rfl) rfl
theorem q862 : (Jvm.Cond.methodLink "OverHill" (203 : Nat) ({ cls := "OverHill", name := "isAsked", desc := "(II)Z" } : Jvm.MethodName)) ∈ lw_all := lw_g (lw_at lw_m4 4 rfl) rfl
theorem q863 : (Jvm.Cond.privateMethod ({ cls := "OverHill", name := "isAsked", desc := "(II)Z" } : Jvm.MethodName)) ∈ lw_tbl := lw_at lw_m4 5 rfl
theorem q864 : (Jvm.Cond.instanceMethod ({ cls := "OverHill", name := "isAsked", desc := "(II)Z" } : Jvm.MethodName)) ∈ lw_all := lw_g (lw_at lw_m4 6 rfl) rfl
theorem q865 : (Jvm.Cond.code ({ cls := "OverHill", name := "isAsked", desc := "(II)Z" } : Jvm.MethodName) prog_1_method_26_code (3 : Nat) (Option.some Jvm.ClassFile.FieldType.boolean)) ∈ lw_all := lw_g (lw_at lw_m4 7 rfl) rfl
theorem q866 : (Jvm.Cond.methodLink "OverHill" (206 : Nat) ({ cls := "OverHill$Told", name := "goesBoth", desc := "()V" } : Jvm.MethodName)) ∈ lw_all := lw_g (lw_at lw_m4 8 rfl) rfl
theorem q936 : (Jvm.Cond.instanceMethod ({ cls := "OverHill", name := "danced", desc := "(II)I" } : Jvm.MethodName)) ∈ lw_all := lw_g (lw_at lw_m4 78 rfl) rfl
theorem q937 : (Jvm.Cond.selects "OverHill" ({ cls := "OverHill", name := "danced", desc := "(II)I" } : Jvm.MethodName) ({ cls := "OverHill", name := "danced", desc := "(II)I" } : Jvm.MethodName)) ∈ lw_all := lw_g (lw_at lw_m4 79 rfl) rfl
theorem q938 : (Jvm.Cond.code ({ cls := "OverHill", name := "danced", desc := "(II)I" } : Jvm.MethodName) prog_1_method_28_code (3 : Nat) (Option.some Jvm.ClassFile.FieldType.int)) ∈ lw_all := lw_g (lw_at lw_m4 80 rfl) rfl
theorem q939 : (Jvm.Cond.methodLink "OverHill" (191 : Nat) ({ cls := "OverHill", name := "stepIn", desc := "(II)I" } : Jvm.MethodName)) ∈ lw_all := lw_g (lw_at lw_m4 81 rfl) rfl
theorem q940 : (Jvm.Cond.privateMethod ({ cls := "OverHill", name := "stepIn", desc := "(II)I" } : Jvm.MethodName)) ∈ lw_tbl := lw_at lw_m4 82 rfl
theorem q941 : (Jvm.Cond.instanceMethod ({ cls := "OverHill", name := "stepIn", desc := "(II)I" } : Jvm.MethodName)) ∈ lw_all := lw_g (lw_at lw_m4 83 rfl) rfl
theorem q942 : (Jvm.Cond.code ({ cls := "OverHill", name := "stepIn", desc := "(II)I" } : Jvm.MethodName) prog_1_method_22_code (3 : Nat) (Option.some Jvm.ClassFile.FieldType.int)) ∈ lw_all := lw_g (lw_at lw_m4 84 rfl) rfl
theorem q944 : (Jvm.Cond.instanceMethod ({ cls := "OverHill", name := "hears", desc := "(II)I" } : Jvm.MethodName)) ∈ lw_all := lw_g (lw_at lw_m4 86 rfl) rfl
theorem q945 : (Jvm.Cond.selects "OverHill" ({ cls := "OverHill", name := "hears", desc := "(II)I" } : Jvm.MethodName) ({ cls := "OverHill", name := "hears", desc := "(II)I" } : Jvm.MethodName)) ∈ lw_all := lw_g (lw_at lw_m4 87 rfl) rfl
theorem q946 : (Jvm.Cond.code ({ cls := "OverHill", name := "hears", desc := "(II)I" } : Jvm.MethodName) prog_1_method_29_code (3 : Nat) (Option.some Jvm.ClassFile.FieldType.int)) ∈ lw_all := lw_g (lw_at lw_m4 88 rfl) rfl
theorem q947 : (Jvm.Cond.methodLink "OverHill" (194 : Nat) ({ cls := "OverHill", name := "heardIn", desc := "(II)I" } : Jvm.MethodName)) ∈ lw_all := lw_g (lw_at lw_m4 89 rfl) rfl
theorem q948 : (Jvm.Cond.privateMethod ({ cls := "OverHill", name := "heardIn", desc := "(II)I" } : Jvm.MethodName)) ∈ lw_tbl := lw_at lw_m4 90 rfl
theorem q949 : (Jvm.Cond.instanceMethod ({ cls := "OverHill", name := "heardIn", desc := "(II)I" } : Jvm.MethodName)) ∈ lw_all := lw_g (lw_at lw_m4 91 rfl) rfl
theorem q950 : (Jvm.Cond.code ({ cls := "OverHill", name := "heardIn", desc := "(II)I" } : Jvm.MethodName) prog_1_method_23_code (3 : Nat) (Option.some Jvm.ClassFile.FieldType.int)) ∈ lw_all := lw_g (lw_at lw_m4 92 rfl) rfl
theorem q952 : (Jvm.Cond.instanceMethod ({ cls := "OverHill", name := "late", desc := "(II)I" } : Jvm.MethodName)) ∈ lw_all := lw_g (lw_at lw_m4 94 rfl) rfl
theorem q953 : (Jvm.Cond.selects "OverHill" ({ cls := "OverHill", name := "late", desc := "(II)I" } : Jvm.MethodName) ({ cls := "OverHill", name := "late", desc := "(II)I" } : Jvm.MethodName)) ∈ lw_all := lw_g (lw_at lw_m4 95 rfl) rfl
theorem q954 : (Jvm.Cond.code ({ cls := "OverHill", name := "late", desc := "(II)I" } : Jvm.MethodName) prog_1_method_30_code (4 : Nat) (Option.some Jvm.ClassFile.FieldType.int)) ∈ lw_all := lw_g (lw_at lw_m4 96 rfl) rfl
theorem q955 : (Jvm.Cond.methodLink "OverHill" (212 : Nat) ({ cls := "java/lang/Math", name := "floorMod", desc := "(II)I" } : Jvm.MethodName)) ∈ lw_all := lw_g (lw_at lw_m4 97 rfl) rfl
theorem q957 : (Jvm.Cond.instanceMethod ({ cls := "OverHill", name := "hole", desc := "(II)I" } : Jvm.MethodName)) ∈ lw_all := lw_g (lw_at lw_m4 99 rfl) rfl
theorem q958 : (Jvm.Cond.selects "OverHill" ({ cls := "OverHill", name := "hole", desc := "(II)I" } : Jvm.MethodName) ({ cls := "OverHill", name := "hole", desc := "(II)I" } : Jvm.MethodName)) ∈ lw_all := lw_g (lw_at lw_m4 100 rfl) rfl
theorem q959 : (Jvm.Cond.code ({ cls := "OverHill", name := "hole", desc := "(II)I" } : Jvm.MethodName) prog_1_method_31_code (3 : Nat) (Option.some Jvm.ClassFile.FieldType.int)) ∈ lw_all := lw_g (lw_at lw_m4 101 rfl) rfl
theorem q960 : (Jvm.Cond.methodLink "OverHill" (200 : Nat) ({ cls := "OverHill", name := "isHole", desc := "(II)Z" } : Jvm.MethodName)) ∈ lw_all := lw_g (lw_at lw_m4 102 rfl) rfl
theorem q961 : (Jvm.Cond.privateMethod ({ cls := "OverHill", name := "isHole", desc := "(II)Z" } : Jvm.MethodName)) ∈ lw_tbl := lw_at lw_m4 103 rfl
theorem q962 : (Jvm.Cond.instanceMethod ({ cls := "OverHill", name := "isHole", desc := "(II)Z" } : Jvm.MethodName)) ∈ lw_all := lw_g (lw_at lw_m4 104 rfl) rfl
theorem q963 : (Jvm.Cond.code ({ cls := "OverHill", name := "isHole", desc := "(II)Z" } : Jvm.MethodName) prog_1_method_24_code (3 : Nat) (Option.some Jvm.ClassFile.FieldType.boolean)) ∈ lw_all := lw_g (lw_at lw_m4 105 rfl) rfl
theorem q964 : (Jvm.Cond.methodLink "OverHill" (197 : Nat) ({ cls := "OverHill", name := "has", desc := "(II)Z" } : Jvm.MethodName)) ∈ lw_all := lw_g (lw_at lw_m4 106 rfl) rfl
theorem q965 : (Jvm.Cond.static ({ cls := "OverHill", name := "has", desc := "(II)Z" } : Jvm.MethodName)) ∈ lw_all := lw_g (lw_at lw_m4 107 rfl) rfl
theorem q966 : (Jvm.Cond.code ({ cls := "OverHill", name := "has", desc := "(II)Z" } : Jvm.MethodName) prog_1_method_2_code (2 : Nat) (Option.some Jvm.ClassFile.FieldType.boolean)) ∈ lw_all := lw_g (lw_at lw_m4 108 rfl) rfl
theorem q968 : (Jvm.Cond.instanceMethod ({ cls := "OverHill", name := "next", desc := "(II)I" } : Jvm.MethodName)) ∈ lw_all := lw_g (lw_at lw_m4 110 rfl) rfl
theorem q969 : (Jvm.Cond.selects "OverHill" ({ cls := "OverHill", name := "next", desc := "(II)I" } : Jvm.MethodName) ({ cls := "OverHill", name := "next", desc := "(II)I" } : Jvm.MethodName)) ∈ lw_all := lw_g (lw_at lw_m4 111 rfl) rfl
theorem q970 : (Jvm.Cond.code ({ cls := "OverHill", name := "next", desc := "(II)I" } : Jvm.MethodName) prog_1_method_32_code (4 : Nat) (Option.some Jvm.ClassFile.FieldType.int)) ∈ lw_all := lw_g (lw_at lw_m4 112 rfl) rfl
theorem q972 : (Jvm.Cond.instanceMethod ({ cls := "OverHill", name := "holes", desc := "(III)I" } : Jvm.MethodName)) ∈ lw_all := lw_g (lw_at lw_m4 114 rfl) rfl
theorem q973 : (Jvm.Cond.selects "OverHill" ({ cls := "OverHill", name := "holes", desc := "(III)I" } : Jvm.MethodName) ({ cls := "OverHill", name := "holes", desc := "(III)I" } : Jvm.MethodName)) ∈ lw_all := lw_g (lw_at lw_m4 115 rfl) rfl
theorem q974 : (Jvm.Cond.code ({ cls := "OverHill", name := "holes", desc := "(III)I" } : Jvm.MethodName) prog_1_method_34_code (4 : Nat) (Option.some Jvm.ClassFile.FieldType.int)) ∈ lw_all := lw_g (lw_at lw_m4 116 rfl) rfl
theorem q975 : (Jvm.Cond.methodLink "OverHill" (217 : Nat) ({ cls := "OverHill", name := "isSpan", desc := "(II)Z" } : Jvm.MethodName)) ∈ lw_all := lw_g (lw_at lw_m4 117 rfl) rfl
theorem q976 : (Jvm.Cond.privateMethod ({ cls := "OverHill", name := "isSpan", desc := "(II)Z" } : Jvm.MethodName)) ∈ lw_tbl := lw_at lw_m4 118 rfl
theorem q977 : (Jvm.Cond.instanceMethod ({ cls := "OverHill", name := "isSpan", desc := "(II)Z" } : Jvm.MethodName)) ∈ lw_all := lw_g (lw_at lw_m4 119 rfl) rfl
theorem q978 : (Jvm.Cond.code ({ cls := "OverHill", name := "isSpan", desc := "(II)Z" } : Jvm.MethodName) prog_1_method_33_code (3 : Nat) (Option.some Jvm.ClassFile.FieldType.boolean)) ∈ lw_all := lw_g (lw_at lw_m4 120 rfl) rfl
theorem q979 : (Jvm.Cond.methodLink "OverHill" (220 : Nat) ({ cls := "OverHill", name := "holesOf", desc := "(III)I" } : Jvm.MethodName)) ∈ lw_all := lw_g (lw_at lw_m4 121 rfl) rfl
theorem q980 : (Jvm.Cond.privateMethod ({ cls := "OverHill", name := "holesOf", desc := "(III)I" } : Jvm.MethodName)) ∈ lw_tbl := lw_at lw_m4 122 rfl
theorem q981 : (Jvm.Cond.instanceMethod ({ cls := "OverHill", name := "holesOf", desc := "(III)I" } : Jvm.MethodName)) ∈ lw_all := lw_g (lw_at lw_m4 123 rfl) rfl
theorem q982 : (Jvm.Cond.code ({ cls := "OverHill", name := "holesOf", desc := "(III)I" } : Jvm.MethodName) prog_1_method_25_code (6 : Nat) (Option.some Jvm.ClassFile.FieldType.int)) ∈ lw_all := lw_g (lw_at lw_m4 124 rfl) rfl
theorem q984 : (Jvm.Cond.instanceMethod ({ cls := "OverHill", name := "run", desc := "(II)I" } : Jvm.MethodName)) ∈ lw_all := lw_g (lw_at lw_m4 126 rfl) rfl
theorem q985 : (Jvm.Cond.selects "OverHill" ({ cls := "OverHill", name := "run", desc := "(II)I" } : Jvm.MethodName) ({ cls := "OverHill", name := "run", desc := "(II)I" } : Jvm.MethodName)) ∈ lw_all := lw_g (lw_at lw_m4 127 rfl) rfl
theorem q986 : (Jvm.Cond.code ({ cls := "OverHill", name := "run", desc := "(II)I" } : Jvm.MethodName) prog_1_method_36_code (3 : Nat) (Option.some Jvm.ClassFile.FieldType.int)) ∈ lw_all := lw_g (lw_at lw_m4 128 rfl) rfl
theorem q987 : (Jvm.Cond.methodLink "OverHill" (230 : Nat) ({ cls := "OverHill", name := "findsRun", desc := "(II)V" } : Jvm.MethodName)) ∈ lw_all := lw_g (lw_at lw_m4 129 rfl) rfl
theorem q988 : (Jvm.Cond.privateMethod ({ cls := "OverHill", name := "findsRun", desc := "(II)V" } : Jvm.MethodName)) ∈ lw_tbl := lw_at lw_m4 130 rfl
theorem q989 : (Jvm.Cond.instanceMethod ({ cls := "OverHill", name := "findsRun", desc := "(II)V" } : Jvm.MethodName)) ∈ lw_all := lw_g (lw_at lw_m4 131 rfl) rfl
theorem q990 : (Jvm.Cond.code ({ cls := "OverHill", name := "findsRun", desc := "(II)V" } : Jvm.MethodName) prog_1_method_35_code (5 : Nat) (Option.none : Option Jvm.ClassFile.FieldType)) ∈ lw_all := lw_g (lw_at lw_m4 132 rfl) rfl
theorem q992 : (Jvm.Cond.instanceMethod ({ cls := "OverHill", name := "begins", desc := "(II)I" } : Jvm.MethodName)) ∈ lw_all := lw_g (lw_at lw_m4 134 rfl) rfl
theorem q993 : (Jvm.Cond.selects "OverHill" ({ cls := "OverHill", name := "begins", desc := "(II)I" } : Jvm.MethodName) ({ cls := "OverHill", name := "begins", desc := "(II)I" } : Jvm.MethodName)) ∈ lw_all := lw_g (lw_at lw_m4 135 rfl) rfl
theorem q994 : (Jvm.Cond.code ({ cls := "OverHill", name := "begins", desc := "(II)I" } : Jvm.MethodName) prog_1_method_37_code (3 : Nat) (Option.some Jvm.ClassFile.FieldType.int)) ∈ lw_all := lw_g (lw_at lw_m4 136 rfl) rfl
theorem q996 : (Jvm.Cond.instanceMethod ({ cls := "OverHill", name := "undoes", desc := "(I)I" } : Jvm.MethodName)) ∈ lw_all := lw_g (lw_at lw_m4 138 rfl) rfl
theorem q997 : (Jvm.Cond.selects "OverHill" ({ cls := "OverHill", name := "undoes", desc := "(I)I" } : Jvm.MethodName) ({ cls := "OverHill", name := "undoes", desc := "(I)I" } : Jvm.MethodName)) ∈ lw_all := lw_g (lw_at lw_m4 139 rfl) rfl
theorem q998 : (Jvm.Cond.code ({ cls := "OverHill", name := "undoes", desc := "(I)I" } : Jvm.MethodName) prog_1_method_39_code (3 : Nat) (Option.some Jvm.ClassFile.FieldType.int)) ∈ lw_all := lw_g (lw_at lw_m4 140 rfl) rfl
theorem q999 : (Jvm.Cond.methodLink "OverHill" (234 : Nat) ({ cls := "OverHill", name := "allHoles", desc := "()I" } : Jvm.MethodName)) ∈ lw_all := lw_g (lw_at lw_m4 141 rfl) rfl
theorem q1000 : (Jvm.Cond.privateMethod ({ cls := "OverHill", name := "allHoles", desc := "()I" } : Jvm.MethodName)) ∈ lw_tbl := lw_at lw_m4 142 rfl
theorem q1001 : (Jvm.Cond.instanceMethod ({ cls := "OverHill", name := "allHoles", desc := "()I" } : Jvm.MethodName)) ∈ lw_all := lw_g (lw_at lw_m4 143 rfl) rfl
theorem q1002 : (Jvm.Cond.code ({ cls := "OverHill", name := "allHoles", desc := "()I" } : Jvm.MethodName) prog_1_method_38_code (1 : Nat) (Option.some Jvm.ClassFile.FieldType.int)) ∈ lw_all := lw_g (lw_at lw_m4 144 rfl) rfl
theorem q1003 : (Jvm.Cond.methodLink "OverHill" (240 : Nat) ({ cls := "OverHill$Without", name := "goesBoth", desc := "()V" } : Jvm.MethodName)) ∈ lw_all := lw_g (lw_at lw_m4 145 rfl) rfl
theorem q1007 : (Jvm.Cond.instanceMethod ({ cls := "OverHill", name := "causes", desc := "(II)I" } : Jvm.MethodName)) ∈ lw_all := lw_g (lw_at lw_m4 149 rfl) rfl
theorem q1008 : (Jvm.Cond.selects "OverHill" ({ cls := "OverHill", name := "causes", desc := "(II)I" } : Jvm.MethodName) ({ cls := "OverHill", name := "causes", desc := "(II)I" } : Jvm.MethodName)) ∈ lw_all := lw_g (lw_at lw_m4 150 rfl) rfl
theorem q1009 : (Jvm.Cond.code ({ cls := "OverHill", name := "causes", desc := "(II)I" } : Jvm.MethodName) prog_1_method_40_code (5 : Nat) (Option.some Jvm.ClassFile.FieldType.int)) ∈ lw_all := lw_g (lw_at lw_m4 151 rfl) rfl
theorem q1011 : (Jvm.Cond.instanceMethod ({ cls := "OverHill", name := "period", desc := "()I" } : Jvm.MethodName)) ∈ lw_all := lw_g (lw_at lw_m4 153 rfl) rfl
theorem q1012 : (Jvm.Cond.selects "OverHill" ({ cls := "OverHill", name := "period", desc := "()I" } : Jvm.MethodName) ({ cls := "OverHill", name := "period", desc := "()I" } : Jvm.MethodName)) ∈ lw_all := lw_g (lw_at lw_m4 154 rfl) rfl
theorem q1013 : (Jvm.Cond.code ({ cls := "OverHill", name := "period", desc := "()I" } : Jvm.MethodName) prog_1_method_43_code (1 : Nat) (Option.some Jvm.ClassFile.FieldType.int)) ∈ lw_all := lw_g (lw_at lw_m4 155 rfl) rfl
theorem q1014 : (Jvm.Cond.methodLink "OverHill" (244 : Nat) ({ cls := "OverHill", name := "areRounds", desc := "()Z" } : Jvm.MethodName)) ∈ lw_all := lw_g (lw_at lw_m4 156 rfl) rfl
theorem q1015 : (Jvm.Cond.privateMethod ({ cls := "OverHill", name := "areRounds", desc := "()Z" } : Jvm.MethodName)) ∈ lw_tbl := lw_at lw_m4 157 rfl
theorem q1016 : (Jvm.Cond.instanceMethod ({ cls := "OverHill", name := "areRounds", desc := "()Z" } : Jvm.MethodName)) ∈ lw_all := lw_g (lw_at lw_m4 158 rfl) rfl
theorem q1017 : (Jvm.Cond.code ({ cls := "OverHill", name := "areRounds", desc := "()Z" } : Jvm.MethodName) prog_1_method_16_code (1 : Nat) (Option.some Jvm.ClassFile.FieldType.boolean)) ∈ lw_all := lw_g (lw_at lw_m4 159 rfl) rfl
theorem q1018 : (Jvm.Cond.methodLink "OverHill" (247 : Nat) ({ cls := "OverHill", name := "periodOf", desc := "()I" } : Jvm.MethodName)) ∈ lw_all := lw_g (lw_at lw_m4 160 rfl) rfl
theorem q1019 : (Jvm.Cond.privateMethod ({ cls := "OverHill", name := "periodOf", desc := "()I" } : Jvm.MethodName)) ∈ lw_tbl := lw_at lw_m4 161 rfl
theorem q1020 : (Jvm.Cond.instanceMethod ({ cls := "OverHill", name := "periodOf", desc := "()I" } : Jvm.MethodName)) ∈ lw_all := lw_g (lw_at lw_m4 162 rfl) rfl
theorem q1021 : (Jvm.Cond.code ({ cls := "OverHill", name := "periodOf", desc := "()I" } : Jvm.MethodName) prog_1_method_42_code (1 : Nat) (Option.some Jvm.ClassFile.FieldType.int)) ∈ lw_all := lw_g (lw_at lw_m4 163 rfl) rfl
theorem q1022 : (Jvm.Cond.methodLink "OverHill" (241 : Nat) ({ cls := "OverHill", name := "divisor", desc := "(II)I" } : Jvm.MethodName)) ∈ lw_all := lw_g (lw_at lw_m4 164 rfl) rfl
theorem q1023 : (Jvm.Cond.static ({ cls := "OverHill", name := "divisor", desc := "(II)I" } : Jvm.MethodName)) ∈ lw_all := lw_g (lw_at lw_m4 165 rfl) rfl
theorem q1024 : (Jvm.Cond.code ({ cls := "OverHill", name := "divisor", desc := "(II)I" } : Jvm.MethodName) prog_1_method_41_code (5 : Nat) (Option.some Jvm.ClassFile.FieldType.int)) ∈ lw_all := lw_g (lw_at lw_m4 166 rfl) rfl
theorem q1026 : (Jvm.Cond.instanceMethod ({ cls := "OverHill", name := "meets", desc := "(III)I" } : Jvm.MethodName)) ∈ lw_all := lw_g (lw_at lw_m4 168 rfl) rfl
theorem q1027 : (Jvm.Cond.selects "OverHill" ({ cls := "OverHill", name := "meets", desc := "(III)I" } : Jvm.MethodName) ({ cls := "OverHill", name := "meets", desc := "(III)I" } : Jvm.MethodName)) ∈ lw_all := lw_g (lw_at lw_m4 169 rfl) rfl
theorem q1028 : (Jvm.Cond.code ({ cls := "OverHill", name := "meets", desc := "(III)I" } : Jvm.MethodName) prog_1_method_45_code (5 : Nat) (Option.some Jvm.ClassFile.FieldType.int)) ∈ lw_all := lw_g (lw_at lw_m4 170 rfl) rfl
theorem q1029 : (Jvm.Cond.methodLink "OverHill" (250 : Nat) ({ cls := "OverHill", name := "placeBy", desc := "(II)I" } : Jvm.MethodName)) ∈ lw_all := lw_g (lw_at lw_m4 171 rfl) rfl
theorem q1030 : (Jvm.Cond.privateMethod ({ cls := "OverHill", name := "placeBy", desc := "(II)I" } : Jvm.MethodName)) ∈ lw_tbl := lw_at lw_m4 172 rfl
theorem q1031 : (Jvm.Cond.instanceMethod ({ cls := "OverHill", name := "placeBy", desc := "(II)I" } : Jvm.MethodName)) ∈ lw_all := lw_g (lw_at lw_m4 173 rfl) rfl
theorem q1032 : (Jvm.Cond.code ({ cls := "OverHill", name := "placeBy", desc := "(II)I" } : Jvm.MethodName) prog_1_method_44_code (3 : Nat) (Option.some Jvm.ClassFile.FieldType.int)) ∈ lw_all := lw_g (lw_at lw_m4 174 rfl) rfl
theorem q1034 : (Jvm.Cond.instanceMethod ({ cls := "OverHill", name := "shifted", desc := "(I)I" } : Jvm.MethodName)) ∈ lw_all := lw_g (lw_at lw_m4 176 rfl) rfl
theorem q1035 : (Jvm.Cond.selects "OverHill" ({ cls := "OverHill", name := "shifted", desc := "(I)I" } : Jvm.MethodName) ({ cls := "OverHill", name := "shifted", desc := "(I)I" } : Jvm.MethodName)) ∈ lw_all := lw_g (lw_at lw_m4 177 rfl) rfl
theorem q1036 : (Jvm.Cond.code ({ cls := "OverHill", name := "shifted", desc := "(I)I" } : Jvm.MethodName) prog_1_method_48_code (2 : Nat) (Option.some Jvm.ClassFile.FieldType.int)) ∈ lw_all := lw_g (lw_at lw_m4 178 rfl) rfl
theorem q1037 : (Jvm.Cond.methodLink "OverHill" (256 : Nat) ({ cls := "OverHill", name := "shiftedBy", desc := "(I)I" } : Jvm.MethodName)) ∈ lw_all := lw_g (lw_at lw_m4 179 rfl) rfl
theorem q1038 : (Jvm.Cond.privateMethod ({ cls := "OverHill", name := "shiftedBy", desc := "(I)I" } : Jvm.MethodName)) ∈ lw_tbl := lw_at lw_m4 180 rfl
theorem q1039 : (Jvm.Cond.instanceMethod ({ cls := "OverHill", name := "shiftedBy", desc := "(I)I" } : Jvm.MethodName)) ∈ lw_all := lw_g (lw_at lw_m4 181 rfl) rfl
theorem q1040 : (Jvm.Cond.code ({ cls := "OverHill", name := "shiftedBy", desc := "(I)I" } : Jvm.MethodName) prog_1_method_47_code (6 : Nat) (Option.some Jvm.ClassFile.FieldType.int)) ∈ lw_all := lw_g (lw_at lw_m4 182 rfl) rfl
theorem q1041 : (Jvm.Cond.methodLink "OverHill" (253 : Nat) ({ cls := "OverHill", name := "clashes", desc := "(II)Z" } : Jvm.MethodName)) ∈ lw_all := lw_g (lw_at lw_m4 183 rfl) rfl
theorem q1042 : (Jvm.Cond.privateMethod ({ cls := "OverHill", name := "clashes", desc := "(II)Z" } : Jvm.MethodName)) ∈ lw_tbl := lw_at lw_m4 184 rfl
theorem q1043 : (Jvm.Cond.instanceMethod ({ cls := "OverHill", name := "clashes", desc := "(II)Z" } : Jvm.MethodName)) ∈ lw_all := lw_g (lw_at lw_m4 185 rfl) rfl
theorem q1044 : (Jvm.Cond.code ({ cls := "OverHill", name := "clashes", desc := "(II)Z" } : Jvm.MethodName) prog_1_method_46_code (3 : Nat) (Option.some Jvm.ClassFile.FieldType.boolean)) ∈ lw_all := lw_g (lw_at lw_m4 186 rfl) rfl
theorem q1046 : (Jvm.Cond.instanceMethod ({ cls := "OverHill", name := "shift", desc := "()I" } : Jvm.MethodName)) ∈ lw_all := lw_g (lw_at lw_m4 188 rfl) rfl
theorem q1047 : (Jvm.Cond.selects "OverHill" ({ cls := "OverHill", name := "shift", desc := "()I" } : Jvm.MethodName) ({ cls := "OverHill", name := "shift", desc := "()I" } : Jvm.MethodName)) ∈ lw_all := lw_g (lw_at lw_m4 189 rfl) rfl
theorem q1048 : (Jvm.Cond.code ({ cls := "OverHill", name := "shift", desc := "()I" } : Jvm.MethodName) prog_1_method_49_code (2 : Nat) (Option.some Jvm.ClassFile.FieldType.int)) ∈ lw_all := lw_g (lw_at lw_m4 190 rfl) rfl
theorem q1050 : (Jvm.Cond.instanceMethod ({ cls := "OverHill", name := "least", desc := "()I" } : Jvm.MethodName)) ∈ lw_all := lw_g (lw_at lw_m4 192 rfl) rfl
theorem q1051 : (Jvm.Cond.selects "OverHill" ({ cls := "OverHill", name := "least", desc := "()I" } : Jvm.MethodName) ({ cls := "OverHill", name := "least", desc := "()I" } : Jvm.MethodName)) ∈ lw_all := lw_g (lw_at lw_m4 193 rfl) rfl
theorem q1052 : (Jvm.Cond.code ({ cls := "OverHill", name := "least", desc := "()I" } : Jvm.MethodName) prog_1_method_50_code (3 : Nat) (Option.some Jvm.ClassFile.FieldType.int)) ∈ lw_all := lw_g (lw_at lw_m4 194 rfl) rfl
theorem q1054 : (Jvm.Cond.instanceMethod ({ cls := "OverHill", name := "mend", desc := "(I)I" } : Jvm.MethodName)) ∈ lw_all := lw_g (lw_at lw_m4 196 rfl) rfl
theorem q1055 : (Jvm.Cond.selects "OverHill" ({ cls := "OverHill", name := "mend", desc := "(I)I" } : Jvm.MethodName) ({ cls := "OverHill", name := "mend", desc := "(I)I" } : Jvm.MethodName)) ∈ lw_all := lw_g (lw_at lw_m4 197 rfl) rfl
theorem q1056 : (Jvm.Cond.code ({ cls := "OverHill", name := "mend", desc := "(I)I" } : Jvm.MethodName) prog_1_method_54_code (4 : Nat) (Option.some Jvm.ClassFile.FieldType.int)) ∈ lw_all := lw_g (lw_at lw_m4 198 rfl) rfl
theorem q1057 : (Jvm.Cond.methodLink "OverHill" (267 : Nat) ({ cls := "OverHill", name := "stuckAt", desc := "(I)I" } : Jvm.MethodName)) ∈ lw_all := lw_g (lw_at lw_m4 199 rfl) rfl
theorem q1058 : (Jvm.Cond.privateMethod ({ cls := "OverHill", name := "stuckAt", desc := "(I)I" } : Jvm.MethodName)) ∈ lw_tbl := lw_at lw_m4 200 rfl
theorem q1059 : (Jvm.Cond.instanceMethod ({ cls := "OverHill", name := "stuckAt", desc := "(I)I" } : Jvm.MethodName)) ∈ lw_all := lw_g (lw_at lw_m4 201 rfl) rfl
theorem q1060 : (Jvm.Cond.code ({ cls := "OverHill", name := "stuckAt", desc := "(I)I" } : Jvm.MethodName) prog_1_method_53_code (3 : Nat) (Option.some Jvm.ClassFile.FieldType.int)) ∈ lw_all := lw_g (lw_at lw_m4 202 rfl) rfl
theorem q1061 : (Jvm.Cond.methodLink "OverHill" (264 : Nat) ({ cls := "OverHill", name := "mendedAt", desc := "(II)I" } : Jvm.MethodName)) ∈ lw_all := lw_g (lw_at lw_m4 203 rfl) rfl
theorem q1062 : (Jvm.Cond.privateMethod ({ cls := "OverHill", name := "mendedAt", desc := "(II)I" } : Jvm.MethodName)) ∈ lw_tbl := lw_at lw_m4 204 rfl
theorem q1063 : (Jvm.Cond.instanceMethod ({ cls := "OverHill", name := "mendedAt", desc := "(II)I" } : Jvm.MethodName)) ∈ lw_all := lw_g (lw_at lw_m4 205 rfl) rfl
theorem q1064 : (Jvm.Cond.code ({ cls := "OverHill", name := "mendedAt", desc := "(II)I" } : Jvm.MethodName) prog_1_method_52_code (4 : Nat) (Option.some Jvm.ClassFile.FieldType.int)) ∈ lw_all := lw_g (lw_at lw_m4 206 rfl) rfl
theorem q1065 : (Jvm.Cond.methodLink "OverHill" (260 : Nat) ({ cls := "OverHill", name := "mayBe", desc := "(III)Z" } : Jvm.MethodName)) ∈ lw_all := lw_g (lw_at lw_m4 207 rfl) rfl
theorem q1066 : (Jvm.Cond.privateMethod ({ cls := "OverHill", name := "mayBe", desc := "(III)Z" } : Jvm.MethodName)) ∈ lw_tbl := lw_at lw_m4 208 rfl
theorem q1067 : (Jvm.Cond.instanceMethod ({ cls := "OverHill", name := "mayBe", desc := "(III)Z" } : Jvm.MethodName)) ∈ lw_all := lw_g (lw_at lw_m4 209 rfl) rfl
theorem q1068 : (Jvm.Cond.code ({ cls := "OverHill", name := "mayBe", desc := "(III)Z" } : Jvm.MethodName) prog_1_method_51_code (6 : Nat) (Option.some Jvm.ClassFile.FieldType.boolean)) ∈ lw_all := lw_g (lw_at lw_m4 210 rfl) rfl
theorem q1070 : (Jvm.Cond.instanceMethod ({ cls := "OverHill", name := "mended", desc := "(II)I" } : Jvm.MethodName)) ∈ lw_all := lw_g (lw_at lw_m4 212 rfl) rfl
theorem q1071 : (Jvm.Cond.selects "OverHill" ({ cls := "OverHill", name := "mended", desc := "(II)I" } : Jvm.MethodName) ({ cls := "OverHill", name := "mended", desc := "(II)I" } : Jvm.MethodName)) ∈ lw_all := lw_g (lw_at lw_m4 213 rfl) rfl
theorem q1072 : (Jvm.Cond.code ({ cls := "OverHill", name := "mended", desc := "(II)I" } : Jvm.MethodName) prog_1_method_55_code (3 : Nat) (Option.some Jvm.ClassFile.FieldType.int)) ∈ lw_all := lw_g (lw_at lw_m4 214 rfl) rfl
theorem q1074 : (Jvm.Cond.instanceMethod ({ cls := "OverHill", name := "stuck", desc := "(I)I" } : Jvm.MethodName)) ∈ lw_all := lw_g (lw_at lw_m4 216 rfl) rfl
theorem q1075 : (Jvm.Cond.selects "OverHill" ({ cls := "OverHill", name := "stuck", desc := "(I)I" } : Jvm.MethodName) ({ cls := "OverHill", name := "stuck", desc := "(I)I" } : Jvm.MethodName)) ∈ lw_all := lw_g (lw_at lw_m4 217 rfl) rfl
theorem q1076 : (Jvm.Cond.code ({ cls := "OverHill", name := "stuck", desc := "(I)I" } : Jvm.MethodName) prog_1_method_56_code (2 : Nat) (Option.some Jvm.ClassFile.FieldType.int)) ∈ lw_all := lw_g (lw_at lw_m4 218 rfl) rfl
theorem q1078 : (Jvm.Cond.instanceMethod ({ cls := "OverHill", name := "heard", desc := "(II)I" } : Jvm.MethodName)) ∈ lw_all := lw_g (lw_at lw_m4 220 rfl) rfl
theorem q1079 : (Jvm.Cond.selects "OverHill" ({ cls := "OverHill", name := "heard", desc := "(II)I" } : Jvm.MethodName) ({ cls := "OverHill", name := "heard", desc := "(II)I" } : Jvm.MethodName)) ∈ lw_all := lw_g (lw_at lw_m4 221 rfl) rfl
theorem q1080 : (Jvm.Cond.code ({ cls := "OverHill", name := "heard", desc := "(II)I" } : Jvm.MethodName) prog_1_method_61_code (4 : Nat) (Option.some Jvm.ClassFile.FieldType.int)) ∈ lw_all := lw_g (lw_at lw_m4 222 rfl) rfl
theorem q1081 : (Jvm.Cond.methodLink "OverHill" (306 : Nat) ({ cls := "OverHill", name := "asksHeard", desc := "(II)I" } : Jvm.MethodName)) ∈ lw_all := lw_g (lw_at lw_m4 223 rfl) rfl
theorem q1082 : (Jvm.Cond.privateMethod ({ cls := "OverHill", name := "asksHeard", desc := "(II)I" } : Jvm.MethodName)) ∈ lw_tbl := lw_at lw_m4 224 rfl
theorem q1083 : (Jvm.Cond.instanceMethod ({ cls := "OverHill", name := "asksHeard", desc := "(II)I" } : Jvm.MethodName)) ∈ lw_all := lw_g (lw_at lw_m4 225 rfl) rfl
theorem q1084 : (Jvm.Cond.codeWith ({ cls := "OverHill", name := "asksHeard", desc := "(II)I" } : Jvm.MethodName) prog_1_method_58_code (5 : Nat) (Option.some Jvm.ClassFile.FieldType.int) [((18 : Nat), (36 : Nat), (103 : Nat), (286 : Nat)), ((37 : Nat), (94 : Nat), (103 : Nat), (286 : Nat)), ((95 : Nat), (102 : Nat), (103 : Nat), (286 : Nat))]) ∈ lw_all := lw_g (lw_at lw_m4 226 rfl) rfl
theorem q1085 : (Jvm.Cond.classLink "OverHill" (286 : Nat) "java/lang/NullPointerException") ∈ lw_all := lw_g (lw_at lw_m4 227 rfl) rfl
theorem q1112 : (Jvm.Cond.methodLink "OverHill" (274 : Nat) ({ cls := "OverHill", name := "isSlot", desc := "(I)Z" } : Jvm.MethodName)) ∈ lw_all := lw_g (lw_at lw_m5 14 rfl) rfl
theorem q1113 : (Jvm.Cond.static ({ cls := "OverHill", name := "isSlot", desc := "(I)Z" } : Jvm.MethodName)) ∈ lw_all := lw_g (lw_at lw_m5 15 rfl) rfl
theorem q1114 : (Jvm.Cond.code ({ cls := "OverHill", name := "isSlot", desc := "(I)Z" } : Jvm.MethodName) prog_1_method_114_code (1 : Nat) (Option.some Jvm.ClassFile.FieldType.boolean)) ∈ lw_all := lw_g (lw_at lw_m5 16 rfl) rfl
theorem q1115 : (Jvm.Cond.constantLong "OverHill" (486 : Nat) (3 : Int64)) ∈ lw_all := lw_g (lw_at lw_m5 17 rfl) rfl
theorem q1116 : (Jvm.Cond.methodLink "OverHill" (277 : Nat) ({ cls := "OverHill$Slot", name := "size", desc := "()I" } : Jvm.MethodName)) ∈ lw_all := lw_g (lw_at lw_m5 18 rfl) rfl
theorem q1124 : (Jvm.Cond.methodLink "OverHill" (280 : Nat) ({ cls := "OverHill", name := "number", desc := "(II)J" } : Jvm.MethodName)) ∈ lw_all := lw_g (lw_at lw_m5 26 rfl) rfl
theorem q1125 : (Jvm.Cond.privateMethod ({ cls := "OverHill", name := "number", desc := "(II)J" } : Jvm.MethodName)) ∈ lw_tbl := lw_at lw_m5 27 rfl
theorem q1126 : (Jvm.Cond.instanceMethod ({ cls := "OverHill", name := "number", desc := "(II)J" } : Jvm.MethodName)) ∈ lw_all := lw_g (lw_at lw_m5 28 rfl) rfl
theorem q1127 : (Jvm.Cond.code ({ cls := "OverHill", name := "number", desc := "(II)J" } : Jvm.MethodName) prog_1_method_57_code (3 : Nat) (Option.some Jvm.ClassFile.FieldType.long)) ∈ lw_all := lw_g (lw_at lw_m5 29 rfl) rfl
theorem q1128 : (Jvm.Cond.methodLink "OverHill" (270 : Nat) ({ cls := "OverHill$Slot", name := "at", desc := "(I)J" } : Jvm.MethodName)) ∈ lw_all := lw_g (lw_at lw_m5 30 rfl) rfl
theorem q1132 : (Jvm.Cond.constantLong "OverHill" (284 : Nat) (-1 : Int64)) ∈ lw_all := lw_g (lw_at lw_m5 34 rfl) rfl
theorem q1133 : (Jvm.Cond.methodLink "OverHill" (309 : Nat) ({ cls := "OverHill", name := "findsStumbles", desc := "(II)V" } : Jvm.MethodName)) ∈ lw_all := lw_g (lw_at lw_m5 35 rfl) rfl
theorem q1134 : (Jvm.Cond.privateMethod ({ cls := "OverHill", name := "findsStumbles", desc := "(II)V" } : Jvm.MethodName)) ∈ lw_tbl := lw_at lw_m5 36 rfl
theorem q1135 : (Jvm.Cond.instanceMethod ({ cls := "OverHill", name := "findsStumbles", desc := "(II)V" } : Jvm.MethodName)) ∈ lw_all := lw_g (lw_at lw_m5 37 rfl) rfl
theorem q1136 : (Jvm.Cond.code ({ cls := "OverHill", name := "findsStumbles", desc := "(II)V" } : Jvm.MethodName) prog_1_method_60_code (5 : Nat) (Option.none : Option Jvm.ClassFile.FieldType)) ∈ lw_all := lw_g (lw_at lw_m5 38 rfl) rfl
theorem q1137 : (Jvm.Cond.methodLink "OverHill" (303 : Nat) ({ cls := "OverHill", name := "isHeard", desc := "(II)Z" } : Jvm.MethodName)) ∈ lw_all := lw_g (lw_at lw_m5 39 rfl) rfl
theorem q1138 : (Jvm.Cond.privateMethod ({ cls := "OverHill", name := "isHeard", desc := "(II)Z" } : Jvm.MethodName)) ∈ lw_tbl := lw_at lw_m5 40 rfl
theorem q1139 : (Jvm.Cond.instanceMethod ({ cls := "OverHill", name := "isHeard", desc := "(II)Z" } : Jvm.MethodName)) ∈ lw_all := lw_g (lw_at lw_m5 41 rfl) rfl
theorem q1140 : (Jvm.Cond.code ({ cls := "OverHill", name := "isHeard", desc := "(II)Z" } : Jvm.MethodName) prog_1_method_59_code (4 : Nat) (Option.some Jvm.ClassFile.FieldType.boolean)) ∈ lw_all := lw_g (lw_at lw_m5 42 rfl) rfl
theorem q1141 : (Jvm.Cond.methodLink "OverHill" (288 : Nat) ({ cls := "OverHill$Thought", name := "goes", desc := "(I)V" } : Jvm.MethodName)) ∈ lw_all := lw_g (lw_at lw_m5 43 rfl) rfl
theorem q1146 : (Jvm.Cond.instanceMethod ({ cls := "OverHill", name := "first", desc := "(II)I" } : Jvm.MethodName)) ∈ lw_all := lw_g (lw_at lw_m5 48 rfl) rfl
theorem q1147 : (Jvm.Cond.selects "OverHill" ({ cls := "OverHill", name := "first", desc := "(II)I" } : Jvm.MethodName) ({ cls := "OverHill", name := "first", desc := "(II)I" } : Jvm.MethodName)) ∈ lw_all := lw_g (lw_at lw_m5 49 rfl) rfl
theorem q1148 : (Jvm.Cond.code ({ cls := "OverHill", name := "first", desc := "(II)I" } : Jvm.MethodName) prog_1_method_62_code (4 : Nat) (Option.some Jvm.ClassFile.FieldType.int)) ∈ lw_all := lw_g (lw_at lw_m5 50 rfl) rfl
theorem q1150 : (Jvm.Cond.instanceMethod ({ cls := "OverHill", name := "when", desc := "(II)J" } : Jvm.MethodName)) ∈ lw_all := lw_g (lw_at lw_m5 52 rfl) rfl
theorem q1151 : (Jvm.Cond.selects "OverHill" ({ cls := "OverHill", name := "when", desc := "(II)J" } : Jvm.MethodName) ({ cls := "OverHill", name := "when", desc := "(II)J" } : Jvm.MethodName)) ∈ lw_all := lw_g (lw_at lw_m5 53 rfl) rfl
theorem q1152 : (Jvm.Cond.code ({ cls := "OverHill", name := "when", desc := "(II)J" } : Jvm.MethodName) prog_1_method_63_code (4 : Nat) (Option.some Jvm.ClassFile.FieldType.long)) ∈ lw_all := lw_g (lw_at lw_m5 54 rfl) rfl
theorem q1154 : (Jvm.Cond.instanceMethod ({ cls := "OverHill", name := "listen", desc := "(II)I" } : Jvm.MethodName)) ∈ lw_all := lw_g (lw_at lw_m5 56 rfl) rfl
theorem q1155 : (Jvm.Cond.selects "OverHill" ({ cls := "OverHill", name := "listen", desc := "(II)I" } : Jvm.MethodName) ({ cls := "OverHill", name := "listen", desc := "(II)I" } : Jvm.MethodName)) ∈ lw_all := lw_g (lw_at lw_m5 57 rfl) rfl
theorem q1156 : (Jvm.Cond.code ({ cls := "OverHill", name := "listen", desc := "(II)I" } : Jvm.MethodName) prog_1_method_66_code (4 : Nat) (Option.some Jvm.ClassFile.FieldType.int)) ∈ lw_all := lw_g (lw_at lw_m5 58 rfl) rfl
theorem q1157 : (Jvm.Cond.methodLink "OverHill" (321 : Nat) ({ cls := "OverHill", name := "listensTo", desc := "(II)I" } : Jvm.MethodName)) ∈ lw_all := lw_g (lw_at lw_m5 59 rfl) rfl
theorem q1158 : (Jvm.Cond.privateMethod ({ cls := "OverHill", name := "listensTo", desc := "(II)I" } : Jvm.MethodName)) ∈ lw_tbl := lw_at lw_m5 60 rfl
theorem q1159 : (Jvm.Cond.instanceMethod ({ cls := "OverHill", name := "listensTo", desc := "(II)I" } : Jvm.MethodName)) ∈ lw_all := lw_g (lw_at lw_m5 61 rfl) rfl
theorem q1160 : (Jvm.Cond.code ({ cls := "OverHill", name := "listensTo", desc := "(II)I" } : Jvm.MethodName) prog_1_method_65_code (5 : Nat) (Option.some Jvm.ClassFile.FieldType.int)) ∈ lw_all := lw_g (lw_at lw_m5 62 rfl) rfl
theorem q1161 : (Jvm.Cond.methodLink "OverHill" (318 : Nat) ({ cls := "OverHill", name := "worstOf", desc := "(I)I" } : Jvm.MethodName)) ∈ lw_all := lw_g (lw_at lw_m5 63 rfl) rfl
theorem q1162 : (Jvm.Cond.privateMethod ({ cls := "OverHill", name := "worstOf", desc := "(I)I" } : Jvm.MethodName)) ∈ lw_tbl := lw_at lw_m5 64 rfl
theorem q1163 : (Jvm.Cond.instanceMethod ({ cls := "OverHill", name := "worstOf", desc := "(I)I" } : Jvm.MethodName)) ∈ lw_all := lw_g (lw_at lw_m5 65 rfl) rfl
theorem q1164 : (Jvm.Cond.code ({ cls := "OverHill", name := "worstOf", desc := "(I)I" } : Jvm.MethodName) prog_1_method_64_code (4 : Nat) (Option.some Jvm.ClassFile.FieldType.int)) ∈ lw_all := lw_g (lw_at lw_m5 66 rfl) rfl
theorem q1165 : (Jvm.Cond.methodLink "OverHill" (312 : Nat) ({ cls := "java/lang/Math", name := "max", desc := "(II)I" } : Jvm.MethodName)) ∈ lw_all := lw_g (lw_at lw_m5 67 rfl) rfl
theorem q1169 : (Jvm.Cond.instanceMethod ({ cls := "OverHill", name := "leaves", desc := "(II)I" } : Jvm.MethodName)) ∈ lw_all := lw_g (lw_at lw_m5 71 rfl) rfl
theorem q1170 : (Jvm.Cond.selects "OverHill" ({ cls := "OverHill", name := "leaves", desc := "(II)I" } : Jvm.MethodName) ({ cls := "OverHill", name := "leaves", desc := "(II)I" } : Jvm.MethodName)) ∈ lw_all := lw_g (lw_at lw_m5 72 rfl) rfl
theorem q1171 : (Jvm.Cond.code ({ cls := "OverHill", name := "leaves", desc := "(II)I" } : Jvm.MethodName) prog_1_method_67_code (4 : Nat) (Option.some Jvm.ClassFile.FieldType.int)) ∈ lw_all := lw_g (lw_at lw_m5 73 rfl) rfl
theorem q1173 : (Jvm.Cond.instanceMethod ({ cls := "OverHill", name := "crosses", desc := "(I)I" } : Jvm.MethodName)) ∈ lw_all := lw_g (lw_at lw_m5 75 rfl) rfl
theorem q1174 : (Jvm.Cond.selects "OverHill" ({ cls := "OverHill", name := "crosses", desc := "(I)I" } : Jvm.MethodName) ({ cls := "OverHill", name := "crosses", desc := "(I)I" } : Jvm.MethodName)) ∈ lw_all := lw_g (lw_at lw_m5 76 rfl) rfl
theorem q1175 : (Jvm.Cond.code ({ cls := "OverHill", name := "crosses", desc := "(I)I" } : Jvm.MethodName) prog_1_method_71_code (2 : Nat) (Option.some Jvm.ClassFile.FieldType.int)) ∈ lw_all := lw_g (lw_at lw_m5 77 rfl) rfl
theorem q1176 : (Jvm.Cond.methodLink "OverHill" (335 : Nat) ({ cls := "OverHill", name := "goesOver", desc := "(I)I" } : Jvm.MethodName)) ∈ lw_all := lw_g (lw_at lw_m5 78 rfl) rfl
theorem q1177 : (Jvm.Cond.privateMethod ({ cls := "OverHill", name := "goesOver", desc := "(I)I" } : Jvm.MethodName)) ∈ lw_tbl := lw_at lw_m5 79 rfl
theorem q1178 : (Jvm.Cond.instanceMethod ({ cls := "OverHill", name := "goesOver", desc := "(I)I" } : Jvm.MethodName)) ∈ lw_all := lw_g (lw_at lw_m5 80 rfl) rfl
theorem q1179 : (Jvm.Cond.code ({ cls := "OverHill", name := "goesOver", desc := "(I)I" } : Jvm.MethodName) prog_1_method_69_code (4 : Nat) (Option.some Jvm.ClassFile.FieldType.int)) ∈ lw_all := lw_g (lw_at lw_m5 81 rfl) rfl
theorem q1180 : (Jvm.Cond.methodLink "OverHill" (332 : Nat) ({ cls := "OverHill", name := "entered", desc := "(II)I" } : Jvm.MethodName)) ∈ lw_all := lw_g (lw_at lw_m5 82 rfl) rfl
theorem q1181 : (Jvm.Cond.privateMethod ({ cls := "OverHill", name := "entered", desc := "(II)I" } : Jvm.MethodName)) ∈ lw_tbl := lw_at lw_m5 83 rfl
theorem q1182 : (Jvm.Cond.instanceMethod ({ cls := "OverHill", name := "entered", desc := "(II)I" } : Jvm.MethodName)) ∈ lw_all := lw_g (lw_at lw_m5 84 rfl) rfl
theorem q1183 : (Jvm.Cond.code ({ cls := "OverHill", name := "entered", desc := "(II)I" } : Jvm.MethodName) prog_1_method_68_code (4 : Nat) (Option.some Jvm.ClassFile.FieldType.int)) ∈ lw_all := lw_g (lw_at lw_m5 85 rfl) rfl
theorem q1185 : (Jvm.Cond.instanceMethod ({ cls := "OverHill", name := "returns", desc := "(I)I" } : Jvm.MethodName)) ∈ lw_all := lw_g (lw_at lw_m5 87 rfl) rfl
theorem q1186 : (Jvm.Cond.selects "OverHill" ({ cls := "OverHill", name := "returns", desc := "(I)I" } : Jvm.MethodName) ({ cls := "OverHill", name := "returns", desc := "(I)I" } : Jvm.MethodName)) ∈ lw_all := lw_g (lw_at lw_m5 88 rfl) rfl
theorem q1187 : (Jvm.Cond.code ({ cls := "OverHill", name := "returns", desc := "(I)I" } : Jvm.MethodName) prog_1_method_72_code (2 : Nat) (Option.some Jvm.ClassFile.FieldType.int)) ∈ lw_all := lw_g (lw_at lw_m5 89 rfl) rfl
theorem q1188 : (Jvm.Cond.methodLink "OverHill" (338 : Nat) ({ cls := "OverHill", name := "goesBack", desc := "(I)I" } : Jvm.MethodName)) ∈ lw_all := lw_g (lw_at lw_m5 90 rfl) rfl
theorem q1189 : (Jvm.Cond.privateMethod ({ cls := "OverHill", name := "goesBack", desc := "(I)I" } : Jvm.MethodName)) ∈ lw_tbl := lw_at lw_m5 91 rfl
theorem q1190 : (Jvm.Cond.instanceMethod ({ cls := "OverHill", name := "goesBack", desc := "(I)I" } : Jvm.MethodName)) ∈ lw_all := lw_g (lw_at lw_m5 92 rfl) rfl
theorem q1191 : (Jvm.Cond.code ({ cls := "OverHill", name := "goesBack", desc := "(I)I" } : Jvm.MethodName) prog_1_method_70_code (4 : Nat) (Option.some Jvm.ClassFile.FieldType.int)) ∈ lw_all := lw_g (lw_at lw_m5 93 rfl) rfl
theorem q1193 : (Jvm.Cond.instanceMethod ({ cls := "OverHill", name := "meet", desc := "(II)I" } : Jvm.MethodName)) ∈ lw_all := lw_g (lw_at lw_m5 95 rfl) rfl
theorem q1194 : (Jvm.Cond.selects "OverHill" ({ cls := "OverHill", name := "meet", desc := "(II)I" } : Jvm.MethodName) ({ cls := "OverHill", name := "meet", desc := "(II)I" } : Jvm.MethodName)) ∈ lw_all := lw_g (lw_at lw_m5 96 rfl) rfl
theorem q1195 : (Jvm.Cond.code ({ cls := "OverHill", name := "meet", desc := "(II)I" } : Jvm.MethodName) prog_1_method_74_code (3 : Nat) (Option.some Jvm.ClassFile.FieldType.int)) ∈ lw_all := lw_g (lw_at lw_m5 97 rfl) rfl
theorem q1196 : (Jvm.Cond.methodLink "OverHill" (344 : Nat) ({ cls := "OverHill", name := "meetCell", desc := "(II)I" } : Jvm.MethodName)) ∈ lw_all := lw_g (lw_at lw_m5 98 rfl) rfl
theorem q1197 : (Jvm.Cond.privateMethod ({ cls := "OverHill", name := "meetCell", desc := "(II)I" } : Jvm.MethodName)) ∈ lw_tbl := lw_at lw_m5 99 rfl
theorem q1198 : (Jvm.Cond.instanceMethod ({ cls := "OverHill", name := "meetCell", desc := "(II)I" } : Jvm.MethodName)) ∈ lw_all := lw_g (lw_at lw_m5 100 rfl) rfl
theorem q1199 : (Jvm.Cond.code ({ cls := "OverHill", name := "meetCell", desc := "(II)I" } : Jvm.MethodName) prog_1_method_73_code (6 : Nat) (Option.some Jvm.ClassFile.FieldType.int)) ∈ lw_all := lw_g (lw_at lw_m5 101 rfl) rfl
theorem q1201 : (Jvm.Cond.instanceMethod ({ cls := "OverHill", name := "cell", desc := "(II)I" } : Jvm.MethodName)) ∈ lw_all := lw_g (lw_at lw_m5 103 rfl) rfl
theorem q1202 : (Jvm.Cond.selects "OverHill" ({ cls := "OverHill", name := "cell", desc := "(II)I" } : Jvm.MethodName) ({ cls := "OverHill", name := "cell", desc := "(II)I" } : Jvm.MethodName)) ∈ lw_all := lw_g (lw_at lw_m5 104 rfl) rfl
theorem q1203 : (Jvm.Cond.code ({ cls := "OverHill", name := "cell", desc := "(II)I" } : Jvm.MethodName) prog_1_method_75_code (3 : Nat) (Option.some Jvm.ClassFile.FieldType.int)) ∈ lw_all := lw_g (lw_at lw_m5 105 rfl) rfl
theorem q1205 : (Jvm.Cond.instanceMethod ({ cls := "OverHill", name := "longest", desc := "()I" } : Jvm.MethodName)) ∈ lw_all := lw_g (lw_at lw_m5 107 rfl) rfl
theorem q1206 : (Jvm.Cond.selects "OverHill" ({ cls := "OverHill", name := "longest", desc := "()I" } : Jvm.MethodName) ({ cls := "OverHill", name := "longest", desc := "()I" } : Jvm.MethodName)) ∈ lw_all := lw_g (lw_at lw_m5 108 rfl) rfl
theorem q1207 : (Jvm.Cond.code ({ cls := "OverHill", name := "longest", desc := "()I" } : Jvm.MethodName) prog_1_method_76_code (3 : Nat) (Option.some Jvm.ClassFile.FieldType.int)) ∈ lw_all := lw_g (lw_at lw_m5 109 rfl) rfl
theorem q1209 : (Jvm.Cond.instanceMethod ({ cls := "OverHill", name := "half", desc := "(I)I" } : Jvm.MethodName)) ∈ lw_all := lw_g (lw_at lw_m5 111 rfl) rfl
theorem q1210 : (Jvm.Cond.selects "OverHill" ({ cls := "OverHill", name := "half", desc := "(I)I" } : Jvm.MethodName) ({ cls := "OverHill", name := "half", desc := "(I)I" } : Jvm.MethodName)) ∈ lw_all := lw_g (lw_at lw_m5 112 rfl) rfl
theorem q1211 : (Jvm.Cond.code ({ cls := "OverHill", name := "half", desc := "(I)I" } : Jvm.MethodName) prog_1_method_80_code (3 : Nat) (Option.some Jvm.ClassFile.FieldType.int)) ∈ lw_all := lw_g (lw_at lw_m5 113 rfl) rfl
theorem q1212 : (Jvm.Cond.methodLink "OverHill" (350 : Nat) ({ cls := "OverHill", name := "asksHalf", desc := "(I)I" } : Jvm.MethodName)) ∈ lw_all := lw_g (lw_at lw_m5 114 rfl) rfl
theorem q1213 : (Jvm.Cond.privateMethod ({ cls := "OverHill", name := "asksHalf", desc := "(I)I" } : Jvm.MethodName)) ∈ lw_tbl := lw_at lw_m5 115 rfl
theorem q1214 : (Jvm.Cond.instanceMethod ({ cls := "OverHill", name := "asksHalf", desc := "(I)I" } : Jvm.MethodName)) ∈ lw_all := lw_g (lw_at lw_m5 116 rfl) rfl
theorem q1215 : (Jvm.Cond.codeWith ({ cls := "OverHill", name := "asksHalf", desc := "(I)I" } : Jvm.MethodName) prog_1_method_77_code (4 : Nat) (Option.some Jvm.ClassFile.FieldType.int) [((10 : Nat), (47 : Nat), (56 : Nat), (286 : Nat)), ((48 : Nat), (55 : Nat), (56 : Nat), (286 : Nat))]) ∈ lw_all := lw_g (lw_at lw_m5 117 rfl) rfl
theorem q1216 : (Jvm.Cond.methodLink "OverHill" (353 : Nat) ({ cls := "OverHill", name := "halfOf", desc := "(I)I" } : Jvm.MethodName)) ∈ lw_all := lw_g (lw_at lw_m5 118 rfl) rfl
theorem q1217 : (Jvm.Cond.privateMethod ({ cls := "OverHill", name := "halfOf", desc := "(I)I" } : Jvm.MethodName)) ∈ lw_tbl := lw_at lw_m5 119 rfl
theorem q1218 : (Jvm.Cond.instanceMethod ({ cls := "OverHill", name := "halfOf", desc := "(I)I" } : Jvm.MethodName)) ∈ lw_all := lw_g (lw_at lw_m5 120 rfl) rfl
theorem q1219 : (Jvm.Cond.code ({ cls := "OverHill", name := "halfOf", desc := "(I)I" } : Jvm.MethodName) prog_1_method_79_code (3 : Nat) (Option.some Jvm.ClassFile.FieldType.int)) ∈ lw_all := lw_g (lw_at lw_m5 121 rfl) rfl
theorem q1220 : (Jvm.Cond.methodLink "OverHill" (347 : Nat) ({ cls := "OverHill", name := "fitsLength", desc := "(II)Z" } : Jvm.MethodName)) ∈ lw_all := lw_g (lw_at lw_m5 122 rfl) rfl
theorem q1221 : (Jvm.Cond.privateMethod ({ cls := "OverHill", name := "fitsLength", desc := "(II)Z" } : Jvm.MethodName)) ∈ lw_tbl := lw_at lw_m5 123 rfl
theorem q1222 : (Jvm.Cond.instanceMethod ({ cls := "OverHill", name := "fitsLength", desc := "(II)Z" } : Jvm.MethodName)) ∈ lw_all := lw_g (lw_at lw_m5 124 rfl) rfl
theorem q1223 : (Jvm.Cond.code ({ cls := "OverHill", name := "fitsLength", desc := "(II)Z" } : Jvm.MethodName) prog_1_method_78_code (5 : Nat) (Option.some Jvm.ClassFile.FieldType.boolean)) ∈ lw_all := lw_g (lw_at lw_m5 125 rfl) rfl
theorem q1225 : (Jvm.Cond.instanceMethod ({ cls := "OverHill", name := "fills", desc := "(II)I" } : Jvm.MethodName)) ∈ lw_all := lw_g (lw_at lw_m5 127 rfl) rfl
theorem q1226 : (Jvm.Cond.selects "OverHill" ({ cls := "OverHill", name := "fills", desc := "(II)I" } : Jvm.MethodName) ({ cls := "OverHill", name := "fills", desc := "(II)I" } : Jvm.MethodName)) ∈ lw_all := lw_g (lw_at lw_m5 128 rfl) rfl
theorem q1227 : (Jvm.Cond.code ({ cls := "OverHill", name := "fills", desc := "(II)I" } : Jvm.MethodName) prog_1_method_81_code (5 : Nat) (Option.some Jvm.ClassFile.FieldType.int)) ∈ lw_all := lw_g (lw_at lw_m5 129 rfl) rfl
theorem q1229 : (Jvm.Cond.instanceMethod ({ cls := "OverHill", name := "open", desc := "(I)I" } : Jvm.MethodName)) ∈ lw_all := lw_g (lw_at lw_m5 131 rfl) rfl
theorem q1230 : (Jvm.Cond.selects "OverHill" ({ cls := "OverHill", name := "open", desc := "(I)I" } : Jvm.MethodName) ({ cls := "OverHill", name := "open", desc := "(I)I" } : Jvm.MethodName)) ∈ lw_all := lw_g (lw_at lw_m5 132 rfl) rfl
theorem q1231 : (Jvm.Cond.code ({ cls := "OverHill", name := "open", desc := "(I)I" } : Jvm.MethodName) prog_1_method_82_code (6 : Nat) (Option.some Jvm.ClassFile.FieldType.int)) ∈ lw_all := lw_g (lw_at lw_m5 133 rfl) rfl
theorem q1233 : (Jvm.Cond.instanceMethod ({ cls := "OverHill", name := "together", desc := "(II)J" } : Jvm.MethodName)) ∈ lw_all := lw_g (lw_at lw_m5 135 rfl) rfl
theorem q1234 : (Jvm.Cond.selects "OverHill" ({ cls := "OverHill", name := "together", desc := "(II)J" } : Jvm.MethodName) ({ cls := "OverHill", name := "together", desc := "(II)J" } : Jvm.MethodName)) ∈ lw_all := lw_g (lw_at lw_m5 136 rfl) rfl
theorem q1235 : (Jvm.Cond.code ({ cls := "OverHill", name := "together", desc := "(II)J" } : Jvm.MethodName) prog_1_method_85_code (5 : Nat) (Option.some Jvm.ClassFile.FieldType.long)) ∈ lw_all := lw_g (lw_at lw_m5 137 rfl) rfl
theorem q1236 : (Jvm.Cond.methodLink "OverHill" (371 : Nat) ({ cls := "OverHill", name := "areTunes", desc := "(I)Z" } : Jvm.MethodName)) ∈ lw_all := lw_g (lw_at lw_m5 138 rfl) rfl
theorem q1237 : (Jvm.Cond.privateMethod ({ cls := "OverHill", name := "areTunes", desc := "(I)Z" } : Jvm.MethodName)) ∈ lw_tbl := lw_at lw_m5 139 rfl
theorem q1238 : (Jvm.Cond.instanceMethod ({ cls := "OverHill", name := "areTunes", desc := "(I)Z" } : Jvm.MethodName)) ∈ lw_all := lw_g (lw_at lw_m5 140 rfl) rfl
theorem q1239 : (Jvm.Cond.code ({ cls := "OverHill", name := "areTunes", desc := "(I)Z" } : Jvm.MethodName) prog_1_method_84_code (2 : Nat) (Option.some Jvm.ClassFile.FieldType.boolean)) ∈ lw_all := lw_g (lw_at lw_m5 141 rfl) rfl
theorem q1240 : (Jvm.Cond.constantLong "OverHill" (374 : Nat) (-2 : Int64)) ∈ lw_all := lw_g (lw_at lw_m5 142 rfl) rfl
theorem q1241 : (Jvm.Cond.methodLink "OverHill" (376 : Nat) ({ cls := "OverHill", name := "joins", desc := "(I)V" } : Jvm.MethodName)) ∈ lw_all := lw_g (lw_at lw_m5 143 rfl) rfl
theorem q1242 : (Jvm.Cond.privateMethod ({ cls := "OverHill", name := "joins", desc := "(I)V" } : Jvm.MethodName)) ∈ lw_tbl := lw_at lw_m5 144 rfl
theorem q1243 : (Jvm.Cond.instanceMethod ({ cls := "OverHill", name := "joins", desc := "(I)V" } : Jvm.MethodName)) ∈ lw_all := lw_g (lw_at lw_m5 145 rfl) rfl
theorem q1244 : (Jvm.Cond.code ({ cls := "OverHill", name := "joins", desc := "(I)V" } : Jvm.MethodName) prog_1_method_83_code (5 : Nat) (Option.none : Option Jvm.ClassFile.FieldType)) ∈ lw_all := lw_g (lw_at lw_m5 146 rfl) rfl
theorem q1246 : (Jvm.Cond.instanceMethod ({ cls := "OverHill", name := "again", desc := "(I)J" } : Jvm.MethodName)) ∈ lw_all := lw_g (lw_at lw_m5 148 rfl) rfl
theorem q1247 : (Jvm.Cond.selects "OverHill" ({ cls := "OverHill", name := "again", desc := "(I)J" } : Jvm.MethodName) ({ cls := "OverHill", name := "again", desc := "(I)J" } : Jvm.MethodName)) ∈ lw_all := lw_g (lw_at lw_m5 149 rfl) rfl
theorem q1248 : (Jvm.Cond.code ({ cls := "OverHill", name := "again", desc := "(I)J" } : Jvm.MethodName) prog_1_method_86_code (2 : Nat) (Option.some Jvm.ClassFile.FieldType.long)) ∈ lw_all := lw_g (lw_at lw_m5 150 rfl) rfl
theorem q1250 : (Jvm.Cond.instanceMethod ({ cls := "OverHill", name := "most", desc := "()I" } : Jvm.MethodName)) ∈ lw_all := lw_g (lw_at lw_m5 152 rfl) rfl
theorem q1251 : (Jvm.Cond.selects "OverHill" ({ cls := "OverHill", name := "most", desc := "()I" } : Jvm.MethodName) ({ cls := "OverHill", name := "most", desc := "()I" } : Jvm.MethodName)) ∈ lw_all := lw_g (lw_at lw_m5 153 rfl) rfl
theorem q1252 : (Jvm.Cond.code ({ cls := "OverHill", name := "most", desc := "()I" } : Jvm.MethodName) prog_1_method_88_code (1 : Nat) (Option.some Jvm.ClassFile.FieldType.int)) ∈ lw_all := lw_g (lw_at lw_m5 154 rfl) rfl
theorem q1253 : (Jvm.Cond.methodLink "OverHill" (384 : Nat) ({ cls := "OverHill", name := "chorusOf", desc := "()I" } : Jvm.MethodName)) ∈ lw_all := lw_g (lw_at lw_m5 155 rfl) rfl
theorem q1254 : (Jvm.Cond.privateMethod ({ cls := "OverHill", name := "chorusOf", desc := "()I" } : Jvm.MethodName)) ∈ lw_tbl := lw_at lw_m5 156 rfl
theorem q1255 : (Jvm.Cond.instanceMethod ({ cls := "OverHill", name := "chorusOf", desc := "()I" } : Jvm.MethodName)) ∈ lw_all := lw_g (lw_at lw_m5 157 rfl) rfl
theorem q1256 : (Jvm.Cond.code ({ cls := "OverHill", name := "chorusOf", desc := "()I" } : Jvm.MethodName) prog_1_method_87_code (3 : Nat) (Option.some Jvm.ClassFile.FieldType.int)) ∈ lw_all := lw_g (lw_at lw_m5 158 rfl) rfl
theorem q1257 : (Jvm.Cond.methodLink "OverHill" (379 : Nat) ({ cls := "java/lang/Integer", name := "bitCount", desc := "(I)I" } : Jvm.MethodName)) ∈ lw_all := lw_g (lw_at lw_m5 159 rfl) rfl
theorem q1264 : (Jvm.Cond.instanceMethod ({ cls := "OverHill", name := "chorus", desc := "()I" } : Jvm.MethodName)) ∈ lw_all := lw_g (lw_at lw_m5 166 rfl) rfl
theorem q1265 : (Jvm.Cond.selects "OverHill" ({ cls := "OverHill", name := "chorus", desc := "()I" } : Jvm.MethodName) ({ cls := "OverHill", name := "chorus", desc := "()I" } : Jvm.MethodName)) ∈ lw_all := lw_g (lw_at lw_m5 167 rfl) rfl
theorem q1266 : (Jvm.Cond.code ({ cls := "OverHill", name := "chorus", desc := "()I" } : Jvm.MethodName) prog_1_method_89_code (1 : Nat) (Option.some Jvm.ClassFile.FieldType.int)) ∈ lw_all := lw_g (lw_at lw_m5 168 rfl) rfl
theorem q1268 : (Jvm.Cond.instanceMethod ({ cls := "OverHill", name := "treaties", desc := "()I" } : Jvm.MethodName)) ∈ lw_all := lw_g (lw_at lw_m5 170 rfl) rfl
theorem q1269 : (Jvm.Cond.selects "OverHill" ({ cls := "OverHill", name := "treaties", desc := "()I" } : Jvm.MethodName) ({ cls := "OverHill", name := "treaties", desc := "()I" } : Jvm.MethodName)) ∈ lw_all := lw_g (lw_at lw_m5 171 rfl) rfl
theorem q1270 : (Jvm.Cond.code ({ cls := "OverHill", name := "treaties", desc := "()I" } : Jvm.MethodName) prog_1_method_90_code (4 : Nat) (Option.some Jvm.ClassFile.FieldType.int)) ∈ lw_all := lw_g (lw_at lw_m5 172 rfl) rfl
theorem q1272 : (Jvm.Cond.instanceMethod ({ cls := "OverHill", name := "leads", desc := "(I)I" } : Jvm.MethodName)) ∈ lw_all := lw_g (lw_at lw_m5 174 rfl) rfl
theorem q1273 : (Jvm.Cond.selects "OverHill" ({ cls := "OverHill", name := "leads", desc := "(I)I" } : Jvm.MethodName) ({ cls := "OverHill", name := "leads", desc := "(I)I" } : Jvm.MethodName)) ∈ lw_all := lw_g (lw_at lw_m5 175 rfl) rfl
theorem q1274 : (Jvm.Cond.code ({ cls := "OverHill", name := "leads", desc := "(I)I" } : Jvm.MethodName) prog_1_method_91_code (5 : Nat) (Option.some Jvm.ClassFile.FieldType.int)) ∈ lw_all := lw_g (lw_at lw_m5 176 rfl) rfl
theorem q1276 : (Jvm.Cond.instanceMethod ({ cls := "OverHill", name := "game", desc := "(I)I" } : Jvm.MethodName)) ∈ lw_all := lw_g (lw_at lw_m5 178 rfl) rfl
theorem q1277 : (Jvm.Cond.selects "OverHill" ({ cls := "OverHill", name := "game", desc := "(I)I" } : Jvm.MethodName) ({ cls := "OverHill", name := "game", desc := "(I)I" } : Jvm.MethodName)) ∈ lw_all := lw_g (lw_at lw_m5 179 rfl) rfl
theorem q1278 : (Jvm.Cond.code ({ cls := "OverHill", name := "game", desc := "(I)I" } : Jvm.MethodName) prog_1_method_95_code (2 : Nat) (Option.some Jvm.ClassFile.FieldType.int)) ∈ lw_all := lw_g (lw_at lw_m5 180 rfl) rfl
theorem q1279 : (Jvm.Cond.methodLink "OverHill" (393 : Nat) ({ cls := "OverHill", name := "winnerFrom", desc := "(I)I" } : Jvm.MethodName)) ∈ lw_all := lw_g (lw_at lw_m5 181 rfl) rfl
theorem q1280 : (Jvm.Cond.privateMethod ({ cls := "OverHill", name := "winnerFrom", desc := "(I)I" } : Jvm.MethodName)) ∈ lw_tbl := lw_at lw_m5 182 rfl
theorem q1281 : (Jvm.Cond.instanceMethod ({ cls := "OverHill", name := "winnerFrom", desc := "(I)I" } : Jvm.MethodName)) ∈ lw_all := lw_g (lw_at lw_m5 183 rfl) rfl
theorem q1282 : (Jvm.Cond.code ({ cls := "OverHill", name := "winnerFrom", desc := "(I)I" } : Jvm.MethodName) prog_1_method_94_code (3 : Nat) (Option.some Jvm.ClassFile.FieldType.int)) ∈ lw_all := lw_g (lw_at lw_m5 184 rfl) rfl
theorem q1283 : (Jvm.Cond.methodLink "OverHill" (387 : Nat) ({ cls := "OverHill", name := "winner", desc := "(II)I" } : Jvm.MethodName)) ∈ lw_all := lw_g (lw_at lw_m5 185 rfl) rfl
theorem q1284 : (Jvm.Cond.privateMethod ({ cls := "OverHill", name := "winner", desc := "(II)I" } : Jvm.MethodName)) ∈ lw_tbl := lw_at lw_m5 186 rfl
theorem q1285 : (Jvm.Cond.instanceMethod ({ cls := "OverHill", name := "winner", desc := "(II)I" } : Jvm.MethodName)) ∈ lw_all := lw_g (lw_at lw_m5 187 rfl) rfl
theorem q1286 : (Jvm.Cond.code ({ cls := "OverHill", name := "winner", desc := "(II)I" } : Jvm.MethodName) prog_1_method_93_code (4 : Nat) (Option.some Jvm.ClassFile.FieldType.int)) ∈ lw_all := lw_g (lw_at lw_m5 188 rfl) rfl
theorem q1287 : (Jvm.Cond.methodLink "OverHill" (390 : Nat) ({ cls := "OverHill", name := "isWon", desc := "(II)Z" } : Jvm.MethodName)) ∈ lw_all := lw_g (lw_at lw_m5 189 rfl) rfl
theorem q1288 : (Jvm.Cond.privateMethod ({ cls := "OverHill", name := "isWon", desc := "(II)Z" } : Jvm.MethodName)) ∈ lw_tbl := lw_at lw_m5 190 rfl
theorem q1289 : (Jvm.Cond.instanceMethod ({ cls := "OverHill", name := "isWon", desc := "(II)Z" } : Jvm.MethodName)) ∈ lw_all := lw_g (lw_at lw_m5 191 rfl) rfl
theorem q1290 : (Jvm.Cond.code ({ cls := "OverHill", name := "isWon", desc := "(II)Z" } : Jvm.MethodName) prog_1_method_92_code (4 : Nat) (Option.some Jvm.ClassFile.FieldType.boolean)) ∈ lw_all := lw_g (lw_at lw_m5 192 rfl) rfl
theorem q1292 : (Jvm.Cond.instanceMethod ({ cls := "OverHill", name := "plays", desc := "(I)I" } : Jvm.MethodName)) ∈ lw_all := lw_g (lw_at lw_m5 194 rfl) rfl
theorem q1293 : (Jvm.Cond.selects "OverHill" ({ cls := "OverHill", name := "plays", desc := "(I)I" } : Jvm.MethodName) ({ cls := "OverHill", name := "plays", desc := "(I)I" } : Jvm.MethodName)) ∈ lw_all := lw_g (lw_at lw_m5 195 rfl) rfl
theorem q1294 : (Jvm.Cond.code ({ cls := "OverHill", name := "plays", desc := "(I)I" } : Jvm.MethodName) prog_1_method_96_code (2 : Nat) (Option.some Jvm.ClassFile.FieldType.int)) ∈ lw_all := lw_g (lw_at lw_m5 196 rfl) rfl
theorem q1296 : (Jvm.Cond.instanceMethod ({ cls := "OverHill", name := "dry", desc := "(II)J" } : Jvm.MethodName)) ∈ lw_all := lw_g (lw_at lw_m5 198 rfl) rfl
theorem q1297 : (Jvm.Cond.selects "OverHill" ({ cls := "OverHill", name := "dry", desc := "(II)J" } : Jvm.MethodName) ({ cls := "OverHill", name := "dry", desc := "(II)J" } : Jvm.MethodName)) ∈ lw_all := lw_g (lw_at lw_m5 199 rfl) rfl
theorem q1298 : (Jvm.Cond.code ({ cls := "OverHill", name := "dry", desc := "(II)J" } : Jvm.MethodName) prog_1_method_101_code (3 : Nat) (Option.some Jvm.ClassFile.FieldType.long)) ∈ lw_all := lw_g (lw_at lw_m5 200 rfl) rfl
theorem q1299 : (Jvm.Cond.constantLong "OverHill" (412 : Nat) (9 : Int64)) ∈ lw_all := lw_g (lw_at lw_m5 201 rfl) rfl
theorem q1300 : (Jvm.Cond.methodLink "OverHill" (414 : Nat) ({ cls := "OverHill", name := "wetOf", desc := "(III)J" } : Jvm.MethodName)) ∈ lw_all := lw_g (lw_at lw_m5 202 rfl) rfl
theorem q1301 : (Jvm.Cond.privateMethod ({ cls := "OverHill", name := "wetOf", desc := "(III)J" } : Jvm.MethodName)) ∈ lw_tbl := lw_at lw_m5 203 rfl
theorem q1302 : (Jvm.Cond.instanceMethod ({ cls := "OverHill", name := "wetOf", desc := "(III)J" } : Jvm.MethodName)) ∈ lw_all := lw_g (lw_at lw_m5 204 rfl) rfl
theorem q1303 : (Jvm.Cond.code ({ cls := "OverHill", name := "wetOf", desc := "(III)J" } : Jvm.MethodName) prog_1_method_100_code (4 : Nat) (Option.some Jvm.ClassFile.FieldType.long)) ∈ lw_all := lw_g (lw_at lw_m5 205 rfl) rfl
theorem q1304 : (Jvm.Cond.methodLink "OverHill" (396 : Nat) ({ cls := "OverHill", name := "choose", desc := "(II)J" } : Jvm.MethodName)) ∈ lw_all := lw_g (lw_at lw_m5 206 rfl) rfl
theorem q1305 : (Jvm.Cond.static ({ cls := "OverHill", name := "choose", desc := "(II)J" } : Jvm.MethodName)) ∈ lw_all := lw_g (lw_at lw_m5 207 rfl) rfl
theorem q1306 : (Jvm.Cond.code ({ cls := "OverHill", name := "choose", desc := "(II)J" } : Jvm.MethodName) prog_1_method_99_code (5 : Nat) (Option.some Jvm.ClassFile.FieldType.long)) ∈ lw_all := lw_g (lw_at lw_m5 208 rfl) rfl
theorem q1307 : (Jvm.Cond.methodLink "OverHill" (402 : Nat) ({ cls := "OverHill", name := "power", desc := "(JI)J" } : Jvm.MethodName)) ∈ lw_all := lw_g (lw_at lw_m5 209 rfl) rfl
theorem q1308 : (Jvm.Cond.static ({ cls := "OverHill", name := "power", desc := "(JI)J" } : Jvm.MethodName)) ∈ lw_all := lw_g (lw_at lw_m5 210 rfl) rfl
theorem q1309 : (Jvm.Cond.code ({ cls := "OverHill", name := "power", desc := "(JI)J" } : Jvm.MethodName) prog_1_method_97_code (6 : Nat) (Option.some Jvm.ClassFile.FieldType.long)) ∈ lw_all := lw_g (lw_at lw_m5 211 rfl) rfl
theorem q1310 : (Jvm.Cond.constantLong "OverHill" (406 : Nat) (100 : Int64)) ∈ lw_all := lw_g (lw_at lw_m5 212 rfl) rfl
theorem q1311 : (Jvm.Cond.methodLink "OverHill" (408 : Nat) ({ cls := "OverHill", name := "part", desc := "(JJI)J" } : Jvm.MethodName)) ∈ lw_all := lw_g (lw_at lw_m5 213 rfl) rfl
theorem q1312 : (Jvm.Cond.static ({ cls := "OverHill", name := "part", desc := "(JJI)J" } : Jvm.MethodName)) ∈ lw_all := lw_g (lw_at lw_m5 214 rfl) rfl
theorem q1313 : (Jvm.Cond.code ({ cls := "OverHill", name := "part", desc := "(JJI)J" } : Jvm.MethodName) prog_1_method_98_code (11 : Nat) (Option.some Jvm.ClassFile.FieldType.long)) ∈ lw_all := lw_g (lw_at lw_m5 215 rfl) rfl
theorem q1315 : (Jvm.Cond.instanceMethod ({ cls := "OverHill", name := "wet", desc := "(III)J" } : Jvm.MethodName)) ∈ lw_all := lw_g (lw_at lw_m5 217 rfl) rfl
theorem q1316 : (Jvm.Cond.selects "OverHill" ({ cls := "OverHill", name := "wet", desc := "(III)J" } : Jvm.MethodName) ({ cls := "OverHill", name := "wet", desc := "(III)J" } : Jvm.MethodName)) ∈ lw_all := lw_g (lw_at lw_m5 218 rfl) rfl
theorem q1317 : (Jvm.Cond.code ({ cls := "OverHill", name := "wet", desc := "(III)J" } : Jvm.MethodName) prog_1_method_102_code (4 : Nat) (Option.some Jvm.ClassFile.FieldType.long)) ∈ lw_all := lw_g (lw_at lw_m5 219 rfl) rfl
theorem q1319 : (Jvm.Cond.instanceMethod ({ cls := "OverHill", name := "drawn", desc := "(III)I" } : Jvm.MethodName)) ∈ lw_all := lw_g (lw_at lw_m5 221 rfl) rfl
theorem q1320 : (Jvm.Cond.selects "OverHill" ({ cls := "OverHill", name := "drawn", desc := "(III)I" } : Jvm.MethodName) ({ cls := "OverHill", name := "drawn", desc := "(III)I" } : Jvm.MethodName)) ∈ lw_all := lw_g (lw_at lw_m5 222 rfl) rfl
theorem q1321 : (Jvm.Cond.code ({ cls := "OverHill", name := "drawn", desc := "(III)I" } : Jvm.MethodName) prog_1_method_107_code (4 : Nat) (Option.some Jvm.ClassFile.FieldType.int)) ∈ lw_all := lw_g (lw_at lw_m5 223 rfl) rfl
theorem q1322 : (Jvm.Cond.methodLink "OverHill" (460 : Nat) ({ cls := "OverHill", name := "isNight", desc := "(II)Z" } : Jvm.MethodName)) ∈ lw_all := lw_g (lw_at lw_m5 224 rfl) rfl
theorem q1323 : (Jvm.Cond.privateMethod ({ cls := "OverHill", name := "isNight", desc := "(II)Z" } : Jvm.MethodName)) ∈ lw_tbl := lw_at lw_m5 225 rfl
theorem q1324 : (Jvm.Cond.instanceMethod ({ cls := "OverHill", name := "isNight", desc := "(II)Z" } : Jvm.MethodName)) ∈ lw_all := lw_g (lw_at lw_m5 226 rfl) rfl
theorem q1325 : (Jvm.Cond.code ({ cls := "OverHill", name := "isNight", desc := "(II)Z" } : Jvm.MethodName) prog_1_method_106_code (3 : Nat) (Option.some Jvm.ClassFile.FieldType.boolean)) ∈ lw_all := lw_g (lw_at lw_m5 227 rfl) rfl
theorem q1326 : (Jvm.Cond.methodLink "OverHill" (457 : Nat) ({ cls := "OverHill", name := "isSeed", desc := "(I)Z" } : Jvm.MethodName)) ∈ lw_all := lw_g (lw_at lw_m5 228 rfl) rfl
theorem q1327 : (Jvm.Cond.static ({ cls := "OverHill", name := "isSeed", desc := "(I)Z" } : Jvm.MethodName)) ∈ lw_all := lw_g (lw_at lw_m5 229 rfl) rfl
theorem q1328 : (Jvm.Cond.code ({ cls := "OverHill", name := "isSeed", desc := "(I)Z" } : Jvm.MethodName) prog_1_method_17_code (1 : Nat) (Option.some Jvm.ClassFile.FieldType.boolean)) ∈ lw_all := lw_g (lw_at lw_m5 230 rfl) rfl
theorem q1329 : (Jvm.Cond.constantLong "OverHill" (150 : Nat) (2000000000 : Int64)) ∈ lw_all := lw_g (lw_at lw_m5 231 rfl) rfl
theorem q1330 : (Jvm.Cond.methodLink "OverHill" (463 : Nat) ({ cls := "OverHill", name := "goesNight", desc := "(JI)V" } : Jvm.MethodName)) ∈ lw_all := lw_g (lw_at lw_m5 232 rfl) rfl
theorem q1331 : (Jvm.Cond.privateMethod ({ cls := "OverHill", name := "goesNight", desc := "(JI)V" } : Jvm.MethodName)) ∈ lw_tbl := lw_at lw_m5 233 rfl
theorem q1332 : (Jvm.Cond.instanceMethod ({ cls := "OverHill", name := "goesNight", desc := "(JI)V" } : Jvm.MethodName)) ∈ lw_all := lw_g (lw_at lw_m5 234 rfl) rfl
theorem q1333 : (Jvm.Cond.code ({ cls := "OverHill", name := "goesNight", desc := "(JI)V" } : Jvm.MethodName) prog_1_method_105_code (7 : Nat) (Option.none : Option Jvm.ClassFile.FieldType)) ∈ lw_all := lw_g (lw_at lw_m5 235 rfl) rfl
theorem q1334 : (Jvm.Cond.methodLink "OverHill" (447 : Nat) ({ cls := "java/lang/System", name := "arraycopy", desc := "(Ljava/lang/Object;ILjava/lang/Object;II)V" } : Jvm.MethodName)) ∈ lw_all := lw_g (lw_at lw_m5 236 rfl) rfl
theorem q1337 : (Jvm.Cond.methodLink "OverHill" (432 : Nat) ({ cls := "OverHill", name := "draws", desc := "(I)Z" } : Jvm.MethodName)) ∈ lw_all := lw_g (lw_at lw_m5 239 rfl) rfl
theorem q1338 : (Jvm.Cond.privateMethod ({ cls := "OverHill", name := "draws", desc := "(I)Z" } : Jvm.MethodName)) ∈ lw_tbl := lw_at lw_m6 0 rfl
theorem q1339 : (Jvm.Cond.instanceMethod ({ cls := "OverHill", name := "draws", desc := "(I)Z" } : Jvm.MethodName)) ∈ lw_all := lw_g (lw_at lw_m6 1 rfl) rfl
theorem q1340 : (Jvm.Cond.code ({ cls := "OverHill", name := "draws", desc := "(I)Z" } : Jvm.MethodName) prog_1_method_103_code (2 : Nat) (Option.some Jvm.ClassFile.FieldType.boolean)) ∈ lw_all := lw_g (lw_at lw_m6 2 rfl) rfl
theorem q1341 : (Jvm.Cond.constantLong "OverHill" (418 : Nat) (1103515245 : Int64)) ∈ lw_all := lw_g (lw_at lw_m6 3 rfl) rfl
theorem q1342 : (Jvm.Cond.constantLong "OverHill" (423 : Nat) (12345 : Int64)) ∈ lw_all := lw_g (lw_at lw_m6 4 rfl) rfl
theorem q1343 : (Jvm.Cond.constantLong "OverHill" (425 : Nat) (2147483648 : Int64)) ∈ lw_all := lw_g (lw_at lw_m6 5 rfl) rfl
theorem q1344 : (Jvm.Cond.constantLong "OverHill" (427 : Nat) (65536 : Int64)) ∈ lw_all := lw_g (lw_at lw_m6 6 rfl) rfl
theorem q1345 : (Jvm.Cond.methodLink "OverHill" (453 : Nat) ({ cls := "OverHill", name := "dances", desc := "(IIZ)V" } : Jvm.MethodName)) ∈ lw_all := lw_g (lw_at lw_m6 7 rfl) rfl
theorem q1346 : (Jvm.Cond.privateMethod ({ cls := "OverHill", name := "dances", desc := "(IIZ)V" } : Jvm.MethodName)) ∈ lw_tbl := lw_at lw_m6 8 rfl
theorem q1347 : (Jvm.Cond.instanceMethod ({ cls := "OverHill", name := "dances", desc := "(IIZ)V" } : Jvm.MethodName)) ∈ lw_all := lw_g (lw_at lw_m6 9 rfl) rfl
theorem q1348 : (Jvm.Cond.code ({ cls := "OverHill", name := "dances", desc := "(IIZ)V" } : Jvm.MethodName) prog_1_method_104_code (6 : Nat) (Option.none : Option Jvm.ClassFile.FieldType)) ∈ lw_all := lw_g (lw_at lw_m6 10 rfl) rfl
theorem q1350 : (Jvm.Cond.instanceMethod ({ cls := "OverHill", name := "nights", desc := "(III)I" } : Jvm.MethodName)) ∈ lw_all := lw_g (lw_at lw_m6 12 rfl) rfl
theorem q1351 : (Jvm.Cond.selects "OverHill" ({ cls := "OverHill", name := "nights", desc := "(III)I" } : Jvm.MethodName) ({ cls := "OverHill", name := "nights", desc := "(III)I" } : Jvm.MethodName)) ∈ lw_all := lw_g (lw_at lw_m6 13 rfl) rfl
theorem q1352 : (Jvm.Cond.code ({ cls := "OverHill", name := "nights", desc := "(III)I" } : Jvm.MethodName) prog_1_method_108_code (6 : Nat) (Option.some Jvm.ClassFile.FieldType.int)) ∈ lw_all := lw_g (lw_at lw_m6 14 rfl) rfl
theorem q1353 : (Jvm.Cond.constantLong "OverHill" (467 : Nat) (20 : Int64)) ∈ lw_all := lw_g (lw_at lw_m6 15 rfl) rfl
theorem q1355 : (Jvm.Cond.instanceMethod ({ cls := "OverHill", name := "stumble", desc := "(IIII)I" } : Jvm.MethodName)) ∈ lw_all := lw_g (lw_at lw_m6 17 rfl) rfl
theorem q1356 : (Jvm.Cond.selects "OverHill" ({ cls := "OverHill", name := "stumble", desc := "(IIII)I" } : Jvm.MethodName) ({ cls := "OverHill", name := "stumble", desc := "(IIII)I" } : Jvm.MethodName)) ∈ lw_all := lw_g (lw_at lw_m6 18 rfl) rfl
theorem q1357 : (Jvm.Cond.code ({ cls := "OverHill", name := "stumble", desc := "(IIII)I" } : Jvm.MethodName) prog_1_method_110_code (6 : Nat) (Option.some Jvm.ClassFile.FieldType.int)) ∈ lw_all := lw_g (lw_at lw_m6 19 rfl) rfl
theorem q1358 : (Jvm.Cond.methodLink "OverHill" (476 : Nat) ({ cls := "OverHill$Dance", name := "stumbleAt", desc := "(II)I" } : Jvm.MethodName)) ∈ lw_all := lw_g (lw_at lw_m6 20 rfl) rfl
theorem q1359 : (Jvm.Cond.methodLink "OverHill" (479 : Nat) ({ cls := "OverHill", name := "keeps", desc := "(III)V" } : Jvm.MethodName)) ∈ lw_all := lw_g (lw_at lw_m6 21 rfl) rfl
theorem q1360 : (Jvm.Cond.privateMethod ({ cls := "OverHill", name := "keeps", desc := "(III)V" } : Jvm.MethodName)) ∈ lw_tbl := lw_at lw_m6 22 rfl
theorem q1361 : (Jvm.Cond.instanceMethod ({ cls := "OverHill", name := "keeps", desc := "(III)V" } : Jvm.MethodName)) ∈ lw_all := lw_g (lw_at lw_m6 23 rfl) rfl
theorem q1362 : (Jvm.Cond.code ({ cls := "OverHill", name := "keeps", desc := "(III)V" } : Jvm.MethodName) prog_1_method_109_code (4 : Nat) (Option.none : Option Jvm.ClassFile.FieldType)) ∈ lw_all := lw_g (lw_at lw_m6 24 rfl) rfl
theorem q1363 : (Jvm.Cond.constant "OverHill" (475 : Nat) (100000 : Int32)) ∈ lw_all := lw_g (lw_at lw_m6 25 rfl) rfl
theorem q1365 : (Jvm.Cond.instanceMethod ({ cls := "OverHill", name := "mud", desc := "(II)I" } : Jvm.MethodName)) ∈ lw_all := lw_g (lw_at lw_m6 27 rfl) rfl
theorem q1366 : (Jvm.Cond.selects "OverHill" ({ cls := "OverHill", name := "mud", desc := "(II)I" } : Jvm.MethodName) ({ cls := "OverHill", name := "mud", desc := "(II)I" } : Jvm.MethodName)) ∈ lw_all := lw_g (lw_at lw_m6 28 rfl) rfl
theorem q1367 : (Jvm.Cond.code ({ cls := "OverHill", name := "mud", desc := "(II)I" } : Jvm.MethodName) prog_1_method_111_code (4 : Nat) (Option.some Jvm.ClassFile.FieldType.int)) ∈ lw_all := lw_g (lw_at lw_m6 29 rfl) rfl
theorem q1369 : (Jvm.Cond.instanceMethod ({ cls := "OverHill", name := "teach", desc := "(III)I" } : Jvm.MethodName)) ∈ lw_all := lw_g (lw_at lw_m6 31 rfl) rfl
theorem q1370 : (Jvm.Cond.selects "OverHill" ({ cls := "OverHill", name := "teach", desc := "(III)I" } : Jvm.MethodName) ({ cls := "OverHill", name := "teach", desc := "(III)I" } : Jvm.MethodName)) ∈ lw_all := lw_g (lw_at lw_m6 32 rfl) rfl
theorem q1371 : (Jvm.Cond.code ({ cls := "OverHill", name := "teach", desc := "(III)I" } : Jvm.MethodName) prog_1_method_112_code (5 : Nat) (Option.some Jvm.ClassFile.FieldType.int)) ∈ lw_all := lw_g (lw_at lw_m6 33 rfl) rfl
theorem q1373 : (Jvm.Cond.instanceMethod ({ cls := "OverHill", name := "undo", desc := "()I" } : Jvm.MethodName)) ∈ lw_all := lw_g (lw_at lw_m6 35 rfl) rfl
theorem q1374 : (Jvm.Cond.selects "OverHill" ({ cls := "OverHill", name := "undo", desc := "()I" } : Jvm.MethodName) ({ cls := "OverHill", name := "undo", desc := "()I" } : Jvm.MethodName)) ∈ lw_all := lw_g (lw_at lw_m6 36 rfl) rfl
theorem q1375 : (Jvm.Cond.code ({ cls := "OverHill", name := "undo", desc := "()I" } : Jvm.MethodName) prog_1_method_113_code (3 : Nat) (Option.some Jvm.ClassFile.FieldType.int)) ∈ lw_all := lw_g (lw_at lw_m6 37 rfl) rfl
theorem q1377 : (Jvm.Cond.instanceMethod ({ cls := "OverHill", name := "count", desc := "(I)I" } : Jvm.MethodName)) ∈ lw_all := lw_g (lw_at lw_m6 39 rfl) rfl
theorem q1378 : (Jvm.Cond.selects "OverHill" ({ cls := "OverHill", name := "count", desc := "(I)I" } : Jvm.MethodName) ({ cls := "OverHill", name := "count", desc := "(I)I" } : Jvm.MethodName)) ∈ lw_all := lw_g (lw_at lw_m6 40 rfl) rfl
theorem q1379 : (Jvm.Cond.code ({ cls := "OverHill", name := "count", desc := "(I)I" } : Jvm.MethodName) prog_1_method_115_code (7 : Nat) (Option.some Jvm.ClassFile.FieldType.int)) ∈ lw_all := lw_g (lw_at lw_m6 41 rfl) rfl
theorem q1381 : (Jvm.Cond.instanceMethod ({ cls := "OverHill", name := "image", desc := "(I)I" } : Jvm.MethodName)) ∈ lw_all := lw_g (lw_at lw_m6 43 rfl) rfl
theorem q1382 : (Jvm.Cond.selects "OverHill" ({ cls := "OverHill", name := "image", desc := "(I)I" } : Jvm.MethodName) ({ cls := "OverHill", name := "image", desc := "(I)I" } : Jvm.MethodName)) ∈ lw_all := lw_g (lw_at lw_m6 44 rfl) rfl
theorem q1383 : (Jvm.Cond.code ({ cls := "OverHill", name := "image", desc := "(I)I" } : Jvm.MethodName) prog_1_method_116_code (2 : Nat) (Option.some Jvm.ClassFile.FieldType.int)) ∈ lw_all := lw_g (lw_at lw_m6 45 rfl) rfl
theorem q1384 : (Jvm.Cond.constantLong "OverHill" (492 : Nat) (2 : Int64)) ∈ lw_all := lw_g (lw_at lw_m6 46 rfl) rfl
theorem q1385 : (Jvm.Cond.methodLink "OverHill" (494 : Nat) ({ cls := "java/util/ArrayList", name := "size", desc := "()I" } : Jvm.MethodName)) ∈ lw_all := lw_g (lw_at lw_m6 47 rfl) rfl
theorem q1389 : (Jvm.Cond.methodLink "OverHill" (495 : Nat) ({ cls := "java/util/ArrayList", name := "add", desc := "(Ljava/lang/Object;)Z" } : Jvm.MethodName)) ∈ lw_all := lw_g (lw_at lw_m6 51 rfl) rfl
theorem q1419 : (Jvm.Cond.selects "OverHill" ({ cls := "java/lang/Object", name := "getClass", desc := "()Ljava/lang/Class;" } : Jvm.MethodName) ({ cls := "java/lang/Object", name := "getClass", desc := "()Ljava/lang/Class;" } : Jvm.MethodName)) ∈ lw_all := lw_g (lw_at lw_m6 81 rfl) rfl
theorem q1446 : (Jvm.Cond.methodLink "OverHill" (499 : Nat) ({ cls := "OverHill$Dance", name := "copy", desc := "()LOverHill$Dance;" } : Jvm.MethodName)) ∈ lw_all := lw_g (lw_at lw_m6 108 rfl) rfl
theorem q1453 : (Jvm.Cond.methodLink "OverHill" (502 : Nat) ({ cls := "java/util/ArrayList", name := "set", desc := "(ILjava/lang/Object;)Ljava/lang/Object;" } : Jvm.MethodName)) ∈ lw_all := lw_g (lw_at lw_m6 115 rfl) rfl
theorem q1466 : (Jvm.Cond.instanceMethod ({ cls := "OverHill", name := "back", desc := "(I)I" } : Jvm.MethodName)) ∈ lw_all := lw_g (lw_at lw_m6 128 rfl) rfl
theorem q1467 : (Jvm.Cond.selects "OverHill" ({ cls := "OverHill", name := "back", desc := "(I)I" } : Jvm.MethodName) ({ cls := "OverHill", name := "back", desc := "(I)I" } : Jvm.MethodName)) ∈ lw_all := lw_g (lw_at lw_m6 129 rfl) rfl
theorem q1468 : (Jvm.Cond.code ({ cls := "OverHill", name := "back", desc := "(I)I" } : Jvm.MethodName) prog_1_method_117_code (2 : Nat) (Option.some Jvm.ClassFile.FieldType.int)) ∈ lw_all := lw_g (lw_at lw_m6 130 rfl) rfl
theorem q1469 : (Jvm.Cond.methodLink "OverHill" (506 : Nat) ({ cls := "java/util/ArrayList", name := "isEmpty", desc := "()Z" } : Jvm.MethodName)) ∈ lw_all := lw_g (lw_at lw_m6 131 rfl) rfl
theorem q1473 : (Jvm.Cond.methodLink "OverHill" (509 : Nat) ({ cls := "java/util/ArrayList", name := "get", desc := "(I)Ljava/lang/Object;" } : Jvm.MethodName)) ∈ lw_all := lw_g (lw_at lw_m6 135 rfl) rfl
theorem q1478 : (Jvm.Cond.instanceMethod ({ cls := "OverHill", name := "row", desc := "(III)I" } : Jvm.MethodName)) ∈ lw_all := lw_g (lw_at lw_m6 140 rfl) rfl
theorem q1479 : (Jvm.Cond.selects "OverHill" ({ cls := "OverHill", name := "row", desc := "(III)I" } : Jvm.MethodName) ({ cls := "OverHill", name := "row", desc := "(III)I" } : Jvm.MethodName)) ∈ lw_all := lw_g (lw_at lw_m6 141 rfl) rfl
theorem q1480 : (Jvm.Cond.codeWith ({ cls := "OverHill", name := "row", desc := "(III)I" } : Jvm.MethodName) prog_1_method_118_code (5 : Nat) (Option.some Jvm.ClassFile.FieldType.int) [((28 : Nat), (40 : Nat), (41 : Nat), (516 : Nat))]) ∈ lw_all := lw_g (lw_at lw_m6 142 rfl) rfl
theorem q1481 : (Jvm.Cond.classLink "OverHill" (516 : Nat) "java/lang/NegativeArraySizeException") ∈ lw_all := lw_g (lw_at lw_m6 143 rfl) rfl
theorem q1508 : (Jvm.Cond.methodLink "OverHill" (513 : Nat) ({ cls := "OverHill$Slot", name := "make", desc := "(II)V" } : Jvm.MethodName)) ∈ lw_all := lw_g (lw_at lw_m6 170 rfl) rfl
theorem q1515 : (Jvm.Cond.instanceMethod ({ cls := "OverHill", name := "write", desc := "(IIJ)I" } : Jvm.MethodName)) ∈ lw_all := lw_g (lw_at lw_m6 177 rfl) rfl
theorem q1516 : (Jvm.Cond.selects "OverHill" ({ cls := "OverHill", name := "write", desc := "(IIJ)I" } : Jvm.MethodName) ({ cls := "OverHill", name := "write", desc := "(IIJ)I" } : Jvm.MethodName)) ∈ lw_all := lw_g (lw_at lw_m6 178 rfl) rfl
theorem q1517 : (Jvm.Cond.codeWith ({ cls := "OverHill", name := "write", desc := "(IIJ)I" } : Jvm.MethodName) prog_1_method_119_code (6 : Nat) (Option.some Jvm.ClassFile.FieldType.int) [((10 : Nat), (22 : Nat), (23 : Nat), (286 : Nat)), ((10 : Nat), (22 : Nat), (28 : Nat), (522 : Nat))]) ∈ lw_all := lw_g (lw_at lw_m6 179 rfl) rfl
theorem q1518 : (Jvm.Cond.classLink "OverHill" (522 : Nat) "java/lang/ArrayIndexOutOfBoundsException") ∈ lw_all := lw_g (lw_at lw_m6 180 rfl) rfl
theorem q1537 : (Jvm.Cond.methodLink "OverHill" (518 : Nat) ({ cls := "OverHill$Slot", name := "put", desc := "(IJ)V" } : Jvm.MethodName)) ∈ lw_all := lw_g (lw_at lw_m6 199 rfl) rfl
theorem q1542 : (Jvm.Cond.instanceMethod ({ cls := "OverHill", name := "paste", desc := "(IIIII)I" } : Jvm.MethodName)) ∈ lw_all := lw_g (lw_at lw_m6 204 rfl) rfl
theorem q1543 : (Jvm.Cond.selects "OverHill" ({ cls := "OverHill", name := "paste", desc := "(IIIII)I" } : Jvm.MethodName) ({ cls := "OverHill", name := "paste", desc := "(IIIII)I" } : Jvm.MethodName)) ∈ lw_all := lw_g (lw_at lw_m6 205 rfl) rfl
theorem q1544 : (Jvm.Cond.codeWith ({ cls := "OverHill", name := "paste", desc := "(IIIII)I" } : Jvm.MethodName) prog_1_method_120_code (7 : Nat) (Option.some Jvm.ClassFile.FieldType.int) [((17 : Nat), (44 : Nat), (45 : Nat), (286 : Nat)), ((17 : Nat), (44 : Nat), (50 : Nat), (524 : Nat)), ((17 : Nat), (44 : Nat), (55 : Nat), (526 : Nat))]) ∈ lw_all := lw_g (lw_at lw_m6 206 rfl) rfl
theorem q1545 : (Jvm.Cond.classLink "OverHill" (524 : Nat) "java/lang/ArrayStoreException") ∈ lw_all := lw_g (lw_at lw_m6 207 rfl) rfl
theorem q1559 : (Jvm.Cond.classLink "OverHill" (526 : Nat) "java/lang/IndexOutOfBoundsException") ∈ lw_all := lw_g (lw_at lw_m6 221 rfl) rfl
theorem q2297 : (Jvm.Cond.castable "OverHill" "java/lang/Object") ∈ lw_tbl := lw_at lw_m9 239 rfl
theorem in_X0 : ∀ w ∈ wsX00, w ∈ lw_all := lw_in wsX00 [443, 445, 447, 449, 451, 453, 455, 457, 459, 461, 463, 465, 467, 469, 471, 473, 475, 477, 479, 481, 483, 485, 487, 489, 491, 493, 495, 497, 499, 501, 503, 505, 507, 509] (by decide +kernel) (by decide +kernel)
