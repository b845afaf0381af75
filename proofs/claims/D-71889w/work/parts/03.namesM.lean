/-! StarTrackerModel -/
set_option maxRecDepth 100000
def RX3 : String := "StarTrackerModel"
def TX3 : u_T := fun k => match k with
  | 0 => ("StarTrackerModel", "forms", "[I", true)
  | 1 => ("StarTrackerModel", "sizes", "[I", true)
  | 2 => ("StarTrackerModel", "items", "[I", true)
  | 3 => ("StarTrackerModel", "moved", "[I", true)
  | 4 => ("StarTrackerModel", "latest", "I", false)
  | 5 => ("StarTrackerModel", "dir", "[I", true)
  | 6 => ("StarTrackerModel", "many", "[I", true)
  | 7 => ("StarTrackerModel", "settings", "[I", true)
  | 8 => ("StarTrackerModel", "drawn", "I", false)
  | 9 => ("StarTrackerModel", "gone", "I", false)
  | 10 => ("StarTrackerModel", "lookedAt", "I", false)
  | 11 => ("StarTrackerModel", "matches", "I", false)
  | 12 => ("StarTrackerModel", "votes", "[I", true)
  | 13 => ("StarTrackerModel", "starOf", "[I", true)
  | 14 => ("StarTrackerModel", "rankOf", "[I", true)
  | 15 => ("StarTrackerModel", "used", "[Z", true)
  | 16 => ("StarTrackerModel", "pairs", "I", false)
  | 17 => ("StarTrackerModel", "isTurn", "Z", false)
  | 18 => ("StarTrackerModel", "starArm", "[J", true)
  | 19 => ("StarTrackerModel", "spotArm", "[J", true)
  | 20 => ("StarTrackerModel", "self", "[J", true)
  | 21 => ("StarTrackerModel", "placeOf", "[I", true)
  | 22 => ("StarTrackerModel", "sure", "[I", true)
  | 23 => ("StarTrackerModel", "far", "[I", true)
  | 24 => ("StarTrackerModel", "manySure", "I", false)
  | 25 => ("StarTrackerModel", "tray", "[I", true)
  | 26 => ("StarTrackerModel", "trayMany", "[I", true)
  | _ => ("StarTrackerModel", "holds", "[I", true)
def tyX3 : Nat → FieldType := fun k => match k with
  | 0 => .array .int
  | 1 => .array .int
  | 2 => .array .int
  | 3 => .array .int
  | 4 => .int
  | 5 => .array .int
  | 6 => .array .int
  | 7 => .array .int
  | 8 => .int
  | 9 => .int
  | 10 => .int
  | 11 => .int
  | 12 => .array .int
  | 13 => .array .int
  | 14 => .array .int
  | 15 => .array .boolean
  | 16 => .int
  | 17 => .boolean
  | 18 => .array .long
  | 19 => .array .long
  | 20 => .array .long
  | 21 => .array .int
  | 22 => .array .int
  | 23 => .array .int
  | 24 => .int
  | 25 => .array .int
  | 26 => .array .int
  | _ => .array .int
abbrev wsX30 : List Cond := u_ws RX3 TX3 28
set_option maxRecDepth 100000 in
theorem nmX3 : ∀ a, a < 28 → ∀ b, b < 28 → a ≠ b → (TX3 a).2.1 ≠ (TX3 b).2.1 := by decide +kernel
set_option maxRecDepth 100000 in
theorem tyX3_ok : ∀ k, k < 28 → parseFieldDescriptor (TX3 k).2.2.1 = some (tyX3 k) := by decide +kernel
abbrev cX3_init : ByteArray := prog_11_method_1_code
def yX3_init : MethodName := ⟨RX3, "<init>", "()V"⟩
def dkwX3_init_10 : List UInt8 := [177]
abbrev dktX3_init_10 : List UInt8 := dkwX3_init_10 ++ []
def dkwX3_init_9 : List UInt8 := [6, 16, 20, 79, 3, 60, 27, 7, 162, 0, 16, 42, 180, 0, 73, 27, 27, 79, 132, 1, 1, 167, 255, 241]
abbrev dktX3_init_9 : List UInt8 := dkwX3_init_9 ++ dktX3_init_10
def dkwX3_init_8 : List UInt8 := [17, 1, 144, 79, 42, 180, 0, 28, 4, 17, 0, 200, 79, 42, 180, 0, 28, 5, 4, 79, 42, 180, 0, 28]
abbrev dktX3_init_8 : List UInt8 := dkwX3_init_8 ++ dktX3_init_9
def dkwX3_init_7 : List UInt8 := [27, 7, 162, 0, 16, 42, 180, 0, 7, 27, 2, 79, 132, 1, 1, 167, 255, 241, 42, 180, 0, 28, 3]
abbrev dktX3_init_7 : List UInt8 := dkwX3_init_7 ++ dktX3_init_8
def dkwX3_init_6 : List UInt8 := [17, 0, 128, 188, 10, 181, 0, 67, 42, 7, 188, 10, 181, 0, 70, 42, 7, 188, 10, 181, 0, 73, 3, 60]
abbrev dktX3_init_6 : List UInt8 := dkwX3_init_6 ++ dktX3_init_7
def dkwX3_init_5 : List UInt8 := [16, 36, 188, 10, 181, 0, 58, 42, 16, 8, 188, 10, 181, 0, 61, 42, 16, 8, 188, 10, 181, 0, 64, 42]
abbrev dktX3_init_5 : List UInt8 := dkwX3_init_5 ++ dktX3_init_6
def dkwX3_init_4 : List UInt8 := [16, 9, 188, 11, 181, 0, 48, 42, 16, 9, 188, 11, 181, 0, 52, 42, 6, 188, 11, 181, 0, 55, 42]
abbrev dktX3_init_4 : List UInt8 := dkwX3_init_4 ++ dktX3_init_5
def dkwX3_init_3 : List UInt8 := [16, 8, 188, 10, 181, 0, 38, 42, 16, 8, 188, 10, 181, 0, 41, 42, 16, 12, 188, 4, 181, 0, 44, 42]
abbrev dktX3_init_3 : List UInt8 := dkwX3_init_3 ++ dktX3_init_4
def dkwX3_init_2 : List UInt8 := [181, 0, 25, 42, 7, 188, 10, 181, 0, 28, 42, 2, 181, 0, 31, 42, 16, 96, 188, 10, 181, 0, 35, 42]
abbrev dktX3_init_2 : List UInt8 := dkwX3_init_2 ++ dktX3_init_3
def dkwX3_init_1 : List UInt8 := [181, 0, 16, 42, 16, 60, 188, 10, 181, 0, 19, 42, 16, 60, 188, 10, 181, 0, 22, 42, 5, 188, 10]
abbrev dktX3_init_1 : List UInt8 := dkwX3_init_1 ++ dktX3_init_2
def dkwX3_init_0 : List UInt8 := [42, 183, 0, 1, 42, 7, 188, 10, 181, 0, 7, 42, 7, 188, 10, 181, 0, 13, 42, 17, 0, 240, 188, 10]
abbrev dktX3_init_0 : List UInt8 := dkwX3_init_0 ++ dktX3_init_1
theorem dksX3_init_0 : cX3_init.data.toList.drop 0 = dktX3_init_0 := by decide +kernel
theorem dksX3_init_1 : cX3_init.data.toList.drop 24 = dktX3_init_1 := dk_seg dksX3_init_0 24 rfl rfl
theorem dksX3_init_2 : cX3_init.data.toList.drop 47 = dktX3_init_2 := dk_seg dksX3_init_1 23 rfl rfl
theorem dksX3_init_3 : cX3_init.data.toList.drop 71 = dktX3_init_3 := dk_seg dksX3_init_2 24 rfl rfl
theorem dksX3_init_4 : cX3_init.data.toList.drop 95 = dktX3_init_4 := dk_seg dksX3_init_3 24 rfl rfl
theorem dksX3_init_5 : cX3_init.data.toList.drop 118 = dktX3_init_5 := dk_seg dksX3_init_4 23 rfl rfl
theorem dksX3_init_6 : cX3_init.data.toList.drop 142 = dktX3_init_6 := dk_seg dksX3_init_5 24 rfl rfl
theorem dksX3_init_7 : cX3_init.data.toList.drop 166 = dktX3_init_7 := dk_seg dksX3_init_6 24 rfl rfl
theorem dksX3_init_8 : cX3_init.data.toList.drop 189 = dktX3_init_8 := dk_seg dksX3_init_7 23 rfl rfl
theorem dksX3_init_9 : cX3_init.data.toList.drop 213 = dktX3_init_9 := dk_seg dksX3_init_8 24 rfl rfl
theorem dksX3_init_10 : cX3_init.data.toList.drop 237 = dktX3_init_10 := dk_seg dksX3_init_9 24 rfl rfl
theorem dX3_init_0 : decode cX3_init 0 = .ok (.aload_n 0, 1) := dk_42 (dk_at dksX3_init_0 0 rfl rfl)
theorem dX3_init_1 : decode cX3_init 1 = .ok (.invokespecial 1, 3) := dk_183 0 1 (dk_at dksX3_init_0 1 rfl rfl)
theorem dX3_init_4 : decode cX3_init 4 = .ok (.aload_n 0, 1) := dk_42 (dk_at dksX3_init_0 4 rfl rfl)
theorem dX3_init_5 : decode cX3_init 5 = .ok (.iconst 4, 1) := dk_7 (dk_at dksX3_init_0 5 rfl rfl)
theorem dX3_init_6 : decode cX3_init 6 = .ok (.newarray .int, 2) := dk_188_10 (dk_at dksX3_init_0 6 rfl rfl)
theorem dX3_init_8 : decode cX3_init 8 = .ok (.putfield 7, 3) := dk_181 0 7 (dk_at dksX3_init_0 8 rfl rfl)
theorem dX3_init_11 : decode cX3_init 11 = .ok (.aload_n 0, 1) := dk_42 (dk_at dksX3_init_0 11 rfl rfl)
theorem dX3_init_12 : decode cX3_init 12 = .ok (.iconst 4, 1) := dk_7 (dk_at dksX3_init_0 12 rfl rfl)
theorem dX3_init_13 : decode cX3_init 13 = .ok (.newarray .int, 2) := dk_188_10 (dk_at dksX3_init_0 13 rfl rfl)
theorem dX3_init_15 : decode cX3_init 15 = .ok (.putfield 13, 3) := dk_181 0 13 (dk_at dksX3_init_0 15 rfl rfl)
theorem dX3_init_18 : decode cX3_init 18 = .ok (.aload_n 0, 1) := dk_42 (dk_at dksX3_init_0 18 rfl rfl)
theorem dX3_init_19 : decode cX3_init 19 = .ok (.sipush 240, 3) := dk_17 0 240 (dk_at dksX3_init_0 19 rfl rfl)
theorem dX3_init_22 : decode cX3_init 22 = .ok (.newarray .int, 2) := dk_188_10 (dk_at dksX3_init_0 22 rfl rfl)
theorem dX3_init_24 : decode cX3_init 24 = .ok (.putfield 16, 3) := dk_181 0 16 (dk_at dksX3_init_1 0 rfl rfl)
theorem dX3_init_27 : decode cX3_init 27 = .ok (.aload_n 0, 1) := dk_42 (dk_at dksX3_init_1 3 rfl rfl)
theorem dX3_init_28 : decode cX3_init 28 = .ok (.bipush 60, 2) := dk_16 60 (dk_at dksX3_init_1 4 rfl rfl)
theorem dX3_init_30 : decode cX3_init 30 = .ok (.newarray .int, 2) := dk_188_10 (dk_at dksX3_init_1 6 rfl rfl)
theorem dX3_init_32 : decode cX3_init 32 = .ok (.putfield 19, 3) := dk_181 0 19 (dk_at dksX3_init_1 8 rfl rfl)
theorem dX3_init_35 : decode cX3_init 35 = .ok (.aload_n 0, 1) := dk_42 (dk_at dksX3_init_1 11 rfl rfl)
theorem dX3_init_36 : decode cX3_init 36 = .ok (.bipush 60, 2) := dk_16 60 (dk_at dksX3_init_1 12 rfl rfl)
theorem dX3_init_38 : decode cX3_init 38 = .ok (.newarray .int, 2) := dk_188_10 (dk_at dksX3_init_1 14 rfl rfl)
theorem dX3_init_40 : decode cX3_init 40 = .ok (.putfield 22, 3) := dk_181 0 22 (dk_at dksX3_init_1 16 rfl rfl)
theorem dX3_init_43 : decode cX3_init 43 = .ok (.aload_n 0, 1) := dk_42 (dk_at dksX3_init_1 19 rfl rfl)
theorem dX3_init_44 : decode cX3_init 44 = .ok (.iconst 2, 1) := dk_5 (dk_at dksX3_init_1 20 rfl rfl)
theorem dX3_init_45 : decode cX3_init 45 = .ok (.newarray .int, 2) := dk_188_10 (dk_at dksX3_init_1 21 rfl rfl)
theorem dX3_init_47 : decode cX3_init 47 = .ok (.putfield 25, 3) := dk_181 0 25 (dk_at dksX3_init_2 0 rfl rfl)
theorem dX3_init_50 : decode cX3_init 50 = .ok (.aload_n 0, 1) := dk_42 (dk_at dksX3_init_2 3 rfl rfl)
theorem dX3_init_51 : decode cX3_init 51 = .ok (.iconst 4, 1) := dk_7 (dk_at dksX3_init_2 4 rfl rfl)
theorem dX3_init_52 : decode cX3_init 52 = .ok (.newarray .int, 2) := dk_188_10 (dk_at dksX3_init_2 5 rfl rfl)
theorem dX3_init_54 : decode cX3_init 54 = .ok (.putfield 28, 3) := dk_181 0 28 (dk_at dksX3_init_2 7 rfl rfl)
theorem dX3_init_57 : decode cX3_init 57 = .ok (.aload_n 0, 1) := dk_42 (dk_at dksX3_init_2 10 rfl rfl)
theorem dX3_init_58 : decode cX3_init 58 = .ok (.iconst (-1), 1) := dk_2 (dk_at dksX3_init_2 11 rfl rfl)
theorem dX3_init_59 : decode cX3_init 59 = .ok (.putfield 31, 3) := dk_181 0 31 (dk_at dksX3_init_2 12 rfl rfl)
theorem dX3_init_62 : decode cX3_init 62 = .ok (.aload_n 0, 1) := dk_42 (dk_at dksX3_init_2 15 rfl rfl)
theorem dX3_init_63 : decode cX3_init 63 = .ok (.bipush 96, 2) := dk_16 96 (dk_at dksX3_init_2 16 rfl rfl)
theorem dX3_init_65 : decode cX3_init 65 = .ok (.newarray .int, 2) := dk_188_10 (dk_at dksX3_init_2 18 rfl rfl)
theorem dX3_init_67 : decode cX3_init 67 = .ok (.putfield 35, 3) := dk_181 0 35 (dk_at dksX3_init_2 20 rfl rfl)
theorem dX3_init_70 : decode cX3_init 70 = .ok (.aload_n 0, 1) := dk_42 (dk_at dksX3_init_2 23 rfl rfl)
theorem dX3_init_71 : decode cX3_init 71 = .ok (.bipush 8, 2) := dk_16 8 (dk_at dksX3_init_3 0 rfl rfl)
theorem dX3_init_73 : decode cX3_init 73 = .ok (.newarray .int, 2) := dk_188_10 (dk_at dksX3_init_3 2 rfl rfl)
theorem dX3_init_75 : decode cX3_init 75 = .ok (.putfield 38, 3) := dk_181 0 38 (dk_at dksX3_init_3 4 rfl rfl)
theorem dX3_init_78 : decode cX3_init 78 = .ok (.aload_n 0, 1) := dk_42 (dk_at dksX3_init_3 7 rfl rfl)
theorem dX3_init_79 : decode cX3_init 79 = .ok (.bipush 8, 2) := dk_16 8 (dk_at dksX3_init_3 8 rfl rfl)
theorem dX3_init_81 : decode cX3_init 81 = .ok (.newarray .int, 2) := dk_188_10 (dk_at dksX3_init_3 10 rfl rfl)
theorem dX3_init_83 : decode cX3_init 83 = .ok (.putfield 41, 3) := dk_181 0 41 (dk_at dksX3_init_3 12 rfl rfl)
theorem dX3_init_86 : decode cX3_init 86 = .ok (.aload_n 0, 1) := dk_42 (dk_at dksX3_init_3 15 rfl rfl)
theorem dX3_init_87 : decode cX3_init 87 = .ok (.bipush 12, 2) := dk_16 12 (dk_at dksX3_init_3 16 rfl rfl)
theorem dX3_init_89 : decode cX3_init 89 = .ok (.newarray .boolean, 2) := dk_188_4 (dk_at dksX3_init_3 18 rfl rfl)
theorem dX3_init_91 : decode cX3_init 91 = .ok (.putfield 44, 3) := dk_181 0 44 (dk_at dksX3_init_3 20 rfl rfl)
theorem dX3_init_94 : decode cX3_init 94 = .ok (.aload_n 0, 1) := dk_42 (dk_at dksX3_init_3 23 rfl rfl)
theorem dX3_init_95 : decode cX3_init 95 = .ok (.bipush 9, 2) := dk_16 9 (dk_at dksX3_init_4 0 rfl rfl)
theorem dX3_init_97 : decode cX3_init 97 = .ok (.newarray .long, 2) := dk_188_11 (dk_at dksX3_init_4 2 rfl rfl)
theorem dX3_init_99 : decode cX3_init 99 = .ok (.putfield 48, 3) := dk_181 0 48 (dk_at dksX3_init_4 4 rfl rfl)
theorem dX3_init_102 : decode cX3_init 102 = .ok (.aload_n 0, 1) := dk_42 (dk_at dksX3_init_4 7 rfl rfl)
theorem dX3_init_103 : decode cX3_init 103 = .ok (.bipush 9, 2) := dk_16 9 (dk_at dksX3_init_4 8 rfl rfl)
theorem dX3_init_105 : decode cX3_init 105 = .ok (.newarray .long, 2) := dk_188_11 (dk_at dksX3_init_4 10 rfl rfl)
theorem dX3_init_107 : decode cX3_init 107 = .ok (.putfield 52, 3) := dk_181 0 52 (dk_at dksX3_init_4 12 rfl rfl)
theorem dX3_init_110 : decode cX3_init 110 = .ok (.aload_n 0, 1) := dk_42 (dk_at dksX3_init_4 15 rfl rfl)
theorem dX3_init_111 : decode cX3_init 111 = .ok (.iconst 3, 1) := dk_6 (dk_at dksX3_init_4 16 rfl rfl)
theorem dX3_init_112 : decode cX3_init 112 = .ok (.newarray .long, 2) := dk_188_11 (dk_at dksX3_init_4 17 rfl rfl)
theorem dX3_init_114 : decode cX3_init 114 = .ok (.putfield 55, 3) := dk_181 0 55 (dk_at dksX3_init_4 19 rfl rfl)
theorem dX3_init_117 : decode cX3_init 117 = .ok (.aload_n 0, 1) := dk_42 (dk_at dksX3_init_4 22 rfl rfl)
theorem dX3_init_118 : decode cX3_init 118 = .ok (.bipush 36, 2) := dk_16 36 (dk_at dksX3_init_5 0 rfl rfl)
theorem dX3_init_120 : decode cX3_init 120 = .ok (.newarray .int, 2) := dk_188_10 (dk_at dksX3_init_5 2 rfl rfl)
theorem dX3_init_122 : decode cX3_init 122 = .ok (.putfield 58, 3) := dk_181 0 58 (dk_at dksX3_init_5 4 rfl rfl)
theorem dX3_init_125 : decode cX3_init 125 = .ok (.aload_n 0, 1) := dk_42 (dk_at dksX3_init_5 7 rfl rfl)
theorem dX3_init_126 : decode cX3_init 126 = .ok (.bipush 8, 2) := dk_16 8 (dk_at dksX3_init_5 8 rfl rfl)
theorem dX3_init_128 : decode cX3_init 128 = .ok (.newarray .int, 2) := dk_188_10 (dk_at dksX3_init_5 10 rfl rfl)
theorem dX3_init_130 : decode cX3_init 130 = .ok (.putfield 61, 3) := dk_181 0 61 (dk_at dksX3_init_5 12 rfl rfl)
theorem dX3_init_133 : decode cX3_init 133 = .ok (.aload_n 0, 1) := dk_42 (dk_at dksX3_init_5 15 rfl rfl)
theorem dX3_init_134 : decode cX3_init 134 = .ok (.bipush 8, 2) := dk_16 8 (dk_at dksX3_init_5 16 rfl rfl)
theorem dX3_init_136 : decode cX3_init 136 = .ok (.newarray .int, 2) := dk_188_10 (dk_at dksX3_init_5 18 rfl rfl)
theorem dX3_init_138 : decode cX3_init 138 = .ok (.putfield 64, 3) := dk_181 0 64 (dk_at dksX3_init_5 20 rfl rfl)
theorem dX3_init_141 : decode cX3_init 141 = .ok (.aload_n 0, 1) := dk_42 (dk_at dksX3_init_5 23 rfl rfl)
theorem dX3_init_142 : decode cX3_init 142 = .ok (.sipush 128, 3) := dk_17 0 128 (dk_at dksX3_init_6 0 rfl rfl)
theorem dX3_init_145 : decode cX3_init 145 = .ok (.newarray .int, 2) := dk_188_10 (dk_at dksX3_init_6 3 rfl rfl)
theorem dX3_init_147 : decode cX3_init 147 = .ok (.putfield 67, 3) := dk_181 0 67 (dk_at dksX3_init_6 5 rfl rfl)
theorem dX3_init_150 : decode cX3_init 150 = .ok (.aload_n 0, 1) := dk_42 (dk_at dksX3_init_6 8 rfl rfl)
theorem dX3_init_151 : decode cX3_init 151 = .ok (.iconst 4, 1) := dk_7 (dk_at dksX3_init_6 9 rfl rfl)
theorem dX3_init_152 : decode cX3_init 152 = .ok (.newarray .int, 2) := dk_188_10 (dk_at dksX3_init_6 10 rfl rfl)
theorem dX3_init_154 : decode cX3_init 154 = .ok (.putfield 70, 3) := dk_181 0 70 (dk_at dksX3_init_6 12 rfl rfl)
theorem dX3_init_157 : decode cX3_init 157 = .ok (.aload_n 0, 1) := dk_42 (dk_at dksX3_init_6 15 rfl rfl)
theorem dX3_init_158 : decode cX3_init 158 = .ok (.iconst 4, 1) := dk_7 (dk_at dksX3_init_6 16 rfl rfl)
theorem dX3_init_159 : decode cX3_init 159 = .ok (.newarray .int, 2) := dk_188_10 (dk_at dksX3_init_6 17 rfl rfl)
theorem dX3_init_161 : decode cX3_init 161 = .ok (.putfield 73, 3) := dk_181 0 73 (dk_at dksX3_init_6 19 rfl rfl)
theorem dX3_init_164 : decode cX3_init 164 = .ok (.iconst 0, 1) := dk_3 (dk_at dksX3_init_6 22 rfl rfl)
theorem dX3_init_165 : decode cX3_init 165 = .ok (.istore_n 1, 1) := dk_60 (dk_at dksX3_init_6 23 rfl rfl)
theorem dX3_init_166 : decode cX3_init 166 = .ok (.iload_n 1, 1) := dk_27 (dk_at dksX3_init_7 0 rfl rfl)
theorem dX3_init_167 : decode cX3_init 167 = .ok (.iconst 4, 1) := dk_7 (dk_at dksX3_init_7 1 rfl rfl)
theorem dX3_init_168 : decode cX3_init 168 = .ok (.if_icmp .ge 16, 3) := dk_162 0 16 (dk_at dksX3_init_7 2 rfl rfl)
theorem dX3_init_171 : decode cX3_init 171 = .ok (.aload_n 0, 1) := dk_42 (dk_at dksX3_init_7 5 rfl rfl)
theorem dX3_init_172 : decode cX3_init 172 = .ok (.getfield 7, 3) := dk_180 0 7 (dk_at dksX3_init_7 6 rfl rfl)
theorem dX3_init_175 : decode cX3_init 175 = .ok (.iload_n 1, 1) := dk_27 (dk_at dksX3_init_7 9 rfl rfl)
theorem dX3_init_176 : decode cX3_init 176 = .ok (.iconst (-1), 1) := dk_2 (dk_at dksX3_init_7 10 rfl rfl)
theorem dX3_init_177 : decode cX3_init 177 = .ok (.iastore, 1) := dk_79 (dk_at dksX3_init_7 11 rfl rfl)
theorem dX3_init_178 : decode cX3_init 178 = .ok (.iinc 1 1, 3) := dk_132 1 1 (dk_at dksX3_init_7 12 rfl rfl)
theorem dX3_init_181 : decode cX3_init 181 = .ok (.goto (-15), 3) := dk_167 255 241 (dk_at dksX3_init_7 15 rfl rfl)
theorem dX3_init_184 : decode cX3_init 184 = .ok (.aload_n 0, 1) := dk_42 (dk_at dksX3_init_7 18 rfl rfl)
theorem dX3_init_185 : decode cX3_init 185 = .ok (.getfield 28, 3) := dk_180 0 28 (dk_at dksX3_init_7 19 rfl rfl)
theorem dX3_init_188 : decode cX3_init 188 = .ok (.iconst 0, 1) := dk_3 (dk_at dksX3_init_7 22 rfl rfl)
theorem dX3_init_189 : decode cX3_init 189 = .ok (.sipush 400, 3) := dk_17 1 144 (dk_at dksX3_init_8 0 rfl rfl)
theorem dX3_init_192 : decode cX3_init 192 = .ok (.iastore, 1) := dk_79 (dk_at dksX3_init_8 3 rfl rfl)
theorem dX3_init_193 : decode cX3_init 193 = .ok (.aload_n 0, 1) := dk_42 (dk_at dksX3_init_8 4 rfl rfl)
theorem dX3_init_194 : decode cX3_init 194 = .ok (.getfield 28, 3) := dk_180 0 28 (dk_at dksX3_init_8 5 rfl rfl)
theorem dX3_init_197 : decode cX3_init 197 = .ok (.iconst 1, 1) := dk_4 (dk_at dksX3_init_8 8 rfl rfl)
theorem dX3_init_198 : decode cX3_init 198 = .ok (.sipush 200, 3) := dk_17 0 200 (dk_at dksX3_init_8 9 rfl rfl)
theorem dX3_init_201 : decode cX3_init 201 = .ok (.iastore, 1) := dk_79 (dk_at dksX3_init_8 12 rfl rfl)
theorem dX3_init_202 : decode cX3_init 202 = .ok (.aload_n 0, 1) := dk_42 (dk_at dksX3_init_8 13 rfl rfl)
theorem dX3_init_203 : decode cX3_init 203 = .ok (.getfield 28, 3) := dk_180 0 28 (dk_at dksX3_init_8 14 rfl rfl)
theorem dX3_init_206 : decode cX3_init 206 = .ok (.iconst 2, 1) := dk_5 (dk_at dksX3_init_8 17 rfl rfl)
theorem dX3_init_207 : decode cX3_init 207 = .ok (.iconst 1, 1) := dk_4 (dk_at dksX3_init_8 18 rfl rfl)
theorem dX3_init_208 : decode cX3_init 208 = .ok (.iastore, 1) := dk_79 (dk_at dksX3_init_8 19 rfl rfl)
theorem dX3_init_209 : decode cX3_init 209 = .ok (.aload_n 0, 1) := dk_42 (dk_at dksX3_init_8 20 rfl rfl)
theorem dX3_init_210 : decode cX3_init 210 = .ok (.getfield 28, 3) := dk_180 0 28 (dk_at dksX3_init_8 21 rfl rfl)
theorem dX3_init_213 : decode cX3_init 213 = .ok (.iconst 3, 1) := dk_6 (dk_at dksX3_init_9 0 rfl rfl)
theorem dX3_init_214 : decode cX3_init 214 = .ok (.bipush 20, 2) := dk_16 20 (dk_at dksX3_init_9 1 rfl rfl)
theorem dX3_init_216 : decode cX3_init 216 = .ok (.iastore, 1) := dk_79 (dk_at dksX3_init_9 3 rfl rfl)
theorem dX3_init_217 : decode cX3_init 217 = .ok (.iconst 0, 1) := dk_3 (dk_at dksX3_init_9 4 rfl rfl)
theorem dX3_init_218 : decode cX3_init 218 = .ok (.istore_n 1, 1) := dk_60 (dk_at dksX3_init_9 5 rfl rfl)
theorem dX3_init_219 : decode cX3_init 219 = .ok (.iload_n 1, 1) := dk_27 (dk_at dksX3_init_9 6 rfl rfl)
theorem dX3_init_220 : decode cX3_init 220 = .ok (.iconst 4, 1) := dk_7 (dk_at dksX3_init_9 7 rfl rfl)
theorem dX3_init_221 : decode cX3_init 221 = .ok (.if_icmp .ge 16, 3) := dk_162 0 16 (dk_at dksX3_init_9 8 rfl rfl)
theorem dX3_init_224 : decode cX3_init 224 = .ok (.aload_n 0, 1) := dk_42 (dk_at dksX3_init_9 11 rfl rfl)
theorem dX3_init_225 : decode cX3_init 225 = .ok (.getfield 73, 3) := dk_180 0 73 (dk_at dksX3_init_9 12 rfl rfl)
theorem dX3_init_228 : decode cX3_init 228 = .ok (.iload_n 1, 1) := dk_27 (dk_at dksX3_init_9 15 rfl rfl)
theorem dX3_init_229 : decode cX3_init 229 = .ok (.iload_n 1, 1) := dk_27 (dk_at dksX3_init_9 16 rfl rfl)
theorem dX3_init_230 : decode cX3_init 230 = .ok (.iastore, 1) := dk_79 (dk_at dksX3_init_9 17 rfl rfl)
theorem dX3_init_231 : decode cX3_init 231 = .ok (.iinc 1 1, 3) := dk_132 1 1 (dk_at dksX3_init_9 18 rfl rfl)
theorem dX3_init_234 : decode cX3_init 234 = .ok (.goto (-15), 3) := dk_167 255 241 (dk_at dksX3_init_9 21 rfl rfl)
theorem dX3_init_237 : decode cX3_init 237 = .ok (.return_, 1) := dk_177 (dk_at dksX3_init_10 0 rfl rfl)
abbrev cX3_sheet : ByteArray := prog_11_method_10_code
def yX3_sheet : MethodName := ⟨RX3, "sheet", "(III)I"⟩
def dkwX3_sheet_3 : List UInt8 := [21, 4, 96, 3, 79, 132, 4, 1, 167, 255, 234, 29, 172]
abbrev dktX3_sheet_3 : List UInt8 := dkwX3_sheet_3 ++ []
def dkwX3_sheet_2 : List UInt8 := [180, 0, 13, 27, 29, 79, 3, 54, 4, 21, 4, 29, 162, 0, 22, 42, 180, 0, 16, 16, 60, 27, 104]
abbrev dktX3_sheet_2 : List UInt8 := dkwX3_sheet_2 ++ dktX3_sheet_3
def dkwX3_sheet_1 : List UInt8 := [164, 0, 6, 16, 254, 172, 29, 156, 0, 9, 42, 8, 182, 0, 91, 172, 42, 180, 0, 7, 27, 28, 79, 42]
abbrev dktX3_sheet_1 : List UInt8 := dkwX3_sheet_1 ++ dktX3_sheet_2
def dkwX3_sheet_0 : List UInt8 := [27, 184, 0, 85, 153, 0, 21, 28, 133, 9, 20, 0, 89, 184, 0, 76, 153, 0, 9, 29, 16, 60]
abbrev dktX3_sheet_0 : List UInt8 := dkwX3_sheet_0 ++ dktX3_sheet_1
theorem dksX3_sheet_0 : cX3_sheet.data.toList.drop 0 = dktX3_sheet_0 := by decide +kernel
theorem dksX3_sheet_1 : cX3_sheet.data.toList.drop 22 = dktX3_sheet_1 := dk_seg dksX3_sheet_0 22 rfl rfl
theorem dksX3_sheet_2 : cX3_sheet.data.toList.drop 46 = dktX3_sheet_2 := dk_seg dksX3_sheet_1 24 rfl rfl
theorem dksX3_sheet_3 : cX3_sheet.data.toList.drop 69 = dktX3_sheet_3 := dk_seg dksX3_sheet_2 23 rfl rfl
theorem dX3_sheet_0 : decode cX3_sheet 0 = .ok (.iload_n 1, 1) := dk_27 (dk_at dksX3_sheet_0 0 rfl rfl)
theorem dX3_sheet_1 : decode cX3_sheet 1 = .ok (.invokestatic 85, 3) := dk_184 0 85 (dk_at dksX3_sheet_0 1 rfl rfl)
theorem dX3_sheet_4 : decode cX3_sheet 4 = .ok (.ifCond .eq 21, 3) := dk_153 0 21 (dk_at dksX3_sheet_0 4 rfl rfl)
theorem dX3_sheet_7 : decode cX3_sheet 7 = .ok (.iload_n 2, 1) := dk_28 (dk_at dksX3_sheet_0 7 rfl rfl)
theorem dX3_sheet_8 : decode cX3_sheet 8 = .ok (.i2l, 1) := dk_133 (dk_at dksX3_sheet_0 8 rfl rfl)
theorem dX3_sheet_9 : decode cX3_sheet 9 = .ok (.lconst 0, 1) := dk_9 (dk_at dksX3_sheet_0 9 rfl rfl)
theorem dX3_sheet_10 : decode cX3_sheet 10 = .ok (.ldc2_w 89, 3) := dk_20 0 89 (dk_at dksX3_sheet_0 10 rfl rfl)
theorem dX3_sheet_13 : decode cX3_sheet 13 = .ok (.invokestatic 76, 3) := dk_184 0 76 (dk_at dksX3_sheet_0 13 rfl rfl)
theorem dX3_sheet_16 : decode cX3_sheet 16 = .ok (.ifCond .eq 9, 3) := dk_153 0 9 (dk_at dksX3_sheet_0 16 rfl rfl)
theorem dX3_sheet_19 : decode cX3_sheet 19 = .ok (.iload_n 3, 1) := dk_29 (dk_at dksX3_sheet_0 19 rfl rfl)
theorem dX3_sheet_20 : decode cX3_sheet 20 = .ok (.bipush 60, 2) := dk_16 60 (dk_at dksX3_sheet_0 20 rfl rfl)
theorem dX3_sheet_22 : decode cX3_sheet 22 = .ok (.if_icmp .le 6, 3) := dk_164 0 6 (dk_at dksX3_sheet_1 0 rfl rfl)
theorem dX3_sheet_25 : decode cX3_sheet 25 = .ok (.bipush (-2), 2) := dk_16 254 (dk_at dksX3_sheet_1 3 rfl rfl)
theorem dX3_sheet_27 : decode cX3_sheet 27 = .ok (.ireturn, 1) := dk_172 (dk_at dksX3_sheet_1 5 rfl rfl)
theorem dX3_sheet_28 : decode cX3_sheet 28 = .ok (.iload_n 3, 1) := dk_29 (dk_at dksX3_sheet_1 6 rfl rfl)
theorem dX3_sheet_29 : decode cX3_sheet 29 = .ok (.ifCond .ge 9, 3) := dk_156 0 9 (dk_at dksX3_sheet_1 7 rfl rfl)
theorem dX3_sheet_32 : decode cX3_sheet 32 = .ok (.aload_n 0, 1) := dk_42 (dk_at dksX3_sheet_1 10 rfl rfl)
theorem dX3_sheet_33 : decode cX3_sheet 33 = .ok (.iconst 5, 1) := dk_8 (dk_at dksX3_sheet_1 11 rfl rfl)
theorem dX3_sheet_34 : decode cX3_sheet 34 = .ok (.invokevirtual 91, 3) := dk_182 0 91 (dk_at dksX3_sheet_1 12 rfl rfl)
theorem dX3_sheet_37 : decode cX3_sheet 37 = .ok (.ireturn, 1) := dk_172 (dk_at dksX3_sheet_1 15 rfl rfl)
theorem dX3_sheet_38 : decode cX3_sheet 38 = .ok (.aload_n 0, 1) := dk_42 (dk_at dksX3_sheet_1 16 rfl rfl)
theorem dX3_sheet_39 : decode cX3_sheet 39 = .ok (.getfield 7, 3) := dk_180 0 7 (dk_at dksX3_sheet_1 17 rfl rfl)
theorem dX3_sheet_42 : decode cX3_sheet 42 = .ok (.iload_n 1, 1) := dk_27 (dk_at dksX3_sheet_1 20 rfl rfl)
theorem dX3_sheet_43 : decode cX3_sheet 43 = .ok (.iload_n 2, 1) := dk_28 (dk_at dksX3_sheet_1 21 rfl rfl)
theorem dX3_sheet_44 : decode cX3_sheet 44 = .ok (.iastore, 1) := dk_79 (dk_at dksX3_sheet_1 22 rfl rfl)
theorem dX3_sheet_45 : decode cX3_sheet 45 = .ok (.aload_n 0, 1) := dk_42 (dk_at dksX3_sheet_1 23 rfl rfl)
theorem dX3_sheet_46 : decode cX3_sheet 46 = .ok (.getfield 13, 3) := dk_180 0 13 (dk_at dksX3_sheet_2 0 rfl rfl)
theorem dX3_sheet_49 : decode cX3_sheet 49 = .ok (.iload_n 1, 1) := dk_27 (dk_at dksX3_sheet_2 3 rfl rfl)
theorem dX3_sheet_50 : decode cX3_sheet 50 = .ok (.iload_n 3, 1) := dk_29 (dk_at dksX3_sheet_2 4 rfl rfl)
theorem dX3_sheet_51 : decode cX3_sheet 51 = .ok (.iastore, 1) := dk_79 (dk_at dksX3_sheet_2 5 rfl rfl)
theorem dX3_sheet_52 : decode cX3_sheet 52 = .ok (.iconst 0, 1) := dk_3 (dk_at dksX3_sheet_2 6 rfl rfl)
theorem dX3_sheet_53 : decode cX3_sheet 53 = .ok (.istore 4, 2) := dk_54 4 (dk_at dksX3_sheet_2 7 rfl rfl)
theorem dX3_sheet_55 : decode cX3_sheet 55 = .ok (.iload 4, 2) := dk_21 4 (dk_at dksX3_sheet_2 9 rfl rfl)
theorem dX3_sheet_57 : decode cX3_sheet 57 = .ok (.iload_n 3, 1) := dk_29 (dk_at dksX3_sheet_2 11 rfl rfl)
theorem dX3_sheet_58 : decode cX3_sheet 58 = .ok (.if_icmp .ge 22, 3) := dk_162 0 22 (dk_at dksX3_sheet_2 12 rfl rfl)
theorem dX3_sheet_61 : decode cX3_sheet 61 = .ok (.aload_n 0, 1) := dk_42 (dk_at dksX3_sheet_2 15 rfl rfl)
theorem dX3_sheet_62 : decode cX3_sheet 62 = .ok (.getfield 16, 3) := dk_180 0 16 (dk_at dksX3_sheet_2 16 rfl rfl)
theorem dX3_sheet_65 : decode cX3_sheet 65 = .ok (.bipush 60, 2) := dk_16 60 (dk_at dksX3_sheet_2 19 rfl rfl)
theorem dX3_sheet_67 : decode cX3_sheet 67 = .ok (.iload_n 1, 1) := dk_27 (dk_at dksX3_sheet_2 21 rfl rfl)
theorem dX3_sheet_68 : decode cX3_sheet 68 = .ok (.imul, 1) := dk_104 (dk_at dksX3_sheet_2 22 rfl rfl)
theorem dX3_sheet_69 : decode cX3_sheet 69 = .ok (.iload 4, 2) := dk_21 4 (dk_at dksX3_sheet_3 0 rfl rfl)
theorem dX3_sheet_71 : decode cX3_sheet 71 = .ok (.iadd, 1) := dk_96 (dk_at dksX3_sheet_3 2 rfl rfl)
theorem dX3_sheet_72 : decode cX3_sheet 72 = .ok (.iconst 0, 1) := dk_3 (dk_at dksX3_sheet_3 3 rfl rfl)
theorem dX3_sheet_73 : decode cX3_sheet 73 = .ok (.iastore, 1) := dk_79 (dk_at dksX3_sheet_3 4 rfl rfl)
theorem dX3_sheet_74 : decode cX3_sheet 74 = .ok (.iinc 4 1, 3) := dk_132 4 1 (dk_at dksX3_sheet_3 5 rfl rfl)
theorem dX3_sheet_77 : decode cX3_sheet 77 = .ok (.goto (-22), 3) := dk_167 255 234 (dk_at dksX3_sheet_3 8 rfl rfl)
theorem dX3_sheet_80 : decode cX3_sheet 80 = .ok (.iload_n 3, 1) := dk_29 (dk_at dksX3_sheet_3 11 rfl rfl)
theorem dX3_sheet_81 : decode cX3_sheet 81 = .ok (.ireturn, 1) := dk_172 (dk_at dksX3_sheet_3 12 rfl rfl)
abbrev cX3_isSheet : ByteArray := prog_11_method_9_code
def yX3_isSheet : MethodName := ⟨RX3, "isSheet", "(I)Z"⟩
def dkwX3_isSheet_0 : List UInt8 := [26, 133, 9, 20, 0, 83, 184, 0, 76, 172]
abbrev dktX3_isSheet_0 : List UInt8 := dkwX3_isSheet_0 ++ []
theorem dksX3_isSheet_0 : cX3_isSheet.data.toList.drop 0 = dktX3_isSheet_0 := by decide +kernel
theorem dX3_isSheet_0 : decode cX3_isSheet 0 = .ok (.iload_n 0, 1) := dk_26 (dk_at dksX3_isSheet_0 0 rfl rfl)
theorem dX3_isSheet_1 : decode cX3_isSheet 1 = .ok (.i2l, 1) := dk_133 (dk_at dksX3_isSheet_0 1 rfl rfl)
theorem dX3_isSheet_2 : decode cX3_isSheet 2 = .ok (.lconst 0, 1) := dk_9 (dk_at dksX3_isSheet_0 2 rfl rfl)
theorem dX3_isSheet_3 : decode cX3_isSheet 3 = .ok (.ldc2_w 83, 3) := dk_20 0 83 (dk_at dksX3_isSheet_0 3 rfl rfl)
theorem dX3_isSheet_6 : decode cX3_isSheet 6 = .ok (.invokestatic 76, 3) := dk_184 0 76 (dk_at dksX3_isSheet_0 6 rfl rfl)
theorem dX3_isSheet_9 : decode cX3_isSheet 9 = .ok (.ireturn, 1) := dk_172 (dk_at dksX3_isSheet_0 9 rfl rfl)
abbrev cX3_in : ByteArray := prog_11_method_3_code
def yX3_in : MethodName := ⟨RX3, "in", "(JJJ)Z"⟩
def dkwX3_in_0 : List UInt8 := [30, 32, 148, 155, 0, 14, 30, 22, 4, 148, 157, 0, 7, 4, 167, 0, 4, 3, 172]
abbrev dktX3_in_0 : List UInt8 := dkwX3_in_0 ++ []
theorem dksX3_in_0 : cX3_in.data.toList.drop 0 = dktX3_in_0 := by decide +kernel
theorem dX3_in_0 : decode cX3_in 0 = .ok (.lload_n 0, 1) := dk_30 (dk_at dksX3_in_0 0 rfl rfl)
theorem dX3_in_1 : decode cX3_in 1 = .ok (.lload_n 2, 1) := dk_32 (dk_at dksX3_in_0 1 rfl rfl)
theorem dX3_in_2 : decode cX3_in 2 = .ok (.lcmp, 1) := dk_148 (dk_at dksX3_in_0 2 rfl rfl)
theorem dX3_in_3 : decode cX3_in 3 = .ok (.ifCond .lt 14, 3) := dk_155 0 14 (dk_at dksX3_in_0 3 rfl rfl)
theorem dX3_in_6 : decode cX3_in 6 = .ok (.lload_n 0, 1) := dk_30 (dk_at dksX3_in_0 6 rfl rfl)
theorem dX3_in_7 : decode cX3_in 7 = .ok (.lload 4, 2) := dk_22 4 (dk_at dksX3_in_0 7 rfl rfl)
theorem dX3_in_9 : decode cX3_in 9 = .ok (.lcmp, 1) := dk_148 (dk_at dksX3_in_0 9 rfl rfl)
theorem dX3_in_10 : decode cX3_in 10 = .ok (.ifCond .gt 7, 3) := dk_157 0 7 (dk_at dksX3_in_0 10 rfl rfl)
theorem dX3_in_13 : decode cX3_in 13 = .ok (.iconst 1, 1) := dk_4 (dk_at dksX3_in_0 13 rfl rfl)
theorem dX3_in_14 : decode cX3_in 14 = .ok (.goto 4, 3) := dk_167 0 4 (dk_at dksX3_in_0 14 rfl rfl)
theorem dX3_in_17 : decode cX3_in 17 = .ok (.iconst 0, 1) := dk_3 (dk_at dksX3_in_0 17 rfl rfl)
theorem dX3_in_18 : decode cX3_in 18 = .ok (.ireturn, 1) := dk_172 (dk_at dksX3_in_0 18 rfl rfl)
abbrev cX3_finds : ByteArray := prog_11_method_8_code
def yX3_finds : MethodName := ⟨RX3, "finds", "(I)I"⟩
def dkwX3_finds_0 : List UInt8 := [42, 27, 181, 0, 80, 16, 246, 27, 100, 172]
abbrev dktX3_finds_0 : List UInt8 := dkwX3_finds_0 ++ []
theorem dksX3_finds_0 : cX3_finds.data.toList.drop 0 = dktX3_finds_0 := by decide +kernel
theorem dX3_finds_0 : decode cX3_finds 0 = .ok (.aload_n 0, 1) := dk_42 (dk_at dksX3_finds_0 0 rfl rfl)
theorem dX3_finds_1 : decode cX3_finds 1 = .ok (.iload_n 1, 1) := dk_27 (dk_at dksX3_finds_0 1 rfl rfl)
theorem dX3_finds_2 : decode cX3_finds 2 = .ok (.putfield 80, 3) := dk_181 0 80 (dk_at dksX3_finds_0 2 rfl rfl)
theorem dX3_finds_5 : decode cX3_finds 5 = .ok (.bipush (-10), 2) := dk_16 246 (dk_at dksX3_finds_0 5 rfl rfl)
theorem dX3_finds_7 : decode cX3_finds 7 = .ok (.iload_n 1, 1) := dk_27 (dk_at dksX3_finds_0 7 rfl rfl)
theorem dX3_finds_8 : decode cX3_finds 8 = .ok (.isub, 1) := dk_100 (dk_at dksX3_finds_0 8 rfl rfl)
theorem dX3_finds_9 : decode cX3_finds 9 = .ok (.ireturn, 1) := dk_172 (dk_at dksX3_finds_0 9 rfl rfl)
abbrev cX3_lose : ByteArray := prog_11_method_11_code
def yX3_lose : MethodName := ⟨RX3, "lose", "(I)I"⟩
def dkwX3_lose_1 : List UInt8 := [172, 42, 180, 0, 7, 27, 2, 79, 42, 180, 0, 13, 27, 46, 172]
abbrev dktX3_lose_1 : List UInt8 := dkwX3_lose_1 ++ []
def dkwX3_lose_0 : List UInt8 := [27, 184, 0, 85, 154, 0, 6, 16, 254, 172, 42, 180, 0, 7, 27, 46, 156, 0, 9, 42, 4, 182, 0, 91]
abbrev dktX3_lose_0 : List UInt8 := dkwX3_lose_0 ++ dktX3_lose_1
theorem dksX3_lose_0 : cX3_lose.data.toList.drop 0 = dktX3_lose_0 := by decide +kernel
theorem dksX3_lose_1 : cX3_lose.data.toList.drop 24 = dktX3_lose_1 := dk_seg dksX3_lose_0 24 rfl rfl
theorem dX3_lose_0 : decode cX3_lose 0 = .ok (.iload_n 1, 1) := dk_27 (dk_at dksX3_lose_0 0 rfl rfl)
theorem dX3_lose_1 : decode cX3_lose 1 = .ok (.invokestatic 85, 3) := dk_184 0 85 (dk_at dksX3_lose_0 1 rfl rfl)
theorem dX3_lose_4 : decode cX3_lose 4 = .ok (.ifCond .ne 6, 3) := dk_154 0 6 (dk_at dksX3_lose_0 4 rfl rfl)
theorem dX3_lose_7 : decode cX3_lose 7 = .ok (.bipush (-2), 2) := dk_16 254 (dk_at dksX3_lose_0 7 rfl rfl)
theorem dX3_lose_9 : decode cX3_lose 9 = .ok (.ireturn, 1) := dk_172 (dk_at dksX3_lose_0 9 rfl rfl)
theorem dX3_lose_10 : decode cX3_lose 10 = .ok (.aload_n 0, 1) := dk_42 (dk_at dksX3_lose_0 10 rfl rfl)
theorem dX3_lose_11 : decode cX3_lose 11 = .ok (.getfield 7, 3) := dk_180 0 7 (dk_at dksX3_lose_0 11 rfl rfl)
theorem dX3_lose_14 : decode cX3_lose 14 = .ok (.iload_n 1, 1) := dk_27 (dk_at dksX3_lose_0 14 rfl rfl)
theorem dX3_lose_15 : decode cX3_lose 15 = .ok (.iaload, 1) := dk_46 (dk_at dksX3_lose_0 15 rfl rfl)
theorem dX3_lose_16 : decode cX3_lose 16 = .ok (.ifCond .ge 9, 3) := dk_156 0 9 (dk_at dksX3_lose_0 16 rfl rfl)
theorem dX3_lose_19 : decode cX3_lose 19 = .ok (.aload_n 0, 1) := dk_42 (dk_at dksX3_lose_0 19 rfl rfl)
theorem dX3_lose_20 : decode cX3_lose 20 = .ok (.iconst 1, 1) := dk_4 (dk_at dksX3_lose_0 20 rfl rfl)
theorem dX3_lose_21 : decode cX3_lose 21 = .ok (.invokevirtual 91, 3) := dk_182 0 91 (dk_at dksX3_lose_0 21 rfl rfl)
theorem dX3_lose_24 : decode cX3_lose 24 = .ok (.ireturn, 1) := dk_172 (dk_at dksX3_lose_1 0 rfl rfl)
theorem dX3_lose_25 : decode cX3_lose 25 = .ok (.aload_n 0, 1) := dk_42 (dk_at dksX3_lose_1 1 rfl rfl)
theorem dX3_lose_26 : decode cX3_lose 26 = .ok (.getfield 7, 3) := dk_180 0 7 (dk_at dksX3_lose_1 2 rfl rfl)
theorem dX3_lose_29 : decode cX3_lose 29 = .ok (.iload_n 1, 1) := dk_27 (dk_at dksX3_lose_1 5 rfl rfl)
theorem dX3_lose_30 : decode cX3_lose 30 = .ok (.iconst (-1), 1) := dk_2 (dk_at dksX3_lose_1 6 rfl rfl)
theorem dX3_lose_31 : decode cX3_lose 31 = .ok (.iastore, 1) := dk_79 (dk_at dksX3_lose_1 7 rfl rfl)
theorem dX3_lose_32 : decode cX3_lose 32 = .ok (.aload_n 0, 1) := dk_42 (dk_at dksX3_lose_1 8 rfl rfl)
theorem dX3_lose_33 : decode cX3_lose 33 = .ok (.getfield 13, 3) := dk_180 0 13 (dk_at dksX3_lose_1 9 rfl rfl)
theorem dX3_lose_36 : decode cX3_lose 36 = .ok (.iload_n 1, 1) := dk_27 (dk_at dksX3_lose_1 12 rfl rfl)
theorem dX3_lose_37 : decode cX3_lose 37 = .ok (.iaload, 1) := dk_46 (dk_at dksX3_lose_1 13 rfl rfl)
theorem dX3_lose_38 : decode cX3_lose 38 = .ok (.ireturn, 1) := dk_172 (dk_at dksX3_lose_1 14 rfl rfl)
abbrev cX3_lay : ByteArray := prog_11_method_14_code
def yX3_lay : MethodName := ⟨RX3, "lay", "(IIII)I"⟩
def dkwX3_lay_2 : List UInt8 := [96, 28, 21, 4, 184, 0, 99, 79, 4, 172]
abbrev dktX3_lay_2 : List UInt8 := dkwX3_lay_2 ++ []
def dkwX3_lay_1 : List UInt8 := [28, 29, 182, 0, 95, 54, 5, 21, 5, 153, 0, 6, 21, 5, 172, 42, 180, 0, 16, 16, 60, 27, 104, 29]
abbrev dktX3_lay_1 : List UInt8 := dkwX3_lay_1 ++ dktX3_lay_2
def dkwX3_lay_0 : List UInt8 := [27, 184, 0, 85, 153, 0, 15, 28, 133, 9, 20, 0, 89, 184, 0, 76, 154, 0, 6, 16, 254, 172, 42, 27]
abbrev dktX3_lay_0 : List UInt8 := dkwX3_lay_0 ++ dktX3_lay_1
theorem dksX3_lay_0 : cX3_lay.data.toList.drop 0 = dktX3_lay_0 := by decide +kernel
theorem dksX3_lay_1 : cX3_lay.data.toList.drop 24 = dktX3_lay_1 := dk_seg dksX3_lay_0 24 rfl rfl
theorem dksX3_lay_2 : cX3_lay.data.toList.drop 48 = dktX3_lay_2 := dk_seg dksX3_lay_1 24 rfl rfl
theorem dX3_lay_0 : decode cX3_lay 0 = .ok (.iload_n 1, 1) := dk_27 (dk_at dksX3_lay_0 0 rfl rfl)
theorem dX3_lay_1 : decode cX3_lay 1 = .ok (.invokestatic 85, 3) := dk_184 0 85 (dk_at dksX3_lay_0 1 rfl rfl)
theorem dX3_lay_4 : decode cX3_lay 4 = .ok (.ifCond .eq 15, 3) := dk_153 0 15 (dk_at dksX3_lay_0 4 rfl rfl)
theorem dX3_lay_7 : decode cX3_lay 7 = .ok (.iload_n 2, 1) := dk_28 (dk_at dksX3_lay_0 7 rfl rfl)
theorem dX3_lay_8 : decode cX3_lay 8 = .ok (.i2l, 1) := dk_133 (dk_at dksX3_lay_0 8 rfl rfl)
theorem dX3_lay_9 : decode cX3_lay 9 = .ok (.lconst 0, 1) := dk_9 (dk_at dksX3_lay_0 9 rfl rfl)
theorem dX3_lay_10 : decode cX3_lay 10 = .ok (.ldc2_w 89, 3) := dk_20 0 89 (dk_at dksX3_lay_0 10 rfl rfl)
theorem dX3_lay_13 : decode cX3_lay 13 = .ok (.invokestatic 76, 3) := dk_184 0 76 (dk_at dksX3_lay_0 13 rfl rfl)
theorem dX3_lay_16 : decode cX3_lay 16 = .ok (.ifCond .ne 6, 3) := dk_154 0 6 (dk_at dksX3_lay_0 16 rfl rfl)
theorem dX3_lay_19 : decode cX3_lay 19 = .ok (.bipush (-2), 2) := dk_16 254 (dk_at dksX3_lay_0 19 rfl rfl)
theorem dX3_lay_21 : decode cX3_lay 21 = .ok (.ireturn, 1) := dk_172 (dk_at dksX3_lay_0 21 rfl rfl)
theorem dX3_lay_22 : decode cX3_lay 22 = .ok (.aload_n 0, 1) := dk_42 (dk_at dksX3_lay_0 22 rfl rfl)
theorem dX3_lay_23 : decode cX3_lay 23 = .ok (.iload_n 1, 1) := dk_27 (dk_at dksX3_lay_0 23 rfl rfl)
theorem dX3_lay_24 : decode cX3_lay 24 = .ok (.iload_n 2, 1) := dk_28 (dk_at dksX3_lay_1 0 rfl rfl)
theorem dX3_lay_25 : decode cX3_lay 25 = .ok (.iload_n 3, 1) := dk_29 (dk_at dksX3_lay_1 1 rfl rfl)
theorem dX3_lay_26 : decode cX3_lay 26 = .ok (.invokevirtual 95, 3) := dk_182 0 95 (dk_at dksX3_lay_1 2 rfl rfl)
theorem dX3_lay_29 : decode cX3_lay 29 = .ok (.istore 5, 2) := dk_54 5 (dk_at dksX3_lay_1 5 rfl rfl)
theorem dX3_lay_31 : decode cX3_lay 31 = .ok (.iload 5, 2) := dk_21 5 (dk_at dksX3_lay_1 7 rfl rfl)
theorem dX3_lay_33 : decode cX3_lay 33 = .ok (.ifCond .eq 6, 3) := dk_153 0 6 (dk_at dksX3_lay_1 9 rfl rfl)
theorem dX3_lay_36 : decode cX3_lay 36 = .ok (.iload 5, 2) := dk_21 5 (dk_at dksX3_lay_1 12 rfl rfl)
theorem dX3_lay_38 : decode cX3_lay 38 = .ok (.ireturn, 1) := dk_172 (dk_at dksX3_lay_1 14 rfl rfl)
theorem dX3_lay_39 : decode cX3_lay 39 = .ok (.aload_n 0, 1) := dk_42 (dk_at dksX3_lay_1 15 rfl rfl)
theorem dX3_lay_40 : decode cX3_lay 40 = .ok (.getfield 16, 3) := dk_180 0 16 (dk_at dksX3_lay_1 16 rfl rfl)
theorem dX3_lay_43 : decode cX3_lay 43 = .ok (.bipush 60, 2) := dk_16 60 (dk_at dksX3_lay_1 19 rfl rfl)
theorem dX3_lay_45 : decode cX3_lay 45 = .ok (.iload_n 1, 1) := dk_27 (dk_at dksX3_lay_1 21 rfl rfl)
theorem dX3_lay_46 : decode cX3_lay 46 = .ok (.imul, 1) := dk_104 (dk_at dksX3_lay_1 22 rfl rfl)
theorem dX3_lay_47 : decode cX3_lay 47 = .ok (.iload_n 3, 1) := dk_29 (dk_at dksX3_lay_1 23 rfl rfl)
theorem dX3_lay_48 : decode cX3_lay 48 = .ok (.iadd, 1) := dk_96 (dk_at dksX3_lay_2 0 rfl rfl)
theorem dX3_lay_49 : decode cX3_lay 49 = .ok (.iload_n 2, 1) := dk_28 (dk_at dksX3_lay_2 1 rfl rfl)
theorem dX3_lay_50 : decode cX3_lay 50 = .ok (.iload 4, 2) := dk_21 4 (dk_at dksX3_lay_2 2 rfl rfl)
theorem dX3_lay_52 : decode cX3_lay 52 = .ok (.invokestatic 99, 3) := dk_184 0 99 (dk_at dksX3_lay_2 4 rfl rfl)
theorem dX3_lay_55 : decode cX3_lay 55 = .ok (.iastore, 1) := dk_79 (dk_at dksX3_lay_2 7 rfl rfl)
theorem dX3_lay_56 : decode cX3_lay 56 = .ok (.iconst 1, 1) := dk_4 (dk_at dksX3_lay_2 8 rfl rfl)
theorem dX3_lay_57 : decode cX3_lay 57 = .ok (.ireturn, 1) := dk_172 (dk_at dksX3_lay_2 9 rfl rfl)
abbrev cX3_lacks : ByteArray := prog_11_method_12_code
def yX3_lacks : MethodName := ⟨RX3, "lacks", "(III)I"⟩
def dkwX3_lacks_2 : List UInt8 := [153, 0, 7, 3, 167, 0, 8, 42, 5, 182, 0, 91, 172]
abbrev dktX3_lacks_2 : List UInt8 := dkwX3_lacks_2 ++ []
def dkwX3_lacks_1 : List UInt8 := [159, 0, 9, 42, 6, 182, 0, 91, 172, 29, 133, 9, 42, 180, 0, 13, 27, 46, 4, 100, 133, 184, 0, 76]
abbrev dktX3_lacks_1 : List UInt8 := dkwX3_lacks_1 ++ dktX3_lacks_2
def dkwX3_lacks_0 : List UInt8 := [42, 180, 0, 7, 27, 46, 156, 0, 9, 42, 4, 182, 0, 91, 172, 42, 180, 0, 7, 27, 46, 28]
abbrev dktX3_lacks_0 : List UInt8 := dkwX3_lacks_0 ++ dktX3_lacks_1
theorem dksX3_lacks_0 : cX3_lacks.data.toList.drop 0 = dktX3_lacks_0 := by decide +kernel
theorem dksX3_lacks_1 : cX3_lacks.data.toList.drop 22 = dktX3_lacks_1 := dk_seg dksX3_lacks_0 22 rfl rfl
theorem dksX3_lacks_2 : cX3_lacks.data.toList.drop 46 = dktX3_lacks_2 := dk_seg dksX3_lacks_1 24 rfl rfl
theorem dX3_lacks_0 : decode cX3_lacks 0 = .ok (.aload_n 0, 1) := dk_42 (dk_at dksX3_lacks_0 0 rfl rfl)
theorem dX3_lacks_1 : decode cX3_lacks 1 = .ok (.getfield 7, 3) := dk_180 0 7 (dk_at dksX3_lacks_0 1 rfl rfl)
theorem dX3_lacks_4 : decode cX3_lacks 4 = .ok (.iload_n 1, 1) := dk_27 (dk_at dksX3_lacks_0 4 rfl rfl)
theorem dX3_lacks_5 : decode cX3_lacks 5 = .ok (.iaload, 1) := dk_46 (dk_at dksX3_lacks_0 5 rfl rfl)
theorem dX3_lacks_6 : decode cX3_lacks 6 = .ok (.ifCond .ge 9, 3) := dk_156 0 9 (dk_at dksX3_lacks_0 6 rfl rfl)
theorem dX3_lacks_9 : decode cX3_lacks 9 = .ok (.aload_n 0, 1) := dk_42 (dk_at dksX3_lacks_0 9 rfl rfl)
theorem dX3_lacks_10 : decode cX3_lacks 10 = .ok (.iconst 1, 1) := dk_4 (dk_at dksX3_lacks_0 10 rfl rfl)
theorem dX3_lacks_11 : decode cX3_lacks 11 = .ok (.invokevirtual 91, 3) := dk_182 0 91 (dk_at dksX3_lacks_0 11 rfl rfl)
theorem dX3_lacks_14 : decode cX3_lacks 14 = .ok (.ireturn, 1) := dk_172 (dk_at dksX3_lacks_0 14 rfl rfl)
theorem dX3_lacks_15 : decode cX3_lacks 15 = .ok (.aload_n 0, 1) := dk_42 (dk_at dksX3_lacks_0 15 rfl rfl)
theorem dX3_lacks_16 : decode cX3_lacks 16 = .ok (.getfield 7, 3) := dk_180 0 7 (dk_at dksX3_lacks_0 16 rfl rfl)
theorem dX3_lacks_19 : decode cX3_lacks 19 = .ok (.iload_n 1, 1) := dk_27 (dk_at dksX3_lacks_0 19 rfl rfl)
theorem dX3_lacks_20 : decode cX3_lacks 20 = .ok (.iaload, 1) := dk_46 (dk_at dksX3_lacks_0 20 rfl rfl)
theorem dX3_lacks_21 : decode cX3_lacks 21 = .ok (.iload_n 2, 1) := dk_28 (dk_at dksX3_lacks_0 21 rfl rfl)
theorem dX3_lacks_22 : decode cX3_lacks 22 = .ok (.if_icmp .eq 9, 3) := dk_159 0 9 (dk_at dksX3_lacks_1 0 rfl rfl)
theorem dX3_lacks_25 : decode cX3_lacks 25 = .ok (.aload_n 0, 1) := dk_42 (dk_at dksX3_lacks_1 3 rfl rfl)
theorem dX3_lacks_26 : decode cX3_lacks 26 = .ok (.iconst 3, 1) := dk_6 (dk_at dksX3_lacks_1 4 rfl rfl)
theorem dX3_lacks_27 : decode cX3_lacks 27 = .ok (.invokevirtual 91, 3) := dk_182 0 91 (dk_at dksX3_lacks_1 5 rfl rfl)
theorem dX3_lacks_30 : decode cX3_lacks 30 = .ok (.ireturn, 1) := dk_172 (dk_at dksX3_lacks_1 8 rfl rfl)
theorem dX3_lacks_31 : decode cX3_lacks 31 = .ok (.iload_n 3, 1) := dk_29 (dk_at dksX3_lacks_1 9 rfl rfl)
theorem dX3_lacks_32 : decode cX3_lacks 32 = .ok (.i2l, 1) := dk_133 (dk_at dksX3_lacks_1 10 rfl rfl)
theorem dX3_lacks_33 : decode cX3_lacks 33 = .ok (.lconst 0, 1) := dk_9 (dk_at dksX3_lacks_1 11 rfl rfl)
theorem dX3_lacks_34 : decode cX3_lacks 34 = .ok (.aload_n 0, 1) := dk_42 (dk_at dksX3_lacks_1 12 rfl rfl)
theorem dX3_lacks_35 : decode cX3_lacks 35 = .ok (.getfield 13, 3) := dk_180 0 13 (dk_at dksX3_lacks_1 13 rfl rfl)
theorem dX3_lacks_38 : decode cX3_lacks 38 = .ok (.iload_n 1, 1) := dk_27 (dk_at dksX3_lacks_1 16 rfl rfl)
theorem dX3_lacks_39 : decode cX3_lacks 39 = .ok (.iaload, 1) := dk_46 (dk_at dksX3_lacks_1 17 rfl rfl)
theorem dX3_lacks_40 : decode cX3_lacks 40 = .ok (.iconst 1, 1) := dk_4 (dk_at dksX3_lacks_1 18 rfl rfl)
theorem dX3_lacks_41 : decode cX3_lacks 41 = .ok (.isub, 1) := dk_100 (dk_at dksX3_lacks_1 19 rfl rfl)
theorem dX3_lacks_42 : decode cX3_lacks 42 = .ok (.i2l, 1) := dk_133 (dk_at dksX3_lacks_1 20 rfl rfl)
theorem dX3_lacks_43 : decode cX3_lacks 43 = .ok (.invokestatic 76, 3) := dk_184 0 76 (dk_at dksX3_lacks_1 21 rfl rfl)
theorem dX3_lacks_46 : decode cX3_lacks 46 = .ok (.ifCond .eq 7, 3) := dk_153 0 7 (dk_at dksX3_lacks_2 0 rfl rfl)
theorem dX3_lacks_49 : decode cX3_lacks 49 = .ok (.iconst 0, 1) := dk_3 (dk_at dksX3_lacks_2 3 rfl rfl)
theorem dX3_lacks_50 : decode cX3_lacks 50 = .ok (.goto 8, 3) := dk_167 0 8 (dk_at dksX3_lacks_2 4 rfl rfl)
theorem dX3_lacks_53 : decode cX3_lacks 53 = .ok (.aload_n 0, 1) := dk_42 (dk_at dksX3_lacks_2 7 rfl rfl)
theorem dX3_lacks_54 : decode cX3_lacks 54 = .ok (.iconst 2, 1) := dk_5 (dk_at dksX3_lacks_2 8 rfl rfl)
theorem dX3_lacks_55 : decode cX3_lacks 55 = .ok (.invokevirtual 91, 3) := dk_182 0 91 (dk_at dksX3_lacks_2 9 rfl rfl)
theorem dX3_lacks_58 : decode cX3_lacks 58 = .ok (.ireturn, 1) := dk_172 (dk_at dksX3_lacks_2 12 rfl rfl)
abbrev cX3_cut : ByteArray := prog_11_method_13_code
def yX3_cut : MethodName := ⟨RX3, "cut", "(II)I"⟩
def dkwX3_cut_0 : List UInt8 := [26, 154, 0, 8, 27, 145, 167, 0, 14, 26, 4, 160, 0, 8, 27, 147, 167, 0, 4, 27, 172]
abbrev dktX3_cut_0 : List UInt8 := dkwX3_cut_0 ++ []
theorem dksX3_cut_0 : cX3_cut.data.toList.drop 0 = dktX3_cut_0 := by decide +kernel
theorem dX3_cut_0 : decode cX3_cut 0 = .ok (.iload_n 0, 1) := dk_26 (dk_at dksX3_cut_0 0 rfl rfl)
theorem dX3_cut_1 : decode cX3_cut 1 = .ok (.ifCond .ne 8, 3) := dk_154 0 8 (dk_at dksX3_cut_0 1 rfl rfl)
theorem dX3_cut_4 : decode cX3_cut 4 = .ok (.iload_n 1, 1) := dk_27 (dk_at dksX3_cut_0 4 rfl rfl)
theorem dX3_cut_5 : decode cX3_cut 5 = .ok (.i2b, 1) := dk_145 (dk_at dksX3_cut_0 5 rfl rfl)
theorem dX3_cut_6 : decode cX3_cut 6 = .ok (.goto 14, 3) := dk_167 0 14 (dk_at dksX3_cut_0 6 rfl rfl)
theorem dX3_cut_9 : decode cX3_cut 9 = .ok (.iload_n 0, 1) := dk_26 (dk_at dksX3_cut_0 9 rfl rfl)
theorem dX3_cut_10 : decode cX3_cut 10 = .ok (.iconst 1, 1) := dk_4 (dk_at dksX3_cut_0 10 rfl rfl)
theorem dX3_cut_11 : decode cX3_cut 11 = .ok (.if_icmp .ne 8, 3) := dk_160 0 8 (dk_at dksX3_cut_0 11 rfl rfl)
theorem dX3_cut_14 : decode cX3_cut 14 = .ok (.iload_n 1, 1) := dk_27 (dk_at dksX3_cut_0 14 rfl rfl)
theorem dX3_cut_15 : decode cX3_cut 15 = .ok (.i2s, 1) := dk_147 (dk_at dksX3_cut_0 15 rfl rfl)
theorem dX3_cut_16 : decode cX3_cut 16 = .ok (.goto 4, 3) := dk_167 0 4 (dk_at dksX3_cut_0 16 rfl rfl)
theorem dX3_cut_19 : decode cX3_cut 19 = .ok (.iload_n 1, 1) := dk_27 (dk_at dksX3_cut_0 19 rfl rfl)
theorem dX3_cut_20 : decode cX3_cut 20 = .ok (.ireturn, 1) := dk_172 (dk_at dksX3_cut_0 20 rfl rfl)
abbrev cX3_get : ByteArray := prog_11_method_15_code
def yX3_get : MethodName := ⟨RX3, "get", "(III)I"⟩
def dkwX3_get_1 : List UInt8 := [182, 0, 95, 153, 0, 6, 18, 103, 172, 42, 180, 0, 16, 16, 60, 27, 104, 29, 96, 46, 172]
abbrev dktX3_get_1 : List UInt8 := dkwX3_get_1 ++ []
def dkwX3_get_0 : List UInt8 := [27, 184, 0, 85, 153, 0, 25, 28, 133, 9, 20, 0, 89, 184, 0, 76, 153, 0, 13, 42, 27, 28, 29]
abbrev dktX3_get_0 : List UInt8 := dkwX3_get_0 ++ dktX3_get_1
theorem dksX3_get_0 : cX3_get.data.toList.drop 0 = dktX3_get_0 := by decide +kernel
theorem dksX3_get_1 : cX3_get.data.toList.drop 23 = dktX3_get_1 := dk_seg dksX3_get_0 23 rfl rfl
theorem dX3_get_0 : decode cX3_get 0 = .ok (.iload_n 1, 1) := dk_27 (dk_at dksX3_get_0 0 rfl rfl)
theorem dX3_get_1 : decode cX3_get 1 = .ok (.invokestatic 85, 3) := dk_184 0 85 (dk_at dksX3_get_0 1 rfl rfl)
theorem dX3_get_4 : decode cX3_get 4 = .ok (.ifCond .eq 25, 3) := dk_153 0 25 (dk_at dksX3_get_0 4 rfl rfl)
theorem dX3_get_7 : decode cX3_get 7 = .ok (.iload_n 2, 1) := dk_28 (dk_at dksX3_get_0 7 rfl rfl)
theorem dX3_get_8 : decode cX3_get 8 = .ok (.i2l, 1) := dk_133 (dk_at dksX3_get_0 8 rfl rfl)
theorem dX3_get_9 : decode cX3_get 9 = .ok (.lconst 0, 1) := dk_9 (dk_at dksX3_get_0 9 rfl rfl)
theorem dX3_get_10 : decode cX3_get 10 = .ok (.ldc2_w 89, 3) := dk_20 0 89 (dk_at dksX3_get_0 10 rfl rfl)
theorem dX3_get_13 : decode cX3_get 13 = .ok (.invokestatic 76, 3) := dk_184 0 76 (dk_at dksX3_get_0 13 rfl rfl)
theorem dX3_get_16 : decode cX3_get 16 = .ok (.ifCond .eq 13, 3) := dk_153 0 13 (dk_at dksX3_get_0 16 rfl rfl)
theorem dX3_get_19 : decode cX3_get 19 = .ok (.aload_n 0, 1) := dk_42 (dk_at dksX3_get_0 19 rfl rfl)
theorem dX3_get_20 : decode cX3_get 20 = .ok (.iload_n 1, 1) := dk_27 (dk_at dksX3_get_0 20 rfl rfl)
theorem dX3_get_21 : decode cX3_get 21 = .ok (.iload_n 2, 1) := dk_28 (dk_at dksX3_get_0 21 rfl rfl)
theorem dX3_get_22 : decode cX3_get 22 = .ok (.iload_n 3, 1) := dk_29 (dk_at dksX3_get_0 22 rfl rfl)
theorem dX3_get_23 : decode cX3_get 23 = .ok (.invokevirtual 95, 3) := dk_182 0 95 (dk_at dksX3_get_1 0 rfl rfl)
theorem dX3_get_26 : decode cX3_get 26 = .ok (.ifCond .eq 6, 3) := dk_153 0 6 (dk_at dksX3_get_1 3 rfl rfl)
theorem dX3_get_29 : decode cX3_get 29 = .ok (.ldc 103, 2) := dk_18 103 (dk_at dksX3_get_1 6 rfl rfl)
theorem dX3_get_31 : decode cX3_get 31 = .ok (.ireturn, 1) := dk_172 (dk_at dksX3_get_1 8 rfl rfl)
theorem dX3_get_32 : decode cX3_get 32 = .ok (.aload_n 0, 1) := dk_42 (dk_at dksX3_get_1 9 rfl rfl)
theorem dX3_get_33 : decode cX3_get 33 = .ok (.getfield 16, 3) := dk_180 0 16 (dk_at dksX3_get_1 10 rfl rfl)
theorem dX3_get_36 : decode cX3_get 36 = .ok (.bipush 60, 2) := dk_16 60 (dk_at dksX3_get_1 13 rfl rfl)
theorem dX3_get_38 : decode cX3_get 38 = .ok (.iload_n 1, 1) := dk_27 (dk_at dksX3_get_1 15 rfl rfl)
theorem dX3_get_39 : decode cX3_get 39 = .ok (.imul, 1) := dk_104 (dk_at dksX3_get_1 16 rfl rfl)
theorem dX3_get_40 : decode cX3_get 40 = .ok (.iload_n 3, 1) := dk_29 (dk_at dksX3_get_1 17 rfl rfl)
theorem dX3_get_41 : decode cX3_get 41 = .ok (.iadd, 1) := dk_96 (dk_at dksX3_get_1 18 rfl rfl)
theorem dX3_get_42 : decode cX3_get 42 = .ok (.iaload, 1) := dk_46 (dk_at dksX3_get_1 19 rfl rfl)
theorem dX3_get_43 : decode cX3_get 43 = .ok (.ireturn, 1) := dk_172 (dk_at dksX3_get_1 20 rfl rfl)
abbrev cX3_copy : ByteArray := prog_11_method_16_code
def yX3_copy : MethodName := ⟨RX3, "copy", "(IIIII)I"⟩
def dkwX3_copy_8 : List UInt8 := [167, 255, 224, 4, 172]
abbrev dktX3_copy_8 : List UInt8 := dkwX3_copy_8 ++ []
def dkwX3_copy_7 : List UInt8 := [180, 0, 16, 16, 60, 29, 104, 21, 4, 96, 21, 6, 96, 42, 180, 0, 19, 21, 6, 46, 79, 132, 6, 1]
abbrev dktX3_copy_7 : List UInt8 := dkwX3_copy_7 ++ dktX3_copy_8
def dkwX3_copy_6 : List UInt8 := [96, 21, 6, 96, 46, 79, 132, 6, 1, 167, 255, 225, 3, 54, 6, 21, 6, 21, 5, 162, 0, 31, 42]
abbrev dktX3_copy_6 : List UInt8 := dkwX3_copy_6 ++ dktX3_copy_7
def dkwX3_copy_5 : List UInt8 := [54, 6, 21, 6, 21, 5, 162, 0, 30, 42, 180, 0, 19, 21, 6, 42, 180, 0, 16, 16, 60, 27, 104, 28]
abbrev dktX3_copy_5 : List UInt8 := dkwX3_copy_5 ++ dktX3_copy_6
def dkwX3_copy_4 : List UInt8 := [133, 21, 5, 133, 97, 42, 180, 0, 13, 29, 46, 133, 148, 158, 0, 9, 42, 5, 182, 0, 91, 172, 3]
abbrev dktX3_copy_4 : List UInt8 := dkwX3_copy_4 ++ dktX3_copy_5
def dkwX3_copy_3 : List UInt8 := [21, 5, 155, 0, 38, 28, 133, 21, 5, 133, 97, 42, 180, 0, 13, 27, 46, 133, 148, 157, 0, 21, 21, 4]
abbrev dktX3_copy_3 : List UInt8 := dkwX3_copy_3 ++ dktX3_copy_4
def dkwX3_copy_2 : List UInt8 := [42, 180, 0, 7, 29, 46, 159, 0, 9, 42, 7, 182, 0, 91, 172, 28, 155, 0, 48, 21, 4, 155, 0, 43]
abbrev dktX3_copy_2 : List UInt8 := dkwX3_copy_2 ++ dktX3_copy_3
def dkwX3_copy_1 : List UInt8 := [155, 0, 12, 42, 180, 0, 7, 29, 46, 156, 0, 9, 42, 4, 182, 0, 91, 172, 42, 180, 0, 7, 27, 46]
abbrev dktX3_copy_1 : List UInt8 := dkwX3_copy_1 ++ dktX3_copy_2
def dkwX3_copy_0 : List UInt8 := [27, 184, 0, 85, 153, 0, 10, 29, 184, 0, 85, 154, 0, 6, 16, 254, 172, 42, 180, 0, 7, 27, 46]
abbrev dktX3_copy_0 : List UInt8 := dkwX3_copy_0 ++ dktX3_copy_1
theorem dksX3_copy_0 : cX3_copy.data.toList.drop 0 = dktX3_copy_0 := by decide +kernel
theorem dksX3_copy_1 : cX3_copy.data.toList.drop 23 = dktX3_copy_1 := dk_seg dksX3_copy_0 23 rfl rfl
theorem dksX3_copy_2 : cX3_copy.data.toList.drop 47 = dktX3_copy_2 := dk_seg dksX3_copy_1 24 rfl rfl
theorem dksX3_copy_3 : cX3_copy.data.toList.drop 71 = dktX3_copy_3 := dk_seg dksX3_copy_2 24 rfl rfl
theorem dksX3_copy_4 : cX3_copy.data.toList.drop 95 = dktX3_copy_4 := dk_seg dksX3_copy_3 24 rfl rfl
theorem dksX3_copy_5 : cX3_copy.data.toList.drop 118 = dktX3_copy_5 := dk_seg dksX3_copy_4 23 rfl rfl
theorem dksX3_copy_6 : cX3_copy.data.toList.drop 142 = dktX3_copy_6 := dk_seg dksX3_copy_5 24 rfl rfl
theorem dksX3_copy_7 : cX3_copy.data.toList.drop 165 = dktX3_copy_7 := dk_seg dksX3_copy_6 23 rfl rfl
theorem dksX3_copy_8 : cX3_copy.data.toList.drop 189 = dktX3_copy_8 := dk_seg dksX3_copy_7 24 rfl rfl
theorem dX3_copy_0 : decode cX3_copy 0 = .ok (.iload_n 1, 1) := dk_27 (dk_at dksX3_copy_0 0 rfl rfl)
theorem dX3_copy_1 : decode cX3_copy 1 = .ok (.invokestatic 85, 3) := dk_184 0 85 (dk_at dksX3_copy_0 1 rfl rfl)
theorem dX3_copy_4 : decode cX3_copy 4 = .ok (.ifCond .eq 10, 3) := dk_153 0 10 (dk_at dksX3_copy_0 4 rfl rfl)
theorem dX3_copy_7 : decode cX3_copy 7 = .ok (.iload_n 3, 1) := dk_29 (dk_at dksX3_copy_0 7 rfl rfl)
theorem dX3_copy_8 : decode cX3_copy 8 = .ok (.invokestatic 85, 3) := dk_184 0 85 (dk_at dksX3_copy_0 8 rfl rfl)
theorem dX3_copy_11 : decode cX3_copy 11 = .ok (.ifCond .ne 6, 3) := dk_154 0 6 (dk_at dksX3_copy_0 11 rfl rfl)
theorem dX3_copy_14 : decode cX3_copy 14 = .ok (.bipush (-2), 2) := dk_16 254 (dk_at dksX3_copy_0 14 rfl rfl)
theorem dX3_copy_16 : decode cX3_copy 16 = .ok (.ireturn, 1) := dk_172 (dk_at dksX3_copy_0 16 rfl rfl)
theorem dX3_copy_17 : decode cX3_copy 17 = .ok (.aload_n 0, 1) := dk_42 (dk_at dksX3_copy_0 17 rfl rfl)
theorem dX3_copy_18 : decode cX3_copy 18 = .ok (.getfield 7, 3) := dk_180 0 7 (dk_at dksX3_copy_0 18 rfl rfl)
theorem dX3_copy_21 : decode cX3_copy 21 = .ok (.iload_n 1, 1) := dk_27 (dk_at dksX3_copy_0 21 rfl rfl)
theorem dX3_copy_22 : decode cX3_copy 22 = .ok (.iaload, 1) := dk_46 (dk_at dksX3_copy_0 22 rfl rfl)
theorem dX3_copy_23 : decode cX3_copy 23 = .ok (.ifCond .lt 12, 3) := dk_155 0 12 (dk_at dksX3_copy_1 0 rfl rfl)
theorem dX3_copy_26 : decode cX3_copy 26 = .ok (.aload_n 0, 1) := dk_42 (dk_at dksX3_copy_1 3 rfl rfl)
theorem dX3_copy_27 : decode cX3_copy 27 = .ok (.getfield 7, 3) := dk_180 0 7 (dk_at dksX3_copy_1 4 rfl rfl)
theorem dX3_copy_30 : decode cX3_copy 30 = .ok (.iload_n 3, 1) := dk_29 (dk_at dksX3_copy_1 7 rfl rfl)
theorem dX3_copy_31 : decode cX3_copy 31 = .ok (.iaload, 1) := dk_46 (dk_at dksX3_copy_1 8 rfl rfl)
theorem dX3_copy_32 : decode cX3_copy 32 = .ok (.ifCond .ge 9, 3) := dk_156 0 9 (dk_at dksX3_copy_1 9 rfl rfl)
theorem dX3_copy_35 : decode cX3_copy 35 = .ok (.aload_n 0, 1) := dk_42 (dk_at dksX3_copy_1 12 rfl rfl)
theorem dX3_copy_36 : decode cX3_copy 36 = .ok (.iconst 1, 1) := dk_4 (dk_at dksX3_copy_1 13 rfl rfl)
theorem dX3_copy_37 : decode cX3_copy 37 = .ok (.invokevirtual 91, 3) := dk_182 0 91 (dk_at dksX3_copy_1 14 rfl rfl)
theorem dX3_copy_40 : decode cX3_copy 40 = .ok (.ireturn, 1) := dk_172 (dk_at dksX3_copy_1 17 rfl rfl)
theorem dX3_copy_41 : decode cX3_copy 41 = .ok (.aload_n 0, 1) := dk_42 (dk_at dksX3_copy_1 18 rfl rfl)
theorem dX3_copy_42 : decode cX3_copy 42 = .ok (.getfield 7, 3) := dk_180 0 7 (dk_at dksX3_copy_1 19 rfl rfl)
theorem dX3_copy_45 : decode cX3_copy 45 = .ok (.iload_n 1, 1) := dk_27 (dk_at dksX3_copy_1 22 rfl rfl)
theorem dX3_copy_46 : decode cX3_copy 46 = .ok (.iaload, 1) := dk_46 (dk_at dksX3_copy_1 23 rfl rfl)
theorem dX3_copy_47 : decode cX3_copy 47 = .ok (.aload_n 0, 1) := dk_42 (dk_at dksX3_copy_2 0 rfl rfl)
theorem dX3_copy_48 : decode cX3_copy 48 = .ok (.getfield 7, 3) := dk_180 0 7 (dk_at dksX3_copy_2 1 rfl rfl)
theorem dX3_copy_51 : decode cX3_copy 51 = .ok (.iload_n 3, 1) := dk_29 (dk_at dksX3_copy_2 4 rfl rfl)
theorem dX3_copy_52 : decode cX3_copy 52 = .ok (.iaload, 1) := dk_46 (dk_at dksX3_copy_2 5 rfl rfl)
theorem dX3_copy_53 : decode cX3_copy 53 = .ok (.if_icmp .eq 9, 3) := dk_159 0 9 (dk_at dksX3_copy_2 6 rfl rfl)
theorem dX3_copy_56 : decode cX3_copy 56 = .ok (.aload_n 0, 1) := dk_42 (dk_at dksX3_copy_2 9 rfl rfl)
theorem dX3_copy_57 : decode cX3_copy 57 = .ok (.iconst 4, 1) := dk_7 (dk_at dksX3_copy_2 10 rfl rfl)
theorem dX3_copy_58 : decode cX3_copy 58 = .ok (.invokevirtual 91, 3) := dk_182 0 91 (dk_at dksX3_copy_2 11 rfl rfl)
theorem dX3_copy_61 : decode cX3_copy 61 = .ok (.ireturn, 1) := dk_172 (dk_at dksX3_copy_2 14 rfl rfl)
theorem dX3_copy_62 : decode cX3_copy 62 = .ok (.iload_n 2, 1) := dk_28 (dk_at dksX3_copy_2 15 rfl rfl)
theorem dX3_copy_63 : decode cX3_copy 63 = .ok (.ifCond .lt 48, 3) := dk_155 0 48 (dk_at dksX3_copy_2 16 rfl rfl)
theorem dX3_copy_66 : decode cX3_copy 66 = .ok (.iload 4, 2) := dk_21 4 (dk_at dksX3_copy_2 19 rfl rfl)
theorem dX3_copy_68 : decode cX3_copy 68 = .ok (.ifCond .lt 43, 3) := dk_155 0 43 (dk_at dksX3_copy_2 21 rfl rfl)
theorem dX3_copy_71 : decode cX3_copy 71 = .ok (.iload 5, 2) := dk_21 5 (dk_at dksX3_copy_3 0 rfl rfl)
theorem dX3_copy_73 : decode cX3_copy 73 = .ok (.ifCond .lt 38, 3) := dk_155 0 38 (dk_at dksX3_copy_3 2 rfl rfl)
theorem dX3_copy_76 : decode cX3_copy 76 = .ok (.iload_n 2, 1) := dk_28 (dk_at dksX3_copy_3 5 rfl rfl)
theorem dX3_copy_77 : decode cX3_copy 77 = .ok (.i2l, 1) := dk_133 (dk_at dksX3_copy_3 6 rfl rfl)
theorem dX3_copy_78 : decode cX3_copy 78 = .ok (.iload 5, 2) := dk_21 5 (dk_at dksX3_copy_3 7 rfl rfl)
theorem dX3_copy_80 : decode cX3_copy 80 = .ok (.i2l, 1) := dk_133 (dk_at dksX3_copy_3 9 rfl rfl)
theorem dX3_copy_81 : decode cX3_copy 81 = .ok (.ladd, 1) := dk_97 (dk_at dksX3_copy_3 10 rfl rfl)
theorem dX3_copy_82 : decode cX3_copy 82 = .ok (.aload_n 0, 1) := dk_42 (dk_at dksX3_copy_3 11 rfl rfl)
theorem dX3_copy_83 : decode cX3_copy 83 = .ok (.getfield 13, 3) := dk_180 0 13 (dk_at dksX3_copy_3 12 rfl rfl)
theorem dX3_copy_86 : decode cX3_copy 86 = .ok (.iload_n 1, 1) := dk_27 (dk_at dksX3_copy_3 15 rfl rfl)
theorem dX3_copy_87 : decode cX3_copy 87 = .ok (.iaload, 1) := dk_46 (dk_at dksX3_copy_3 16 rfl rfl)
theorem dX3_copy_88 : decode cX3_copy 88 = .ok (.i2l, 1) := dk_133 (dk_at dksX3_copy_3 17 rfl rfl)
theorem dX3_copy_89 : decode cX3_copy 89 = .ok (.lcmp, 1) := dk_148 (dk_at dksX3_copy_3 18 rfl rfl)
theorem dX3_copy_90 : decode cX3_copy 90 = .ok (.ifCond .gt 21, 3) := dk_157 0 21 (dk_at dksX3_copy_3 19 rfl rfl)
theorem dX3_copy_93 : decode cX3_copy 93 = .ok (.iload 4, 2) := dk_21 4 (dk_at dksX3_copy_3 22 rfl rfl)
theorem dX3_copy_95 : decode cX3_copy 95 = .ok (.i2l, 1) := dk_133 (dk_at dksX3_copy_4 0 rfl rfl)
theorem dX3_copy_96 : decode cX3_copy 96 = .ok (.iload 5, 2) := dk_21 5 (dk_at dksX3_copy_4 1 rfl rfl)
theorem dX3_copy_98 : decode cX3_copy 98 = .ok (.i2l, 1) := dk_133 (dk_at dksX3_copy_4 3 rfl rfl)
theorem dX3_copy_99 : decode cX3_copy 99 = .ok (.ladd, 1) := dk_97 (dk_at dksX3_copy_4 4 rfl rfl)
theorem dX3_copy_100 : decode cX3_copy 100 = .ok (.aload_n 0, 1) := dk_42 (dk_at dksX3_copy_4 5 rfl rfl)
theorem dX3_copy_101 : decode cX3_copy 101 = .ok (.getfield 13, 3) := dk_180 0 13 (dk_at dksX3_copy_4 6 rfl rfl)
theorem dX3_copy_104 : decode cX3_copy 104 = .ok (.iload_n 3, 1) := dk_29 (dk_at dksX3_copy_4 9 rfl rfl)
theorem dX3_copy_105 : decode cX3_copy 105 = .ok (.iaload, 1) := dk_46 (dk_at dksX3_copy_4 10 rfl rfl)
theorem dX3_copy_106 : decode cX3_copy 106 = .ok (.i2l, 1) := dk_133 (dk_at dksX3_copy_4 11 rfl rfl)
theorem dX3_copy_107 : decode cX3_copy 107 = .ok (.lcmp, 1) := dk_148 (dk_at dksX3_copy_4 12 rfl rfl)
theorem dX3_copy_108 : decode cX3_copy 108 = .ok (.ifCond .le 9, 3) := dk_158 0 9 (dk_at dksX3_copy_4 13 rfl rfl)
theorem dX3_copy_111 : decode cX3_copy 111 = .ok (.aload_n 0, 1) := dk_42 (dk_at dksX3_copy_4 16 rfl rfl)
theorem dX3_copy_112 : decode cX3_copy 112 = .ok (.iconst 2, 1) := dk_5 (dk_at dksX3_copy_4 17 rfl rfl)
theorem dX3_copy_113 : decode cX3_copy 113 = .ok (.invokevirtual 91, 3) := dk_182 0 91 (dk_at dksX3_copy_4 18 rfl rfl)
theorem dX3_copy_116 : decode cX3_copy 116 = .ok (.ireturn, 1) := dk_172 (dk_at dksX3_copy_4 21 rfl rfl)
theorem dX3_copy_117 : decode cX3_copy 117 = .ok (.iconst 0, 1) := dk_3 (dk_at dksX3_copy_4 22 rfl rfl)
theorem dX3_copy_118 : decode cX3_copy 118 = .ok (.istore 6, 2) := dk_54 6 (dk_at dksX3_copy_5 0 rfl rfl)
theorem dX3_copy_120 : decode cX3_copy 120 = .ok (.iload 6, 2) := dk_21 6 (dk_at dksX3_copy_5 2 rfl rfl)
theorem dX3_copy_122 : decode cX3_copy 122 = .ok (.iload 5, 2) := dk_21 5 (dk_at dksX3_copy_5 4 rfl rfl)
theorem dX3_copy_124 : decode cX3_copy 124 = .ok (.if_icmp .ge 30, 3) := dk_162 0 30 (dk_at dksX3_copy_5 6 rfl rfl)
theorem dX3_copy_127 : decode cX3_copy 127 = .ok (.aload_n 0, 1) := dk_42 (dk_at dksX3_copy_5 9 rfl rfl)
theorem dX3_copy_128 : decode cX3_copy 128 = .ok (.getfield 19, 3) := dk_180 0 19 (dk_at dksX3_copy_5 10 rfl rfl)
theorem dX3_copy_131 : decode cX3_copy 131 = .ok (.iload 6, 2) := dk_21 6 (dk_at dksX3_copy_5 13 rfl rfl)
theorem dX3_copy_133 : decode cX3_copy 133 = .ok (.aload_n 0, 1) := dk_42 (dk_at dksX3_copy_5 15 rfl rfl)
theorem dX3_copy_134 : decode cX3_copy 134 = .ok (.getfield 16, 3) := dk_180 0 16 (dk_at dksX3_copy_5 16 rfl rfl)
theorem dX3_copy_137 : decode cX3_copy 137 = .ok (.bipush 60, 2) := dk_16 60 (dk_at dksX3_copy_5 19 rfl rfl)
theorem dX3_copy_139 : decode cX3_copy 139 = .ok (.iload_n 1, 1) := dk_27 (dk_at dksX3_copy_5 21 rfl rfl)
theorem dX3_copy_140 : decode cX3_copy 140 = .ok (.imul, 1) := dk_104 (dk_at dksX3_copy_5 22 rfl rfl)
theorem dX3_copy_141 : decode cX3_copy 141 = .ok (.iload_n 2, 1) := dk_28 (dk_at dksX3_copy_5 23 rfl rfl)
theorem dX3_copy_142 : decode cX3_copy 142 = .ok (.iadd, 1) := dk_96 (dk_at dksX3_copy_6 0 rfl rfl)
theorem dX3_copy_143 : decode cX3_copy 143 = .ok (.iload 6, 2) := dk_21 6 (dk_at dksX3_copy_6 1 rfl rfl)
theorem dX3_copy_145 : decode cX3_copy 145 = .ok (.iadd, 1) := dk_96 (dk_at dksX3_copy_6 3 rfl rfl)
theorem dX3_copy_146 : decode cX3_copy 146 = .ok (.iaload, 1) := dk_46 (dk_at dksX3_copy_6 4 rfl rfl)
theorem dX3_copy_147 : decode cX3_copy 147 = .ok (.iastore, 1) := dk_79 (dk_at dksX3_copy_6 5 rfl rfl)
theorem dX3_copy_148 : decode cX3_copy 148 = .ok (.iinc 6 1, 3) := dk_132 6 1 (dk_at dksX3_copy_6 6 rfl rfl)
theorem dX3_copy_151 : decode cX3_copy 151 = .ok (.goto (-31), 3) := dk_167 255 225 (dk_at dksX3_copy_6 9 rfl rfl)
theorem dX3_copy_154 : decode cX3_copy 154 = .ok (.iconst 0, 1) := dk_3 (dk_at dksX3_copy_6 12 rfl rfl)
theorem dX3_copy_155 : decode cX3_copy 155 = .ok (.istore 6, 2) := dk_54 6 (dk_at dksX3_copy_6 13 rfl rfl)
theorem dX3_copy_157 : decode cX3_copy 157 = .ok (.iload 6, 2) := dk_21 6 (dk_at dksX3_copy_6 15 rfl rfl)
theorem dX3_copy_159 : decode cX3_copy 159 = .ok (.iload 5, 2) := dk_21 5 (dk_at dksX3_copy_6 17 rfl rfl)
theorem dX3_copy_161 : decode cX3_copy 161 = .ok (.if_icmp .ge 31, 3) := dk_162 0 31 (dk_at dksX3_copy_6 19 rfl rfl)
theorem dX3_copy_164 : decode cX3_copy 164 = .ok (.aload_n 0, 1) := dk_42 (dk_at dksX3_copy_6 22 rfl rfl)
theorem dX3_copy_165 : decode cX3_copy 165 = .ok (.getfield 16, 3) := dk_180 0 16 (dk_at dksX3_copy_7 0 rfl rfl)
theorem dX3_copy_168 : decode cX3_copy 168 = .ok (.bipush 60, 2) := dk_16 60 (dk_at dksX3_copy_7 3 rfl rfl)
theorem dX3_copy_170 : decode cX3_copy 170 = .ok (.iload_n 3, 1) := dk_29 (dk_at dksX3_copy_7 5 rfl rfl)
theorem dX3_copy_171 : decode cX3_copy 171 = .ok (.imul, 1) := dk_104 (dk_at dksX3_copy_7 6 rfl rfl)
theorem dX3_copy_172 : decode cX3_copy 172 = .ok (.iload 4, 2) := dk_21 4 (dk_at dksX3_copy_7 7 rfl rfl)
theorem dX3_copy_174 : decode cX3_copy 174 = .ok (.iadd, 1) := dk_96 (dk_at dksX3_copy_7 9 rfl rfl)
theorem dX3_copy_175 : decode cX3_copy 175 = .ok (.iload 6, 2) := dk_21 6 (dk_at dksX3_copy_7 10 rfl rfl)
theorem dX3_copy_177 : decode cX3_copy 177 = .ok (.iadd, 1) := dk_96 (dk_at dksX3_copy_7 12 rfl rfl)
theorem dX3_copy_178 : decode cX3_copy 178 = .ok (.aload_n 0, 1) := dk_42 (dk_at dksX3_copy_7 13 rfl rfl)
theorem dX3_copy_179 : decode cX3_copy 179 = .ok (.getfield 19, 3) := dk_180 0 19 (dk_at dksX3_copy_7 14 rfl rfl)
theorem dX3_copy_182 : decode cX3_copy 182 = .ok (.iload 6, 2) := dk_21 6 (dk_at dksX3_copy_7 17 rfl rfl)
theorem dX3_copy_184 : decode cX3_copy 184 = .ok (.iaload, 1) := dk_46 (dk_at dksX3_copy_7 19 rfl rfl)
theorem dX3_copy_185 : decode cX3_copy 185 = .ok (.iastore, 1) := dk_79 (dk_at dksX3_copy_7 20 rfl rfl)
theorem dX3_copy_186 : decode cX3_copy 186 = .ok (.iinc 6 1, 3) := dk_132 6 1 (dk_at dksX3_copy_7 21 rfl rfl)
theorem dX3_copy_189 : decode cX3_copy 189 = .ok (.goto (-32), 3) := dk_167 255 224 (dk_at dksX3_copy_8 0 rfl rfl)
theorem dX3_copy_192 : decode cX3_copy 192 = .ok (.iconst 1, 1) := dk_4 (dk_at dksX3_copy_8 3 rfl rfl)
theorem dX3_copy_193 : decode cX3_copy 193 = .ok (.ireturn, 1) := dk_172 (dk_at dksX3_copy_8 4 rfl rfl)
abbrev cX3_add : ByteArray := prog_11_method_20_code
def yX3_add : MethodName := ⟨RX3, "add", "(IIII)I"⟩
def dkwX3_add_2 : List UInt8 := [182, 0, 118, 42, 180, 0, 25, 27, 92, 46, 4, 96, 79, 42, 180, 0, 25, 27, 46, 172]
abbrev dktX3_add_2 : List UInt8 := dkwX3_add_2 ++ []
def dkwX3_add_1 : List UInt8 := [27, 46, 27, 184, 0, 115, 160, 0, 6, 16, 252, 172, 42, 27, 42, 180, 0, 25, 27, 46, 28, 29, 21, 4]
abbrev dktX3_add_1 : List UInt8 := dkwX3_add_1 ++ dktX3_add_2
def dkwX3_add_0 : List UInt8 := [27, 184, 0, 108, 153, 0, 13, 28, 29, 21, 4, 184, 0, 111, 154, 0, 6, 16, 254, 172, 42, 180, 0, 25]
abbrev dktX3_add_0 : List UInt8 := dkwX3_add_0 ++ dktX3_add_1
theorem dksX3_add_0 : cX3_add.data.toList.drop 0 = dktX3_add_0 := by decide +kernel
theorem dksX3_add_1 : cX3_add.data.toList.drop 24 = dktX3_add_1 := dk_seg dksX3_add_0 24 rfl rfl
theorem dksX3_add_2 : cX3_add.data.toList.drop 48 = dktX3_add_2 := dk_seg dksX3_add_1 24 rfl rfl
theorem dX3_add_0 : decode cX3_add 0 = .ok (.iload_n 1, 1) := dk_27 (dk_at dksX3_add_0 0 rfl rfl)
theorem dX3_add_1 : decode cX3_add 1 = .ok (.invokestatic 108, 3) := dk_184 0 108 (dk_at dksX3_add_0 1 rfl rfl)
theorem dX3_add_4 : decode cX3_add 4 = .ok (.ifCond .eq 13, 3) := dk_153 0 13 (dk_at dksX3_add_0 4 rfl rfl)
theorem dX3_add_7 : decode cX3_add 7 = .ok (.iload_n 2, 1) := dk_28 (dk_at dksX3_add_0 7 rfl rfl)
theorem dX3_add_8 : decode cX3_add 8 = .ok (.iload_n 3, 1) := dk_29 (dk_at dksX3_add_0 8 rfl rfl)
theorem dX3_add_9 : decode cX3_add 9 = .ok (.iload 4, 2) := dk_21 4 (dk_at dksX3_add_0 9 rfl rfl)
theorem dX3_add_11 : decode cX3_add 11 = .ok (.invokestatic 111, 3) := dk_184 0 111 (dk_at dksX3_add_0 11 rfl rfl)
theorem dX3_add_14 : decode cX3_add 14 = .ok (.ifCond .ne 6, 3) := dk_154 0 6 (dk_at dksX3_add_0 14 rfl rfl)
theorem dX3_add_17 : decode cX3_add 17 = .ok (.bipush (-2), 2) := dk_16 254 (dk_at dksX3_add_0 17 rfl rfl)
theorem dX3_add_19 : decode cX3_add 19 = .ok (.ireturn, 1) := dk_172 (dk_at dksX3_add_0 19 rfl rfl)
theorem dX3_add_20 : decode cX3_add 20 = .ok (.aload_n 0, 1) := dk_42 (dk_at dksX3_add_0 20 rfl rfl)
theorem dX3_add_21 : decode cX3_add 21 = .ok (.getfield 25, 3) := dk_180 0 25 (dk_at dksX3_add_0 21 rfl rfl)
theorem dX3_add_24 : decode cX3_add 24 = .ok (.iload_n 1, 1) := dk_27 (dk_at dksX3_add_1 0 rfl rfl)
theorem dX3_add_25 : decode cX3_add 25 = .ok (.iaload, 1) := dk_46 (dk_at dksX3_add_1 1 rfl rfl)
theorem dX3_add_26 : decode cX3_add 26 = .ok (.iload_n 1, 1) := dk_27 (dk_at dksX3_add_1 2 rfl rfl)
theorem dX3_add_27 : decode cX3_add 27 = .ok (.invokestatic 115, 3) := dk_184 0 115 (dk_at dksX3_add_1 3 rfl rfl)
theorem dX3_add_30 : decode cX3_add 30 = .ok (.if_icmp .ne 6, 3) := dk_160 0 6 (dk_at dksX3_add_1 6 rfl rfl)
theorem dX3_add_33 : decode cX3_add 33 = .ok (.bipush (-4), 2) := dk_16 252 (dk_at dksX3_add_1 9 rfl rfl)
theorem dX3_add_35 : decode cX3_add 35 = .ok (.ireturn, 1) := dk_172 (dk_at dksX3_add_1 11 rfl rfl)
theorem dX3_add_36 : decode cX3_add 36 = .ok (.aload_n 0, 1) := dk_42 (dk_at dksX3_add_1 12 rfl rfl)
theorem dX3_add_37 : decode cX3_add 37 = .ok (.iload_n 1, 1) := dk_27 (dk_at dksX3_add_1 13 rfl rfl)
theorem dX3_add_38 : decode cX3_add 38 = .ok (.aload_n 0, 1) := dk_42 (dk_at dksX3_add_1 14 rfl rfl)
theorem dX3_add_39 : decode cX3_add 39 = .ok (.getfield 25, 3) := dk_180 0 25 (dk_at dksX3_add_1 15 rfl rfl)
theorem dX3_add_42 : decode cX3_add 42 = .ok (.iload_n 1, 1) := dk_27 (dk_at dksX3_add_1 18 rfl rfl)
theorem dX3_add_43 : decode cX3_add 43 = .ok (.iaload, 1) := dk_46 (dk_at dksX3_add_1 19 rfl rfl)
theorem dX3_add_44 : decode cX3_add 44 = .ok (.iload_n 2, 1) := dk_28 (dk_at dksX3_add_1 20 rfl rfl)
theorem dX3_add_45 : decode cX3_add 45 = .ok (.iload_n 3, 1) := dk_29 (dk_at dksX3_add_1 21 rfl rfl)
theorem dX3_add_46 : decode cX3_add 46 = .ok (.iload 4, 2) := dk_21 4 (dk_at dksX3_add_1 22 rfl rfl)
theorem dX3_add_48 : decode cX3_add 48 = .ok (.invokevirtual 118, 3) := dk_182 0 118 (dk_at dksX3_add_2 0 rfl rfl)
theorem dX3_add_51 : decode cX3_add 51 = .ok (.aload_n 0, 1) := dk_42 (dk_at dksX3_add_2 3 rfl rfl)
theorem dX3_add_52 : decode cX3_add 52 = .ok (.getfield 25, 3) := dk_180 0 25 (dk_at dksX3_add_2 4 rfl rfl)
theorem dX3_add_55 : decode cX3_add 55 = .ok (.iload_n 1, 1) := dk_27 (dk_at dksX3_add_2 7 rfl rfl)
theorem dX3_add_56 : decode cX3_add 56 = .ok (.dup2, 1) := dk_92 (dk_at dksX3_add_2 8 rfl rfl)
theorem dX3_add_57 : decode cX3_add 57 = .ok (.iaload, 1) := dk_46 (dk_at dksX3_add_2 9 rfl rfl)
theorem dX3_add_58 : decode cX3_add 58 = .ok (.iconst 1, 1) := dk_4 (dk_at dksX3_add_2 10 rfl rfl)
theorem dX3_add_59 : decode cX3_add 59 = .ok (.iadd, 1) := dk_96 (dk_at dksX3_add_2 11 rfl rfl)
theorem dX3_add_60 : decode cX3_add 60 = .ok (.iastore, 1) := dk_79 (dk_at dksX3_add_2 12 rfl rfl)
theorem dX3_add_61 : decode cX3_add 61 = .ok (.aload_n 0, 1) := dk_42 (dk_at dksX3_add_2 13 rfl rfl)
theorem dX3_add_62 : decode cX3_add 62 = .ok (.getfield 25, 3) := dk_180 0 25 (dk_at dksX3_add_2 14 rfl rfl)
theorem dX3_add_65 : decode cX3_add 65 = .ok (.iload_n 1, 1) := dk_27 (dk_at dksX3_add_2 17 rfl rfl)
theorem dX3_add_66 : decode cX3_add 66 = .ok (.iaload, 1) := dk_46 (dk_at dksX3_add_2 18 rfl rfl)
theorem dX3_add_67 : decode cX3_add 67 = .ok (.ireturn, 1) := dk_172 (dk_at dksX3_add_2 19 rfl rfl)
abbrev cX3_isTwo : ByteArray := prog_11_method_4_code
def yX3_isTwo : MethodName := ⟨RX3, "isTwo", "(I)Z"⟩
def dkwX3_isTwo_0 : List UInt8 := [26, 133, 9, 10, 184, 0, 76, 172]
abbrev dktX3_isTwo_0 : List UInt8 := dkwX3_isTwo_0 ++ []
theorem dksX3_isTwo_0 : cX3_isTwo.data.toList.drop 0 = dktX3_isTwo_0 := by decide +kernel
theorem dX3_isTwo_0 : decode cX3_isTwo 0 = .ok (.iload_n 0, 1) := dk_26 (dk_at dksX3_isTwo_0 0 rfl rfl)
theorem dX3_isTwo_1 : decode cX3_isTwo 1 = .ok (.i2l, 1) := dk_133 (dk_at dksX3_isTwo_0 1 rfl rfl)
theorem dX3_isTwo_2 : decode cX3_isTwo 2 = .ok (.lconst 0, 1) := dk_9 (dk_at dksX3_isTwo_0 2 rfl rfl)
theorem dX3_isTwo_3 : decode cX3_isTwo 3 = .ok (.lconst 1, 1) := dk_10 (dk_at dksX3_isTwo_0 3 rfl rfl)
theorem dX3_isTwo_4 : decode cX3_isTwo 4 = .ok (.invokestatic 76, 3) := dk_184 0 76 (dk_at dksX3_isTwo_0 4 rfl rfl)
theorem dX3_isTwo_7 : decode cX3_isTwo 7 = .ok (.ireturn, 1) := dk_172 (dk_at dksX3_isTwo_0 7 rfl rfl)
abbrev cX3_isDirection : ByteArray := prog_11_method_17_code
def yX3_isDirection : MethodName := ⟨RX3, "isDirection", "(III)Z"⟩
def dkwX3_isDirection_2 : List UInt8 := [27, 154, 0, 7, 28, 153, 0, 7, 4, 167, 0, 4, 3, 172]
abbrev dktX3_isDirection_2 : List UInt8 := dkwX3_isDirection_2 ++ []
def dkwX3_isDirection_1 : List UInt8 := [184, 0, 76, 153, 0, 33, 28, 133, 20, 0, 104, 20, 0, 106, 184, 0, 76, 153, 0, 19, 26, 154, 0, 11]
abbrev dktX3_isDirection_1 : List UInt8 := dkwX3_isDirection_1 ++ dktX3_isDirection_2
def dkwX3_isDirection_0 : List UInt8 := [26, 133, 20, 0, 104, 20, 0, 106, 184, 0, 76, 153, 0, 47, 27, 133, 20, 0, 104, 20, 0, 106]
abbrev dktX3_isDirection_0 : List UInt8 := dkwX3_isDirection_0 ++ dktX3_isDirection_1
theorem dksX3_isDirection_0 : cX3_isDirection.data.toList.drop 0 = dktX3_isDirection_0 := by decide +kernel
theorem dksX3_isDirection_1 : cX3_isDirection.data.toList.drop 22 = dktX3_isDirection_1 := dk_seg dksX3_isDirection_0 22 rfl rfl
theorem dksX3_isDirection_2 : cX3_isDirection.data.toList.drop 46 = dktX3_isDirection_2 := dk_seg dksX3_isDirection_1 24 rfl rfl
theorem dX3_isDirection_0 : decode cX3_isDirection 0 = .ok (.iload_n 0, 1) := dk_26 (dk_at dksX3_isDirection_0 0 rfl rfl)
theorem dX3_isDirection_1 : decode cX3_isDirection 1 = .ok (.i2l, 1) := dk_133 (dk_at dksX3_isDirection_0 1 rfl rfl)
theorem dX3_isDirection_2 : decode cX3_isDirection 2 = .ok (.ldc2_w 104, 3) := dk_20 0 104 (dk_at dksX3_isDirection_0 2 rfl rfl)
theorem dX3_isDirection_5 : decode cX3_isDirection 5 = .ok (.ldc2_w 106, 3) := dk_20 0 106 (dk_at dksX3_isDirection_0 5 rfl rfl)
theorem dX3_isDirection_8 : decode cX3_isDirection 8 = .ok (.invokestatic 76, 3) := dk_184 0 76 (dk_at dksX3_isDirection_0 8 rfl rfl)
theorem dX3_isDirection_11 : decode cX3_isDirection 11 = .ok (.ifCond .eq 47, 3) := dk_153 0 47 (dk_at dksX3_isDirection_0 11 rfl rfl)
theorem dX3_isDirection_14 : decode cX3_isDirection 14 = .ok (.iload_n 1, 1) := dk_27 (dk_at dksX3_isDirection_0 14 rfl rfl)
theorem dX3_isDirection_15 : decode cX3_isDirection 15 = .ok (.i2l, 1) := dk_133 (dk_at dksX3_isDirection_0 15 rfl rfl)
theorem dX3_isDirection_16 : decode cX3_isDirection 16 = .ok (.ldc2_w 104, 3) := dk_20 0 104 (dk_at dksX3_isDirection_0 16 rfl rfl)
theorem dX3_isDirection_19 : decode cX3_isDirection 19 = .ok (.ldc2_w 106, 3) := dk_20 0 106 (dk_at dksX3_isDirection_0 19 rfl rfl)
theorem dX3_isDirection_22 : decode cX3_isDirection 22 = .ok (.invokestatic 76, 3) := dk_184 0 76 (dk_at dksX3_isDirection_1 0 rfl rfl)
theorem dX3_isDirection_25 : decode cX3_isDirection 25 = .ok (.ifCond .eq 33, 3) := dk_153 0 33 (dk_at dksX3_isDirection_1 3 rfl rfl)
theorem dX3_isDirection_28 : decode cX3_isDirection 28 = .ok (.iload_n 2, 1) := dk_28 (dk_at dksX3_isDirection_1 6 rfl rfl)
theorem dX3_isDirection_29 : decode cX3_isDirection 29 = .ok (.i2l, 1) := dk_133 (dk_at dksX3_isDirection_1 7 rfl rfl)
theorem dX3_isDirection_30 : decode cX3_isDirection 30 = .ok (.ldc2_w 104, 3) := dk_20 0 104 (dk_at dksX3_isDirection_1 8 rfl rfl)
theorem dX3_isDirection_33 : decode cX3_isDirection 33 = .ok (.ldc2_w 106, 3) := dk_20 0 106 (dk_at dksX3_isDirection_1 11 rfl rfl)
theorem dX3_isDirection_36 : decode cX3_isDirection 36 = .ok (.invokestatic 76, 3) := dk_184 0 76 (dk_at dksX3_isDirection_1 14 rfl rfl)
theorem dX3_isDirection_39 : decode cX3_isDirection 39 = .ok (.ifCond .eq 19, 3) := dk_153 0 19 (dk_at dksX3_isDirection_1 17 rfl rfl)
theorem dX3_isDirection_42 : decode cX3_isDirection 42 = .ok (.iload_n 0, 1) := dk_26 (dk_at dksX3_isDirection_1 20 rfl rfl)
theorem dX3_isDirection_43 : decode cX3_isDirection 43 = .ok (.ifCond .ne 11, 3) := dk_154 0 11 (dk_at dksX3_isDirection_1 21 rfl rfl)
theorem dX3_isDirection_46 : decode cX3_isDirection 46 = .ok (.iload_n 1, 1) := dk_27 (dk_at dksX3_isDirection_2 0 rfl rfl)
theorem dX3_isDirection_47 : decode cX3_isDirection 47 = .ok (.ifCond .ne 7, 3) := dk_154 0 7 (dk_at dksX3_isDirection_2 1 rfl rfl)
theorem dX3_isDirection_50 : decode cX3_isDirection 50 = .ok (.iload_n 2, 1) := dk_28 (dk_at dksX3_isDirection_2 4 rfl rfl)
theorem dX3_isDirection_51 : decode cX3_isDirection 51 = .ok (.ifCond .eq 7, 3) := dk_153 0 7 (dk_at dksX3_isDirection_2 5 rfl rfl)
theorem dX3_isDirection_54 : decode cX3_isDirection 54 = .ok (.iconst 1, 1) := dk_4 (dk_at dksX3_isDirection_2 8 rfl rfl)
theorem dX3_isDirection_55 : decode cX3_isDirection 55 = .ok (.goto 4, 3) := dk_167 0 4 (dk_at dksX3_isDirection_2 9 rfl rfl)
theorem dX3_isDirection_58 : decode cX3_isDirection 58 = .ok (.iconst 0, 1) := dk_3 (dk_at dksX3_isDirection_2 12 rfl rfl)
theorem dX3_isDirection_59 : decode cX3_isDirection 59 = .ok (.ireturn, 1) := dk_172 (dk_at dksX3_isDirection_2 13 rfl rfl)
abbrev cX3_most : ByteArray := prog_11_method_18_code
def yX3_most : MethodName := ⟨RX3, "most", "(I)I"⟩
def dkwX3_most_0 : List UInt8 := [26, 154, 0, 8, 16, 12, 167, 0, 5, 16, 8, 172]
abbrev dktX3_most_0 : List UInt8 := dkwX3_most_0 ++ []
theorem dksX3_most_0 : cX3_most.data.toList.drop 0 = dktX3_most_0 := by decide +kernel
theorem dX3_most_0 : decode cX3_most 0 = .ok (.iload_n 0, 1) := dk_26 (dk_at dksX3_most_0 0 rfl rfl)
theorem dX3_most_1 : decode cX3_most 1 = .ok (.ifCond .ne 8, 3) := dk_154 0 8 (dk_at dksX3_most_0 1 rfl rfl)
theorem dX3_most_4 : decode cX3_most 4 = .ok (.bipush 12, 2) := dk_16 12 (dk_at dksX3_most_0 4 rfl rfl)
theorem dX3_most_6 : decode cX3_most 6 = .ok (.goto 5, 3) := dk_167 0 5 (dk_at dksX3_most_0 6 rfl rfl)
theorem dX3_most_9 : decode cX3_most 9 = .ok (.bipush 8, 2) := dk_16 8 (dk_at dksX3_most_0 9 rfl rfl)
theorem dX3_most_11 : decode cX3_most 11 = .ok (.ireturn, 1) := dk_172 (dk_at dksX3_most_0 11 rfl rfl)
abbrev cX3_lays : ByteArray := prog_11_method_19_code
def yX3_lays : MethodName := ⟨RX3, "lays", "(IIIII)V"⟩
def dkwX3_lays_2 : List UInt8 := [177]
abbrev dktX3_lays_2 : List UInt8 := dkwX3_lays_2 ++ []
def dkwX3_lays_1 : List UInt8 := [104, 96, 4, 96, 21, 4, 79, 42, 180, 0, 22, 16, 36, 27, 104, 6, 28, 104, 96, 5, 96, 21, 5, 79]
abbrev dktX3_lays_1 : List UInt8 := dkwX3_lays_1 ++ dktX3_lays_2
def dkwX3_lays_0 : List UInt8 := [42, 180, 0, 22, 16, 36, 27, 104, 6, 28, 104, 96, 29, 79, 42, 180, 0, 22, 16, 36, 27, 104, 6, 28]
abbrev dktX3_lays_0 : List UInt8 := dkwX3_lays_0 ++ dktX3_lays_1
theorem dksX3_lays_0 : cX3_lays.data.toList.drop 0 = dktX3_lays_0 := by decide +kernel
theorem dksX3_lays_1 : cX3_lays.data.toList.drop 24 = dktX3_lays_1 := dk_seg dksX3_lays_0 24 rfl rfl
theorem dksX3_lays_2 : cX3_lays.data.toList.drop 48 = dktX3_lays_2 := dk_seg dksX3_lays_1 24 rfl rfl
theorem dX3_lays_0 : decode cX3_lays 0 = .ok (.aload_n 0, 1) := dk_42 (dk_at dksX3_lays_0 0 rfl rfl)
theorem dX3_lays_1 : decode cX3_lays 1 = .ok (.getfield 22, 3) := dk_180 0 22 (dk_at dksX3_lays_0 1 rfl rfl)
theorem dX3_lays_4 : decode cX3_lays 4 = .ok (.bipush 36, 2) := dk_16 36 (dk_at dksX3_lays_0 4 rfl rfl)
theorem dX3_lays_6 : decode cX3_lays 6 = .ok (.iload_n 1, 1) := dk_27 (dk_at dksX3_lays_0 6 rfl rfl)
theorem dX3_lays_7 : decode cX3_lays 7 = .ok (.imul, 1) := dk_104 (dk_at dksX3_lays_0 7 rfl rfl)
theorem dX3_lays_8 : decode cX3_lays 8 = .ok (.iconst 3, 1) := dk_6 (dk_at dksX3_lays_0 8 rfl rfl)
theorem dX3_lays_9 : decode cX3_lays 9 = .ok (.iload_n 2, 1) := dk_28 (dk_at dksX3_lays_0 9 rfl rfl)
theorem dX3_lays_10 : decode cX3_lays 10 = .ok (.imul, 1) := dk_104 (dk_at dksX3_lays_0 10 rfl rfl)
theorem dX3_lays_11 : decode cX3_lays 11 = .ok (.iadd, 1) := dk_96 (dk_at dksX3_lays_0 11 rfl rfl)
theorem dX3_lays_12 : decode cX3_lays 12 = .ok (.iload_n 3, 1) := dk_29 (dk_at dksX3_lays_0 12 rfl rfl)
theorem dX3_lays_13 : decode cX3_lays 13 = .ok (.iastore, 1) := dk_79 (dk_at dksX3_lays_0 13 rfl rfl)
theorem dX3_lays_14 : decode cX3_lays 14 = .ok (.aload_n 0, 1) := dk_42 (dk_at dksX3_lays_0 14 rfl rfl)
theorem dX3_lays_15 : decode cX3_lays 15 = .ok (.getfield 22, 3) := dk_180 0 22 (dk_at dksX3_lays_0 15 rfl rfl)
theorem dX3_lays_18 : decode cX3_lays 18 = .ok (.bipush 36, 2) := dk_16 36 (dk_at dksX3_lays_0 18 rfl rfl)
theorem dX3_lays_20 : decode cX3_lays 20 = .ok (.iload_n 1, 1) := dk_27 (dk_at dksX3_lays_0 20 rfl rfl)
theorem dX3_lays_21 : decode cX3_lays 21 = .ok (.imul, 1) := dk_104 (dk_at dksX3_lays_0 21 rfl rfl)
theorem dX3_lays_22 : decode cX3_lays 22 = .ok (.iconst 3, 1) := dk_6 (dk_at dksX3_lays_0 22 rfl rfl)
theorem dX3_lays_23 : decode cX3_lays 23 = .ok (.iload_n 2, 1) := dk_28 (dk_at dksX3_lays_0 23 rfl rfl)
theorem dX3_lays_24 : decode cX3_lays 24 = .ok (.imul, 1) := dk_104 (dk_at dksX3_lays_1 0 rfl rfl)
theorem dX3_lays_25 : decode cX3_lays 25 = .ok (.iadd, 1) := dk_96 (dk_at dksX3_lays_1 1 rfl rfl)
theorem dX3_lays_26 : decode cX3_lays 26 = .ok (.iconst 1, 1) := dk_4 (dk_at dksX3_lays_1 2 rfl rfl)
theorem dX3_lays_27 : decode cX3_lays 27 = .ok (.iadd, 1) := dk_96 (dk_at dksX3_lays_1 3 rfl rfl)
theorem dX3_lays_28 : decode cX3_lays 28 = .ok (.iload 4, 2) := dk_21 4 (dk_at dksX3_lays_1 4 rfl rfl)
theorem dX3_lays_30 : decode cX3_lays 30 = .ok (.iastore, 1) := dk_79 (dk_at dksX3_lays_1 6 rfl rfl)
theorem dX3_lays_31 : decode cX3_lays 31 = .ok (.aload_n 0, 1) := dk_42 (dk_at dksX3_lays_1 7 rfl rfl)
theorem dX3_lays_32 : decode cX3_lays 32 = .ok (.getfield 22, 3) := dk_180 0 22 (dk_at dksX3_lays_1 8 rfl rfl)
theorem dX3_lays_35 : decode cX3_lays 35 = .ok (.bipush 36, 2) := dk_16 36 (dk_at dksX3_lays_1 11 rfl rfl)
theorem dX3_lays_37 : decode cX3_lays 37 = .ok (.iload_n 1, 1) := dk_27 (dk_at dksX3_lays_1 13 rfl rfl)
theorem dX3_lays_38 : decode cX3_lays 38 = .ok (.imul, 1) := dk_104 (dk_at dksX3_lays_1 14 rfl rfl)
theorem dX3_lays_39 : decode cX3_lays 39 = .ok (.iconst 3, 1) := dk_6 (dk_at dksX3_lays_1 15 rfl rfl)
theorem dX3_lays_40 : decode cX3_lays 40 = .ok (.iload_n 2, 1) := dk_28 (dk_at dksX3_lays_1 16 rfl rfl)
theorem dX3_lays_41 : decode cX3_lays 41 = .ok (.imul, 1) := dk_104 (dk_at dksX3_lays_1 17 rfl rfl)
theorem dX3_lays_42 : decode cX3_lays 42 = .ok (.iadd, 1) := dk_96 (dk_at dksX3_lays_1 18 rfl rfl)
theorem dX3_lays_43 : decode cX3_lays 43 = .ok (.iconst 2, 1) := dk_5 (dk_at dksX3_lays_1 19 rfl rfl)
theorem dX3_lays_44 : decode cX3_lays 44 = .ok (.iadd, 1) := dk_96 (dk_at dksX3_lays_1 20 rfl rfl)
theorem dX3_lays_45 : decode cX3_lays 45 = .ok (.iload 5, 2) := dk_21 5 (dk_at dksX3_lays_1 21 rfl rfl)
theorem dX3_lays_47 : decode cX3_lays 47 = .ok (.iastore, 1) := dk_79 (dk_at dksX3_lays_1 23 rfl rfl)
theorem dX3_lays_48 : decode cX3_lays 48 = .ok (.return_, 1) := dk_177 (dk_at dksX3_lays_2 0 rfl rfl)
abbrev cX3_back : ByteArray := prog_11_method_21_code
def yX3_back : MethodName := ⟨RX3, "back", "(I)I"⟩
def dkwX3_back_1 : List UInt8 := [180, 0, 25, 27, 92, 46, 4, 100, 79, 42, 180, 0, 25, 27, 46, 172]
abbrev dktX3_back_1 : List UInt8 := dkwX3_back_1 ++ []
def dkwX3_back_0 : List UInt8 := [27, 184, 0, 108, 154, 0, 6, 16, 254, 172, 42, 180, 0, 25, 27, 46, 154, 0, 6, 16, 253, 172, 42]
abbrev dktX3_back_0 : List UInt8 := dkwX3_back_0 ++ dktX3_back_1
theorem dksX3_back_0 : cX3_back.data.toList.drop 0 = dktX3_back_0 := by decide +kernel
theorem dksX3_back_1 : cX3_back.data.toList.drop 23 = dktX3_back_1 := dk_seg dksX3_back_0 23 rfl rfl
theorem dX3_back_0 : decode cX3_back 0 = .ok (.iload_n 1, 1) := dk_27 (dk_at dksX3_back_0 0 rfl rfl)
theorem dX3_back_1 : decode cX3_back 1 = .ok (.invokestatic 108, 3) := dk_184 0 108 (dk_at dksX3_back_0 1 rfl rfl)
theorem dX3_back_4 : decode cX3_back 4 = .ok (.ifCond .ne 6, 3) := dk_154 0 6 (dk_at dksX3_back_0 4 rfl rfl)
theorem dX3_back_7 : decode cX3_back 7 = .ok (.bipush (-2), 2) := dk_16 254 (dk_at dksX3_back_0 7 rfl rfl)
theorem dX3_back_9 : decode cX3_back 9 = .ok (.ireturn, 1) := dk_172 (dk_at dksX3_back_0 9 rfl rfl)
theorem dX3_back_10 : decode cX3_back 10 = .ok (.aload_n 0, 1) := dk_42 (dk_at dksX3_back_0 10 rfl rfl)
theorem dX3_back_11 : decode cX3_back 11 = .ok (.getfield 25, 3) := dk_180 0 25 (dk_at dksX3_back_0 11 rfl rfl)
theorem dX3_back_14 : decode cX3_back 14 = .ok (.iload_n 1, 1) := dk_27 (dk_at dksX3_back_0 14 rfl rfl)
theorem dX3_back_15 : decode cX3_back 15 = .ok (.iaload, 1) := dk_46 (dk_at dksX3_back_0 15 rfl rfl)
theorem dX3_back_16 : decode cX3_back 16 = .ok (.ifCond .ne 6, 3) := dk_154 0 6 (dk_at dksX3_back_0 16 rfl rfl)
theorem dX3_back_19 : decode cX3_back 19 = .ok (.bipush (-3), 2) := dk_16 253 (dk_at dksX3_back_0 19 rfl rfl)
theorem dX3_back_21 : decode cX3_back 21 = .ok (.ireturn, 1) := dk_172 (dk_at dksX3_back_0 21 rfl rfl)
theorem dX3_back_22 : decode cX3_back 22 = .ok (.aload_n 0, 1) := dk_42 (dk_at dksX3_back_0 22 rfl rfl)
theorem dX3_back_23 : decode cX3_back 23 = .ok (.getfield 25, 3) := dk_180 0 25 (dk_at dksX3_back_1 0 rfl rfl)
theorem dX3_back_26 : decode cX3_back 26 = .ok (.iload_n 1, 1) := dk_27 (dk_at dksX3_back_1 3 rfl rfl)
theorem dX3_back_27 : decode cX3_back 27 = .ok (.dup2, 1) := dk_92 (dk_at dksX3_back_1 4 rfl rfl)
theorem dX3_back_28 : decode cX3_back 28 = .ok (.iaload, 1) := dk_46 (dk_at dksX3_back_1 5 rfl rfl)
theorem dX3_back_29 : decode cX3_back 29 = .ok (.iconst 1, 1) := dk_4 (dk_at dksX3_back_1 6 rfl rfl)
theorem dX3_back_30 : decode cX3_back 30 = .ok (.isub, 1) := dk_100 (dk_at dksX3_back_1 7 rfl rfl)
theorem dX3_back_31 : decode cX3_back 31 = .ok (.iastore, 1) := dk_79 (dk_at dksX3_back_1 8 rfl rfl)
theorem dX3_back_32 : decode cX3_back 32 = .ok (.aload_n 0, 1) := dk_42 (dk_at dksX3_back_1 9 rfl rfl)
theorem dX3_back_33 : decode cX3_back 33 = .ok (.getfield 25, 3) := dk_180 0 25 (dk_at dksX3_back_1 10 rfl rfl)
theorem dX3_back_36 : decode cX3_back 36 = .ok (.iload_n 1, 1) := dk_27 (dk_at dksX3_back_1 13 rfl rfl)
theorem dX3_back_37 : decode cX3_back 37 = .ok (.iaload, 1) := dk_46 (dk_at dksX3_back_1 14 rfl rfl)
theorem dX3_back_38 : decode cX3_back 38 = .ok (.ireturn, 1) := dk_172 (dk_at dksX3_back_1 15 rfl rfl)
abbrev cX3_at : ByteArray := prog_11_method_24_code
def yX3_at : MethodName := ⟨RX3, "at", "(III)I"⟩
def dkwX3_at_1 : List UInt8 := [29, 182, 0, 126, 167, 0, 5, 18, 103, 172]
abbrev dktX3_at_1 : List UInt8 := dkwX3_at_1 ++ []
def dkwX3_at_0 : List UInt8 := [42, 27, 28, 182, 0, 122, 153, 0, 25, 29, 133, 9, 20, 0, 89, 184, 0, 76, 153, 0, 13, 42, 27, 28]
abbrev dktX3_at_0 : List UInt8 := dkwX3_at_0 ++ dktX3_at_1
theorem dksX3_at_0 : cX3_at.data.toList.drop 0 = dktX3_at_0 := by decide +kernel
theorem dksX3_at_1 : cX3_at.data.toList.drop 24 = dktX3_at_1 := dk_seg dksX3_at_0 24 rfl rfl
theorem dX3_at_0 : decode cX3_at 0 = .ok (.aload_n 0, 1) := dk_42 (dk_at dksX3_at_0 0 rfl rfl)
theorem dX3_at_1 : decode cX3_at 1 = .ok (.iload_n 1, 1) := dk_27 (dk_at dksX3_at_0 1 rfl rfl)
theorem dX3_at_2 : decode cX3_at 2 = .ok (.iload_n 2, 1) := dk_28 (dk_at dksX3_at_0 2 rfl rfl)
theorem dX3_at_3 : decode cX3_at 3 = .ok (.invokevirtual 122, 3) := dk_182 0 122 (dk_at dksX3_at_0 3 rfl rfl)
theorem dX3_at_6 : decode cX3_at 6 = .ok (.ifCond .eq 25, 3) := dk_153 0 25 (dk_at dksX3_at_0 6 rfl rfl)
theorem dX3_at_9 : decode cX3_at 9 = .ok (.iload_n 3, 1) := dk_29 (dk_at dksX3_at_0 9 rfl rfl)
theorem dX3_at_10 : decode cX3_at 10 = .ok (.i2l, 1) := dk_133 (dk_at dksX3_at_0 10 rfl rfl)
theorem dX3_at_11 : decode cX3_at 11 = .ok (.lconst 0, 1) := dk_9 (dk_at dksX3_at_0 11 rfl rfl)
theorem dX3_at_12 : decode cX3_at 12 = .ok (.ldc2_w 89, 3) := dk_20 0 89 (dk_at dksX3_at_0 12 rfl rfl)
theorem dX3_at_15 : decode cX3_at 15 = .ok (.invokestatic 76, 3) := dk_184 0 76 (dk_at dksX3_at_0 15 rfl rfl)
theorem dX3_at_18 : decode cX3_at 18 = .ok (.ifCond .eq 13, 3) := dk_153 0 13 (dk_at dksX3_at_0 18 rfl rfl)
theorem dX3_at_21 : decode cX3_at 21 = .ok (.aload_n 0, 1) := dk_42 (dk_at dksX3_at_0 21 rfl rfl)
theorem dX3_at_22 : decode cX3_at 22 = .ok (.iload_n 1, 1) := dk_27 (dk_at dksX3_at_0 22 rfl rfl)
theorem dX3_at_23 : decode cX3_at 23 = .ok (.iload_n 2, 1) := dk_28 (dk_at dksX3_at_0 23 rfl rfl)
theorem dX3_at_24 : decode cX3_at 24 = .ok (.iload_n 3, 1) := dk_29 (dk_at dksX3_at_1 0 rfl rfl)
theorem dX3_at_25 : decode cX3_at 25 = .ok (.invokevirtual 126, 3) := dk_182 0 126 (dk_at dksX3_at_1 1 rfl rfl)
theorem dX3_at_28 : decode cX3_at 28 = .ok (.goto 5, 3) := dk_167 0 5 (dk_at dksX3_at_1 4 rfl rfl)
theorem dX3_at_31 : decode cX3_at 31 = .ok (.ldc 103, 2) := dk_18 103 (dk_at dksX3_at_1 7 rfl rfl)
theorem dX3_at_33 : decode cX3_at 33 = .ok (.ireturn, 1) := dk_172 (dk_at dksX3_at_1 9 rfl rfl)
abbrev cX3_isThere : ByteArray := prog_11_method_22_code
def yX3_isThere : MethodName := ⟨RX3, "isThere", "(II)Z"⟩
def dkwX3_isThere_1 : List UInt8 := [153, 0, 7, 4, 167, 0, 4, 3, 172]
abbrev dktX3_isThere_1 : List UInt8 := dkwX3_isThere_1 ++ []
def dkwX3_isThere_0 : List UInt8 := [27, 184, 0, 108, 153, 0, 25, 28, 133, 9, 42, 180, 0, 25, 27, 46, 4, 100, 133, 184, 0, 76]
abbrev dktX3_isThere_0 : List UInt8 := dkwX3_isThere_0 ++ dktX3_isThere_1
theorem dksX3_isThere_0 : cX3_isThere.data.toList.drop 0 = dktX3_isThere_0 := by decide +kernel
theorem dksX3_isThere_1 : cX3_isThere.data.toList.drop 22 = dktX3_isThere_1 := dk_seg dksX3_isThere_0 22 rfl rfl
theorem dX3_isThere_0 : decode cX3_isThere 0 = .ok (.iload_n 1, 1) := dk_27 (dk_at dksX3_isThere_0 0 rfl rfl)
theorem dX3_isThere_1 : decode cX3_isThere 1 = .ok (.invokestatic 108, 3) := dk_184 0 108 (dk_at dksX3_isThere_0 1 rfl rfl)
theorem dX3_isThere_4 : decode cX3_isThere 4 = .ok (.ifCond .eq 25, 3) := dk_153 0 25 (dk_at dksX3_isThere_0 4 rfl rfl)
theorem dX3_isThere_7 : decode cX3_isThere 7 = .ok (.iload_n 2, 1) := dk_28 (dk_at dksX3_isThere_0 7 rfl rfl)
theorem dX3_isThere_8 : decode cX3_isThere 8 = .ok (.i2l, 1) := dk_133 (dk_at dksX3_isThere_0 8 rfl rfl)
theorem dX3_isThere_9 : decode cX3_isThere 9 = .ok (.lconst 0, 1) := dk_9 (dk_at dksX3_isThere_0 9 rfl rfl)
theorem dX3_isThere_10 : decode cX3_isThere 10 = .ok (.aload_n 0, 1) := dk_42 (dk_at dksX3_isThere_0 10 rfl rfl)
theorem dX3_isThere_11 : decode cX3_isThere 11 = .ok (.getfield 25, 3) := dk_180 0 25 (dk_at dksX3_isThere_0 11 rfl rfl)
theorem dX3_isThere_14 : decode cX3_isThere 14 = .ok (.iload_n 1, 1) := dk_27 (dk_at dksX3_isThere_0 14 rfl rfl)
theorem dX3_isThere_15 : decode cX3_isThere 15 = .ok (.iaload, 1) := dk_46 (dk_at dksX3_isThere_0 15 rfl rfl)
theorem dX3_isThere_16 : decode cX3_isThere 16 = .ok (.iconst 1, 1) := dk_4 (dk_at dksX3_isThere_0 16 rfl rfl)
theorem dX3_isThere_17 : decode cX3_isThere 17 = .ok (.isub, 1) := dk_100 (dk_at dksX3_isThere_0 17 rfl rfl)
theorem dX3_isThere_18 : decode cX3_isThere 18 = .ok (.i2l, 1) := dk_133 (dk_at dksX3_isThere_0 18 rfl rfl)
theorem dX3_isThere_19 : decode cX3_isThere 19 = .ok (.invokestatic 76, 3) := dk_184 0 76 (dk_at dksX3_isThere_0 19 rfl rfl)
theorem dX3_isThere_22 : decode cX3_isThere 22 = .ok (.ifCond .eq 7, 3) := dk_153 0 7 (dk_at dksX3_isThere_1 0 rfl rfl)
theorem dX3_isThere_25 : decode cX3_isThere 25 = .ok (.iconst 1, 1) := dk_4 (dk_at dksX3_isThere_1 3 rfl rfl)
theorem dX3_isThere_26 : decode cX3_isThere 26 = .ok (.goto 4, 3) := dk_167 0 4 (dk_at dksX3_isThere_1 4 rfl rfl)
theorem dX3_isThere_29 : decode cX3_isThere 29 = .ok (.iconst 0, 1) := dk_3 (dk_at dksX3_isThere_1 7 rfl rfl)
theorem dX3_isThere_30 : decode cX3_isThere 30 = .ok (.ireturn, 1) := dk_172 (dk_at dksX3_isThere_1 8 rfl rfl)
abbrev cX3_of : ByteArray := prog_11_method_23_code
def yX3_of : MethodName := ⟨RX3, "of", "(III)I"⟩
def dkwX3_of_0 : List UInt8 := [42, 180, 0, 22, 16, 36, 27, 104, 6, 28, 104, 96, 29, 96, 46, 172]
abbrev dktX3_of_0 : List UInt8 := dkwX3_of_0 ++ []
theorem dksX3_of_0 : cX3_of.data.toList.drop 0 = dktX3_of_0 := by decide +kernel
theorem dX3_of_0 : decode cX3_of 0 = .ok (.aload_n 0, 1) := dk_42 (dk_at dksX3_of_0 0 rfl rfl)
theorem dX3_of_1 : decode cX3_of 1 = .ok (.getfield 22, 3) := dk_180 0 22 (dk_at dksX3_of_0 1 rfl rfl)
theorem dX3_of_4 : decode cX3_of 4 = .ok (.bipush 36, 2) := dk_16 36 (dk_at dksX3_of_0 4 rfl rfl)
theorem dX3_of_6 : decode cX3_of 6 = .ok (.iload_n 1, 1) := dk_27 (dk_at dksX3_of_0 6 rfl rfl)
theorem dX3_of_7 : decode cX3_of 7 = .ok (.imul, 1) := dk_104 (dk_at dksX3_of_0 7 rfl rfl)
theorem dX3_of_8 : decode cX3_of 8 = .ok (.iconst 3, 1) := dk_6 (dk_at dksX3_of_0 8 rfl rfl)
theorem dX3_of_9 : decode cX3_of 9 = .ok (.iload_n 2, 1) := dk_28 (dk_at dksX3_of_0 9 rfl rfl)
theorem dX3_of_10 : decode cX3_of 10 = .ok (.imul, 1) := dk_104 (dk_at dksX3_of_0 10 rfl rfl)
theorem dX3_of_11 : decode cX3_of 11 = .ok (.iadd, 1) := dk_96 (dk_at dksX3_of_0 11 rfl rfl)
theorem dX3_of_12 : decode cX3_of 12 = .ok (.iload_n 3, 1) := dk_29 (dk_at dksX3_of_0 12 rfl rfl)
theorem dX3_of_13 : decode cX3_of 13 = .ok (.iadd, 1) := dk_96 (dk_at dksX3_of_0 13 rfl rfl)
theorem dX3_of_14 : decode cX3_of 14 = .ok (.iaload, 1) := dk_46 (dk_at dksX3_of_0 14 rfl rfl)
theorem dX3_of_15 : decode cX3_of 15 = .ok (.ireturn, 1) := dk_172 (dk_at dksX3_of_0 15 rfl rfl)
abbrev cX3_read : ByteArray := prog_11_method_25_code
def yX3_read : MethodName := ⟨RX3, "read", "(II)I"⟩
def dkwX3_read_5 : List UInt8 := [96, 62, 167, 255, 174, 29, 172]
abbrev dktX3_read_5 : List UInt8 := dkwX3_read_5 ++ []
def dkwX3_read_4 : List UInt8 := [182, 0, 129, 155, 0, 7, 4, 167, 0, 4, 3, 54, 4, 29, 21, 4, 153, 0, 7, 4, 167, 0, 4, 3]
abbrev dktX3_read_4 : List UInt8 := dkwX3_read_4 ++ dktX3_read_5
def dkwX3_read_3 : List UInt8 := [180, 0, 16, 21, 5, 46, 42, 180, 0, 16, 21, 5, 4, 96, 46, 42, 180, 0, 16, 21, 5, 5, 96, 46]
abbrev dktX3_read_3 : List UInt8 := dkwX3_read_3 ++ dktX3_read_4
def dkwX3_read_2 : List UInt8 := [42, 180, 0, 13, 28, 46, 163, 0, 69, 16, 60, 28, 104, 6, 29, 104, 96, 54, 5, 42, 27, 42]
abbrev dktX3_read_2 : List UInt8 := dkwX3_read_2 ++ dktX3_read_3
def dkwX3_read_1 : List UInt8 := [156, 0, 9, 42, 4, 182, 0, 91, 172, 3, 62, 4, 54, 4, 21, 4, 153, 0, 83, 6, 29, 104, 6, 96]
abbrev dktX3_read_1 : List UInt8 := dkwX3_read_1 ++ dktX3_read_2
def dkwX3_read_0 : List UInt8 := [27, 184, 0, 108, 153, 0, 10, 28, 184, 0, 85, 154, 0, 6, 16, 254, 172, 42, 180, 0, 7, 28, 46]
abbrev dktX3_read_0 : List UInt8 := dkwX3_read_0 ++ dktX3_read_1
theorem dksX3_read_0 : cX3_read.data.toList.drop 0 = dktX3_read_0 := by decide +kernel
theorem dksX3_read_1 : cX3_read.data.toList.drop 23 = dktX3_read_1 := dk_seg dksX3_read_0 23 rfl rfl
theorem dksX3_read_2 : cX3_read.data.toList.drop 47 = dktX3_read_2 := dk_seg dksX3_read_1 24 rfl rfl
theorem dksX3_read_3 : cX3_read.data.toList.drop 69 = dktX3_read_3 := dk_seg dksX3_read_2 22 rfl rfl
theorem dksX3_read_4 : cX3_read.data.toList.drop 93 = dktX3_read_4 := dk_seg dksX3_read_3 24 rfl rfl
theorem dksX3_read_5 : cX3_read.data.toList.drop 117 = dktX3_read_5 := dk_seg dksX3_read_4 24 rfl rfl
theorem dX3_read_0 : decode cX3_read 0 = .ok (.iload_n 1, 1) := dk_27 (dk_at dksX3_read_0 0 rfl rfl)
theorem dX3_read_1 : decode cX3_read 1 = .ok (.invokestatic 108, 3) := dk_184 0 108 (dk_at dksX3_read_0 1 rfl rfl)
theorem dX3_read_4 : decode cX3_read 4 = .ok (.ifCond .eq 10, 3) := dk_153 0 10 (dk_at dksX3_read_0 4 rfl rfl)
theorem dX3_read_7 : decode cX3_read 7 = .ok (.iload_n 2, 1) := dk_28 (dk_at dksX3_read_0 7 rfl rfl)
theorem dX3_read_8 : decode cX3_read 8 = .ok (.invokestatic 85, 3) := dk_184 0 85 (dk_at dksX3_read_0 8 rfl rfl)
theorem dX3_read_11 : decode cX3_read 11 = .ok (.ifCond .ne 6, 3) := dk_154 0 6 (dk_at dksX3_read_0 11 rfl rfl)
theorem dX3_read_14 : decode cX3_read 14 = .ok (.bipush (-2), 2) := dk_16 254 (dk_at dksX3_read_0 14 rfl rfl)
theorem dX3_read_16 : decode cX3_read 16 = .ok (.ireturn, 1) := dk_172 (dk_at dksX3_read_0 16 rfl rfl)
theorem dX3_read_17 : decode cX3_read 17 = .ok (.aload_n 0, 1) := dk_42 (dk_at dksX3_read_0 17 rfl rfl)
theorem dX3_read_18 : decode cX3_read 18 = .ok (.getfield 7, 3) := dk_180 0 7 (dk_at dksX3_read_0 18 rfl rfl)
theorem dX3_read_21 : decode cX3_read 21 = .ok (.iload_n 2, 1) := dk_28 (dk_at dksX3_read_0 21 rfl rfl)
theorem dX3_read_22 : decode cX3_read 22 = .ok (.iaload, 1) := dk_46 (dk_at dksX3_read_0 22 rfl rfl)
theorem dX3_read_23 : decode cX3_read 23 = .ok (.ifCond .ge 9, 3) := dk_156 0 9 (dk_at dksX3_read_1 0 rfl rfl)
theorem dX3_read_26 : decode cX3_read 26 = .ok (.aload_n 0, 1) := dk_42 (dk_at dksX3_read_1 3 rfl rfl)
theorem dX3_read_27 : decode cX3_read 27 = .ok (.iconst 1, 1) := dk_4 (dk_at dksX3_read_1 4 rfl rfl)
theorem dX3_read_28 : decode cX3_read 28 = .ok (.invokevirtual 91, 3) := dk_182 0 91 (dk_at dksX3_read_1 5 rfl rfl)
theorem dX3_read_31 : decode cX3_read 31 = .ok (.ireturn, 1) := dk_172 (dk_at dksX3_read_1 8 rfl rfl)
theorem dX3_read_32 : decode cX3_read 32 = .ok (.iconst 0, 1) := dk_3 (dk_at dksX3_read_1 9 rfl rfl)
theorem dX3_read_33 : decode cX3_read 33 = .ok (.istore_n 3, 1) := dk_62 (dk_at dksX3_read_1 10 rfl rfl)
theorem dX3_read_34 : decode cX3_read 34 = .ok (.iconst 1, 1) := dk_4 (dk_at dksX3_read_1 11 rfl rfl)
theorem dX3_read_35 : decode cX3_read 35 = .ok (.istore 4, 2) := dk_54 4 (dk_at dksX3_read_1 12 rfl rfl)
theorem dX3_read_37 : decode cX3_read 37 = .ok (.iload 4, 2) := dk_21 4 (dk_at dksX3_read_1 14 rfl rfl)
theorem dX3_read_39 : decode cX3_read 39 = .ok (.ifCond .eq 83, 3) := dk_153 0 83 (dk_at dksX3_read_1 16 rfl rfl)
theorem dX3_read_42 : decode cX3_read 42 = .ok (.iconst 3, 1) := dk_6 (dk_at dksX3_read_1 19 rfl rfl)
theorem dX3_read_43 : decode cX3_read 43 = .ok (.iload_n 3, 1) := dk_29 (dk_at dksX3_read_1 20 rfl rfl)
theorem dX3_read_44 : decode cX3_read 44 = .ok (.imul, 1) := dk_104 (dk_at dksX3_read_1 21 rfl rfl)
theorem dX3_read_45 : decode cX3_read 45 = .ok (.iconst 3, 1) := dk_6 (dk_at dksX3_read_1 22 rfl rfl)
theorem dX3_read_46 : decode cX3_read 46 = .ok (.iadd, 1) := dk_96 (dk_at dksX3_read_1 23 rfl rfl)
theorem dX3_read_47 : decode cX3_read 47 = .ok (.aload_n 0, 1) := dk_42 (dk_at dksX3_read_2 0 rfl rfl)
theorem dX3_read_48 : decode cX3_read 48 = .ok (.getfield 13, 3) := dk_180 0 13 (dk_at dksX3_read_2 1 rfl rfl)
theorem dX3_read_51 : decode cX3_read 51 = .ok (.iload_n 2, 1) := dk_28 (dk_at dksX3_read_2 4 rfl rfl)
theorem dX3_read_52 : decode cX3_read 52 = .ok (.iaload, 1) := dk_46 (dk_at dksX3_read_2 5 rfl rfl)
theorem dX3_read_53 : decode cX3_read 53 = .ok (.if_icmp .gt 69, 3) := dk_163 0 69 (dk_at dksX3_read_2 6 rfl rfl)
theorem dX3_read_56 : decode cX3_read 56 = .ok (.bipush 60, 2) := dk_16 60 (dk_at dksX3_read_2 9 rfl rfl)
theorem dX3_read_58 : decode cX3_read 58 = .ok (.iload_n 2, 1) := dk_28 (dk_at dksX3_read_2 11 rfl rfl)
theorem dX3_read_59 : decode cX3_read 59 = .ok (.imul, 1) := dk_104 (dk_at dksX3_read_2 12 rfl rfl)
theorem dX3_read_60 : decode cX3_read 60 = .ok (.iconst 3, 1) := dk_6 (dk_at dksX3_read_2 13 rfl rfl)
theorem dX3_read_61 : decode cX3_read 61 = .ok (.iload_n 3, 1) := dk_29 (dk_at dksX3_read_2 14 rfl rfl)
theorem dX3_read_62 : decode cX3_read 62 = .ok (.imul, 1) := dk_104 (dk_at dksX3_read_2 15 rfl rfl)
theorem dX3_read_63 : decode cX3_read 63 = .ok (.iadd, 1) := dk_96 (dk_at dksX3_read_2 16 rfl rfl)
theorem dX3_read_64 : decode cX3_read 64 = .ok (.istore 5, 2) := dk_54 5 (dk_at dksX3_read_2 17 rfl rfl)
theorem dX3_read_66 : decode cX3_read 66 = .ok (.aload_n 0, 1) := dk_42 (dk_at dksX3_read_2 19 rfl rfl)
theorem dX3_read_67 : decode cX3_read 67 = .ok (.iload_n 1, 1) := dk_27 (dk_at dksX3_read_2 20 rfl rfl)
theorem dX3_read_68 : decode cX3_read 68 = .ok (.aload_n 0, 1) := dk_42 (dk_at dksX3_read_2 21 rfl rfl)
theorem dX3_read_69 : decode cX3_read 69 = .ok (.getfield 16, 3) := dk_180 0 16 (dk_at dksX3_read_3 0 rfl rfl)
theorem dX3_read_72 : decode cX3_read 72 = .ok (.iload 5, 2) := dk_21 5 (dk_at dksX3_read_3 3 rfl rfl)
theorem dX3_read_74 : decode cX3_read 74 = .ok (.iaload, 1) := dk_46 (dk_at dksX3_read_3 5 rfl rfl)
theorem dX3_read_75 : decode cX3_read 75 = .ok (.aload_n 0, 1) := dk_42 (dk_at dksX3_read_3 6 rfl rfl)
theorem dX3_read_76 : decode cX3_read 76 = .ok (.getfield 16, 3) := dk_180 0 16 (dk_at dksX3_read_3 7 rfl rfl)
theorem dX3_read_79 : decode cX3_read 79 = .ok (.iload 5, 2) := dk_21 5 (dk_at dksX3_read_3 10 rfl rfl)
theorem dX3_read_81 : decode cX3_read 81 = .ok (.iconst 1, 1) := dk_4 (dk_at dksX3_read_3 12 rfl rfl)
theorem dX3_read_82 : decode cX3_read 82 = .ok (.iadd, 1) := dk_96 (dk_at dksX3_read_3 13 rfl rfl)
theorem dX3_read_83 : decode cX3_read 83 = .ok (.iaload, 1) := dk_46 (dk_at dksX3_read_3 14 rfl rfl)
theorem dX3_read_84 : decode cX3_read 84 = .ok (.aload_n 0, 1) := dk_42 (dk_at dksX3_read_3 15 rfl rfl)
theorem dX3_read_85 : decode cX3_read 85 = .ok (.getfield 16, 3) := dk_180 0 16 (dk_at dksX3_read_3 16 rfl rfl)
theorem dX3_read_88 : decode cX3_read 88 = .ok (.iload 5, 2) := dk_21 5 (dk_at dksX3_read_3 19 rfl rfl)
theorem dX3_read_90 : decode cX3_read 90 = .ok (.iconst 2, 1) := dk_5 (dk_at dksX3_read_3 21 rfl rfl)
theorem dX3_read_91 : decode cX3_read 91 = .ok (.iadd, 1) := dk_96 (dk_at dksX3_read_3 22 rfl rfl)
theorem dX3_read_92 : decode cX3_read 92 = .ok (.iaload, 1) := dk_46 (dk_at dksX3_read_3 23 rfl rfl)
theorem dX3_read_93 : decode cX3_read 93 = .ok (.invokevirtual 129, 3) := dk_182 0 129 (dk_at dksX3_read_4 0 rfl rfl)
theorem dX3_read_96 : decode cX3_read 96 = .ok (.ifCond .lt 7, 3) := dk_155 0 7 (dk_at dksX3_read_4 3 rfl rfl)
theorem dX3_read_99 : decode cX3_read 99 = .ok (.iconst 1, 1) := dk_4 (dk_at dksX3_read_4 6 rfl rfl)
theorem dX3_read_100 : decode cX3_read 100 = .ok (.goto 4, 3) := dk_167 0 4 (dk_at dksX3_read_4 7 rfl rfl)
theorem dX3_read_103 : decode cX3_read 103 = .ok (.iconst 0, 1) := dk_3 (dk_at dksX3_read_4 10 rfl rfl)
theorem dX3_read_104 : decode cX3_read 104 = .ok (.istore 4, 2) := dk_54 4 (dk_at dksX3_read_4 11 rfl rfl)
theorem dX3_read_106 : decode cX3_read 106 = .ok (.iload_n 3, 1) := dk_29 (dk_at dksX3_read_4 13 rfl rfl)
theorem dX3_read_107 : decode cX3_read 107 = .ok (.iload 4, 2) := dk_21 4 (dk_at dksX3_read_4 14 rfl rfl)
theorem dX3_read_109 : decode cX3_read 109 = .ok (.ifCond .eq 7, 3) := dk_153 0 7 (dk_at dksX3_read_4 16 rfl rfl)
theorem dX3_read_112 : decode cX3_read 112 = .ok (.iconst 1, 1) := dk_4 (dk_at dksX3_read_4 19 rfl rfl)
theorem dX3_read_113 : decode cX3_read 113 = .ok (.goto 4, 3) := dk_167 0 4 (dk_at dksX3_read_4 20 rfl rfl)
theorem dX3_read_116 : decode cX3_read 116 = .ok (.iconst 0, 1) := dk_3 (dk_at dksX3_read_4 23 rfl rfl)
theorem dX3_read_117 : decode cX3_read 117 = .ok (.iadd, 1) := dk_96 (dk_at dksX3_read_5 0 rfl rfl)
theorem dX3_read_118 : decode cX3_read 118 = .ok (.istore_n 3, 1) := dk_62 (dk_at dksX3_read_5 1 rfl rfl)
theorem dX3_read_119 : decode cX3_read 119 = .ok (.goto (-82), 3) := dk_167 255 174 (dk_at dksX3_read_5 2 rfl rfl)
theorem dX3_read_122 : decode cX3_read 122 = .ok (.iload_n 3, 1) := dk_29 (dk_at dksX3_read_5 5 rfl rfl)
theorem dX3_read_123 : decode cX3_read 123 = .ok (.ireturn, 1) := dk_172 (dk_at dksX3_read_5 6 rfl rfl)
abbrev cX3_see : ByteArray := prog_11_method_29_code
def yX3_see : MethodName := ⟨RX3, "see", "(IIIIII)I"⟩
def dkwX3_see_4 : List UInt8 := [21, 4, 21, 6, 182, 0, 149, 132, 7, 1, 167, 255, 235, 42, 180, 0, 25, 4, 27, 79, 27, 172]
abbrev dktX3_see_4 : List UInt8 := dkwX3_see_4 ++ []
def dkwX3_see_3 : List UInt8 := [16, 254, 172, 42, 21, 5, 181, 0, 134, 3, 54, 7, 21, 7, 27, 162, 0, 21, 42, 21, 7, 28, 29]
abbrev dktX3_see_3 : List UInt8 := dkwX3_see_3 ++ dktX3_see_4
def dkwX3_see_2 : List UInt8 := [9, 20, 0, 83, 184, 0, 76, 153, 0, 16, 21, 6, 133, 9, 20, 0, 83, 184, 0, 76, 154, 0, 6]
abbrev dktX3_see_2 : List UInt8 := dkwX3_see_2 ++ dktX3_see_3
def dkwX3_see_1 : List UInt8 := [20, 0, 83, 184, 0, 76, 153, 0, 41, 29, 133, 9, 20, 0, 83, 184, 0, 76, 153, 0, 29, 21, 4, 133]
abbrev dktX3_see_1 : List UInt8 := dkwX3_see_1 ++ dktX3_see_2
def dkwX3_see_0 : List UInt8 := [27, 133, 9, 16, 8, 42, 180, 0, 25, 3, 46, 184, 0, 143, 133, 184, 0, 76, 153, 0, 53, 28, 133, 9]
abbrev dktX3_see_0 : List UInt8 := dkwX3_see_0 ++ dktX3_see_1
theorem dksX3_see_0 : cX3_see.data.toList.drop 0 = dktX3_see_0 := by decide +kernel
theorem dksX3_see_1 : cX3_see.data.toList.drop 24 = dktX3_see_1 := dk_seg dksX3_see_0 24 rfl rfl
theorem dksX3_see_2 : cX3_see.data.toList.drop 48 = dktX3_see_2 := dk_seg dksX3_see_1 24 rfl rfl
theorem dksX3_see_3 : cX3_see.data.toList.drop 71 = dktX3_see_3 := dk_seg dksX3_see_2 23 rfl rfl
theorem dksX3_see_4 : cX3_see.data.toList.drop 94 = dktX3_see_4 := dk_seg dksX3_see_3 23 rfl rfl
theorem dX3_see_0 : decode cX3_see 0 = .ok (.iload_n 1, 1) := dk_27 (dk_at dksX3_see_0 0 rfl rfl)
theorem dX3_see_1 : decode cX3_see 1 = .ok (.i2l, 1) := dk_133 (dk_at dksX3_see_0 1 rfl rfl)
theorem dX3_see_2 : decode cX3_see 2 = .ok (.lconst 0, 1) := dk_9 (dk_at dksX3_see_0 2 rfl rfl)
theorem dX3_see_3 : decode cX3_see 3 = .ok (.bipush 8, 2) := dk_16 8 (dk_at dksX3_see_0 3 rfl rfl)
theorem dX3_see_5 : decode cX3_see 5 = .ok (.aload_n 0, 1) := dk_42 (dk_at dksX3_see_0 5 rfl rfl)
theorem dX3_see_6 : decode cX3_see 6 = .ok (.getfield 25, 3) := dk_180 0 25 (dk_at dksX3_see_0 6 rfl rfl)
theorem dX3_see_9 : decode cX3_see 9 = .ok (.iconst 0, 1) := dk_3 (dk_at dksX3_see_0 9 rfl rfl)
theorem dX3_see_10 : decode cX3_see 10 = .ok (.iaload, 1) := dk_46 (dk_at dksX3_see_0 10 rfl rfl)
theorem dX3_see_11 : decode cX3_see 11 = .ok (.invokestatic 143, 3) := dk_184 0 143 (dk_at dksX3_see_0 11 rfl rfl)
theorem dX3_see_14 : decode cX3_see 14 = .ok (.i2l, 1) := dk_133 (dk_at dksX3_see_0 14 rfl rfl)
theorem dX3_see_15 : decode cX3_see 15 = .ok (.invokestatic 76, 3) := dk_184 0 76 (dk_at dksX3_see_0 15 rfl rfl)
theorem dX3_see_18 : decode cX3_see 18 = .ok (.ifCond .eq 53, 3) := dk_153 0 53 (dk_at dksX3_see_0 18 rfl rfl)
theorem dX3_see_21 : decode cX3_see 21 = .ok (.iload_n 2, 1) := dk_28 (dk_at dksX3_see_0 21 rfl rfl)
theorem dX3_see_22 : decode cX3_see 22 = .ok (.i2l, 1) := dk_133 (dk_at dksX3_see_0 22 rfl rfl)
theorem dX3_see_23 : decode cX3_see 23 = .ok (.lconst 0, 1) := dk_9 (dk_at dksX3_see_0 23 rfl rfl)
theorem dX3_see_24 : decode cX3_see 24 = .ok (.ldc2_w 83, 3) := dk_20 0 83 (dk_at dksX3_see_1 0 rfl rfl)
theorem dX3_see_27 : decode cX3_see 27 = .ok (.invokestatic 76, 3) := dk_184 0 76 (dk_at dksX3_see_1 3 rfl rfl)
theorem dX3_see_30 : decode cX3_see 30 = .ok (.ifCond .eq 41, 3) := dk_153 0 41 (dk_at dksX3_see_1 6 rfl rfl)
theorem dX3_see_33 : decode cX3_see 33 = .ok (.iload_n 3, 1) := dk_29 (dk_at dksX3_see_1 9 rfl rfl)
theorem dX3_see_34 : decode cX3_see 34 = .ok (.i2l, 1) := dk_133 (dk_at dksX3_see_1 10 rfl rfl)
theorem dX3_see_35 : decode cX3_see 35 = .ok (.lconst 0, 1) := dk_9 (dk_at dksX3_see_1 11 rfl rfl)
theorem dX3_see_36 : decode cX3_see 36 = .ok (.ldc2_w 83, 3) := dk_20 0 83 (dk_at dksX3_see_1 12 rfl rfl)
theorem dX3_see_39 : decode cX3_see 39 = .ok (.invokestatic 76, 3) := dk_184 0 76 (dk_at dksX3_see_1 15 rfl rfl)
theorem dX3_see_42 : decode cX3_see 42 = .ok (.ifCond .eq 29, 3) := dk_153 0 29 (dk_at dksX3_see_1 18 rfl rfl)
theorem dX3_see_45 : decode cX3_see 45 = .ok (.iload 4, 2) := dk_21 4 (dk_at dksX3_see_1 21 rfl rfl)
theorem dX3_see_47 : decode cX3_see 47 = .ok (.i2l, 1) := dk_133 (dk_at dksX3_see_1 23 rfl rfl)
theorem dX3_see_48 : decode cX3_see 48 = .ok (.lconst 0, 1) := dk_9 (dk_at dksX3_see_2 0 rfl rfl)
theorem dX3_see_49 : decode cX3_see 49 = .ok (.ldc2_w 83, 3) := dk_20 0 83 (dk_at dksX3_see_2 1 rfl rfl)
theorem dX3_see_52 : decode cX3_see 52 = .ok (.invokestatic 76, 3) := dk_184 0 76 (dk_at dksX3_see_2 4 rfl rfl)
theorem dX3_see_55 : decode cX3_see 55 = .ok (.ifCond .eq 16, 3) := dk_153 0 16 (dk_at dksX3_see_2 7 rfl rfl)
theorem dX3_see_58 : decode cX3_see 58 = .ok (.iload 6, 2) := dk_21 6 (dk_at dksX3_see_2 10 rfl rfl)
theorem dX3_see_60 : decode cX3_see 60 = .ok (.i2l, 1) := dk_133 (dk_at dksX3_see_2 12 rfl rfl)
theorem dX3_see_61 : decode cX3_see 61 = .ok (.lconst 0, 1) := dk_9 (dk_at dksX3_see_2 13 rfl rfl)
theorem dX3_see_62 : decode cX3_see 62 = .ok (.ldc2_w 83, 3) := dk_20 0 83 (dk_at dksX3_see_2 14 rfl rfl)
theorem dX3_see_65 : decode cX3_see 65 = .ok (.invokestatic 76, 3) := dk_184 0 76 (dk_at dksX3_see_2 17 rfl rfl)
theorem dX3_see_68 : decode cX3_see 68 = .ok (.ifCond .ne 6, 3) := dk_154 0 6 (dk_at dksX3_see_2 20 rfl rfl)
theorem dX3_see_71 : decode cX3_see 71 = .ok (.bipush (-2), 2) := dk_16 254 (dk_at dksX3_see_3 0 rfl rfl)
theorem dX3_see_73 : decode cX3_see 73 = .ok (.ireturn, 1) := dk_172 (dk_at dksX3_see_3 2 rfl rfl)
theorem dX3_see_74 : decode cX3_see 74 = .ok (.aload_n 0, 1) := dk_42 (dk_at dksX3_see_3 3 rfl rfl)
theorem dX3_see_75 : decode cX3_see 75 = .ok (.iload 5, 2) := dk_21 5 (dk_at dksX3_see_3 4 rfl rfl)
theorem dX3_see_77 : decode cX3_see 77 = .ok (.putfield 134, 3) := dk_181 0 134 (dk_at dksX3_see_3 6 rfl rfl)
theorem dX3_see_80 : decode cX3_see 80 = .ok (.iconst 0, 1) := dk_3 (dk_at dksX3_see_3 9 rfl rfl)
theorem dX3_see_81 : decode cX3_see 81 = .ok (.istore 7, 2) := dk_54 7 (dk_at dksX3_see_3 10 rfl rfl)
theorem dX3_see_83 : decode cX3_see 83 = .ok (.iload 7, 2) := dk_21 7 (dk_at dksX3_see_3 12 rfl rfl)
theorem dX3_see_85 : decode cX3_see 85 = .ok (.iload_n 1, 1) := dk_27 (dk_at dksX3_see_3 14 rfl rfl)
theorem dX3_see_86 : decode cX3_see 86 = .ok (.if_icmp .ge 21, 3) := dk_162 0 21 (dk_at dksX3_see_3 15 rfl rfl)
theorem dX3_see_89 : decode cX3_see 89 = .ok (.aload_n 0, 1) := dk_42 (dk_at dksX3_see_3 18 rfl rfl)
theorem dX3_see_90 : decode cX3_see 90 = .ok (.iload 7, 2) := dk_21 7 (dk_at dksX3_see_3 19 rfl rfl)
theorem dX3_see_92 : decode cX3_see 92 = .ok (.iload_n 2, 1) := dk_28 (dk_at dksX3_see_3 21 rfl rfl)
theorem dX3_see_93 : decode cX3_see 93 = .ok (.iload_n 3, 1) := dk_29 (dk_at dksX3_see_3 22 rfl rfl)
theorem dX3_see_94 : decode cX3_see 94 = .ok (.iload 4, 2) := dk_21 4 (dk_at dksX3_see_4 0 rfl rfl)
theorem dX3_see_96 : decode cX3_see 96 = .ok (.iload 6, 2) := dk_21 6 (dk_at dksX3_see_4 2 rfl rfl)
theorem dX3_see_98 : decode cX3_see 98 = .ok (.invokevirtual 149, 3) := dk_182 0 149 (dk_at dksX3_see_4 4 rfl rfl)
theorem dX3_see_101 : decode cX3_see 101 = .ok (.iinc 7 1, 3) := dk_132 7 1 (dk_at dksX3_see_4 7 rfl rfl)
theorem dX3_see_104 : decode cX3_see 104 = .ok (.goto (-21), 3) := dk_167 255 235 (dk_at dksX3_see_4 10 rfl rfl)
theorem dX3_see_107 : decode cX3_see 107 = .ok (.aload_n 0, 1) := dk_42 (dk_at dksX3_see_4 13 rfl rfl)
theorem dX3_see_108 : decode cX3_see 108 = .ok (.getfield 25, 3) := dk_180 0 25 (dk_at dksX3_see_4 14 rfl rfl)
theorem dX3_see_111 : decode cX3_see 111 = .ok (.iconst 1, 1) := dk_4 (dk_at dksX3_see_4 17 rfl rfl)
theorem dX3_see_112 : decode cX3_see 112 = .ok (.iload_n 1, 1) := dk_27 (dk_at dksX3_see_4 18 rfl rfl)
theorem dX3_see_113 : decode cX3_see 113 = .ok (.iastore, 1) := dk_79 (dk_at dksX3_see_4 19 rfl rfl)
theorem dX3_see_114 : decode cX3_see 114 = .ok (.iload_n 1, 1) := dk_27 (dk_at dksX3_see_4 20 rfl rfl)
theorem dX3_see_115 : decode cX3_see 115 = .ok (.ireturn, 1) := dk_172 (dk_at dksX3_see_4 21 rfl rfl)
abbrev cX3_lesser : ByteArray := prog_11_method_6_code
def yX3_lesser : MethodName := ⟨RX3, "lesser", "(II)I"⟩
def dkwX3_lesser_0 : List UInt8 := [26, 27, 162, 0, 7, 26, 167, 0, 4, 27, 172]
abbrev dktX3_lesser_0 : List UInt8 := dkwX3_lesser_0 ++ []
theorem dksX3_lesser_0 : cX3_lesser.data.toList.drop 0 = dktX3_lesser_0 := by decide +kernel
theorem dX3_lesser_0 : decode cX3_lesser 0 = .ok (.iload_n 0, 1) := dk_26 (dk_at dksX3_lesser_0 0 rfl rfl)
theorem dX3_lesser_1 : decode cX3_lesser 1 = .ok (.iload_n 1, 1) := dk_27 (dk_at dksX3_lesser_0 1 rfl rfl)
theorem dX3_lesser_2 : decode cX3_lesser 2 = .ok (.if_icmp .ge 7, 3) := dk_162 0 7 (dk_at dksX3_lesser_0 2 rfl rfl)
theorem dX3_lesser_5 : decode cX3_lesser 5 = .ok (.iload_n 0, 1) := dk_26 (dk_at dksX3_lesser_0 5 rfl rfl)
theorem dX3_lesser_6 : decode cX3_lesser 6 = .ok (.goto 4, 3) := dk_167 0 4 (dk_at dksX3_lesser_0 6 rfl rfl)
theorem dX3_lesser_9 : decode cX3_lesser 9 = .ok (.iload_n 1, 1) := dk_27 (dk_at dksX3_lesser_0 9 rfl rfl)
theorem dX3_lesser_10 : decode cX3_lesser 10 = .ok (.ireturn, 1) := dk_172 (dk_at dksX3_lesser_0 10 rfl rfl)
abbrev cX3_sees : ByteArray := prog_11_method_28_code
def yX3_sees : MethodName := ⟨RX3, "sees", "(IIIII)V"⟩
def dkwX3_sees_7 : List UInt8 := [154, 0, 7, 4, 167, 0, 5, 21, 8, 182, 0, 118, 177]
abbrev dktX3_sees_7 : List UInt8 := dkwX3_sees_7 ++ []
def dkwX3_sees_6 : List UInt8 := [182, 0, 146, 54, 8, 42, 4, 27, 21, 6, 21, 7, 21, 6, 154, 0, 17, 21, 7, 154, 0, 12, 21, 8]
abbrev dktX3_sees_6 : List UInt8 := dkwX3_sees_6 ++ dktX3_sees_7
def dkwX3_sees_5 : List UInt8 := [21, 6, 21, 5, 182, 0, 146, 54, 6, 42, 21, 7, 21, 5, 182, 0, 146, 54, 7, 42, 21, 8, 21, 5]
abbrev dktX3_sees_5 : List UInt8 := dkwX3_sees_5 ++ dktX3_sees_6
def dkwX3_sees_4 : List UInt8 := [162, 0, 22, 21, 6, 54, 10, 21, 7, 116, 54, 6, 21, 10, 54, 7, 132, 9, 1, 167, 255, 233, 42]
abbrev dktX3_sees_4 : List UInt8 := dkwX3_sees_4 ++ dktX3_sees_5
def dkwX3_sees_3 : List UInt8 := [21, 8, 54, 6, 21, 10, 116, 54, 8, 132, 9, 1, 167, 255, 234, 3, 54, 9, 21, 9, 21, 4]
abbrev dktX3_sees_3 : List UInt8 := dkwX3_sees_3 ++ dktX3_sees_4
def dkwX3_sees_2 : List UInt8 := [21, 10, 54, 8, 132, 9, 1, 167, 255, 234, 3, 54, 9, 21, 9, 29, 162, 0, 22, 21, 6, 54, 10]
abbrev dktX3_sees_2 : List UInt8 := dkwX3_sees_2 ++ dktX3_sees_3
def dkwX3_sees_1 : List UInt8 := [182, 0, 126, 54, 8, 3, 54, 9, 21, 9, 28, 162, 0, 22, 21, 7, 54, 10, 21, 8, 116, 54, 7]
abbrev dktX3_sees_1 : List UInt8 := dkwX3_sees_1 ++ dktX3_sees_2
def dkwX3_sees_0 : List UInt8 := [42, 3, 27, 3, 182, 0, 126, 54, 6, 42, 3, 27, 4, 182, 0, 126, 54, 7, 42, 3, 27, 5]
abbrev dktX3_sees_0 : List UInt8 := dkwX3_sees_0 ++ dktX3_sees_1
theorem dksX3_sees_0 : cX3_sees.data.toList.drop 0 = dktX3_sees_0 := by decide +kernel
theorem dksX3_sees_1 : cX3_sees.data.toList.drop 22 = dktX3_sees_1 := dk_seg dksX3_sees_0 22 rfl rfl
theorem dksX3_sees_2 : cX3_sees.data.toList.drop 45 = dktX3_sees_2 := dk_seg dksX3_sees_1 23 rfl rfl
theorem dksX3_sees_3 : cX3_sees.data.toList.drop 68 = dktX3_sees_3 := dk_seg dksX3_sees_2 23 rfl rfl
theorem dksX3_sees_4 : cX3_sees.data.toList.drop 90 = dktX3_sees_4 := dk_seg dksX3_sees_3 22 rfl rfl
theorem dksX3_sees_5 : cX3_sees.data.toList.drop 113 = dktX3_sees_5 := dk_seg dksX3_sees_4 23 rfl rfl
theorem dksX3_sees_6 : cX3_sees.data.toList.drop 137 = dktX3_sees_6 := dk_seg dksX3_sees_5 24 rfl rfl
theorem dksX3_sees_7 : cX3_sees.data.toList.drop 161 = dktX3_sees_7 := dk_seg dksX3_sees_6 24 rfl rfl
theorem dX3_sees_0 : decode cX3_sees 0 = .ok (.aload_n 0, 1) := dk_42 (dk_at dksX3_sees_0 0 rfl rfl)
theorem dX3_sees_1 : decode cX3_sees 1 = .ok (.iconst 0, 1) := dk_3 (dk_at dksX3_sees_0 1 rfl rfl)
theorem dX3_sees_2 : decode cX3_sees 2 = .ok (.iload_n 1, 1) := dk_27 (dk_at dksX3_sees_0 2 rfl rfl)
theorem dX3_sees_3 : decode cX3_sees 3 = .ok (.iconst 0, 1) := dk_3 (dk_at dksX3_sees_0 3 rfl rfl)
theorem dX3_sees_4 : decode cX3_sees 4 = .ok (.invokevirtual 126, 3) := dk_182 0 126 (dk_at dksX3_sees_0 4 rfl rfl)
theorem dX3_sees_7 : decode cX3_sees 7 = .ok (.istore 6, 2) := dk_54 6 (dk_at dksX3_sees_0 7 rfl rfl)
theorem dX3_sees_9 : decode cX3_sees 9 = .ok (.aload_n 0, 1) := dk_42 (dk_at dksX3_sees_0 9 rfl rfl)
theorem dX3_sees_10 : decode cX3_sees 10 = .ok (.iconst 0, 1) := dk_3 (dk_at dksX3_sees_0 10 rfl rfl)
theorem dX3_sees_11 : decode cX3_sees 11 = .ok (.iload_n 1, 1) := dk_27 (dk_at dksX3_sees_0 11 rfl rfl)
theorem dX3_sees_12 : decode cX3_sees 12 = .ok (.iconst 1, 1) := dk_4 (dk_at dksX3_sees_0 12 rfl rfl)
theorem dX3_sees_13 : decode cX3_sees 13 = .ok (.invokevirtual 126, 3) := dk_182 0 126 (dk_at dksX3_sees_0 13 rfl rfl)
theorem dX3_sees_16 : decode cX3_sees 16 = .ok (.istore 7, 2) := dk_54 7 (dk_at dksX3_sees_0 16 rfl rfl)
theorem dX3_sees_18 : decode cX3_sees 18 = .ok (.aload_n 0, 1) := dk_42 (dk_at dksX3_sees_0 18 rfl rfl)
theorem dX3_sees_19 : decode cX3_sees 19 = .ok (.iconst 0, 1) := dk_3 (dk_at dksX3_sees_0 19 rfl rfl)
theorem dX3_sees_20 : decode cX3_sees 20 = .ok (.iload_n 1, 1) := dk_27 (dk_at dksX3_sees_0 20 rfl rfl)
theorem dX3_sees_21 : decode cX3_sees 21 = .ok (.iconst 2, 1) := dk_5 (dk_at dksX3_sees_0 21 rfl rfl)
theorem dX3_sees_22 : decode cX3_sees 22 = .ok (.invokevirtual 126, 3) := dk_182 0 126 (dk_at dksX3_sees_1 0 rfl rfl)
theorem dX3_sees_25 : decode cX3_sees 25 = .ok (.istore 8, 2) := dk_54 8 (dk_at dksX3_sees_1 3 rfl rfl)
theorem dX3_sees_27 : decode cX3_sees 27 = .ok (.iconst 0, 1) := dk_3 (dk_at dksX3_sees_1 5 rfl rfl)
theorem dX3_sees_28 : decode cX3_sees 28 = .ok (.istore 9, 2) := dk_54 9 (dk_at dksX3_sees_1 6 rfl rfl)
theorem dX3_sees_30 : decode cX3_sees 30 = .ok (.iload 9, 2) := dk_21 9 (dk_at dksX3_sees_1 8 rfl rfl)
theorem dX3_sees_32 : decode cX3_sees 32 = .ok (.iload_n 2, 1) := dk_28 (dk_at dksX3_sees_1 10 rfl rfl)
theorem dX3_sees_33 : decode cX3_sees 33 = .ok (.if_icmp .ge 22, 3) := dk_162 0 22 (dk_at dksX3_sees_1 11 rfl rfl)
theorem dX3_sees_36 : decode cX3_sees 36 = .ok (.iload 7, 2) := dk_21 7 (dk_at dksX3_sees_1 14 rfl rfl)
theorem dX3_sees_38 : decode cX3_sees 38 = .ok (.istore 10, 2) := dk_54 10 (dk_at dksX3_sees_1 16 rfl rfl)
theorem dX3_sees_40 : decode cX3_sees 40 = .ok (.iload 8, 2) := dk_21 8 (dk_at dksX3_sees_1 18 rfl rfl)
theorem dX3_sees_42 : decode cX3_sees 42 = .ok (.ineg, 1) := dk_116 (dk_at dksX3_sees_1 20 rfl rfl)
theorem dX3_sees_43 : decode cX3_sees 43 = .ok (.istore 7, 2) := dk_54 7 (dk_at dksX3_sees_1 21 rfl rfl)
theorem dX3_sees_45 : decode cX3_sees 45 = .ok (.iload 10, 2) := dk_21 10 (dk_at dksX3_sees_2 0 rfl rfl)
theorem dX3_sees_47 : decode cX3_sees 47 = .ok (.istore 8, 2) := dk_54 8 (dk_at dksX3_sees_2 2 rfl rfl)
theorem dX3_sees_49 : decode cX3_sees 49 = .ok (.iinc 9 1, 3) := dk_132 9 1 (dk_at dksX3_sees_2 4 rfl rfl)
theorem dX3_sees_52 : decode cX3_sees 52 = .ok (.goto (-22), 3) := dk_167 255 234 (dk_at dksX3_sees_2 7 rfl rfl)
theorem dX3_sees_55 : decode cX3_sees 55 = .ok (.iconst 0, 1) := dk_3 (dk_at dksX3_sees_2 10 rfl rfl)
theorem dX3_sees_56 : decode cX3_sees 56 = .ok (.istore 9, 2) := dk_54 9 (dk_at dksX3_sees_2 11 rfl rfl)
theorem dX3_sees_58 : decode cX3_sees 58 = .ok (.iload 9, 2) := dk_21 9 (dk_at dksX3_sees_2 13 rfl rfl)
theorem dX3_sees_60 : decode cX3_sees 60 = .ok (.iload_n 3, 1) := dk_29 (dk_at dksX3_sees_2 15 rfl rfl)
theorem dX3_sees_61 : decode cX3_sees 61 = .ok (.if_icmp .ge 22, 3) := dk_162 0 22 (dk_at dksX3_sees_2 16 rfl rfl)
theorem dX3_sees_64 : decode cX3_sees 64 = .ok (.iload 6, 2) := dk_21 6 (dk_at dksX3_sees_2 19 rfl rfl)
theorem dX3_sees_66 : decode cX3_sees 66 = .ok (.istore 10, 2) := dk_54 10 (dk_at dksX3_sees_2 21 rfl rfl)
theorem dX3_sees_68 : decode cX3_sees 68 = .ok (.iload 8, 2) := dk_21 8 (dk_at dksX3_sees_3 0 rfl rfl)
theorem dX3_sees_70 : decode cX3_sees 70 = .ok (.istore 6, 2) := dk_54 6 (dk_at dksX3_sees_3 2 rfl rfl)
theorem dX3_sees_72 : decode cX3_sees 72 = .ok (.iload 10, 2) := dk_21 10 (dk_at dksX3_sees_3 4 rfl rfl)
theorem dX3_sees_74 : decode cX3_sees 74 = .ok (.ineg, 1) := dk_116 (dk_at dksX3_sees_3 6 rfl rfl)
theorem dX3_sees_75 : decode cX3_sees 75 = .ok (.istore 8, 2) := dk_54 8 (dk_at dksX3_sees_3 7 rfl rfl)
theorem dX3_sees_77 : decode cX3_sees 77 = .ok (.iinc 9 1, 3) := dk_132 9 1 (dk_at dksX3_sees_3 9 rfl rfl)
theorem dX3_sees_80 : decode cX3_sees 80 = .ok (.goto (-22), 3) := dk_167 255 234 (dk_at dksX3_sees_3 12 rfl rfl)
theorem dX3_sees_83 : decode cX3_sees 83 = .ok (.iconst 0, 1) := dk_3 (dk_at dksX3_sees_3 15 rfl rfl)
theorem dX3_sees_84 : decode cX3_sees 84 = .ok (.istore 9, 2) := dk_54 9 (dk_at dksX3_sees_3 16 rfl rfl)
theorem dX3_sees_86 : decode cX3_sees 86 = .ok (.iload 9, 2) := dk_21 9 (dk_at dksX3_sees_3 18 rfl rfl)
theorem dX3_sees_88 : decode cX3_sees 88 = .ok (.iload 4, 2) := dk_21 4 (dk_at dksX3_sees_3 20 rfl rfl)
theorem dX3_sees_90 : decode cX3_sees 90 = .ok (.if_icmp .ge 22, 3) := dk_162 0 22 (dk_at dksX3_sees_4 0 rfl rfl)
theorem dX3_sees_93 : decode cX3_sees 93 = .ok (.iload 6, 2) := dk_21 6 (dk_at dksX3_sees_4 3 rfl rfl)
theorem dX3_sees_95 : decode cX3_sees 95 = .ok (.istore 10, 2) := dk_54 10 (dk_at dksX3_sees_4 5 rfl rfl)
theorem dX3_sees_97 : decode cX3_sees 97 = .ok (.iload 7, 2) := dk_21 7 (dk_at dksX3_sees_4 7 rfl rfl)
theorem dX3_sees_99 : decode cX3_sees 99 = .ok (.ineg, 1) := dk_116 (dk_at dksX3_sees_4 9 rfl rfl)
theorem dX3_sees_100 : decode cX3_sees 100 = .ok (.istore 6, 2) := dk_54 6 (dk_at dksX3_sees_4 10 rfl rfl)
theorem dX3_sees_102 : decode cX3_sees 102 = .ok (.iload 10, 2) := dk_21 10 (dk_at dksX3_sees_4 12 rfl rfl)
theorem dX3_sees_104 : decode cX3_sees 104 = .ok (.istore 7, 2) := dk_54 7 (dk_at dksX3_sees_4 14 rfl rfl)
theorem dX3_sees_106 : decode cX3_sees 106 = .ok (.iinc 9 1, 3) := dk_132 9 1 (dk_at dksX3_sees_4 16 rfl rfl)
theorem dX3_sees_109 : decode cX3_sees 109 = .ok (.goto (-23), 3) := dk_167 255 233 (dk_at dksX3_sees_4 19 rfl rfl)
theorem dX3_sees_112 : decode cX3_sees 112 = .ok (.aload_n 0, 1) := dk_42 (dk_at dksX3_sees_4 22 rfl rfl)
theorem dX3_sees_113 : decode cX3_sees 113 = .ok (.iload 6, 2) := dk_21 6 (dk_at dksX3_sees_5 0 rfl rfl)
theorem dX3_sees_115 : decode cX3_sees 115 = .ok (.iload 5, 2) := dk_21 5 (dk_at dksX3_sees_5 2 rfl rfl)
theorem dX3_sees_117 : decode cX3_sees 117 = .ok (.invokevirtual 146, 3) := dk_182 0 146 (dk_at dksX3_sees_5 4 rfl rfl)
theorem dX3_sees_120 : decode cX3_sees 120 = .ok (.istore 6, 2) := dk_54 6 (dk_at dksX3_sees_5 7 rfl rfl)
theorem dX3_sees_122 : decode cX3_sees 122 = .ok (.aload_n 0, 1) := dk_42 (dk_at dksX3_sees_5 9 rfl rfl)
theorem dX3_sees_123 : decode cX3_sees 123 = .ok (.iload 7, 2) := dk_21 7 (dk_at dksX3_sees_5 10 rfl rfl)
theorem dX3_sees_125 : decode cX3_sees 125 = .ok (.iload 5, 2) := dk_21 5 (dk_at dksX3_sees_5 12 rfl rfl)
theorem dX3_sees_127 : decode cX3_sees 127 = .ok (.invokevirtual 146, 3) := dk_182 0 146 (dk_at dksX3_sees_5 14 rfl rfl)
theorem dX3_sees_130 : decode cX3_sees 130 = .ok (.istore 7, 2) := dk_54 7 (dk_at dksX3_sees_5 17 rfl rfl)
theorem dX3_sees_132 : decode cX3_sees 132 = .ok (.aload_n 0, 1) := dk_42 (dk_at dksX3_sees_5 19 rfl rfl)
theorem dX3_sees_133 : decode cX3_sees 133 = .ok (.iload 8, 2) := dk_21 8 (dk_at dksX3_sees_5 20 rfl rfl)
theorem dX3_sees_135 : decode cX3_sees 135 = .ok (.iload 5, 2) := dk_21 5 (dk_at dksX3_sees_5 22 rfl rfl)
theorem dX3_sees_137 : decode cX3_sees 137 = .ok (.invokevirtual 146, 3) := dk_182 0 146 (dk_at dksX3_sees_6 0 rfl rfl)
theorem dX3_sees_140 : decode cX3_sees 140 = .ok (.istore 8, 2) := dk_54 8 (dk_at dksX3_sees_6 3 rfl rfl)
theorem dX3_sees_142 : decode cX3_sees 142 = .ok (.aload_n 0, 1) := dk_42 (dk_at dksX3_sees_6 5 rfl rfl)
theorem dX3_sees_143 : decode cX3_sees 143 = .ok (.iconst 1, 1) := dk_4 (dk_at dksX3_sees_6 6 rfl rfl)
theorem dX3_sees_144 : decode cX3_sees 144 = .ok (.iload_n 1, 1) := dk_27 (dk_at dksX3_sees_6 7 rfl rfl)
theorem dX3_sees_145 : decode cX3_sees 145 = .ok (.iload 6, 2) := dk_21 6 (dk_at dksX3_sees_6 8 rfl rfl)
theorem dX3_sees_147 : decode cX3_sees 147 = .ok (.iload 7, 2) := dk_21 7 (dk_at dksX3_sees_6 10 rfl rfl)
theorem dX3_sees_149 : decode cX3_sees 149 = .ok (.iload 6, 2) := dk_21 6 (dk_at dksX3_sees_6 12 rfl rfl)
theorem dX3_sees_151 : decode cX3_sees 151 = .ok (.ifCond .ne 17, 3) := dk_154 0 17 (dk_at dksX3_sees_6 14 rfl rfl)
theorem dX3_sees_154 : decode cX3_sees 154 = .ok (.iload 7, 2) := dk_21 7 (dk_at dksX3_sees_6 17 rfl rfl)
theorem dX3_sees_156 : decode cX3_sees 156 = .ok (.ifCond .ne 12, 3) := dk_154 0 12 (dk_at dksX3_sees_6 19 rfl rfl)
theorem dX3_sees_159 : decode cX3_sees 159 = .ok (.iload 8, 2) := dk_21 8 (dk_at dksX3_sees_6 22 rfl rfl)
theorem dX3_sees_161 : decode cX3_sees 161 = .ok (.ifCond .ne 7, 3) := dk_154 0 7 (dk_at dksX3_sees_7 0 rfl rfl)
theorem dX3_sees_164 : decode cX3_sees 164 = .ok (.iconst 1, 1) := dk_4 (dk_at dksX3_sees_7 3 rfl rfl)
theorem dX3_sees_165 : decode cX3_sees 165 = .ok (.goto 5, 3) := dk_167 0 5 (dk_at dksX3_sees_7 4 rfl rfl)
theorem dX3_sees_168 : decode cX3_sees 168 = .ok (.iload 8, 2) := dk_21 8 (dk_at dksX3_sees_7 7 rfl rfl)
theorem dX3_sees_170 : decode cX3_sees 170 = .ok (.invokevirtual 118, 3) := dk_182 0 118 (dk_at dksX3_sees_7 9 rfl rfl)
theorem dX3_sees_173 : decode cX3_sees 173 = .ok (.return_, 1) := dk_177 (dk_at dksX3_sees_7 12 rfl rfl)
abbrev cX3_noisy : ByteArray := prog_11_method_27_code
def yX3_noisy : MethodName := ⟨RX3, "noisy", "(II)I"⟩
def dkwX3_noisy_1 : List UInt8 := [16, 156, 184, 0, 140, 16, 100, 184, 0, 143, 172]
abbrev dktX3_noisy_1 : List UInt8 := dkwX3_noisy_1 ++ []
def dkwX3_noisy_0 : List UInt8 := [28, 154, 0, 7, 27, 167, 0, 16, 27, 42, 5, 28, 104, 4, 96, 182, 0, 137, 96, 28, 100, 62, 29]
abbrev dktX3_noisy_0 : List UInt8 := dkwX3_noisy_0 ++ dktX3_noisy_1
theorem dksX3_noisy_0 : cX3_noisy.data.toList.drop 0 = dktX3_noisy_0 := by decide +kernel
theorem dksX3_noisy_1 : cX3_noisy.data.toList.drop 23 = dktX3_noisy_1 := dk_seg dksX3_noisy_0 23 rfl rfl
theorem dX3_noisy_0 : decode cX3_noisy 0 = .ok (.iload_n 2, 1) := dk_28 (dk_at dksX3_noisy_0 0 rfl rfl)
theorem dX3_noisy_1 : decode cX3_noisy 1 = .ok (.ifCond .ne 7, 3) := dk_154 0 7 (dk_at dksX3_noisy_0 1 rfl rfl)
theorem dX3_noisy_4 : decode cX3_noisy 4 = .ok (.iload_n 1, 1) := dk_27 (dk_at dksX3_noisy_0 4 rfl rfl)
theorem dX3_noisy_5 : decode cX3_noisy 5 = .ok (.goto 16, 3) := dk_167 0 16 (dk_at dksX3_noisy_0 5 rfl rfl)
theorem dX3_noisy_8 : decode cX3_noisy 8 = .ok (.iload_n 1, 1) := dk_27 (dk_at dksX3_noisy_0 8 rfl rfl)
theorem dX3_noisy_9 : decode cX3_noisy 9 = .ok (.aload_n 0, 1) := dk_42 (dk_at dksX3_noisy_0 9 rfl rfl)
theorem dX3_noisy_10 : decode cX3_noisy 10 = .ok (.iconst 2, 1) := dk_5 (dk_at dksX3_noisy_0 10 rfl rfl)
theorem dX3_noisy_11 : decode cX3_noisy 11 = .ok (.iload_n 2, 1) := dk_28 (dk_at dksX3_noisy_0 11 rfl rfl)
theorem dX3_noisy_12 : decode cX3_noisy 12 = .ok (.imul, 1) := dk_104 (dk_at dksX3_noisy_0 12 rfl rfl)
theorem dX3_noisy_13 : decode cX3_noisy 13 = .ok (.iconst 1, 1) := dk_4 (dk_at dksX3_noisy_0 13 rfl rfl)
theorem dX3_noisy_14 : decode cX3_noisy 14 = .ok (.iadd, 1) := dk_96 (dk_at dksX3_noisy_0 14 rfl rfl)
theorem dX3_noisy_15 : decode cX3_noisy 15 = .ok (.invokevirtual 137, 3) := dk_182 0 137 (dk_at dksX3_noisy_0 15 rfl rfl)
theorem dX3_noisy_18 : decode cX3_noisy 18 = .ok (.iadd, 1) := dk_96 (dk_at dksX3_noisy_0 18 rfl rfl)
theorem dX3_noisy_19 : decode cX3_noisy 19 = .ok (.iload_n 2, 1) := dk_28 (dk_at dksX3_noisy_0 19 rfl rfl)
theorem dX3_noisy_20 : decode cX3_noisy 20 = .ok (.isub, 1) := dk_100 (dk_at dksX3_noisy_0 20 rfl rfl)
theorem dX3_noisy_21 : decode cX3_noisy 21 = .ok (.istore_n 3, 1) := dk_62 (dk_at dksX3_noisy_0 21 rfl rfl)
theorem dX3_noisy_22 : decode cX3_noisy 22 = .ok (.iload_n 3, 1) := dk_29 (dk_at dksX3_noisy_0 22 rfl rfl)
theorem dX3_noisy_23 : decode cX3_noisy 23 = .ok (.bipush (-100), 2) := dk_16 156 (dk_at dksX3_noisy_1 0 rfl rfl)
theorem dX3_noisy_25 : decode cX3_noisy 25 = .ok (.invokestatic 140, 3) := dk_184 0 140 (dk_at dksX3_noisy_1 2 rfl rfl)
theorem dX3_noisy_28 : decode cX3_noisy 28 = .ok (.bipush 100, 2) := dk_16 100 (dk_at dksX3_noisy_1 5 rfl rfl)
theorem dX3_noisy_30 : decode cX3_noisy 30 = .ok (.invokestatic 143, 3) := dk_184 0 143 (dk_at dksX3_noisy_1 7 rfl rfl)
theorem dX3_noisy_33 : decode cX3_noisy 33 = .ok (.ireturn, 1) := dk_172 (dk_at dksX3_noisy_1 10 rfl rfl)
abbrev cX3_lot : ByteArray := prog_11_method_26_code
def yX3_lot : MethodName := ⟨RX3, "lot", "(I)I"⟩
def dkwX3_lot_1 : List UInt8 := [172]
abbrev dktX3_lot_1 : List UInt8 := dkwX3_lot_1 ++ []
def dkwX3_lot_0 : List UInt8 := [42, 18, 133, 42, 180, 0, 134, 104, 17, 48, 57, 96, 181, 0, 134, 42, 180, 0, 134, 16, 16, 124, 27, 112]
abbrev dktX3_lot_0 : List UInt8 := dkwX3_lot_0 ++ dktX3_lot_1
theorem dksX3_lot_0 : cX3_lot.data.toList.drop 0 = dktX3_lot_0 := by decide +kernel
theorem dksX3_lot_1 : cX3_lot.data.toList.drop 24 = dktX3_lot_1 := dk_seg dksX3_lot_0 24 rfl rfl
theorem dX3_lot_0 : decode cX3_lot 0 = .ok (.aload_n 0, 1) := dk_42 (dk_at dksX3_lot_0 0 rfl rfl)
theorem dX3_lot_1 : decode cX3_lot 1 = .ok (.ldc 133, 2) := dk_18 133 (dk_at dksX3_lot_0 1 rfl rfl)
theorem dX3_lot_3 : decode cX3_lot 3 = .ok (.aload_n 0, 1) := dk_42 (dk_at dksX3_lot_0 3 rfl rfl)
theorem dX3_lot_4 : decode cX3_lot 4 = .ok (.getfield 134, 3) := dk_180 0 134 (dk_at dksX3_lot_0 4 rfl rfl)
theorem dX3_lot_7 : decode cX3_lot 7 = .ok (.imul, 1) := dk_104 (dk_at dksX3_lot_0 7 rfl rfl)
theorem dX3_lot_8 : decode cX3_lot 8 = .ok (.sipush 12345, 3) := dk_17 48 57 (dk_at dksX3_lot_0 8 rfl rfl)
theorem dX3_lot_11 : decode cX3_lot 11 = .ok (.iadd, 1) := dk_96 (dk_at dksX3_lot_0 11 rfl rfl)
theorem dX3_lot_12 : decode cX3_lot 12 = .ok (.putfield 134, 3) := dk_181 0 134 (dk_at dksX3_lot_0 12 rfl rfl)
theorem dX3_lot_15 : decode cX3_lot 15 = .ok (.aload_n 0, 1) := dk_42 (dk_at dksX3_lot_0 15 rfl rfl)
theorem dX3_lot_16 : decode cX3_lot 16 = .ok (.getfield 134, 3) := dk_180 0 134 (dk_at dksX3_lot_0 16 rfl rfl)
theorem dX3_lot_19 : decode cX3_lot 19 = .ok (.bipush 16, 2) := dk_16 16 (dk_at dksX3_lot_0 19 rfl rfl)
theorem dX3_lot_21 : decode cX3_lot 21 = .ok (.iushr, 1) := dk_124 (dk_at dksX3_lot_0 21 rfl rfl)
theorem dX3_lot_22 : decode cX3_lot 22 = .ok (.iload_n 1, 1) := dk_27 (dk_at dksX3_lot_0 22 rfl rfl)
theorem dX3_lot_23 : decode cX3_lot 23 = .ok (.irem, 1) := dk_112 (dk_at dksX3_lot_0 23 rfl rfl)
theorem dX3_lot_24 : decode cX3_lot 24 = .ok (.ireturn, 1) := dk_172 (dk_at dksX3_lot_1 0 rfl rfl)
abbrev cX3_greater : ByteArray := prog_11_method_7_code
def yX3_greater : MethodName := ⟨RX3, "greater", "(II)I"⟩
def dkwX3_greater_0 : List UInt8 := [26, 27, 164, 0, 7, 26, 167, 0, 4, 27, 172]
abbrev dktX3_greater_0 : List UInt8 := dkwX3_greater_0 ++ []
theorem dksX3_greater_0 : cX3_greater.data.toList.drop 0 = dktX3_greater_0 := by decide +kernel
theorem dX3_greater_0 : decode cX3_greater 0 = .ok (.iload_n 0, 1) := dk_26 (dk_at dksX3_greater_0 0 rfl rfl)
theorem dX3_greater_1 : decode cX3_greater 1 = .ok (.iload_n 1, 1) := dk_27 (dk_at dksX3_greater_0 1 rfl rfl)
theorem dX3_greater_2 : decode cX3_greater 2 = .ok (.if_icmp .le 7, 3) := dk_164 0 7 (dk_at dksX3_greater_0 2 rfl rfl)
theorem dX3_greater_5 : decode cX3_greater 5 = .ok (.iload_n 0, 1) := dk_26 (dk_at dksX3_greater_0 5 rfl rfl)
theorem dX3_greater_6 : decode cX3_greater 6 = .ok (.goto 4, 3) := dk_167 0 4 (dk_at dksX3_greater_0 6 rfl rfl)
theorem dX3_greater_9 : decode cX3_greater 9 = .ok (.iload_n 1, 1) := dk_27 (dk_at dksX3_greater_0 9 rfl rfl)
theorem dX3_greater_10 : decode cX3_greater 10 = .ok (.ireturn, 1) := dk_172 (dk_at dksX3_greater_0 10 rfl rfl)
abbrev cX3_set : ByteArray := prog_11_method_30_code
def yX3_set : MethodName := ⟨RX3, "set", "(II)I"⟩
def dkwX3_set_4 : List UInt8 := [21, 4, 172]
abbrev dktX3_set_4 : List UInt8 := dkwX3_set_4 ++ []
def dkwX3_set_3 : List UInt8 := [3, 62, 29, 154, 0, 6, 16, 254, 172, 42, 180, 0, 28, 27, 46, 54, 4, 42, 180, 0, 28, 27, 28, 79]
abbrev dktX3_set_3 : List UInt8 := dkwX3_set_3 ++ dktX3_set_4
def dkwX3_set_2 : List UInt8 := [167, 0, 25, 27, 6, 160, 0, 19, 28, 133, 9, 20, 0, 156, 184, 0, 76, 153, 0, 7, 4, 167, 0, 4]
abbrev dktX3_set_2 : List UInt8 := dkwX3_set_2 ++ dktX3_set_3
def dkwX3_set_1 : List UInt8 := [20, 0, 152, 184, 0, 76, 167, 0, 42, 27, 5, 160, 0, 15, 28, 133, 10, 20, 0, 154, 184, 0, 76]
abbrev dktX3_set_1 : List UInt8 := dkwX3_set_1 ++ dktX3_set_2
def dkwX3_set_0 : List UInt8 := [27, 154, 0, 15, 28, 133, 10, 20, 0, 152, 184, 0, 76, 167, 0, 59, 27, 4, 160, 0, 15, 28, 133, 9]
abbrev dktX3_set_0 : List UInt8 := dkwX3_set_0 ++ dktX3_set_1
theorem dksX3_set_0 : cX3_set.data.toList.drop 0 = dktX3_set_0 := by decide +kernel
theorem dksX3_set_1 : cX3_set.data.toList.drop 24 = dktX3_set_1 := dk_seg dksX3_set_0 24 rfl rfl
theorem dksX3_set_2 : cX3_set.data.toList.drop 47 = dktX3_set_2 := dk_seg dksX3_set_1 23 rfl rfl
theorem dksX3_set_3 : cX3_set.data.toList.drop 71 = dktX3_set_3 := dk_seg dksX3_set_2 24 rfl rfl
theorem dksX3_set_4 : cX3_set.data.toList.drop 95 = dktX3_set_4 := dk_seg dksX3_set_3 24 rfl rfl
theorem dX3_set_0 : decode cX3_set 0 = .ok (.iload_n 1, 1) := dk_27 (dk_at dksX3_set_0 0 rfl rfl)
theorem dX3_set_1 : decode cX3_set 1 = .ok (.ifCond .ne 15, 3) := dk_154 0 15 (dk_at dksX3_set_0 1 rfl rfl)
theorem dX3_set_4 : decode cX3_set 4 = .ok (.iload_n 2, 1) := dk_28 (dk_at dksX3_set_0 4 rfl rfl)
theorem dX3_set_5 : decode cX3_set 5 = .ok (.i2l, 1) := dk_133 (dk_at dksX3_set_0 5 rfl rfl)
theorem dX3_set_6 : decode cX3_set 6 = .ok (.lconst 1, 1) := dk_10 (dk_at dksX3_set_0 6 rfl rfl)
theorem dX3_set_7 : decode cX3_set 7 = .ok (.ldc2_w 152, 3) := dk_20 0 152 (dk_at dksX3_set_0 7 rfl rfl)
theorem dX3_set_10 : decode cX3_set 10 = .ok (.invokestatic 76, 3) := dk_184 0 76 (dk_at dksX3_set_0 10 rfl rfl)
theorem dX3_set_13 : decode cX3_set 13 = .ok (.goto 59, 3) := dk_167 0 59 (dk_at dksX3_set_0 13 rfl rfl)
theorem dX3_set_16 : decode cX3_set 16 = .ok (.iload_n 1, 1) := dk_27 (dk_at dksX3_set_0 16 rfl rfl)
theorem dX3_set_17 : decode cX3_set 17 = .ok (.iconst 1, 1) := dk_4 (dk_at dksX3_set_0 17 rfl rfl)
theorem dX3_set_18 : decode cX3_set 18 = .ok (.if_icmp .ne 15, 3) := dk_160 0 15 (dk_at dksX3_set_0 18 rfl rfl)
theorem dX3_set_21 : decode cX3_set 21 = .ok (.iload_n 2, 1) := dk_28 (dk_at dksX3_set_0 21 rfl rfl)
theorem dX3_set_22 : decode cX3_set 22 = .ok (.i2l, 1) := dk_133 (dk_at dksX3_set_0 22 rfl rfl)
theorem dX3_set_23 : decode cX3_set 23 = .ok (.lconst 0, 1) := dk_9 (dk_at dksX3_set_0 23 rfl rfl)
theorem dX3_set_24 : decode cX3_set 24 = .ok (.ldc2_w 152, 3) := dk_20 0 152 (dk_at dksX3_set_1 0 rfl rfl)
theorem dX3_set_27 : decode cX3_set 27 = .ok (.invokestatic 76, 3) := dk_184 0 76 (dk_at dksX3_set_1 3 rfl rfl)
theorem dX3_set_30 : decode cX3_set 30 = .ok (.goto 42, 3) := dk_167 0 42 (dk_at dksX3_set_1 6 rfl rfl)
theorem dX3_set_33 : decode cX3_set 33 = .ok (.iload_n 1, 1) := dk_27 (dk_at dksX3_set_1 9 rfl rfl)
theorem dX3_set_34 : decode cX3_set 34 = .ok (.iconst 2, 1) := dk_5 (dk_at dksX3_set_1 10 rfl rfl)
theorem dX3_set_35 : decode cX3_set 35 = .ok (.if_icmp .ne 15, 3) := dk_160 0 15 (dk_at dksX3_set_1 11 rfl rfl)
theorem dX3_set_38 : decode cX3_set 38 = .ok (.iload_n 2, 1) := dk_28 (dk_at dksX3_set_1 14 rfl rfl)
theorem dX3_set_39 : decode cX3_set 39 = .ok (.i2l, 1) := dk_133 (dk_at dksX3_set_1 15 rfl rfl)
theorem dX3_set_40 : decode cX3_set 40 = .ok (.lconst 1, 1) := dk_10 (dk_at dksX3_set_1 16 rfl rfl)
theorem dX3_set_41 : decode cX3_set 41 = .ok (.ldc2_w 154, 3) := dk_20 0 154 (dk_at dksX3_set_1 17 rfl rfl)
theorem dX3_set_44 : decode cX3_set 44 = .ok (.invokestatic 76, 3) := dk_184 0 76 (dk_at dksX3_set_1 20 rfl rfl)
theorem dX3_set_47 : decode cX3_set 47 = .ok (.goto 25, 3) := dk_167 0 25 (dk_at dksX3_set_2 0 rfl rfl)
theorem dX3_set_50 : decode cX3_set 50 = .ok (.iload_n 1, 1) := dk_27 (dk_at dksX3_set_2 3 rfl rfl)
theorem dX3_set_51 : decode cX3_set 51 = .ok (.iconst 3, 1) := dk_6 (dk_at dksX3_set_2 4 rfl rfl)
theorem dX3_set_52 : decode cX3_set 52 = .ok (.if_icmp .ne 19, 3) := dk_160 0 19 (dk_at dksX3_set_2 5 rfl rfl)
theorem dX3_set_55 : decode cX3_set 55 = .ok (.iload_n 2, 1) := dk_28 (dk_at dksX3_set_2 8 rfl rfl)
theorem dX3_set_56 : decode cX3_set 56 = .ok (.i2l, 1) := dk_133 (dk_at dksX3_set_2 9 rfl rfl)
theorem dX3_set_57 : decode cX3_set 57 = .ok (.lconst 0, 1) := dk_9 (dk_at dksX3_set_2 10 rfl rfl)
theorem dX3_set_58 : decode cX3_set 58 = .ok (.ldc2_w 156, 3) := dk_20 0 156 (dk_at dksX3_set_2 11 rfl rfl)
theorem dX3_set_61 : decode cX3_set 61 = .ok (.invokestatic 76, 3) := dk_184 0 76 (dk_at dksX3_set_2 14 rfl rfl)
theorem dX3_set_64 : decode cX3_set 64 = .ok (.ifCond .eq 7, 3) := dk_153 0 7 (dk_at dksX3_set_2 17 rfl rfl)
theorem dX3_set_67 : decode cX3_set 67 = .ok (.iconst 1, 1) := dk_4 (dk_at dksX3_set_2 20 rfl rfl)
theorem dX3_set_68 : decode cX3_set 68 = .ok (.goto 4, 3) := dk_167 0 4 (dk_at dksX3_set_2 21 rfl rfl)
theorem dX3_set_71 : decode cX3_set 71 = .ok (.iconst 0, 1) := dk_3 (dk_at dksX3_set_3 0 rfl rfl)
theorem dX3_set_72 : decode cX3_set 72 = .ok (.istore_n 3, 1) := dk_62 (dk_at dksX3_set_3 1 rfl rfl)
theorem dX3_set_73 : decode cX3_set 73 = .ok (.iload_n 3, 1) := dk_29 (dk_at dksX3_set_3 2 rfl rfl)
theorem dX3_set_74 : decode cX3_set 74 = .ok (.ifCond .ne 6, 3) := dk_154 0 6 (dk_at dksX3_set_3 3 rfl rfl)
theorem dX3_set_77 : decode cX3_set 77 = .ok (.bipush (-2), 2) := dk_16 254 (dk_at dksX3_set_3 6 rfl rfl)
theorem dX3_set_79 : decode cX3_set 79 = .ok (.ireturn, 1) := dk_172 (dk_at dksX3_set_3 8 rfl rfl)
theorem dX3_set_80 : decode cX3_set 80 = .ok (.aload_n 0, 1) := dk_42 (dk_at dksX3_set_3 9 rfl rfl)
theorem dX3_set_81 : decode cX3_set 81 = .ok (.getfield 28, 3) := dk_180 0 28 (dk_at dksX3_set_3 10 rfl rfl)
theorem dX3_set_84 : decode cX3_set 84 = .ok (.iload_n 1, 1) := dk_27 (dk_at dksX3_set_3 13 rfl rfl)
theorem dX3_set_85 : decode cX3_set 85 = .ok (.iaload, 1) := dk_46 (dk_at dksX3_set_3 14 rfl rfl)
theorem dX3_set_86 : decode cX3_set 86 = .ok (.istore 4, 2) := dk_54 4 (dk_at dksX3_set_3 15 rfl rfl)
theorem dX3_set_88 : decode cX3_set 88 = .ok (.aload_n 0, 1) := dk_42 (dk_at dksX3_set_3 17 rfl rfl)
theorem dX3_set_89 : decode cX3_set 89 = .ok (.getfield 28, 3) := dk_180 0 28 (dk_at dksX3_set_3 18 rfl rfl)
theorem dX3_set_92 : decode cX3_set 92 = .ok (.iload_n 1, 1) := dk_27 (dk_at dksX3_set_3 21 rfl rfl)
theorem dX3_set_93 : decode cX3_set 93 = .ok (.iload_n 2, 1) := dk_28 (dk_at dksX3_set_3 22 rfl rfl)
theorem dX3_set_94 : decode cX3_set 94 = .ok (.iastore, 1) := dk_79 (dk_at dksX3_set_3 23 rfl rfl)
theorem dX3_set_95 : decode cX3_set 95 = .ok (.iload 4, 2) := dk_21 4 (dk_at dksX3_set_4 0 rfl rfl)
theorem dX3_set_97 : decode cX3_set 97 = .ok (.ireturn, 1) := dk_172 (dk_at dksX3_set_4 2 rfl rfl)
abbrev cX3_side : ByteArray := prog_11_method_32_code
def yX3_side : MethodName := ⟨RX3, "side", "(III)I"⟩
def dkwX3_side_1 : List UInt8 := [182, 0, 158, 167, 0, 5, 16, 254, 172]
abbrev dktX3_side_1 : List UInt8 := dkwX3_side_1 ++ []
def dkwX3_side_0 : List UInt8 := [42, 27, 28, 182, 0, 122, 153, 0, 22, 42, 27, 29, 182, 0, 122, 153, 0, 13, 42, 27, 28, 29]
abbrev dktX3_side_0 : List UInt8 := dkwX3_side_0 ++ dktX3_side_1
theorem dksX3_side_0 : cX3_side.data.toList.drop 0 = dktX3_side_0 := by decide +kernel
theorem dksX3_side_1 : cX3_side.data.toList.drop 22 = dktX3_side_1 := dk_seg dksX3_side_0 22 rfl rfl
theorem dX3_side_0 : decode cX3_side 0 = .ok (.aload_n 0, 1) := dk_42 (dk_at dksX3_side_0 0 rfl rfl)
theorem dX3_side_1 : decode cX3_side 1 = .ok (.iload_n 1, 1) := dk_27 (dk_at dksX3_side_0 1 rfl rfl)
theorem dX3_side_2 : decode cX3_side 2 = .ok (.iload_n 2, 1) := dk_28 (dk_at dksX3_side_0 2 rfl rfl)
theorem dX3_side_3 : decode cX3_side 3 = .ok (.invokevirtual 122, 3) := dk_182 0 122 (dk_at dksX3_side_0 3 rfl rfl)
theorem dX3_side_6 : decode cX3_side 6 = .ok (.ifCond .eq 22, 3) := dk_153 0 22 (dk_at dksX3_side_0 6 rfl rfl)
theorem dX3_side_9 : decode cX3_side 9 = .ok (.aload_n 0, 1) := dk_42 (dk_at dksX3_side_0 9 rfl rfl)
theorem dX3_side_10 : decode cX3_side 10 = .ok (.iload_n 1, 1) := dk_27 (dk_at dksX3_side_0 10 rfl rfl)
theorem dX3_side_11 : decode cX3_side 11 = .ok (.iload_n 3, 1) := dk_29 (dk_at dksX3_side_0 11 rfl rfl)
theorem dX3_side_12 : decode cX3_side 12 = .ok (.invokevirtual 122, 3) := dk_182 0 122 (dk_at dksX3_side_0 12 rfl rfl)
theorem dX3_side_15 : decode cX3_side 15 = .ok (.ifCond .eq 13, 3) := dk_153 0 13 (dk_at dksX3_side_0 15 rfl rfl)
theorem dX3_side_18 : decode cX3_side 18 = .ok (.aload_n 0, 1) := dk_42 (dk_at dksX3_side_0 18 rfl rfl)
theorem dX3_side_19 : decode cX3_side 19 = .ok (.iload_n 1, 1) := dk_27 (dk_at dksX3_side_0 19 rfl rfl)
theorem dX3_side_20 : decode cX3_side 20 = .ok (.iload_n 2, 1) := dk_28 (dk_at dksX3_side_0 20 rfl rfl)
theorem dX3_side_21 : decode cX3_side 21 = .ok (.iload_n 3, 1) := dk_29 (dk_at dksX3_side_0 21 rfl rfl)
theorem dX3_side_22 : decode cX3_side 22 = .ok (.invokevirtual 158, 3) := dk_182 0 158 (dk_at dksX3_side_1 0 rfl rfl)
theorem dX3_side_25 : decode cX3_side 25 = .ok (.goto 5, 3) := dk_167 0 5 (dk_at dksX3_side_1 3 rfl rfl)
theorem dX3_side_28 : decode cX3_side 28 = .ok (.bipush (-2), 2) := dk_16 254 (dk_at dksX3_side_1 6 rfl rfl)
theorem dX3_side_30 : decode cX3_side 30 = .ok (.ireturn, 1) := dk_172 (dk_at dksX3_side_1 8 rfl rfl)
abbrev cX3_sideOf : ByteArray := prog_11_method_31_code
def yX3_sideOf : MethodName := ⟨RX3, "sideOf", "(III)I"⟩
def dkwX3_sideOf_2 : List UInt8 := [21, 4, 172]
abbrev dktX3_sideOf_2 : List UInt8 := dkwX3_sideOf_2 ++ []
def dkwX3_sideOf_1 : List UInt8 := [21, 5, 182, 0, 126, 100, 54, 6, 21, 4, 21, 6, 21, 6, 104, 96, 54, 4, 132, 5, 1, 167, 255, 218]
abbrev dktX3_sideOf_1 : List UInt8 := dkwX3_sideOf_1 ++ dktX3_sideOf_2
def dkwX3_sideOf_0 : List UInt8 := [3, 54, 4, 3, 54, 5, 21, 5, 6, 162, 0, 38, 42, 27, 28, 21, 5, 182, 0, 126, 42, 27, 29]
abbrev dktX3_sideOf_0 : List UInt8 := dkwX3_sideOf_0 ++ dktX3_sideOf_1
theorem dksX3_sideOf_0 : cX3_sideOf.data.toList.drop 0 = dktX3_sideOf_0 := by decide +kernel
theorem dksX3_sideOf_1 : cX3_sideOf.data.toList.drop 23 = dktX3_sideOf_1 := dk_seg dksX3_sideOf_0 23 rfl rfl
theorem dksX3_sideOf_2 : cX3_sideOf.data.toList.drop 47 = dktX3_sideOf_2 := dk_seg dksX3_sideOf_1 24 rfl rfl
theorem dX3_sideOf_0 : decode cX3_sideOf 0 = .ok (.iconst 0, 1) := dk_3 (dk_at dksX3_sideOf_0 0 rfl rfl)
theorem dX3_sideOf_1 : decode cX3_sideOf 1 = .ok (.istore 4, 2) := dk_54 4 (dk_at dksX3_sideOf_0 1 rfl rfl)
theorem dX3_sideOf_3 : decode cX3_sideOf 3 = .ok (.iconst 0, 1) := dk_3 (dk_at dksX3_sideOf_0 3 rfl rfl)
theorem dX3_sideOf_4 : decode cX3_sideOf 4 = .ok (.istore 5, 2) := dk_54 5 (dk_at dksX3_sideOf_0 4 rfl rfl)
theorem dX3_sideOf_6 : decode cX3_sideOf 6 = .ok (.iload 5, 2) := dk_21 5 (dk_at dksX3_sideOf_0 6 rfl rfl)
theorem dX3_sideOf_8 : decode cX3_sideOf 8 = .ok (.iconst 3, 1) := dk_6 (dk_at dksX3_sideOf_0 8 rfl rfl)
theorem dX3_sideOf_9 : decode cX3_sideOf 9 = .ok (.if_icmp .ge 38, 3) := dk_162 0 38 (dk_at dksX3_sideOf_0 9 rfl rfl)
theorem dX3_sideOf_12 : decode cX3_sideOf 12 = .ok (.aload_n 0, 1) := dk_42 (dk_at dksX3_sideOf_0 12 rfl rfl)
theorem dX3_sideOf_13 : decode cX3_sideOf 13 = .ok (.iload_n 1, 1) := dk_27 (dk_at dksX3_sideOf_0 13 rfl rfl)
theorem dX3_sideOf_14 : decode cX3_sideOf 14 = .ok (.iload_n 2, 1) := dk_28 (dk_at dksX3_sideOf_0 14 rfl rfl)
theorem dX3_sideOf_15 : decode cX3_sideOf 15 = .ok (.iload 5, 2) := dk_21 5 (dk_at dksX3_sideOf_0 15 rfl rfl)
theorem dX3_sideOf_17 : decode cX3_sideOf 17 = .ok (.invokevirtual 126, 3) := dk_182 0 126 (dk_at dksX3_sideOf_0 17 rfl rfl)
theorem dX3_sideOf_20 : decode cX3_sideOf 20 = .ok (.aload_n 0, 1) := dk_42 (dk_at dksX3_sideOf_0 20 rfl rfl)
theorem dX3_sideOf_21 : decode cX3_sideOf 21 = .ok (.iload_n 1, 1) := dk_27 (dk_at dksX3_sideOf_0 21 rfl rfl)
theorem dX3_sideOf_22 : decode cX3_sideOf 22 = .ok (.iload_n 3, 1) := dk_29 (dk_at dksX3_sideOf_0 22 rfl rfl)
theorem dX3_sideOf_23 : decode cX3_sideOf 23 = .ok (.iload 5, 2) := dk_21 5 (dk_at dksX3_sideOf_1 0 rfl rfl)
theorem dX3_sideOf_25 : decode cX3_sideOf 25 = .ok (.invokevirtual 126, 3) := dk_182 0 126 (dk_at dksX3_sideOf_1 2 rfl rfl)
theorem dX3_sideOf_28 : decode cX3_sideOf 28 = .ok (.isub, 1) := dk_100 (dk_at dksX3_sideOf_1 5 rfl rfl)
theorem dX3_sideOf_29 : decode cX3_sideOf 29 = .ok (.istore 6, 2) := dk_54 6 (dk_at dksX3_sideOf_1 6 rfl rfl)
theorem dX3_sideOf_31 : decode cX3_sideOf 31 = .ok (.iload 4, 2) := dk_21 4 (dk_at dksX3_sideOf_1 8 rfl rfl)
theorem dX3_sideOf_33 : decode cX3_sideOf 33 = .ok (.iload 6, 2) := dk_21 6 (dk_at dksX3_sideOf_1 10 rfl rfl)
theorem dX3_sideOf_35 : decode cX3_sideOf 35 = .ok (.iload 6, 2) := dk_21 6 (dk_at dksX3_sideOf_1 12 rfl rfl)
theorem dX3_sideOf_37 : decode cX3_sideOf 37 = .ok (.imul, 1) := dk_104 (dk_at dksX3_sideOf_1 14 rfl rfl)
theorem dX3_sideOf_38 : decode cX3_sideOf 38 = .ok (.iadd, 1) := dk_96 (dk_at dksX3_sideOf_1 15 rfl rfl)
theorem dX3_sideOf_39 : decode cX3_sideOf 39 = .ok (.istore 4, 2) := dk_54 4 (dk_at dksX3_sideOf_1 16 rfl rfl)
theorem dX3_sideOf_41 : decode cX3_sideOf 41 = .ok (.iinc 5 1, 3) := dk_132 5 1 (dk_at dksX3_sideOf_1 18 rfl rfl)
theorem dX3_sideOf_44 : decode cX3_sideOf 44 = .ok (.goto (-38), 3) := dk_167 255 218 (dk_at dksX3_sideOf_1 21 rfl rfl)
theorem dX3_sideOf_47 : decode cX3_sideOf 47 = .ok (.iload 4, 2) := dk_21 4 (dk_at dksX3_sideOf_2 0 rfl rfl)
theorem dX3_sideOf_49 : decode cX3_sideOf 49 = .ok (.ireturn, 1) := dk_172 (dk_at dksX3_sideOf_2 2 rfl rfl)
abbrev cX3_key : ByteArray := prog_11_method_35_code
def yX3_key : MethodName := ⟨RX3, "key", "(IIIII)I"⟩
def dkwX3_key_1 : List UInt8 := [153, 0, 17, 42, 27, 28, 29, 21, 4, 21, 5, 182, 0, 165, 167, 0, 5, 16, 254, 172]
abbrev dktX3_key_1 : List UInt8 := dkwX3_key_1 ++ []
def dkwX3_key_0 : List UInt8 := [42, 27, 28, 29, 21, 4, 182, 0, 161, 153, 0, 30, 21, 5, 133, 9, 20, 0, 89, 184, 0, 76]
abbrev dktX3_key_0 : List UInt8 := dkwX3_key_0 ++ dktX3_key_1
theorem dksX3_key_0 : cX3_key.data.toList.drop 0 = dktX3_key_0 := by decide +kernel
theorem dksX3_key_1 : cX3_key.data.toList.drop 22 = dktX3_key_1 := dk_seg dksX3_key_0 22 rfl rfl
theorem dX3_key_0 : decode cX3_key 0 = .ok (.aload_n 0, 1) := dk_42 (dk_at dksX3_key_0 0 rfl rfl)
theorem dX3_key_1 : decode cX3_key 1 = .ok (.iload_n 1, 1) := dk_27 (dk_at dksX3_key_0 1 rfl rfl)
theorem dX3_key_2 : decode cX3_key 2 = .ok (.iload_n 2, 1) := dk_28 (dk_at dksX3_key_0 2 rfl rfl)
theorem dX3_key_3 : decode cX3_key 3 = .ok (.iload_n 3, 1) := dk_29 (dk_at dksX3_key_0 3 rfl rfl)
theorem dX3_key_4 : decode cX3_key 4 = .ok (.iload 4, 2) := dk_21 4 (dk_at dksX3_key_0 4 rfl rfl)
theorem dX3_key_6 : decode cX3_key 6 = .ok (.invokevirtual 161, 3) := dk_182 0 161 (dk_at dksX3_key_0 6 rfl rfl)
theorem dX3_key_9 : decode cX3_key 9 = .ok (.ifCond .eq 30, 3) := dk_153 0 30 (dk_at dksX3_key_0 9 rfl rfl)
theorem dX3_key_12 : decode cX3_key 12 = .ok (.iload 5, 2) := dk_21 5 (dk_at dksX3_key_0 12 rfl rfl)
theorem dX3_key_14 : decode cX3_key 14 = .ok (.i2l, 1) := dk_133 (dk_at dksX3_key_0 14 rfl rfl)
theorem dX3_key_15 : decode cX3_key 15 = .ok (.lconst 0, 1) := dk_9 (dk_at dksX3_key_0 15 rfl rfl)
theorem dX3_key_16 : decode cX3_key 16 = .ok (.ldc2_w 89, 3) := dk_20 0 89 (dk_at dksX3_key_0 16 rfl rfl)
theorem dX3_key_19 : decode cX3_key 19 = .ok (.invokestatic 76, 3) := dk_184 0 76 (dk_at dksX3_key_0 19 rfl rfl)
theorem dX3_key_22 : decode cX3_key 22 = .ok (.ifCond .eq 17, 3) := dk_153 0 17 (dk_at dksX3_key_1 0 rfl rfl)
theorem dX3_key_25 : decode cX3_key 25 = .ok (.aload_n 0, 1) := dk_42 (dk_at dksX3_key_1 3 rfl rfl)
theorem dX3_key_26 : decode cX3_key 26 = .ok (.iload_n 1, 1) := dk_27 (dk_at dksX3_key_1 4 rfl rfl)
theorem dX3_key_27 : decode cX3_key 27 = .ok (.iload_n 2, 1) := dk_28 (dk_at dksX3_key_1 5 rfl rfl)
theorem dX3_key_28 : decode cX3_key 28 = .ok (.iload_n 3, 1) := dk_29 (dk_at dksX3_key_1 6 rfl rfl)
theorem dX3_key_29 : decode cX3_key 29 = .ok (.iload 4, 2) := dk_21 4 (dk_at dksX3_key_1 7 rfl rfl)
theorem dX3_key_31 : decode cX3_key 31 = .ok (.iload 5, 2) := dk_21 5 (dk_at dksX3_key_1 9 rfl rfl)
theorem dX3_key_33 : decode cX3_key 33 = .ok (.invokevirtual 165, 3) := dk_182 0 165 (dk_at dksX3_key_1 11 rfl rfl)
theorem dX3_key_36 : decode cX3_key 36 = .ok (.goto 5, 3) := dk_167 0 5 (dk_at dksX3_key_1 14 rfl rfl)
theorem dX3_key_39 : decode cX3_key 39 = .ok (.bipush (-2), 2) := dk_16 254 (dk_at dksX3_key_1 17 rfl rfl)
theorem dX3_key_41 : decode cX3_key 41 = .ok (.ireturn, 1) := dk_172 (dk_at dksX3_key_1 19 rfl rfl)
abbrev cX3_isTriangle : ByteArray := prog_11_method_34_code
def yX3_isTriangle : MethodName := ⟨RX3, "isTriangle", "(IIII)Z"⟩
def dkwX3_isTriangle_2 : List UInt8 := [167, 0, 4, 3, 172]
abbrev dktX3_isTriangle_2 : List UInt8 := dkwX3_isTriangle_2 ++ []
def dkwX3_isTriangle_1 : List UInt8 := [182, 0, 122, 153, 0, 24, 28, 29, 159, 0, 19, 28, 21, 4, 159, 0, 13, 29, 21, 4, 159, 0, 7, 4]
abbrev dktX3_isTriangle_1 : List UInt8 := dkwX3_isTriangle_1 ++ dktX3_isTriangle_2
def dkwX3_isTriangle_0 : List UInt8 := [42, 27, 28, 182, 0, 122, 153, 0, 43, 42, 27, 29, 182, 0, 122, 153, 0, 34, 42, 27, 21, 4]
abbrev dktX3_isTriangle_0 : List UInt8 := dkwX3_isTriangle_0 ++ dktX3_isTriangle_1
theorem dksX3_isTriangle_0 : cX3_isTriangle.data.toList.drop 0 = dktX3_isTriangle_0 := by decide +kernel
theorem dksX3_isTriangle_1 : cX3_isTriangle.data.toList.drop 22 = dktX3_isTriangle_1 := dk_seg dksX3_isTriangle_0 22 rfl rfl
theorem dksX3_isTriangle_2 : cX3_isTriangle.data.toList.drop 46 = dktX3_isTriangle_2 := dk_seg dksX3_isTriangle_1 24 rfl rfl
theorem dX3_isTriangle_0 : decode cX3_isTriangle 0 = .ok (.aload_n 0, 1) := dk_42 (dk_at dksX3_isTriangle_0 0 rfl rfl)
theorem dX3_isTriangle_1 : decode cX3_isTriangle 1 = .ok (.iload_n 1, 1) := dk_27 (dk_at dksX3_isTriangle_0 1 rfl rfl)
theorem dX3_isTriangle_2 : decode cX3_isTriangle 2 = .ok (.iload_n 2, 1) := dk_28 (dk_at dksX3_isTriangle_0 2 rfl rfl)
theorem dX3_isTriangle_3 : decode cX3_isTriangle 3 = .ok (.invokevirtual 122, 3) := dk_182 0 122 (dk_at dksX3_isTriangle_0 3 rfl rfl)
theorem dX3_isTriangle_6 : decode cX3_isTriangle 6 = .ok (.ifCond .eq 43, 3) := dk_153 0 43 (dk_at dksX3_isTriangle_0 6 rfl rfl)
theorem dX3_isTriangle_9 : decode cX3_isTriangle 9 = .ok (.aload_n 0, 1) := dk_42 (dk_at dksX3_isTriangle_0 9 rfl rfl)
theorem dX3_isTriangle_10 : decode cX3_isTriangle 10 = .ok (.iload_n 1, 1) := dk_27 (dk_at dksX3_isTriangle_0 10 rfl rfl)
theorem dX3_isTriangle_11 : decode cX3_isTriangle 11 = .ok (.iload_n 3, 1) := dk_29 (dk_at dksX3_isTriangle_0 11 rfl rfl)
theorem dX3_isTriangle_12 : decode cX3_isTriangle 12 = .ok (.invokevirtual 122, 3) := dk_182 0 122 (dk_at dksX3_isTriangle_0 12 rfl rfl)
theorem dX3_isTriangle_15 : decode cX3_isTriangle 15 = .ok (.ifCond .eq 34, 3) := dk_153 0 34 (dk_at dksX3_isTriangle_0 15 rfl rfl)
theorem dX3_isTriangle_18 : decode cX3_isTriangle 18 = .ok (.aload_n 0, 1) := dk_42 (dk_at dksX3_isTriangle_0 18 rfl rfl)
theorem dX3_isTriangle_19 : decode cX3_isTriangle 19 = .ok (.iload_n 1, 1) := dk_27 (dk_at dksX3_isTriangle_0 19 rfl rfl)
theorem dX3_isTriangle_20 : decode cX3_isTriangle 20 = .ok (.iload 4, 2) := dk_21 4 (dk_at dksX3_isTriangle_0 20 rfl rfl)
theorem dX3_isTriangle_22 : decode cX3_isTriangle 22 = .ok (.invokevirtual 122, 3) := dk_182 0 122 (dk_at dksX3_isTriangle_1 0 rfl rfl)
theorem dX3_isTriangle_25 : decode cX3_isTriangle 25 = .ok (.ifCond .eq 24, 3) := dk_153 0 24 (dk_at dksX3_isTriangle_1 3 rfl rfl)
theorem dX3_isTriangle_28 : decode cX3_isTriangle 28 = .ok (.iload_n 2, 1) := dk_28 (dk_at dksX3_isTriangle_1 6 rfl rfl)
theorem dX3_isTriangle_29 : decode cX3_isTriangle 29 = .ok (.iload_n 3, 1) := dk_29 (dk_at dksX3_isTriangle_1 7 rfl rfl)
theorem dX3_isTriangle_30 : decode cX3_isTriangle 30 = .ok (.if_icmp .eq 19, 3) := dk_159 0 19 (dk_at dksX3_isTriangle_1 8 rfl rfl)
theorem dX3_isTriangle_33 : decode cX3_isTriangle 33 = .ok (.iload_n 2, 1) := dk_28 (dk_at dksX3_isTriangle_1 11 rfl rfl)
theorem dX3_isTriangle_34 : decode cX3_isTriangle 34 = .ok (.iload 4, 2) := dk_21 4 (dk_at dksX3_isTriangle_1 12 rfl rfl)
theorem dX3_isTriangle_36 : decode cX3_isTriangle 36 = .ok (.if_icmp .eq 13, 3) := dk_159 0 13 (dk_at dksX3_isTriangle_1 14 rfl rfl)
theorem dX3_isTriangle_39 : decode cX3_isTriangle 39 = .ok (.iload_n 3, 1) := dk_29 (dk_at dksX3_isTriangle_1 17 rfl rfl)
theorem dX3_isTriangle_40 : decode cX3_isTriangle 40 = .ok (.iload 4, 2) := dk_21 4 (dk_at dksX3_isTriangle_1 18 rfl rfl)
theorem dX3_isTriangle_42 : decode cX3_isTriangle 42 = .ok (.if_icmp .eq 7, 3) := dk_159 0 7 (dk_at dksX3_isTriangle_1 20 rfl rfl)
theorem dX3_isTriangle_45 : decode cX3_isTriangle 45 = .ok (.iconst 1, 1) := dk_4 (dk_at dksX3_isTriangle_1 23 rfl rfl)
theorem dX3_isTriangle_46 : decode cX3_isTriangle 46 = .ok (.goto 4, 3) := dk_167 0 4 (dk_at dksX3_isTriangle_2 0 rfl rfl)
theorem dX3_isTriangle_49 : decode cX3_isTriangle 49 = .ok (.iconst 0, 1) := dk_3 (dk_at dksX3_isTriangle_2 3 rfl rfl)
theorem dX3_isTriangle_50 : decode cX3_isTriangle 50 = .ok (.ireturn, 1) := dk_172 (dk_at dksX3_isTriangle_2 4 rfl rfl)
abbrev cX3_keyOf : ByteArray := prog_11_method_33_code
def yX3_keyOf : MethodName := ⟨RX3, "keyOf", "(IIIII)I"⟩
def dkwX3_keyOf_4 : List UInt8 := [180, 0, 28, 3, 46, 108, 172]
abbrev dktX3_keyOf_4 : List UInt8 := dkwX3_keyOf_4 ++ []
def dkwX3_keyOf_3 : List UInt8 := [160, 0, 8, 21, 10, 167, 0, 17, 21, 6, 21, 7, 96, 21, 8, 96, 21, 9, 100, 21, 10, 100, 42]
abbrev dktX3_keyOf_3 : List UInt8 := dkwX3_keyOf_3 ++ dktX3_keyOf_4
def dkwX3_keyOf_2 : List UInt8 := [21, 8, 184, 0, 140, 184, 0, 140, 54, 10, 21, 5, 154, 0, 8, 21, 9, 167, 0, 28, 21, 5, 5]
abbrev dktX3_keyOf_2 : List UInt8 := dkwX3_keyOf_2 ++ dktX3_keyOf_3
def dkwX3_keyOf_1 : List UInt8 := [182, 0, 158, 54, 8, 21, 6, 21, 7, 21, 8, 184, 0, 143, 184, 0, 143, 54, 9, 21, 6, 21, 7]
abbrev dktX3_keyOf_1 : List UInt8 := dkwX3_keyOf_1 ++ dktX3_keyOf_2
def dkwX3_keyOf_0 : List UInt8 := [42, 27, 28, 29, 182, 0, 158, 54, 6, 42, 27, 28, 21, 4, 182, 0, 158, 54, 7, 42, 27, 29, 21, 4]
abbrev dktX3_keyOf_0 : List UInt8 := dkwX3_keyOf_0 ++ dktX3_keyOf_1
theorem dksX3_keyOf_0 : cX3_keyOf.data.toList.drop 0 = dktX3_keyOf_0 := by decide +kernel
theorem dksX3_keyOf_1 : cX3_keyOf.data.toList.drop 24 = dktX3_keyOf_1 := dk_seg dksX3_keyOf_0 24 rfl rfl
theorem dksX3_keyOf_2 : cX3_keyOf.data.toList.drop 47 = dktX3_keyOf_2 := dk_seg dksX3_keyOf_1 23 rfl rfl
theorem dksX3_keyOf_3 : cX3_keyOf.data.toList.drop 70 = dktX3_keyOf_3 := dk_seg dksX3_keyOf_2 23 rfl rfl
theorem dksX3_keyOf_4 : cX3_keyOf.data.toList.drop 93 = dktX3_keyOf_4 := dk_seg dksX3_keyOf_3 23 rfl rfl
theorem dX3_keyOf_0 : decode cX3_keyOf 0 = .ok (.aload_n 0, 1) := dk_42 (dk_at dksX3_keyOf_0 0 rfl rfl)
theorem dX3_keyOf_1 : decode cX3_keyOf 1 = .ok (.iload_n 1, 1) := dk_27 (dk_at dksX3_keyOf_0 1 rfl rfl)
theorem dX3_keyOf_2 : decode cX3_keyOf 2 = .ok (.iload_n 2, 1) := dk_28 (dk_at dksX3_keyOf_0 2 rfl rfl)
theorem dX3_keyOf_3 : decode cX3_keyOf 3 = .ok (.iload_n 3, 1) := dk_29 (dk_at dksX3_keyOf_0 3 rfl rfl)
theorem dX3_keyOf_4 : decode cX3_keyOf 4 = .ok (.invokevirtual 158, 3) := dk_182 0 158 (dk_at dksX3_keyOf_0 4 rfl rfl)
theorem dX3_keyOf_7 : decode cX3_keyOf 7 = .ok (.istore 6, 2) := dk_54 6 (dk_at dksX3_keyOf_0 7 rfl rfl)
theorem dX3_keyOf_9 : decode cX3_keyOf 9 = .ok (.aload_n 0, 1) := dk_42 (dk_at dksX3_keyOf_0 9 rfl rfl)
theorem dX3_keyOf_10 : decode cX3_keyOf 10 = .ok (.iload_n 1, 1) := dk_27 (dk_at dksX3_keyOf_0 10 rfl rfl)
theorem dX3_keyOf_11 : decode cX3_keyOf 11 = .ok (.iload_n 2, 1) := dk_28 (dk_at dksX3_keyOf_0 11 rfl rfl)
theorem dX3_keyOf_12 : decode cX3_keyOf 12 = .ok (.iload 4, 2) := dk_21 4 (dk_at dksX3_keyOf_0 12 rfl rfl)
theorem dX3_keyOf_14 : decode cX3_keyOf 14 = .ok (.invokevirtual 158, 3) := dk_182 0 158 (dk_at dksX3_keyOf_0 14 rfl rfl)
theorem dX3_keyOf_17 : decode cX3_keyOf 17 = .ok (.istore 7, 2) := dk_54 7 (dk_at dksX3_keyOf_0 17 rfl rfl)
theorem dX3_keyOf_19 : decode cX3_keyOf 19 = .ok (.aload_n 0, 1) := dk_42 (dk_at dksX3_keyOf_0 19 rfl rfl)
theorem dX3_keyOf_20 : decode cX3_keyOf 20 = .ok (.iload_n 1, 1) := dk_27 (dk_at dksX3_keyOf_0 20 rfl rfl)
theorem dX3_keyOf_21 : decode cX3_keyOf 21 = .ok (.iload_n 3, 1) := dk_29 (dk_at dksX3_keyOf_0 21 rfl rfl)
theorem dX3_keyOf_22 : decode cX3_keyOf 22 = .ok (.iload 4, 2) := dk_21 4 (dk_at dksX3_keyOf_0 22 rfl rfl)
theorem dX3_keyOf_24 : decode cX3_keyOf 24 = .ok (.invokevirtual 158, 3) := dk_182 0 158 (dk_at dksX3_keyOf_1 0 rfl rfl)
theorem dX3_keyOf_27 : decode cX3_keyOf 27 = .ok (.istore 8, 2) := dk_54 8 (dk_at dksX3_keyOf_1 3 rfl rfl)
theorem dX3_keyOf_29 : decode cX3_keyOf 29 = .ok (.iload 6, 2) := dk_21 6 (dk_at dksX3_keyOf_1 5 rfl rfl)
theorem dX3_keyOf_31 : decode cX3_keyOf 31 = .ok (.iload 7, 2) := dk_21 7 (dk_at dksX3_keyOf_1 7 rfl rfl)
theorem dX3_keyOf_33 : decode cX3_keyOf 33 = .ok (.iload 8, 2) := dk_21 8 (dk_at dksX3_keyOf_1 9 rfl rfl)
theorem dX3_keyOf_35 : decode cX3_keyOf 35 = .ok (.invokestatic 143, 3) := dk_184 0 143 (dk_at dksX3_keyOf_1 11 rfl rfl)
theorem dX3_keyOf_38 : decode cX3_keyOf 38 = .ok (.invokestatic 143, 3) := dk_184 0 143 (dk_at dksX3_keyOf_1 14 rfl rfl)
theorem dX3_keyOf_41 : decode cX3_keyOf 41 = .ok (.istore 9, 2) := dk_54 9 (dk_at dksX3_keyOf_1 17 rfl rfl)
theorem dX3_keyOf_43 : decode cX3_keyOf 43 = .ok (.iload 6, 2) := dk_21 6 (dk_at dksX3_keyOf_1 19 rfl rfl)
theorem dX3_keyOf_45 : decode cX3_keyOf 45 = .ok (.iload 7, 2) := dk_21 7 (dk_at dksX3_keyOf_1 21 rfl rfl)
theorem dX3_keyOf_47 : decode cX3_keyOf 47 = .ok (.iload 8, 2) := dk_21 8 (dk_at dksX3_keyOf_2 0 rfl rfl)
theorem dX3_keyOf_49 : decode cX3_keyOf 49 = .ok (.invokestatic 140, 3) := dk_184 0 140 (dk_at dksX3_keyOf_2 2 rfl rfl)
theorem dX3_keyOf_52 : decode cX3_keyOf 52 = .ok (.invokestatic 140, 3) := dk_184 0 140 (dk_at dksX3_keyOf_2 5 rfl rfl)
theorem dX3_keyOf_55 : decode cX3_keyOf 55 = .ok (.istore 10, 2) := dk_54 10 (dk_at dksX3_keyOf_2 8 rfl rfl)
theorem dX3_keyOf_57 : decode cX3_keyOf 57 = .ok (.iload 5, 2) := dk_21 5 (dk_at dksX3_keyOf_2 10 rfl rfl)
theorem dX3_keyOf_59 : decode cX3_keyOf 59 = .ok (.ifCond .ne 8, 3) := dk_154 0 8 (dk_at dksX3_keyOf_2 12 rfl rfl)
theorem dX3_keyOf_62 : decode cX3_keyOf 62 = .ok (.iload 9, 2) := dk_21 9 (dk_at dksX3_keyOf_2 15 rfl rfl)
theorem dX3_keyOf_64 : decode cX3_keyOf 64 = .ok (.goto 28, 3) := dk_167 0 28 (dk_at dksX3_keyOf_2 17 rfl rfl)
theorem dX3_keyOf_67 : decode cX3_keyOf 67 = .ok (.iload 5, 2) := dk_21 5 (dk_at dksX3_keyOf_2 20 rfl rfl)
theorem dX3_keyOf_69 : decode cX3_keyOf 69 = .ok (.iconst 2, 1) := dk_5 (dk_at dksX3_keyOf_2 22 rfl rfl)
theorem dX3_keyOf_70 : decode cX3_keyOf 70 = .ok (.if_icmp .ne 8, 3) := dk_160 0 8 (dk_at dksX3_keyOf_3 0 rfl rfl)
theorem dX3_keyOf_73 : decode cX3_keyOf 73 = .ok (.iload 10, 2) := dk_21 10 (dk_at dksX3_keyOf_3 3 rfl rfl)
theorem dX3_keyOf_75 : decode cX3_keyOf 75 = .ok (.goto 17, 3) := dk_167 0 17 (dk_at dksX3_keyOf_3 5 rfl rfl)
theorem dX3_keyOf_78 : decode cX3_keyOf 78 = .ok (.iload 6, 2) := dk_21 6 (dk_at dksX3_keyOf_3 8 rfl rfl)
theorem dX3_keyOf_80 : decode cX3_keyOf 80 = .ok (.iload 7, 2) := dk_21 7 (dk_at dksX3_keyOf_3 10 rfl rfl)
theorem dX3_keyOf_82 : decode cX3_keyOf 82 = .ok (.iadd, 1) := dk_96 (dk_at dksX3_keyOf_3 12 rfl rfl)
theorem dX3_keyOf_83 : decode cX3_keyOf 83 = .ok (.iload 8, 2) := dk_21 8 (dk_at dksX3_keyOf_3 13 rfl rfl)
theorem dX3_keyOf_85 : decode cX3_keyOf 85 = .ok (.iadd, 1) := dk_96 (dk_at dksX3_keyOf_3 15 rfl rfl)
theorem dX3_keyOf_86 : decode cX3_keyOf 86 = .ok (.iload 9, 2) := dk_21 9 (dk_at dksX3_keyOf_3 16 rfl rfl)
theorem dX3_keyOf_88 : decode cX3_keyOf 88 = .ok (.isub, 1) := dk_100 (dk_at dksX3_keyOf_3 18 rfl rfl)
theorem dX3_keyOf_89 : decode cX3_keyOf 89 = .ok (.iload 10, 2) := dk_21 10 (dk_at dksX3_keyOf_3 19 rfl rfl)
theorem dX3_keyOf_91 : decode cX3_keyOf 91 = .ok (.isub, 1) := dk_100 (dk_at dksX3_keyOf_3 21 rfl rfl)
theorem dX3_keyOf_92 : decode cX3_keyOf 92 = .ok (.aload_n 0, 1) := dk_42 (dk_at dksX3_keyOf_3 22 rfl rfl)
theorem dX3_keyOf_93 : decode cX3_keyOf 93 = .ok (.getfield 28, 3) := dk_180 0 28 (dk_at dksX3_keyOf_4 0 rfl rfl)
theorem dX3_keyOf_96 : decode cX3_keyOf 96 = .ok (.iconst 0, 1) := dk_3 (dk_at dksX3_keyOf_4 3 rfl rfl)
theorem dX3_keyOf_97 : decode cX3_keyOf 97 = .ok (.iaload, 1) := dk_46 (dk_at dksX3_keyOf_4 4 rfl rfl)
theorem dX3_keyOf_98 : decode cX3_keyOf 98 = .ok (.idiv, 1) := dk_108 (dk_at dksX3_keyOf_4 5 rfl rfl)
theorem dX3_keyOf_99 : decode cX3_keyOf 99 = .ok (.ireturn, 1) := dk_172 (dk_at dksX3_keyOf_4 6 rfl rfl)
abbrev cX3_looks : ByteArray := prog_11_method_55_code
def yX3_looks : MethodName := ⟨RX3, "looks", "(I)I"⟩
def dkwX3_looks_1 : List UInt8 := [16, 254, 172]
abbrev dktX3_looks_1 : List UInt8 := dkwX3_looks_1 ++ []
def dkwX3_looks_0 : List UInt8 := [42, 182, 0, 241, 27, 133, 9, 20, 0, 83, 184, 0, 76, 153, 0, 11, 42, 27, 182, 0, 244, 167, 0, 5]
abbrev dktX3_looks_0 : List UInt8 := dkwX3_looks_0 ++ dktX3_looks_1
theorem dksX3_looks_0 : cX3_looks.data.toList.drop 0 = dktX3_looks_0 := by decide +kernel
theorem dksX3_looks_1 : cX3_looks.data.toList.drop 24 = dktX3_looks_1 := dk_seg dksX3_looks_0 24 rfl rfl
theorem dX3_looks_0 : decode cX3_looks 0 = .ok (.aload_n 0, 1) := dk_42 (dk_at dksX3_looks_0 0 rfl rfl)
theorem dX3_looks_1 : decode cX3_looks 1 = .ok (.invokevirtual 241, 3) := dk_182 0 241 (dk_at dksX3_looks_0 1 rfl rfl)
theorem dX3_looks_4 : decode cX3_looks 4 = .ok (.iload_n 1, 1) := dk_27 (dk_at dksX3_looks_0 4 rfl rfl)
theorem dX3_looks_5 : decode cX3_looks 5 = .ok (.i2l, 1) := dk_133 (dk_at dksX3_looks_0 5 rfl rfl)
theorem dX3_looks_6 : decode cX3_looks 6 = .ok (.lconst 0, 1) := dk_9 (dk_at dksX3_looks_0 6 rfl rfl)
theorem dX3_looks_7 : decode cX3_looks 7 = .ok (.ldc2_w 83, 3) := dk_20 0 83 (dk_at dksX3_looks_0 7 rfl rfl)
theorem dX3_looks_10 : decode cX3_looks 10 = .ok (.invokestatic 76, 3) := dk_184 0 76 (dk_at dksX3_looks_0 10 rfl rfl)
theorem dX3_looks_13 : decode cX3_looks 13 = .ok (.ifCond .eq 11, 3) := dk_153 0 11 (dk_at dksX3_looks_0 13 rfl rfl)
theorem dX3_looks_16 : decode cX3_looks 16 = .ok (.aload_n 0, 1) := dk_42 (dk_at dksX3_looks_0 16 rfl rfl)
theorem dX3_looks_17 : decode cX3_looks 17 = .ok (.iload_n 1, 1) := dk_27 (dk_at dksX3_looks_0 17 rfl rfl)
theorem dX3_looks_18 : decode cX3_looks 18 = .ok (.invokevirtual 244, 3) := dk_182 0 244 (dk_at dksX3_looks_0 18 rfl rfl)
theorem dX3_looks_21 : decode cX3_looks 21 = .ok (.goto 5, 3) := dk_167 0 5 (dk_at dksX3_looks_0 21 rfl rfl)
theorem dX3_looks_24 : decode cX3_looks 24 = .ok (.bipush (-2), 2) := dk_16 254 (dk_at dksX3_looks_1 0 rfl rfl)
theorem dX3_looks_26 : decode cX3_looks 26 = .ok (.ireturn, 1) := dk_172 (dk_at dksX3_looks_1 2 rfl rfl)
abbrev cX3_find : ByteArray := prog_11_method_52_code
def yX3_find : MethodName := ⟨RX3, "find", "()V"⟩
def dkwX3_find_0 : List UInt8 := [42, 182, 0, 226, 42, 182, 0, 229, 42, 182, 0, 232, 42, 182, 0, 235, 177]
abbrev dktX3_find_0 : List UInt8 := dkwX3_find_0 ++ []
theorem dksX3_find_0 : cX3_find.data.toList.drop 0 = dktX3_find_0 := by decide +kernel
theorem dX3_find_0 : decode cX3_find 0 = .ok (.aload_n 0, 1) := dk_42 (dk_at dksX3_find_0 0 rfl rfl)
theorem dX3_find_1 : decode cX3_find 1 = .ok (.invokevirtual 226, 3) := dk_182 0 226 (dk_at dksX3_find_0 1 rfl rfl)
theorem dX3_find_4 : decode cX3_find 4 = .ok (.aload_n 0, 1) := dk_42 (dk_at dksX3_find_0 4 rfl rfl)
theorem dX3_find_5 : decode cX3_find 5 = .ok (.invokevirtual 229, 3) := dk_182 0 229 (dk_at dksX3_find_0 5 rfl rfl)
theorem dX3_find_8 : decode cX3_find 8 = .ok (.aload_n 0, 1) := dk_42 (dk_at dksX3_find_0 8 rfl rfl)
theorem dX3_find_9 : decode cX3_find 9 = .ok (.invokevirtual 232, 3) := dk_182 0 232 (dk_at dksX3_find_0 9 rfl rfl)
theorem dX3_find_12 : decode cX3_find 12 = .ok (.aload_n 0, 1) := dk_42 (dk_at dksX3_find_0 12 rfl rfl)
theorem dX3_find_13 : decode cX3_find 13 = .ok (.invokevirtual 235, 3) := dk_182 0 235 (dk_at dksX3_find_0 13 rfl rfl)
theorem dX3_find_16 : decode cX3_find 16 = .ok (.return_, 1) := dk_177 (dk_at dksX3_find_0 16 rfl rfl)
abbrev cX3_votesAll : ByteArray := prog_11_method_41_code
def yX3_votesAll : MethodName := ⟨RX3, "votesAll", "()V"⟩
def dkwX3_votesAll_5 : List UInt8 := [177]
abbrev dktX3_votesAll_5 : List UInt8 := dkwX3_votesAll_5 ++ []
def dkwX3_votesAll_4 : List UInt8 := [27, 28, 29, 182, 0, 188, 132, 3, 1, 167, 255, 212, 132, 2, 1, 167, 255, 192, 132, 1, 1, 167, 255, 172]
abbrev dktX3_votesAll_4 : List UInt8 := dkwX3_votesAll_4 ++ dktX3_votesAll_5
def dkwX3_votesAll_3 : List UInt8 := [42, 180, 0, 31, 159, 0, 26, 28, 42, 180, 0, 31, 159, 0, 18, 29, 42, 180, 0, 31, 159, 0, 10, 42]
abbrev dktX3_votesAll_3 : List UInt8 := dkwX3_votesAll_3 ++ dktX3_votesAll_4
def dkwX3_votesAll_2 : List UInt8 := [42, 180, 0, 25, 4, 46, 162, 0, 60, 28, 4, 96, 62, 29, 42, 180, 0, 25, 4, 46, 162, 0, 40, 27]
abbrev dktX3_votesAll_2 : List UInt8 := dkwX3_votesAll_2 ++ dktX3_votesAll_3
def dkwX3_votesAll_1 : List UInt8 := [79, 132, 1, 1, 167, 255, 240, 3, 60, 27, 42, 180, 0, 25, 4, 46, 162, 0, 80, 27, 4, 96, 61, 28]
abbrev dktX3_votesAll_1 : List UInt8 := dkwX3_votesAll_1 ++ dktX3_votesAll_2
def dkwX3_votesAll_0 : List UInt8 := [42, 3, 181, 0, 178, 42, 3, 181, 0, 175, 3, 60, 27, 16, 96, 162, 0, 16, 42, 180, 0, 35, 27, 3]
abbrev dktX3_votesAll_0 : List UInt8 := dkwX3_votesAll_0 ++ dktX3_votesAll_1
theorem dksX3_votesAll_0 : cX3_votesAll.data.toList.drop 0 = dktX3_votesAll_0 := by decide +kernel
theorem dksX3_votesAll_1 : cX3_votesAll.data.toList.drop 24 = dktX3_votesAll_1 := dk_seg dksX3_votesAll_0 24 rfl rfl
theorem dksX3_votesAll_2 : cX3_votesAll.data.toList.drop 48 = dktX3_votesAll_2 := dk_seg dksX3_votesAll_1 24 rfl rfl
theorem dksX3_votesAll_3 : cX3_votesAll.data.toList.drop 72 = dktX3_votesAll_3 := dk_seg dksX3_votesAll_2 24 rfl rfl
theorem dksX3_votesAll_4 : cX3_votesAll.data.toList.drop 96 = dktX3_votesAll_4 := dk_seg dksX3_votesAll_3 24 rfl rfl
theorem dksX3_votesAll_5 : cX3_votesAll.data.toList.drop 120 = dktX3_votesAll_5 := dk_seg dksX3_votesAll_4 24 rfl rfl
theorem dX3_votesAll_0 : decode cX3_votesAll 0 = .ok (.aload_n 0, 1) := dk_42 (dk_at dksX3_votesAll_0 0 rfl rfl)
theorem dX3_votesAll_1 : decode cX3_votesAll 1 = .ok (.iconst 0, 1) := dk_3 (dk_at dksX3_votesAll_0 1 rfl rfl)
theorem dX3_votesAll_2 : decode cX3_votesAll 2 = .ok (.putfield 178, 3) := dk_181 0 178 (dk_at dksX3_votesAll_0 2 rfl rfl)
theorem dX3_votesAll_5 : decode cX3_votesAll 5 = .ok (.aload_n 0, 1) := dk_42 (dk_at dksX3_votesAll_0 5 rfl rfl)
theorem dX3_votesAll_6 : decode cX3_votesAll 6 = .ok (.iconst 0, 1) := dk_3 (dk_at dksX3_votesAll_0 6 rfl rfl)
theorem dX3_votesAll_7 : decode cX3_votesAll 7 = .ok (.putfield 175, 3) := dk_181 0 175 (dk_at dksX3_votesAll_0 7 rfl rfl)
theorem dX3_votesAll_10 : decode cX3_votesAll 10 = .ok (.iconst 0, 1) := dk_3 (dk_at dksX3_votesAll_0 10 rfl rfl)
theorem dX3_votesAll_11 : decode cX3_votesAll 11 = .ok (.istore_n 1, 1) := dk_60 (dk_at dksX3_votesAll_0 11 rfl rfl)
theorem dX3_votesAll_12 : decode cX3_votesAll 12 = .ok (.iload_n 1, 1) := dk_27 (dk_at dksX3_votesAll_0 12 rfl rfl)
theorem dX3_votesAll_13 : decode cX3_votesAll 13 = .ok (.bipush 96, 2) := dk_16 96 (dk_at dksX3_votesAll_0 13 rfl rfl)
theorem dX3_votesAll_15 : decode cX3_votesAll 15 = .ok (.if_icmp .ge 16, 3) := dk_162 0 16 (dk_at dksX3_votesAll_0 15 rfl rfl)
theorem dX3_votesAll_18 : decode cX3_votesAll 18 = .ok (.aload_n 0, 1) := dk_42 (dk_at dksX3_votesAll_0 18 rfl rfl)
theorem dX3_votesAll_19 : decode cX3_votesAll 19 = .ok (.getfield 35, 3) := dk_180 0 35 (dk_at dksX3_votesAll_0 19 rfl rfl)
theorem dX3_votesAll_22 : decode cX3_votesAll 22 = .ok (.iload_n 1, 1) := dk_27 (dk_at dksX3_votesAll_0 22 rfl rfl)
theorem dX3_votesAll_23 : decode cX3_votesAll 23 = .ok (.iconst 0, 1) := dk_3 (dk_at dksX3_votesAll_0 23 rfl rfl)
theorem dX3_votesAll_24 : decode cX3_votesAll 24 = .ok (.iastore, 1) := dk_79 (dk_at dksX3_votesAll_1 0 rfl rfl)
theorem dX3_votesAll_25 : decode cX3_votesAll 25 = .ok (.iinc 1 1, 3) := dk_132 1 1 (dk_at dksX3_votesAll_1 1 rfl rfl)
theorem dX3_votesAll_28 : decode cX3_votesAll 28 = .ok (.goto (-16), 3) := dk_167 255 240 (dk_at dksX3_votesAll_1 4 rfl rfl)
theorem dX3_votesAll_31 : decode cX3_votesAll 31 = .ok (.iconst 0, 1) := dk_3 (dk_at dksX3_votesAll_1 7 rfl rfl)
theorem dX3_votesAll_32 : decode cX3_votesAll 32 = .ok (.istore_n 1, 1) := dk_60 (dk_at dksX3_votesAll_1 8 rfl rfl)
theorem dX3_votesAll_33 : decode cX3_votesAll 33 = .ok (.iload_n 1, 1) := dk_27 (dk_at dksX3_votesAll_1 9 rfl rfl)
theorem dX3_votesAll_34 : decode cX3_votesAll 34 = .ok (.aload_n 0, 1) := dk_42 (dk_at dksX3_votesAll_1 10 rfl rfl)
theorem dX3_votesAll_35 : decode cX3_votesAll 35 = .ok (.getfield 25, 3) := dk_180 0 25 (dk_at dksX3_votesAll_1 11 rfl rfl)
theorem dX3_votesAll_38 : decode cX3_votesAll 38 = .ok (.iconst 1, 1) := dk_4 (dk_at dksX3_votesAll_1 14 rfl rfl)
theorem dX3_votesAll_39 : decode cX3_votesAll 39 = .ok (.iaload, 1) := dk_46 (dk_at dksX3_votesAll_1 15 rfl rfl)
theorem dX3_votesAll_40 : decode cX3_votesAll 40 = .ok (.if_icmp .ge 80, 3) := dk_162 0 80 (dk_at dksX3_votesAll_1 16 rfl rfl)
theorem dX3_votesAll_43 : decode cX3_votesAll 43 = .ok (.iload_n 1, 1) := dk_27 (dk_at dksX3_votesAll_1 19 rfl rfl)
theorem dX3_votesAll_44 : decode cX3_votesAll 44 = .ok (.iconst 1, 1) := dk_4 (dk_at dksX3_votesAll_1 20 rfl rfl)
theorem dX3_votesAll_45 : decode cX3_votesAll 45 = .ok (.iadd, 1) := dk_96 (dk_at dksX3_votesAll_1 21 rfl rfl)
theorem dX3_votesAll_46 : decode cX3_votesAll 46 = .ok (.istore_n 2, 1) := dk_61 (dk_at dksX3_votesAll_1 22 rfl rfl)
theorem dX3_votesAll_47 : decode cX3_votesAll 47 = .ok (.iload_n 2, 1) := dk_28 (dk_at dksX3_votesAll_1 23 rfl rfl)
theorem dX3_votesAll_48 : decode cX3_votesAll 48 = .ok (.aload_n 0, 1) := dk_42 (dk_at dksX3_votesAll_2 0 rfl rfl)
theorem dX3_votesAll_49 : decode cX3_votesAll 49 = .ok (.getfield 25, 3) := dk_180 0 25 (dk_at dksX3_votesAll_2 1 rfl rfl)
theorem dX3_votesAll_52 : decode cX3_votesAll 52 = .ok (.iconst 1, 1) := dk_4 (dk_at dksX3_votesAll_2 4 rfl rfl)
theorem dX3_votesAll_53 : decode cX3_votesAll 53 = .ok (.iaload, 1) := dk_46 (dk_at dksX3_votesAll_2 5 rfl rfl)
theorem dX3_votesAll_54 : decode cX3_votesAll 54 = .ok (.if_icmp .ge 60, 3) := dk_162 0 60 (dk_at dksX3_votesAll_2 6 rfl rfl)
theorem dX3_votesAll_57 : decode cX3_votesAll 57 = .ok (.iload_n 2, 1) := dk_28 (dk_at dksX3_votesAll_2 9 rfl rfl)
theorem dX3_votesAll_58 : decode cX3_votesAll 58 = .ok (.iconst 1, 1) := dk_4 (dk_at dksX3_votesAll_2 10 rfl rfl)
theorem dX3_votesAll_59 : decode cX3_votesAll 59 = .ok (.iadd, 1) := dk_96 (dk_at dksX3_votesAll_2 11 rfl rfl)
theorem dX3_votesAll_60 : decode cX3_votesAll 60 = .ok (.istore_n 3, 1) := dk_62 (dk_at dksX3_votesAll_2 12 rfl rfl)
theorem dX3_votesAll_61 : decode cX3_votesAll 61 = .ok (.iload_n 3, 1) := dk_29 (dk_at dksX3_votesAll_2 13 rfl rfl)
theorem dX3_votesAll_62 : decode cX3_votesAll 62 = .ok (.aload_n 0, 1) := dk_42 (dk_at dksX3_votesAll_2 14 rfl rfl)
theorem dX3_votesAll_63 : decode cX3_votesAll 63 = .ok (.getfield 25, 3) := dk_180 0 25 (dk_at dksX3_votesAll_2 15 rfl rfl)
theorem dX3_votesAll_66 : decode cX3_votesAll 66 = .ok (.iconst 1, 1) := dk_4 (dk_at dksX3_votesAll_2 18 rfl rfl)
theorem dX3_votesAll_67 : decode cX3_votesAll 67 = .ok (.iaload, 1) := dk_46 (dk_at dksX3_votesAll_2 19 rfl rfl)
theorem dX3_votesAll_68 : decode cX3_votesAll 68 = .ok (.if_icmp .ge 40, 3) := dk_162 0 40 (dk_at dksX3_votesAll_2 20 rfl rfl)
theorem dX3_votesAll_71 : decode cX3_votesAll 71 = .ok (.iload_n 1, 1) := dk_27 (dk_at dksX3_votesAll_2 23 rfl rfl)
theorem dX3_votesAll_72 : decode cX3_votesAll 72 = .ok (.aload_n 0, 1) := dk_42 (dk_at dksX3_votesAll_3 0 rfl rfl)
theorem dX3_votesAll_73 : decode cX3_votesAll 73 = .ok (.getfield 31, 3) := dk_180 0 31 (dk_at dksX3_votesAll_3 1 rfl rfl)
theorem dX3_votesAll_76 : decode cX3_votesAll 76 = .ok (.if_icmp .eq 26, 3) := dk_159 0 26 (dk_at dksX3_votesAll_3 4 rfl rfl)
theorem dX3_votesAll_79 : decode cX3_votesAll 79 = .ok (.iload_n 2, 1) := dk_28 (dk_at dksX3_votesAll_3 7 rfl rfl)
theorem dX3_votesAll_80 : decode cX3_votesAll 80 = .ok (.aload_n 0, 1) := dk_42 (dk_at dksX3_votesAll_3 8 rfl rfl)
theorem dX3_votesAll_81 : decode cX3_votesAll 81 = .ok (.getfield 31, 3) := dk_180 0 31 (dk_at dksX3_votesAll_3 9 rfl rfl)
theorem dX3_votesAll_84 : decode cX3_votesAll 84 = .ok (.if_icmp .eq 18, 3) := dk_159 0 18 (dk_at dksX3_votesAll_3 12 rfl rfl)
theorem dX3_votesAll_87 : decode cX3_votesAll 87 = .ok (.iload_n 3, 1) := dk_29 (dk_at dksX3_votesAll_3 15 rfl rfl)
theorem dX3_votesAll_88 : decode cX3_votesAll 88 = .ok (.aload_n 0, 1) := dk_42 (dk_at dksX3_votesAll_3 16 rfl rfl)
theorem dX3_votesAll_89 : decode cX3_votesAll 89 = .ok (.getfield 31, 3) := dk_180 0 31 (dk_at dksX3_votesAll_3 17 rfl rfl)
theorem dX3_votesAll_92 : decode cX3_votesAll 92 = .ok (.if_icmp .eq 10, 3) := dk_159 0 10 (dk_at dksX3_votesAll_3 20 rfl rfl)
theorem dX3_votesAll_95 : decode cX3_votesAll 95 = .ok (.aload_n 0, 1) := dk_42 (dk_at dksX3_votesAll_3 23 rfl rfl)
theorem dX3_votesAll_96 : decode cX3_votesAll 96 = .ok (.iload_n 1, 1) := dk_27 (dk_at dksX3_votesAll_4 0 rfl rfl)
theorem dX3_votesAll_97 : decode cX3_votesAll 97 = .ok (.iload_n 2, 1) := dk_28 (dk_at dksX3_votesAll_4 1 rfl rfl)
theorem dX3_votesAll_98 : decode cX3_votesAll 98 = .ok (.iload_n 3, 1) := dk_29 (dk_at dksX3_votesAll_4 2 rfl rfl)
theorem dX3_votesAll_99 : decode cX3_votesAll 99 = .ok (.invokevirtual 188, 3) := dk_182 0 188 (dk_at dksX3_votesAll_4 3 rfl rfl)
theorem dX3_votesAll_102 : decode cX3_votesAll 102 = .ok (.iinc 3 1, 3) := dk_132 3 1 (dk_at dksX3_votesAll_4 6 rfl rfl)
theorem dX3_votesAll_105 : decode cX3_votesAll 105 = .ok (.goto (-44), 3) := dk_167 255 212 (dk_at dksX3_votesAll_4 9 rfl rfl)
theorem dX3_votesAll_108 : decode cX3_votesAll 108 = .ok (.iinc 2 1, 3) := dk_132 2 1 (dk_at dksX3_votesAll_4 12 rfl rfl)
theorem dX3_votesAll_111 : decode cX3_votesAll 111 = .ok (.goto (-64), 3) := dk_167 255 192 (dk_at dksX3_votesAll_4 15 rfl rfl)
theorem dX3_votesAll_114 : decode cX3_votesAll 114 = .ok (.iinc 1 1, 3) := dk_132 1 1 (dk_at dksX3_votesAll_4 18 rfl rfl)
theorem dX3_votesAll_117 : decode cX3_votesAll 117 = .ok (.goto (-84), 3) := dk_167 255 172 (dk_at dksX3_votesAll_4 21 rfl rfl)
theorem dX3_votesAll_120 : decode cX3_votesAll 120 = .ok (.return_, 1) := dk_177 (dk_at dksX3_votesAll_5 0 rfl rfl)
abbrev cX3_looksAt : ByteArray := prog_11_method_40_code
def yX3_looksAt : MethodName := ⟨RX3, "looksAt", "(III)V"⟩
def dkwX3_looksAt_3 : List UInt8 := [132, 5, 1, 167, 255, 206, 132, 4, 1, 167, 255, 183, 177]
abbrev dktX3_looksAt_3 : List UInt8 := dkwX3_looksAt_3 ++ []
def dkwX3_looksAt_2 : List UInt8 := [162, 0, 22, 42, 27, 28, 29, 21, 4, 21, 5, 21, 6, 182, 0, 185, 132, 6, 1, 167, 255, 229]
abbrev dktX3_looksAt_2 : List UInt8 := dkwX3_looksAt_2 ++ dktX3_looksAt_3
def dkwX3_looksAt_1 : List UInt8 := [180, 0, 25, 3, 46, 162, 0, 45, 21, 5, 4, 96, 54, 6, 21, 6, 42, 180, 0, 25, 3, 46]
abbrev dktX3_looksAt_1 : List UInt8 := dkwX3_looksAt_1 ++ dktX3_looksAt_2
def dkwX3_looksAt_0 : List UInt8 := [3, 54, 4, 21, 4, 42, 180, 0, 25, 3, 46, 162, 0, 68, 21, 4, 4, 96, 54, 5, 21, 5, 42]
abbrev dktX3_looksAt_0 : List UInt8 := dkwX3_looksAt_0 ++ dktX3_looksAt_1
theorem dksX3_looksAt_0 : cX3_looksAt.data.toList.drop 0 = dktX3_looksAt_0 := by decide +kernel
theorem dksX3_looksAt_1 : cX3_looksAt.data.toList.drop 23 = dktX3_looksAt_1 := dk_seg dksX3_looksAt_0 23 rfl rfl
theorem dksX3_looksAt_2 : cX3_looksAt.data.toList.drop 45 = dktX3_looksAt_2 := dk_seg dksX3_looksAt_1 22 rfl rfl
theorem dksX3_looksAt_3 : cX3_looksAt.data.toList.drop 67 = dktX3_looksAt_3 := dk_seg dksX3_looksAt_2 22 rfl rfl
theorem dX3_looksAt_0 : decode cX3_looksAt 0 = .ok (.iconst 0, 1) := dk_3 (dk_at dksX3_looksAt_0 0 rfl rfl)
theorem dX3_looksAt_1 : decode cX3_looksAt 1 = .ok (.istore 4, 2) := dk_54 4 (dk_at dksX3_looksAt_0 1 rfl rfl)
theorem dX3_looksAt_3 : decode cX3_looksAt 3 = .ok (.iload 4, 2) := dk_21 4 (dk_at dksX3_looksAt_0 3 rfl rfl)
theorem dX3_looksAt_5 : decode cX3_looksAt 5 = .ok (.aload_n 0, 1) := dk_42 (dk_at dksX3_looksAt_0 5 rfl rfl)
theorem dX3_looksAt_6 : decode cX3_looksAt 6 = .ok (.getfield 25, 3) := dk_180 0 25 (dk_at dksX3_looksAt_0 6 rfl rfl)
theorem dX3_looksAt_9 : decode cX3_looksAt 9 = .ok (.iconst 0, 1) := dk_3 (dk_at dksX3_looksAt_0 9 rfl rfl)
theorem dX3_looksAt_10 : decode cX3_looksAt 10 = .ok (.iaload, 1) := dk_46 (dk_at dksX3_looksAt_0 10 rfl rfl)
theorem dX3_looksAt_11 : decode cX3_looksAt 11 = .ok (.if_icmp .ge 68, 3) := dk_162 0 68 (dk_at dksX3_looksAt_0 11 rfl rfl)
theorem dX3_looksAt_14 : decode cX3_looksAt 14 = .ok (.iload 4, 2) := dk_21 4 (dk_at dksX3_looksAt_0 14 rfl rfl)
theorem dX3_looksAt_16 : decode cX3_looksAt 16 = .ok (.iconst 1, 1) := dk_4 (dk_at dksX3_looksAt_0 16 rfl rfl)
theorem dX3_looksAt_17 : decode cX3_looksAt 17 = .ok (.iadd, 1) := dk_96 (dk_at dksX3_looksAt_0 17 rfl rfl)
theorem dX3_looksAt_18 : decode cX3_looksAt 18 = .ok (.istore 5, 2) := dk_54 5 (dk_at dksX3_looksAt_0 18 rfl rfl)
theorem dX3_looksAt_20 : decode cX3_looksAt 20 = .ok (.iload 5, 2) := dk_21 5 (dk_at dksX3_looksAt_0 20 rfl rfl)
theorem dX3_looksAt_22 : decode cX3_looksAt 22 = .ok (.aload_n 0, 1) := dk_42 (dk_at dksX3_looksAt_0 22 rfl rfl)
theorem dX3_looksAt_23 : decode cX3_looksAt 23 = .ok (.getfield 25, 3) := dk_180 0 25 (dk_at dksX3_looksAt_1 0 rfl rfl)
theorem dX3_looksAt_26 : decode cX3_looksAt 26 = .ok (.iconst 0, 1) := dk_3 (dk_at dksX3_looksAt_1 3 rfl rfl)
theorem dX3_looksAt_27 : decode cX3_looksAt 27 = .ok (.iaload, 1) := dk_46 (dk_at dksX3_looksAt_1 4 rfl rfl)
theorem dX3_looksAt_28 : decode cX3_looksAt 28 = .ok (.if_icmp .ge 45, 3) := dk_162 0 45 (dk_at dksX3_looksAt_1 5 rfl rfl)
theorem dX3_looksAt_31 : decode cX3_looksAt 31 = .ok (.iload 5, 2) := dk_21 5 (dk_at dksX3_looksAt_1 8 rfl rfl)
theorem dX3_looksAt_33 : decode cX3_looksAt 33 = .ok (.iconst 1, 1) := dk_4 (dk_at dksX3_looksAt_1 10 rfl rfl)
theorem dX3_looksAt_34 : decode cX3_looksAt 34 = .ok (.iadd, 1) := dk_96 (dk_at dksX3_looksAt_1 11 rfl rfl)
theorem dX3_looksAt_35 : decode cX3_looksAt 35 = .ok (.istore 6, 2) := dk_54 6 (dk_at dksX3_looksAt_1 12 rfl rfl)
theorem dX3_looksAt_37 : decode cX3_looksAt 37 = .ok (.iload 6, 2) := dk_21 6 (dk_at dksX3_looksAt_1 14 rfl rfl)
theorem dX3_looksAt_39 : decode cX3_looksAt 39 = .ok (.aload_n 0, 1) := dk_42 (dk_at dksX3_looksAt_1 16 rfl rfl)
theorem dX3_looksAt_40 : decode cX3_looksAt 40 = .ok (.getfield 25, 3) := dk_180 0 25 (dk_at dksX3_looksAt_1 17 rfl rfl)
theorem dX3_looksAt_43 : decode cX3_looksAt 43 = .ok (.iconst 0, 1) := dk_3 (dk_at dksX3_looksAt_1 20 rfl rfl)
theorem dX3_looksAt_44 : decode cX3_looksAt 44 = .ok (.iaload, 1) := dk_46 (dk_at dksX3_looksAt_1 21 rfl rfl)
theorem dX3_looksAt_45 : decode cX3_looksAt 45 = .ok (.if_icmp .ge 22, 3) := dk_162 0 22 (dk_at dksX3_looksAt_2 0 rfl rfl)
theorem dX3_looksAt_48 : decode cX3_looksAt 48 = .ok (.aload_n 0, 1) := dk_42 (dk_at dksX3_looksAt_2 3 rfl rfl)
theorem dX3_looksAt_49 : decode cX3_looksAt 49 = .ok (.iload_n 1, 1) := dk_27 (dk_at dksX3_looksAt_2 4 rfl rfl)
theorem dX3_looksAt_50 : decode cX3_looksAt 50 = .ok (.iload_n 2, 1) := dk_28 (dk_at dksX3_looksAt_2 5 rfl rfl)
theorem dX3_looksAt_51 : decode cX3_looksAt 51 = .ok (.iload_n 3, 1) := dk_29 (dk_at dksX3_looksAt_2 6 rfl rfl)
theorem dX3_looksAt_52 : decode cX3_looksAt 52 = .ok (.iload 4, 2) := dk_21 4 (dk_at dksX3_looksAt_2 7 rfl rfl)
theorem dX3_looksAt_54 : decode cX3_looksAt 54 = .ok (.iload 5, 2) := dk_21 5 (dk_at dksX3_looksAt_2 9 rfl rfl)
theorem dX3_looksAt_56 : decode cX3_looksAt 56 = .ok (.iload 6, 2) := dk_21 6 (dk_at dksX3_looksAt_2 11 rfl rfl)
theorem dX3_looksAt_58 : decode cX3_looksAt 58 = .ok (.invokevirtual 185, 3) := dk_182 0 185 (dk_at dksX3_looksAt_2 13 rfl rfl)
theorem dX3_looksAt_61 : decode cX3_looksAt 61 = .ok (.iinc 6 1, 3) := dk_132 6 1 (dk_at dksX3_looksAt_2 16 rfl rfl)
theorem dX3_looksAt_64 : decode cX3_looksAt 64 = .ok (.goto (-27), 3) := dk_167 255 229 (dk_at dksX3_looksAt_2 19 rfl rfl)
theorem dX3_looksAt_67 : decode cX3_looksAt 67 = .ok (.iinc 5 1, 3) := dk_132 5 1 (dk_at dksX3_looksAt_3 0 rfl rfl)
theorem dX3_looksAt_70 : decode cX3_looksAt 70 = .ok (.goto (-50), 3) := dk_167 255 206 (dk_at dksX3_looksAt_3 3 rfl rfl)
theorem dX3_looksAt_73 : decode cX3_looksAt 73 = .ok (.iinc 4 1, 3) := dk_132 4 1 (dk_at dksX3_looksAt_3 6 rfl rfl)
theorem dX3_looksAt_76 : decode cX3_looksAt 76 = .ok (.goto (-73), 3) := dk_167 255 183 (dk_at dksX3_looksAt_3 9 rfl rfl)
theorem dX3_looksAt_79 : decode cX3_looksAt 79 = .ok (.return_, 1) := dk_177 (dk_at dksX3_looksAt_3 12 rfl rfl)
abbrev cX3_meets : ByteArray := prog_11_method_39_code
def yX3_meets : MethodName := ⟨RX3, "meets", "(IIIIII)V"⟩
def dkwX3_meets_6 : List UInt8 := [21, 6, 21, 5, 21, 4, 182, 0, 181, 177]
abbrev dktX3_meets_6 : List UInt8 := dkwX3_meets_6 ++ []
def dkwX3_meets_5 : List UInt8 := [21, 6, 21, 4, 182, 0, 181, 42, 27, 28, 29, 21, 6, 21, 4, 21, 5, 182, 0, 181, 42, 27, 28, 29]
abbrev dktX3_meets_5 : List UInt8 := dkwX3_meets_5 ++ dktX3_meets_6
def dkwX3_meets_4 : List UInt8 := [21, 5, 182, 0, 181, 42, 27, 28, 29, 21, 5, 21, 4, 21, 6, 182, 0, 181, 42, 27, 28, 29, 21, 5]
abbrev dktX3_meets_4 : List UInt8 := dkwX3_meets_4 ++ dktX3_meets_5
def dkwX3_meets_3 : List UInt8 := [181, 0, 178, 42, 27, 28, 29, 21, 4, 21, 5, 21, 6, 182, 0, 181, 42, 27, 28, 29, 21, 4, 21, 6]
abbrev dktX3_meets_3 : List UInt8 := dkwX3_meets_3 ++ dktX3_meets_4
def dkwX3_meets_2 : List UInt8 := [167, 0, 4, 3, 54, 7, 132, 8, 1, 167, 255, 205, 21, 7, 153, 0, 91, 42, 89, 180, 0, 178, 4, 96]
abbrev dktX3_meets_2 : List UInt8 := dkwX3_meets_2 ++ dktX3_meets_3
def dkwX3_meets_1 : List UInt8 := [182, 0, 165, 42, 3, 21, 4, 21, 5, 21, 6, 21, 8, 182, 0, 165, 184, 0, 169, 4, 163, 0, 7, 4]
abbrev dktX3_meets_1 : List UInt8 := dkwX3_meets_1 ++ dktX3_meets_2
def dkwX3_meets_0 : List UInt8 := [4, 54, 7, 3, 54, 8, 21, 8, 6, 162, 0, 51, 21, 7, 153, 0, 37, 42, 4, 27, 28, 29, 21, 8]
abbrev dktX3_meets_0 : List UInt8 := dkwX3_meets_0 ++ dktX3_meets_1
theorem dksX3_meets_0 : cX3_meets.data.toList.drop 0 = dktX3_meets_0 := by decide +kernel
theorem dksX3_meets_1 : cX3_meets.data.toList.drop 24 = dktX3_meets_1 := dk_seg dksX3_meets_0 24 rfl rfl
theorem dksX3_meets_2 : cX3_meets.data.toList.drop 48 = dktX3_meets_2 := dk_seg dksX3_meets_1 24 rfl rfl
theorem dksX3_meets_3 : cX3_meets.data.toList.drop 72 = dktX3_meets_3 := dk_seg dksX3_meets_2 24 rfl rfl
theorem dksX3_meets_4 : cX3_meets.data.toList.drop 96 = dktX3_meets_4 := dk_seg dksX3_meets_3 24 rfl rfl
theorem dksX3_meets_5 : cX3_meets.data.toList.drop 120 = dktX3_meets_5 := dk_seg dksX3_meets_4 24 rfl rfl
theorem dksX3_meets_6 : cX3_meets.data.toList.drop 144 = dktX3_meets_6 := dk_seg dksX3_meets_5 24 rfl rfl
theorem dX3_meets_0 : decode cX3_meets 0 = .ok (.iconst 1, 1) := dk_4 (dk_at dksX3_meets_0 0 rfl rfl)
theorem dX3_meets_1 : decode cX3_meets 1 = .ok (.istore 7, 2) := dk_54 7 (dk_at dksX3_meets_0 1 rfl rfl)
theorem dX3_meets_3 : decode cX3_meets 3 = .ok (.iconst 0, 1) := dk_3 (dk_at dksX3_meets_0 3 rfl rfl)
theorem dX3_meets_4 : decode cX3_meets 4 = .ok (.istore 8, 2) := dk_54 8 (dk_at dksX3_meets_0 4 rfl rfl)
theorem dX3_meets_6 : decode cX3_meets 6 = .ok (.iload 8, 2) := dk_21 8 (dk_at dksX3_meets_0 6 rfl rfl)
theorem dX3_meets_8 : decode cX3_meets 8 = .ok (.iconst 3, 1) := dk_6 (dk_at dksX3_meets_0 8 rfl rfl)
theorem dX3_meets_9 : decode cX3_meets 9 = .ok (.if_icmp .ge 51, 3) := dk_162 0 51 (dk_at dksX3_meets_0 9 rfl rfl)
theorem dX3_meets_12 : decode cX3_meets 12 = .ok (.iload 7, 2) := dk_21 7 (dk_at dksX3_meets_0 12 rfl rfl)
theorem dX3_meets_14 : decode cX3_meets 14 = .ok (.ifCond .eq 37, 3) := dk_153 0 37 (dk_at dksX3_meets_0 14 rfl rfl)
theorem dX3_meets_17 : decode cX3_meets 17 = .ok (.aload_n 0, 1) := dk_42 (dk_at dksX3_meets_0 17 rfl rfl)
theorem dX3_meets_18 : decode cX3_meets 18 = .ok (.iconst 1, 1) := dk_4 (dk_at dksX3_meets_0 18 rfl rfl)
theorem dX3_meets_19 : decode cX3_meets 19 = .ok (.iload_n 1, 1) := dk_27 (dk_at dksX3_meets_0 19 rfl rfl)
theorem dX3_meets_20 : decode cX3_meets 20 = .ok (.iload_n 2, 1) := dk_28 (dk_at dksX3_meets_0 20 rfl rfl)
theorem dX3_meets_21 : decode cX3_meets 21 = .ok (.iload_n 3, 1) := dk_29 (dk_at dksX3_meets_0 21 rfl rfl)
theorem dX3_meets_22 : decode cX3_meets 22 = .ok (.iload 8, 2) := dk_21 8 (dk_at dksX3_meets_0 22 rfl rfl)
theorem dX3_meets_24 : decode cX3_meets 24 = .ok (.invokevirtual 165, 3) := dk_182 0 165 (dk_at dksX3_meets_1 0 rfl rfl)
theorem dX3_meets_27 : decode cX3_meets 27 = .ok (.aload_n 0, 1) := dk_42 (dk_at dksX3_meets_1 3 rfl rfl)
theorem dX3_meets_28 : decode cX3_meets 28 = .ok (.iconst 0, 1) := dk_3 (dk_at dksX3_meets_1 4 rfl rfl)
theorem dX3_meets_29 : decode cX3_meets 29 = .ok (.iload 4, 2) := dk_21 4 (dk_at dksX3_meets_1 5 rfl rfl)
theorem dX3_meets_31 : decode cX3_meets 31 = .ok (.iload 5, 2) := dk_21 5 (dk_at dksX3_meets_1 7 rfl rfl)
theorem dX3_meets_33 : decode cX3_meets 33 = .ok (.iload 6, 2) := dk_21 6 (dk_at dksX3_meets_1 9 rfl rfl)
theorem dX3_meets_35 : decode cX3_meets 35 = .ok (.iload 8, 2) := dk_21 8 (dk_at dksX3_meets_1 11 rfl rfl)
theorem dX3_meets_37 : decode cX3_meets 37 = .ok (.invokevirtual 165, 3) := dk_182 0 165 (dk_at dksX3_meets_1 13 rfl rfl)
theorem dX3_meets_40 : decode cX3_meets 40 = .ok (.invokestatic 169, 3) := dk_184 0 169 (dk_at dksX3_meets_1 16 rfl rfl)
theorem dX3_meets_43 : decode cX3_meets 43 = .ok (.iconst 1, 1) := dk_4 (dk_at dksX3_meets_1 19 rfl rfl)
theorem dX3_meets_44 : decode cX3_meets 44 = .ok (.if_icmp .gt 7, 3) := dk_163 0 7 (dk_at dksX3_meets_1 20 rfl rfl)
theorem dX3_meets_47 : decode cX3_meets 47 = .ok (.iconst 1, 1) := dk_4 (dk_at dksX3_meets_1 23 rfl rfl)
theorem dX3_meets_48 : decode cX3_meets 48 = .ok (.goto 4, 3) := dk_167 0 4 (dk_at dksX3_meets_2 0 rfl rfl)
theorem dX3_meets_51 : decode cX3_meets 51 = .ok (.iconst 0, 1) := dk_3 (dk_at dksX3_meets_2 3 rfl rfl)
theorem dX3_meets_52 : decode cX3_meets 52 = .ok (.istore 7, 2) := dk_54 7 (dk_at dksX3_meets_2 4 rfl rfl)
theorem dX3_meets_54 : decode cX3_meets 54 = .ok (.iinc 8 1, 3) := dk_132 8 1 (dk_at dksX3_meets_2 6 rfl rfl)
theorem dX3_meets_57 : decode cX3_meets 57 = .ok (.goto (-51), 3) := dk_167 255 205 (dk_at dksX3_meets_2 9 rfl rfl)
theorem dX3_meets_60 : decode cX3_meets 60 = .ok (.iload 7, 2) := dk_21 7 (dk_at dksX3_meets_2 12 rfl rfl)
theorem dX3_meets_62 : decode cX3_meets 62 = .ok (.ifCond .eq 91, 3) := dk_153 0 91 (dk_at dksX3_meets_2 14 rfl rfl)
theorem dX3_meets_65 : decode cX3_meets 65 = .ok (.aload_n 0, 1) := dk_42 (dk_at dksX3_meets_2 17 rfl rfl)
theorem dX3_meets_66 : decode cX3_meets 66 = .ok (.dup, 1) := dk_89 (dk_at dksX3_meets_2 18 rfl rfl)
theorem dX3_meets_67 : decode cX3_meets 67 = .ok (.getfield 178, 3) := dk_180 0 178 (dk_at dksX3_meets_2 19 rfl rfl)
theorem dX3_meets_70 : decode cX3_meets 70 = .ok (.iconst 1, 1) := dk_4 (dk_at dksX3_meets_2 22 rfl rfl)
theorem dX3_meets_71 : decode cX3_meets 71 = .ok (.iadd, 1) := dk_96 (dk_at dksX3_meets_2 23 rfl rfl)
theorem dX3_meets_72 : decode cX3_meets 72 = .ok (.putfield 178, 3) := dk_181 0 178 (dk_at dksX3_meets_3 0 rfl rfl)
theorem dX3_meets_75 : decode cX3_meets 75 = .ok (.aload_n 0, 1) := dk_42 (dk_at dksX3_meets_3 3 rfl rfl)
theorem dX3_meets_76 : decode cX3_meets 76 = .ok (.iload_n 1, 1) := dk_27 (dk_at dksX3_meets_3 4 rfl rfl)
theorem dX3_meets_77 : decode cX3_meets 77 = .ok (.iload_n 2, 1) := dk_28 (dk_at dksX3_meets_3 5 rfl rfl)
theorem dX3_meets_78 : decode cX3_meets 78 = .ok (.iload_n 3, 1) := dk_29 (dk_at dksX3_meets_3 6 rfl rfl)
theorem dX3_meets_79 : decode cX3_meets 79 = .ok (.iload 4, 2) := dk_21 4 (dk_at dksX3_meets_3 7 rfl rfl)
theorem dX3_meets_81 : decode cX3_meets 81 = .ok (.iload 5, 2) := dk_21 5 (dk_at dksX3_meets_3 9 rfl rfl)
theorem dX3_meets_83 : decode cX3_meets 83 = .ok (.iload 6, 2) := dk_21 6 (dk_at dksX3_meets_3 11 rfl rfl)
theorem dX3_meets_85 : decode cX3_meets 85 = .ok (.invokevirtual 181, 3) := dk_182 0 181 (dk_at dksX3_meets_3 13 rfl rfl)
theorem dX3_meets_88 : decode cX3_meets 88 = .ok (.aload_n 0, 1) := dk_42 (dk_at dksX3_meets_3 16 rfl rfl)
theorem dX3_meets_89 : decode cX3_meets 89 = .ok (.iload_n 1, 1) := dk_27 (dk_at dksX3_meets_3 17 rfl rfl)
theorem dX3_meets_90 : decode cX3_meets 90 = .ok (.iload_n 2, 1) := dk_28 (dk_at dksX3_meets_3 18 rfl rfl)
theorem dX3_meets_91 : decode cX3_meets 91 = .ok (.iload_n 3, 1) := dk_29 (dk_at dksX3_meets_3 19 rfl rfl)
theorem dX3_meets_92 : decode cX3_meets 92 = .ok (.iload 4, 2) := dk_21 4 (dk_at dksX3_meets_3 20 rfl rfl)
theorem dX3_meets_94 : decode cX3_meets 94 = .ok (.iload 6, 2) := dk_21 6 (dk_at dksX3_meets_3 22 rfl rfl)
theorem dX3_meets_96 : decode cX3_meets 96 = .ok (.iload 5, 2) := dk_21 5 (dk_at dksX3_meets_4 0 rfl rfl)
theorem dX3_meets_98 : decode cX3_meets 98 = .ok (.invokevirtual 181, 3) := dk_182 0 181 (dk_at dksX3_meets_4 2 rfl rfl)
theorem dX3_meets_101 : decode cX3_meets 101 = .ok (.aload_n 0, 1) := dk_42 (dk_at dksX3_meets_4 5 rfl rfl)
theorem dX3_meets_102 : decode cX3_meets 102 = .ok (.iload_n 1, 1) := dk_27 (dk_at dksX3_meets_4 6 rfl rfl)
theorem dX3_meets_103 : decode cX3_meets 103 = .ok (.iload_n 2, 1) := dk_28 (dk_at dksX3_meets_4 7 rfl rfl)
theorem dX3_meets_104 : decode cX3_meets 104 = .ok (.iload_n 3, 1) := dk_29 (dk_at dksX3_meets_4 8 rfl rfl)
theorem dX3_meets_105 : decode cX3_meets 105 = .ok (.iload 5, 2) := dk_21 5 (dk_at dksX3_meets_4 9 rfl rfl)
theorem dX3_meets_107 : decode cX3_meets 107 = .ok (.iload 4, 2) := dk_21 4 (dk_at dksX3_meets_4 11 rfl rfl)
theorem dX3_meets_109 : decode cX3_meets 109 = .ok (.iload 6, 2) := dk_21 6 (dk_at dksX3_meets_4 13 rfl rfl)
theorem dX3_meets_111 : decode cX3_meets 111 = .ok (.invokevirtual 181, 3) := dk_182 0 181 (dk_at dksX3_meets_4 15 rfl rfl)
theorem dX3_meets_114 : decode cX3_meets 114 = .ok (.aload_n 0, 1) := dk_42 (dk_at dksX3_meets_4 18 rfl rfl)
theorem dX3_meets_115 : decode cX3_meets 115 = .ok (.iload_n 1, 1) := dk_27 (dk_at dksX3_meets_4 19 rfl rfl)
theorem dX3_meets_116 : decode cX3_meets 116 = .ok (.iload_n 2, 1) := dk_28 (dk_at dksX3_meets_4 20 rfl rfl)
theorem dX3_meets_117 : decode cX3_meets 117 = .ok (.iload_n 3, 1) := dk_29 (dk_at dksX3_meets_4 21 rfl rfl)
theorem dX3_meets_118 : decode cX3_meets 118 = .ok (.iload 5, 2) := dk_21 5 (dk_at dksX3_meets_4 22 rfl rfl)
theorem dX3_meets_120 : decode cX3_meets 120 = .ok (.iload 6, 2) := dk_21 6 (dk_at dksX3_meets_5 0 rfl rfl)
theorem dX3_meets_122 : decode cX3_meets 122 = .ok (.iload 4, 2) := dk_21 4 (dk_at dksX3_meets_5 2 rfl rfl)
theorem dX3_meets_124 : decode cX3_meets 124 = .ok (.invokevirtual 181, 3) := dk_182 0 181 (dk_at dksX3_meets_5 4 rfl rfl)
theorem dX3_meets_127 : decode cX3_meets 127 = .ok (.aload_n 0, 1) := dk_42 (dk_at dksX3_meets_5 7 rfl rfl)
theorem dX3_meets_128 : decode cX3_meets 128 = .ok (.iload_n 1, 1) := dk_27 (dk_at dksX3_meets_5 8 rfl rfl)
theorem dX3_meets_129 : decode cX3_meets 129 = .ok (.iload_n 2, 1) := dk_28 (dk_at dksX3_meets_5 9 rfl rfl)
theorem dX3_meets_130 : decode cX3_meets 130 = .ok (.iload_n 3, 1) := dk_29 (dk_at dksX3_meets_5 10 rfl rfl)
theorem dX3_meets_131 : decode cX3_meets 131 = .ok (.iload 6, 2) := dk_21 6 (dk_at dksX3_meets_5 11 rfl rfl)
theorem dX3_meets_133 : decode cX3_meets 133 = .ok (.iload 4, 2) := dk_21 4 (dk_at dksX3_meets_5 13 rfl rfl)
theorem dX3_meets_135 : decode cX3_meets 135 = .ok (.iload 5, 2) := dk_21 5 (dk_at dksX3_meets_5 15 rfl rfl)
theorem dX3_meets_137 : decode cX3_meets 137 = .ok (.invokevirtual 181, 3) := dk_182 0 181 (dk_at dksX3_meets_5 17 rfl rfl)
theorem dX3_meets_140 : decode cX3_meets 140 = .ok (.aload_n 0, 1) := dk_42 (dk_at dksX3_meets_5 20 rfl rfl)
theorem dX3_meets_141 : decode cX3_meets 141 = .ok (.iload_n 1, 1) := dk_27 (dk_at dksX3_meets_5 21 rfl rfl)
theorem dX3_meets_142 : decode cX3_meets 142 = .ok (.iload_n 2, 1) := dk_28 (dk_at dksX3_meets_5 22 rfl rfl)
theorem dX3_meets_143 : decode cX3_meets 143 = .ok (.iload_n 3, 1) := dk_29 (dk_at dksX3_meets_5 23 rfl rfl)
theorem dX3_meets_144 : decode cX3_meets 144 = .ok (.iload 6, 2) := dk_21 6 (dk_at dksX3_meets_6 0 rfl rfl)
theorem dX3_meets_146 : decode cX3_meets 146 = .ok (.iload 5, 2) := dk_21 5 (dk_at dksX3_meets_6 2 rfl rfl)
theorem dX3_meets_148 : decode cX3_meets 148 = .ok (.iload 4, 2) := dk_21 4 (dk_at dksX3_meets_6 4 rfl rfl)
theorem dX3_meets_150 : decode cX3_meets 150 = .ok (.invokevirtual 181, 3) := dk_182 0 181 (dk_at dksX3_meets_6 6 rfl rfl)
theorem dX3_meets_153 : decode cX3_meets 153 = .ok (.return_, 1) := dk_177 (dk_at dksX3_meets_6 9 rfl rfl)
abbrev cX3_apart : ByteArray := prog_11_method_36_code
def yX3_apart : MethodName := ⟨RX3, "apart", "(II)I"⟩
def dkwX3_apart_0 : List UInt8 := [26, 27, 162, 0, 9, 27, 26, 100, 167, 0, 6, 26, 27, 100, 172]
abbrev dktX3_apart_0 : List UInt8 := dkwX3_apart_0 ++ []
theorem dksX3_apart_0 : cX3_apart.data.toList.drop 0 = dktX3_apart_0 := by decide +kernel
theorem dX3_apart_0 : decode cX3_apart 0 = .ok (.iload_n 0, 1) := dk_26 (dk_at dksX3_apart_0 0 rfl rfl)
theorem dX3_apart_1 : decode cX3_apart 1 = .ok (.iload_n 1, 1) := dk_27 (dk_at dksX3_apart_0 1 rfl rfl)
theorem dX3_apart_2 : decode cX3_apart 2 = .ok (.if_icmp .ge 9, 3) := dk_162 0 9 (dk_at dksX3_apart_0 2 rfl rfl)
theorem dX3_apart_5 : decode cX3_apart 5 = .ok (.iload_n 1, 1) := dk_27 (dk_at dksX3_apart_0 5 rfl rfl)
theorem dX3_apart_6 : decode cX3_apart 6 = .ok (.iload_n 0, 1) := dk_26 (dk_at dksX3_apart_0 6 rfl rfl)
theorem dX3_apart_7 : decode cX3_apart 7 = .ok (.isub, 1) := dk_100 (dk_at dksX3_apart_0 7 rfl rfl)
theorem dX3_apart_8 : decode cX3_apart 8 = .ok (.goto 6, 3) := dk_167 0 6 (dk_at dksX3_apart_0 8 rfl rfl)
theorem dX3_apart_11 : decode cX3_apart 11 = .ok (.iload_n 0, 1) := dk_26 (dk_at dksX3_apart_0 11 rfl rfl)
theorem dX3_apart_12 : decode cX3_apart 12 = .ok (.iload_n 1, 1) := dk_27 (dk_at dksX3_apart_0 12 rfl rfl)
theorem dX3_apart_13 : decode cX3_apart 13 = .ok (.isub, 1) := dk_100 (dk_at dksX3_apart_0 13 rfl rfl)
theorem dX3_apart_14 : decode cX3_apart 14 = .ok (.ireturn, 1) := dk_172 (dk_at dksX3_apart_0 14 rfl rfl)
abbrev cX3_tries : ByteArray := prog_11_method_38_code
def yX3_tries : MethodName := ⟨RX3, "tries", "(IIIIII)V"⟩
def dkwX3_tries_4 : List UInt8 := [46, 4, 96, 79, 177]
abbrev dktX3_tries_4 : List UInt8 := dkwX3_tries_4 ++ []
def dkwX3_tries_3 : List UInt8 := [16, 12, 28, 104, 21, 5, 96, 92, 46, 4, 96, 79, 42, 180, 0, 35, 16, 12, 29, 104, 21, 6, 96, 92]
abbrev dktX3_tries_3 : List UInt8 := dkwX3_tries_3 ++ dktX3_tries_4
def dkwX3_tries_2 : List UInt8 := [181, 0, 175, 42, 180, 0, 35, 16, 12, 27, 104, 21, 4, 96, 92, 46, 4, 96, 79, 42, 180, 0, 35]
abbrev dktX3_tries_2 : List UInt8 := dkwX3_tries_2 ++ dktX3_tries_3
def dkwX3_tries_1 : List UInt8 := [153, 0, 74, 42, 27, 29, 21, 4, 21, 6, 182, 0, 172, 153, 0, 61, 42, 89, 180, 0, 175, 4, 96]
abbrev dktX3_tries_1 : List UInt8 := dkwX3_tries_1 ++ dktX3_tries_2
def dkwX3_tries_0 : List UInt8 := [42, 27, 28, 21, 4, 21, 5, 182, 0, 172, 153, 0, 87, 42, 28, 29, 21, 5, 21, 6, 182, 0, 172]
abbrev dktX3_tries_0 : List UInt8 := dkwX3_tries_0 ++ dktX3_tries_1
theorem dksX3_tries_0 : cX3_tries.data.toList.drop 0 = dktX3_tries_0 := by decide +kernel
theorem dksX3_tries_1 : cX3_tries.data.toList.drop 23 = dktX3_tries_1 := dk_seg dksX3_tries_0 23 rfl rfl
theorem dksX3_tries_2 : cX3_tries.data.toList.drop 46 = dktX3_tries_2 := dk_seg dksX3_tries_1 23 rfl rfl
theorem dksX3_tries_3 : cX3_tries.data.toList.drop 69 = dktX3_tries_3 := dk_seg dksX3_tries_2 23 rfl rfl
theorem dksX3_tries_4 : cX3_tries.data.toList.drop 93 = dktX3_tries_4 := dk_seg dksX3_tries_3 24 rfl rfl
theorem dX3_tries_0 : decode cX3_tries 0 = .ok (.aload_n 0, 1) := dk_42 (dk_at dksX3_tries_0 0 rfl rfl)
theorem dX3_tries_1 : decode cX3_tries 1 = .ok (.iload_n 1, 1) := dk_27 (dk_at dksX3_tries_0 1 rfl rfl)
theorem dX3_tries_2 : decode cX3_tries 2 = .ok (.iload_n 2, 1) := dk_28 (dk_at dksX3_tries_0 2 rfl rfl)
theorem dX3_tries_3 : decode cX3_tries 3 = .ok (.iload 4, 2) := dk_21 4 (dk_at dksX3_tries_0 3 rfl rfl)
theorem dX3_tries_5 : decode cX3_tries 5 = .ok (.iload 5, 2) := dk_21 5 (dk_at dksX3_tries_0 5 rfl rfl)
theorem dX3_tries_7 : decode cX3_tries 7 = .ok (.invokevirtual 172, 3) := dk_182 0 172 (dk_at dksX3_tries_0 7 rfl rfl)
theorem dX3_tries_10 : decode cX3_tries 10 = .ok (.ifCond .eq 87, 3) := dk_153 0 87 (dk_at dksX3_tries_0 10 rfl rfl)
theorem dX3_tries_13 : decode cX3_tries 13 = .ok (.aload_n 0, 1) := dk_42 (dk_at dksX3_tries_0 13 rfl rfl)
theorem dX3_tries_14 : decode cX3_tries 14 = .ok (.iload_n 2, 1) := dk_28 (dk_at dksX3_tries_0 14 rfl rfl)
theorem dX3_tries_15 : decode cX3_tries 15 = .ok (.iload_n 3, 1) := dk_29 (dk_at dksX3_tries_0 15 rfl rfl)
theorem dX3_tries_16 : decode cX3_tries 16 = .ok (.iload 5, 2) := dk_21 5 (dk_at dksX3_tries_0 16 rfl rfl)
theorem dX3_tries_18 : decode cX3_tries 18 = .ok (.iload 6, 2) := dk_21 6 (dk_at dksX3_tries_0 18 rfl rfl)
theorem dX3_tries_20 : decode cX3_tries 20 = .ok (.invokevirtual 172, 3) := dk_182 0 172 (dk_at dksX3_tries_0 20 rfl rfl)
theorem dX3_tries_23 : decode cX3_tries 23 = .ok (.ifCond .eq 74, 3) := dk_153 0 74 (dk_at dksX3_tries_1 0 rfl rfl)
theorem dX3_tries_26 : decode cX3_tries 26 = .ok (.aload_n 0, 1) := dk_42 (dk_at dksX3_tries_1 3 rfl rfl)
theorem dX3_tries_27 : decode cX3_tries 27 = .ok (.iload_n 1, 1) := dk_27 (dk_at dksX3_tries_1 4 rfl rfl)
theorem dX3_tries_28 : decode cX3_tries 28 = .ok (.iload_n 3, 1) := dk_29 (dk_at dksX3_tries_1 5 rfl rfl)
theorem dX3_tries_29 : decode cX3_tries 29 = .ok (.iload 4, 2) := dk_21 4 (dk_at dksX3_tries_1 6 rfl rfl)
theorem dX3_tries_31 : decode cX3_tries 31 = .ok (.iload 6, 2) := dk_21 6 (dk_at dksX3_tries_1 8 rfl rfl)
theorem dX3_tries_33 : decode cX3_tries 33 = .ok (.invokevirtual 172, 3) := dk_182 0 172 (dk_at dksX3_tries_1 10 rfl rfl)
theorem dX3_tries_36 : decode cX3_tries 36 = .ok (.ifCond .eq 61, 3) := dk_153 0 61 (dk_at dksX3_tries_1 13 rfl rfl)
theorem dX3_tries_39 : decode cX3_tries 39 = .ok (.aload_n 0, 1) := dk_42 (dk_at dksX3_tries_1 16 rfl rfl)
theorem dX3_tries_40 : decode cX3_tries 40 = .ok (.dup, 1) := dk_89 (dk_at dksX3_tries_1 17 rfl rfl)
theorem dX3_tries_41 : decode cX3_tries 41 = .ok (.getfield 175, 3) := dk_180 0 175 (dk_at dksX3_tries_1 18 rfl rfl)
theorem dX3_tries_44 : decode cX3_tries 44 = .ok (.iconst 1, 1) := dk_4 (dk_at dksX3_tries_1 21 rfl rfl)
theorem dX3_tries_45 : decode cX3_tries 45 = .ok (.iadd, 1) := dk_96 (dk_at dksX3_tries_1 22 rfl rfl)
theorem dX3_tries_46 : decode cX3_tries 46 = .ok (.putfield 175, 3) := dk_181 0 175 (dk_at dksX3_tries_2 0 rfl rfl)
theorem dX3_tries_49 : decode cX3_tries 49 = .ok (.aload_n 0, 1) := dk_42 (dk_at dksX3_tries_2 3 rfl rfl)
theorem dX3_tries_50 : decode cX3_tries 50 = .ok (.getfield 35, 3) := dk_180 0 35 (dk_at dksX3_tries_2 4 rfl rfl)
theorem dX3_tries_53 : decode cX3_tries 53 = .ok (.bipush 12, 2) := dk_16 12 (dk_at dksX3_tries_2 7 rfl rfl)
theorem dX3_tries_55 : decode cX3_tries 55 = .ok (.iload_n 1, 1) := dk_27 (dk_at dksX3_tries_2 9 rfl rfl)
theorem dX3_tries_56 : decode cX3_tries 56 = .ok (.imul, 1) := dk_104 (dk_at dksX3_tries_2 10 rfl rfl)
theorem dX3_tries_57 : decode cX3_tries 57 = .ok (.iload 4, 2) := dk_21 4 (dk_at dksX3_tries_2 11 rfl rfl)
theorem dX3_tries_59 : decode cX3_tries 59 = .ok (.iadd, 1) := dk_96 (dk_at dksX3_tries_2 13 rfl rfl)
theorem dX3_tries_60 : decode cX3_tries 60 = .ok (.dup2, 1) := dk_92 (dk_at dksX3_tries_2 14 rfl rfl)
theorem dX3_tries_61 : decode cX3_tries 61 = .ok (.iaload, 1) := dk_46 (dk_at dksX3_tries_2 15 rfl rfl)
theorem dX3_tries_62 : decode cX3_tries 62 = .ok (.iconst 1, 1) := dk_4 (dk_at dksX3_tries_2 16 rfl rfl)
theorem dX3_tries_63 : decode cX3_tries 63 = .ok (.iadd, 1) := dk_96 (dk_at dksX3_tries_2 17 rfl rfl)
theorem dX3_tries_64 : decode cX3_tries 64 = .ok (.iastore, 1) := dk_79 (dk_at dksX3_tries_2 18 rfl rfl)
theorem dX3_tries_65 : decode cX3_tries 65 = .ok (.aload_n 0, 1) := dk_42 (dk_at dksX3_tries_2 19 rfl rfl)
theorem dX3_tries_66 : decode cX3_tries 66 = .ok (.getfield 35, 3) := dk_180 0 35 (dk_at dksX3_tries_2 20 rfl rfl)
theorem dX3_tries_69 : decode cX3_tries 69 = .ok (.bipush 12, 2) := dk_16 12 (dk_at dksX3_tries_3 0 rfl rfl)
theorem dX3_tries_71 : decode cX3_tries 71 = .ok (.iload_n 2, 1) := dk_28 (dk_at dksX3_tries_3 2 rfl rfl)
theorem dX3_tries_72 : decode cX3_tries 72 = .ok (.imul, 1) := dk_104 (dk_at dksX3_tries_3 3 rfl rfl)
theorem dX3_tries_73 : decode cX3_tries 73 = .ok (.iload 5, 2) := dk_21 5 (dk_at dksX3_tries_3 4 rfl rfl)
theorem dX3_tries_75 : decode cX3_tries 75 = .ok (.iadd, 1) := dk_96 (dk_at dksX3_tries_3 6 rfl rfl)
theorem dX3_tries_76 : decode cX3_tries 76 = .ok (.dup2, 1) := dk_92 (dk_at dksX3_tries_3 7 rfl rfl)
theorem dX3_tries_77 : decode cX3_tries 77 = .ok (.iaload, 1) := dk_46 (dk_at dksX3_tries_3 8 rfl rfl)
theorem dX3_tries_78 : decode cX3_tries 78 = .ok (.iconst 1, 1) := dk_4 (dk_at dksX3_tries_3 9 rfl rfl)
theorem dX3_tries_79 : decode cX3_tries 79 = .ok (.iadd, 1) := dk_96 (dk_at dksX3_tries_3 10 rfl rfl)
theorem dX3_tries_80 : decode cX3_tries 80 = .ok (.iastore, 1) := dk_79 (dk_at dksX3_tries_3 11 rfl rfl)
theorem dX3_tries_81 : decode cX3_tries 81 = .ok (.aload_n 0, 1) := dk_42 (dk_at dksX3_tries_3 12 rfl rfl)
theorem dX3_tries_82 : decode cX3_tries 82 = .ok (.getfield 35, 3) := dk_180 0 35 (dk_at dksX3_tries_3 13 rfl rfl)
theorem dX3_tries_85 : decode cX3_tries 85 = .ok (.bipush 12, 2) := dk_16 12 (dk_at dksX3_tries_3 16 rfl rfl)
theorem dX3_tries_87 : decode cX3_tries 87 = .ok (.iload_n 3, 1) := dk_29 (dk_at dksX3_tries_3 18 rfl rfl)
theorem dX3_tries_88 : decode cX3_tries 88 = .ok (.imul, 1) := dk_104 (dk_at dksX3_tries_3 19 rfl rfl)
theorem dX3_tries_89 : decode cX3_tries 89 = .ok (.iload 6, 2) := dk_21 6 (dk_at dksX3_tries_3 20 rfl rfl)
theorem dX3_tries_91 : decode cX3_tries 91 = .ok (.iadd, 1) := dk_96 (dk_at dksX3_tries_3 22 rfl rfl)
theorem dX3_tries_92 : decode cX3_tries 92 = .ok (.dup2, 1) := dk_92 (dk_at dksX3_tries_3 23 rfl rfl)
theorem dX3_tries_93 : decode cX3_tries 93 = .ok (.iaload, 1) := dk_46 (dk_at dksX3_tries_4 0 rfl rfl)
theorem dX3_tries_94 : decode cX3_tries 94 = .ok (.iconst 1, 1) := dk_4 (dk_at dksX3_tries_4 1 rfl rfl)
theorem dX3_tries_95 : decode cX3_tries 95 = .ok (.iadd, 1) := dk_96 (dk_at dksX3_tries_4 2 rfl rfl)
theorem dX3_tries_96 : decode cX3_tries 96 = .ok (.iastore, 1) := dk_79 (dk_at dksX3_tries_4 3 rfl rfl)
theorem dX3_tries_97 : decode cX3_tries 97 = .ok (.return_, 1) := dk_177 (dk_at dksX3_tries_4 4 rfl rfl)
abbrev cX3_isLike : ByteArray := prog_11_method_37_code
def yX3_isLike : MethodName := ⟨RX3, "isLike", "(IIII)Z"⟩
def dkwX3_isLike_1 : List UInt8 := [163, 0, 7, 4, 167, 0, 4, 3, 172]
abbrev dktX3_isLike_1 : List UInt8 := dkwX3_isLike_1 ++ []
def dkwX3_isLike_0 : List UInt8 := [42, 4, 27, 28, 182, 0, 158, 42, 3, 29, 21, 4, 182, 0, 158, 184, 0, 169, 42, 180, 0, 28, 4, 46]
abbrev dktX3_isLike_0 : List UInt8 := dkwX3_isLike_0 ++ dktX3_isLike_1
theorem dksX3_isLike_0 : cX3_isLike.data.toList.drop 0 = dktX3_isLike_0 := by decide +kernel
theorem dksX3_isLike_1 : cX3_isLike.data.toList.drop 24 = dktX3_isLike_1 := dk_seg dksX3_isLike_0 24 rfl rfl
theorem dX3_isLike_0 : decode cX3_isLike 0 = .ok (.aload_n 0, 1) := dk_42 (dk_at dksX3_isLike_0 0 rfl rfl)
theorem dX3_isLike_1 : decode cX3_isLike 1 = .ok (.iconst 1, 1) := dk_4 (dk_at dksX3_isLike_0 1 rfl rfl)
theorem dX3_isLike_2 : decode cX3_isLike 2 = .ok (.iload_n 1, 1) := dk_27 (dk_at dksX3_isLike_0 2 rfl rfl)
theorem dX3_isLike_3 : decode cX3_isLike 3 = .ok (.iload_n 2, 1) := dk_28 (dk_at dksX3_isLike_0 3 rfl rfl)
theorem dX3_isLike_4 : decode cX3_isLike 4 = .ok (.invokevirtual 158, 3) := dk_182 0 158 (dk_at dksX3_isLike_0 4 rfl rfl)
theorem dX3_isLike_7 : decode cX3_isLike 7 = .ok (.aload_n 0, 1) := dk_42 (dk_at dksX3_isLike_0 7 rfl rfl)
theorem dX3_isLike_8 : decode cX3_isLike 8 = .ok (.iconst 0, 1) := dk_3 (dk_at dksX3_isLike_0 8 rfl rfl)
theorem dX3_isLike_9 : decode cX3_isLike 9 = .ok (.iload_n 3, 1) := dk_29 (dk_at dksX3_isLike_0 9 rfl rfl)
theorem dX3_isLike_10 : decode cX3_isLike 10 = .ok (.iload 4, 2) := dk_21 4 (dk_at dksX3_isLike_0 10 rfl rfl)
theorem dX3_isLike_12 : decode cX3_isLike 12 = .ok (.invokevirtual 158, 3) := dk_182 0 158 (dk_at dksX3_isLike_0 12 rfl rfl)
theorem dX3_isLike_15 : decode cX3_isLike 15 = .ok (.invokestatic 169, 3) := dk_184 0 169 (dk_at dksX3_isLike_0 15 rfl rfl)
theorem dX3_isLike_18 : decode cX3_isLike 18 = .ok (.aload_n 0, 1) := dk_42 (dk_at dksX3_isLike_0 18 rfl rfl)
theorem dX3_isLike_19 : decode cX3_isLike 19 = .ok (.getfield 28, 3) := dk_180 0 28 (dk_at dksX3_isLike_0 19 rfl rfl)
theorem dX3_isLike_22 : decode cX3_isLike 22 = .ok (.iconst 1, 1) := dk_4 (dk_at dksX3_isLike_0 22 rfl rfl)
theorem dX3_isLike_23 : decode cX3_isLike 23 = .ok (.iaload, 1) := dk_46 (dk_at dksX3_isLike_0 23 rfl rfl)
theorem dX3_isLike_24 : decode cX3_isLike 24 = .ok (.if_icmp .gt 7, 3) := dk_163 0 7 (dk_at dksX3_isLike_1 0 rfl rfl)
theorem dX3_isLike_27 : decode cX3_isLike 27 = .ok (.iconst 1, 1) := dk_4 (dk_at dksX3_isLike_1 3 rfl rfl)
theorem dX3_isLike_28 : decode cX3_isLike 28 = .ok (.goto 4, 3) := dk_167 0 4 (dk_at dksX3_isLike_1 4 rfl rfl)
theorem dX3_isLike_31 : decode cX3_isLike 31 = .ok (.iconst 0, 1) := dk_3 (dk_at dksX3_isLike_1 7 rfl rfl)
theorem dX3_isLike_32 : decode cX3_isLike 32 = .ok (.ireturn, 1) := dk_172 (dk_at dksX3_isLike_1 8 rfl rfl)
abbrev cX3_takes : ByteArray := prog_11_method_42_code
def yX3_takes : MethodName := ⟨RX3, "takes", "()V"⟩
def dkwX3_takes_8 : List UInt8 := [180, 0, 44, 27, 16, 12, 112, 4, 84, 42, 89, 180, 0, 192, 4, 96, 181, 0, 192, 167, 255, 108, 177]
abbrev dktX3_takes_8 : List UInt8 := dkwX3_takes_8 ++ []
def dkwX3_takes_7 : List UInt8 := [27, 16, 12, 108, 27, 16, 12, 112, 79, 42, 180, 0, 41, 27, 16, 12, 108, 42, 180, 0, 192, 79, 42]
abbrev dktX3_takes_7 : List UInt8 := dkwX3_takes_7 ++ dktX3_takes_8
def dkwX3_takes_6 : List UInt8 := [164, 0, 7, 28, 167, 0, 4, 27, 60, 132, 2, 1, 167, 255, 171, 27, 2, 159, 255, 157, 42, 180, 0, 38]
abbrev dktX3_takes_6 : List UInt8 := dkwX3_takes_6 ++ dktX3_takes_7
def dkwX3_takes_5 : List UInt8 := [62, 29, 153, 0, 27, 27, 2, 159, 0, 18, 42, 180, 0, 35, 28, 46, 42, 180, 0, 35, 27, 46]
abbrev dktX3_takes_5 : List UInt8 := dkwX3_takes_5 ++ dktX3_takes_6
def dkwX3_takes_4 : List UInt8 := [51, 154, 0, 22, 42, 180, 0, 35, 28, 46, 42, 180, 0, 28, 5, 46, 161, 0, 7, 4, 167, 0, 4, 3]
abbrev dktX3_takes_4 : List UInt8 := dkwX3_takes_4 ++ dktX3_takes_5
def dkwX3_takes_3 : List UInt8 := [162, 0, 85, 42, 180, 0, 38, 28, 16, 12, 108, 46, 2, 160, 0, 34, 42, 180, 0, 44, 28, 16, 12, 112]
abbrev dktX3_takes_3 : List UInt8 := dkwX3_takes_3 ++ dktX3_takes_4
def dkwX3_takes_2 : List UInt8 := [167, 255, 240, 42, 3, 181, 0, 192, 3, 60, 27, 2, 159, 0, 149, 2, 60, 3, 61, 28, 16, 96]
abbrev dktX3_takes_2 : List UInt8 := dkwX3_takes_2 ++ dktX3_takes_3
def dkwX3_takes_1 : List UInt8 := [132, 1, 1, 167, 255, 233, 3, 60, 27, 16, 12, 162, 0, 16, 42, 180, 0, 44, 27, 3, 84, 132, 1, 1]
abbrev dktX3_takes_1 : List UInt8 := dkwX3_takes_1 ++ dktX3_takes_2
def dkwX3_takes_0 : List UInt8 := [3, 60, 27, 16, 8, 162, 0, 23, 42, 180, 0, 38, 27, 2, 79, 42, 180, 0, 41, 27, 2, 79]
abbrev dktX3_takes_0 : List UInt8 := dkwX3_takes_0 ++ dktX3_takes_1
theorem dksX3_takes_0 : cX3_takes.data.toList.drop 0 = dktX3_takes_0 := by decide +kernel
theorem dksX3_takes_1 : cX3_takes.data.toList.drop 22 = dktX3_takes_1 := dk_seg dksX3_takes_0 22 rfl rfl
theorem dksX3_takes_2 : cX3_takes.data.toList.drop 46 = dktX3_takes_2 := dk_seg dksX3_takes_1 24 rfl rfl
theorem dksX3_takes_3 : cX3_takes.data.toList.drop 68 = dktX3_takes_3 := dk_seg dksX3_takes_2 22 rfl rfl
theorem dksX3_takes_4 : cX3_takes.data.toList.drop 92 = dktX3_takes_4 := dk_seg dksX3_takes_3 24 rfl rfl
theorem dksX3_takes_5 : cX3_takes.data.toList.drop 116 = dktX3_takes_5 := dk_seg dksX3_takes_4 24 rfl rfl
theorem dksX3_takes_6 : cX3_takes.data.toList.drop 138 = dktX3_takes_6 := dk_seg dksX3_takes_5 22 rfl rfl
theorem dksX3_takes_7 : cX3_takes.data.toList.drop 162 = dktX3_takes_7 := dk_seg dksX3_takes_6 24 rfl rfl
theorem dksX3_takes_8 : cX3_takes.data.toList.drop 185 = dktX3_takes_8 := dk_seg dksX3_takes_7 23 rfl rfl
theorem dX3_takes_0 : decode cX3_takes 0 = .ok (.iconst 0, 1) := dk_3 (dk_at dksX3_takes_0 0 rfl rfl)
theorem dX3_takes_1 : decode cX3_takes 1 = .ok (.istore_n 1, 1) := dk_60 (dk_at dksX3_takes_0 1 rfl rfl)
theorem dX3_takes_2 : decode cX3_takes 2 = .ok (.iload_n 1, 1) := dk_27 (dk_at dksX3_takes_0 2 rfl rfl)
theorem dX3_takes_3 : decode cX3_takes 3 = .ok (.bipush 8, 2) := dk_16 8 (dk_at dksX3_takes_0 3 rfl rfl)
theorem dX3_takes_5 : decode cX3_takes 5 = .ok (.if_icmp .ge 23, 3) := dk_162 0 23 (dk_at dksX3_takes_0 5 rfl rfl)
theorem dX3_takes_8 : decode cX3_takes 8 = .ok (.aload_n 0, 1) := dk_42 (dk_at dksX3_takes_0 8 rfl rfl)
theorem dX3_takes_9 : decode cX3_takes 9 = .ok (.getfield 38, 3) := dk_180 0 38 (dk_at dksX3_takes_0 9 rfl rfl)
theorem dX3_takes_12 : decode cX3_takes 12 = .ok (.iload_n 1, 1) := dk_27 (dk_at dksX3_takes_0 12 rfl rfl)
theorem dX3_takes_13 : decode cX3_takes 13 = .ok (.iconst (-1), 1) := dk_2 (dk_at dksX3_takes_0 13 rfl rfl)
theorem dX3_takes_14 : decode cX3_takes 14 = .ok (.iastore, 1) := dk_79 (dk_at dksX3_takes_0 14 rfl rfl)
theorem dX3_takes_15 : decode cX3_takes 15 = .ok (.aload_n 0, 1) := dk_42 (dk_at dksX3_takes_0 15 rfl rfl)
theorem dX3_takes_16 : decode cX3_takes 16 = .ok (.getfield 41, 3) := dk_180 0 41 (dk_at dksX3_takes_0 16 rfl rfl)
theorem dX3_takes_19 : decode cX3_takes 19 = .ok (.iload_n 1, 1) := dk_27 (dk_at dksX3_takes_0 19 rfl rfl)
theorem dX3_takes_20 : decode cX3_takes 20 = .ok (.iconst (-1), 1) := dk_2 (dk_at dksX3_takes_0 20 rfl rfl)
theorem dX3_takes_21 : decode cX3_takes 21 = .ok (.iastore, 1) := dk_79 (dk_at dksX3_takes_0 21 rfl rfl)
theorem dX3_takes_22 : decode cX3_takes 22 = .ok (.iinc 1 1, 3) := dk_132 1 1 (dk_at dksX3_takes_1 0 rfl rfl)
theorem dX3_takes_25 : decode cX3_takes 25 = .ok (.goto (-23), 3) := dk_167 255 233 (dk_at dksX3_takes_1 3 rfl rfl)
theorem dX3_takes_28 : decode cX3_takes 28 = .ok (.iconst 0, 1) := dk_3 (dk_at dksX3_takes_1 6 rfl rfl)
theorem dX3_takes_29 : decode cX3_takes 29 = .ok (.istore_n 1, 1) := dk_60 (dk_at dksX3_takes_1 7 rfl rfl)
theorem dX3_takes_30 : decode cX3_takes 30 = .ok (.iload_n 1, 1) := dk_27 (dk_at dksX3_takes_1 8 rfl rfl)
theorem dX3_takes_31 : decode cX3_takes 31 = .ok (.bipush 12, 2) := dk_16 12 (dk_at dksX3_takes_1 9 rfl rfl)
theorem dX3_takes_33 : decode cX3_takes 33 = .ok (.if_icmp .ge 16, 3) := dk_162 0 16 (dk_at dksX3_takes_1 11 rfl rfl)
theorem dX3_takes_36 : decode cX3_takes 36 = .ok (.aload_n 0, 1) := dk_42 (dk_at dksX3_takes_1 14 rfl rfl)
theorem dX3_takes_37 : decode cX3_takes 37 = .ok (.getfield 44, 3) := dk_180 0 44 (dk_at dksX3_takes_1 15 rfl rfl)
theorem dX3_takes_40 : decode cX3_takes 40 = .ok (.iload_n 1, 1) := dk_27 (dk_at dksX3_takes_1 18 rfl rfl)
theorem dX3_takes_41 : decode cX3_takes 41 = .ok (.iconst 0, 1) := dk_3 (dk_at dksX3_takes_1 19 rfl rfl)
theorem dX3_takes_42 : decode cX3_takes 42 = .ok (.bastore, 1) := dk_84 (dk_at dksX3_takes_1 20 rfl rfl)
theorem dX3_takes_43 : decode cX3_takes 43 = .ok (.iinc 1 1, 3) := dk_132 1 1 (dk_at dksX3_takes_1 21 rfl rfl)
theorem dX3_takes_46 : decode cX3_takes 46 = .ok (.goto (-16), 3) := dk_167 255 240 (dk_at dksX3_takes_2 0 rfl rfl)
theorem dX3_takes_49 : decode cX3_takes 49 = .ok (.aload_n 0, 1) := dk_42 (dk_at dksX3_takes_2 3 rfl rfl)
theorem dX3_takes_50 : decode cX3_takes 50 = .ok (.iconst 0, 1) := dk_3 (dk_at dksX3_takes_2 4 rfl rfl)
theorem dX3_takes_51 : decode cX3_takes 51 = .ok (.putfield 192, 3) := dk_181 0 192 (dk_at dksX3_takes_2 5 rfl rfl)
theorem dX3_takes_54 : decode cX3_takes 54 = .ok (.iconst 0, 1) := dk_3 (dk_at dksX3_takes_2 8 rfl rfl)
theorem dX3_takes_55 : decode cX3_takes 55 = .ok (.istore_n 1, 1) := dk_60 (dk_at dksX3_takes_2 9 rfl rfl)
theorem dX3_takes_56 : decode cX3_takes 56 = .ok (.iload_n 1, 1) := dk_27 (dk_at dksX3_takes_2 10 rfl rfl)
theorem dX3_takes_57 : decode cX3_takes 57 = .ok (.iconst (-1), 1) := dk_2 (dk_at dksX3_takes_2 11 rfl rfl)
theorem dX3_takes_58 : decode cX3_takes 58 = .ok (.if_icmp .eq 149, 3) := dk_159 0 149 (dk_at dksX3_takes_2 12 rfl rfl)
theorem dX3_takes_61 : decode cX3_takes 61 = .ok (.iconst (-1), 1) := dk_2 (dk_at dksX3_takes_2 15 rfl rfl)
theorem dX3_takes_62 : decode cX3_takes 62 = .ok (.istore_n 1, 1) := dk_60 (dk_at dksX3_takes_2 16 rfl rfl)
theorem dX3_takes_63 : decode cX3_takes 63 = .ok (.iconst 0, 1) := dk_3 (dk_at dksX3_takes_2 17 rfl rfl)
theorem dX3_takes_64 : decode cX3_takes 64 = .ok (.istore_n 2, 1) := dk_61 (dk_at dksX3_takes_2 18 rfl rfl)
theorem dX3_takes_65 : decode cX3_takes 65 = .ok (.iload_n 2, 1) := dk_28 (dk_at dksX3_takes_2 19 rfl rfl)
theorem dX3_takes_66 : decode cX3_takes 66 = .ok (.bipush 96, 2) := dk_16 96 (dk_at dksX3_takes_2 20 rfl rfl)
theorem dX3_takes_68 : decode cX3_takes 68 = .ok (.if_icmp .ge 85, 3) := dk_162 0 85 (dk_at dksX3_takes_3 0 rfl rfl)
theorem dX3_takes_71 : decode cX3_takes 71 = .ok (.aload_n 0, 1) := dk_42 (dk_at dksX3_takes_3 3 rfl rfl)
theorem dX3_takes_72 : decode cX3_takes 72 = .ok (.getfield 38, 3) := dk_180 0 38 (dk_at dksX3_takes_3 4 rfl rfl)
theorem dX3_takes_75 : decode cX3_takes 75 = .ok (.iload_n 2, 1) := dk_28 (dk_at dksX3_takes_3 7 rfl rfl)
theorem dX3_takes_76 : decode cX3_takes 76 = .ok (.bipush 12, 2) := dk_16 12 (dk_at dksX3_takes_3 8 rfl rfl)
theorem dX3_takes_78 : decode cX3_takes 78 = .ok (.idiv, 1) := dk_108 (dk_at dksX3_takes_3 10 rfl rfl)
theorem dX3_takes_79 : decode cX3_takes 79 = .ok (.iaload, 1) := dk_46 (dk_at dksX3_takes_3 11 rfl rfl)
theorem dX3_takes_80 : decode cX3_takes 80 = .ok (.iconst (-1), 1) := dk_2 (dk_at dksX3_takes_3 12 rfl rfl)
theorem dX3_takes_81 : decode cX3_takes 81 = .ok (.if_icmp .ne 34, 3) := dk_160 0 34 (dk_at dksX3_takes_3 13 rfl rfl)
theorem dX3_takes_84 : decode cX3_takes 84 = .ok (.aload_n 0, 1) := dk_42 (dk_at dksX3_takes_3 16 rfl rfl)
theorem dX3_takes_85 : decode cX3_takes 85 = .ok (.getfield 44, 3) := dk_180 0 44 (dk_at dksX3_takes_3 17 rfl rfl)
theorem dX3_takes_88 : decode cX3_takes 88 = .ok (.iload_n 2, 1) := dk_28 (dk_at dksX3_takes_3 20 rfl rfl)
theorem dX3_takes_89 : decode cX3_takes 89 = .ok (.bipush 12, 2) := dk_16 12 (dk_at dksX3_takes_3 21 rfl rfl)
theorem dX3_takes_91 : decode cX3_takes 91 = .ok (.irem, 1) := dk_112 (dk_at dksX3_takes_3 23 rfl rfl)
theorem dX3_takes_92 : decode cX3_takes 92 = .ok (.baload, 1) := dk_51 (dk_at dksX3_takes_4 0 rfl rfl)
theorem dX3_takes_93 : decode cX3_takes 93 = .ok (.ifCond .ne 22, 3) := dk_154 0 22 (dk_at dksX3_takes_4 1 rfl rfl)
theorem dX3_takes_96 : decode cX3_takes 96 = .ok (.aload_n 0, 1) := dk_42 (dk_at dksX3_takes_4 4 rfl rfl)
theorem dX3_takes_97 : decode cX3_takes 97 = .ok (.getfield 35, 3) := dk_180 0 35 (dk_at dksX3_takes_4 5 rfl rfl)
theorem dX3_takes_100 : decode cX3_takes 100 = .ok (.iload_n 2, 1) := dk_28 (dk_at dksX3_takes_4 8 rfl rfl)
theorem dX3_takes_101 : decode cX3_takes 101 = .ok (.iaload, 1) := dk_46 (dk_at dksX3_takes_4 9 rfl rfl)
theorem dX3_takes_102 : decode cX3_takes 102 = .ok (.aload_n 0, 1) := dk_42 (dk_at dksX3_takes_4 10 rfl rfl)
theorem dX3_takes_103 : decode cX3_takes 103 = .ok (.getfield 28, 3) := dk_180 0 28 (dk_at dksX3_takes_4 11 rfl rfl)
theorem dX3_takes_106 : decode cX3_takes 106 = .ok (.iconst 2, 1) := dk_5 (dk_at dksX3_takes_4 14 rfl rfl)
theorem dX3_takes_107 : decode cX3_takes 107 = .ok (.iaload, 1) := dk_46 (dk_at dksX3_takes_4 15 rfl rfl)
theorem dX3_takes_108 : decode cX3_takes 108 = .ok (.if_icmp .lt 7, 3) := dk_161 0 7 (dk_at dksX3_takes_4 16 rfl rfl)
theorem dX3_takes_111 : decode cX3_takes 111 = .ok (.iconst 1, 1) := dk_4 (dk_at dksX3_takes_4 19 rfl rfl)
theorem dX3_takes_112 : decode cX3_takes 112 = .ok (.goto 4, 3) := dk_167 0 4 (dk_at dksX3_takes_4 20 rfl rfl)
theorem dX3_takes_115 : decode cX3_takes 115 = .ok (.iconst 0, 1) := dk_3 (dk_at dksX3_takes_4 23 rfl rfl)
theorem dX3_takes_116 : decode cX3_takes 116 = .ok (.istore_n 3, 1) := dk_62 (dk_at dksX3_takes_5 0 rfl rfl)
theorem dX3_takes_117 : decode cX3_takes 117 = .ok (.iload_n 3, 1) := dk_29 (dk_at dksX3_takes_5 1 rfl rfl)
theorem dX3_takes_118 : decode cX3_takes 118 = .ok (.ifCond .eq 27, 3) := dk_153 0 27 (dk_at dksX3_takes_5 2 rfl rfl)
theorem dX3_takes_121 : decode cX3_takes 121 = .ok (.iload_n 1, 1) := dk_27 (dk_at dksX3_takes_5 5 rfl rfl)
theorem dX3_takes_122 : decode cX3_takes 122 = .ok (.iconst (-1), 1) := dk_2 (dk_at dksX3_takes_5 6 rfl rfl)
theorem dX3_takes_123 : decode cX3_takes 123 = .ok (.if_icmp .eq 18, 3) := dk_159 0 18 (dk_at dksX3_takes_5 7 rfl rfl)
theorem dX3_takes_126 : decode cX3_takes 126 = .ok (.aload_n 0, 1) := dk_42 (dk_at dksX3_takes_5 10 rfl rfl)
theorem dX3_takes_127 : decode cX3_takes 127 = .ok (.getfield 35, 3) := dk_180 0 35 (dk_at dksX3_takes_5 11 rfl rfl)
theorem dX3_takes_130 : decode cX3_takes 130 = .ok (.iload_n 2, 1) := dk_28 (dk_at dksX3_takes_5 14 rfl rfl)
theorem dX3_takes_131 : decode cX3_takes 131 = .ok (.iaload, 1) := dk_46 (dk_at dksX3_takes_5 15 rfl rfl)
theorem dX3_takes_132 : decode cX3_takes 132 = .ok (.aload_n 0, 1) := dk_42 (dk_at dksX3_takes_5 16 rfl rfl)
theorem dX3_takes_133 : decode cX3_takes 133 = .ok (.getfield 35, 3) := dk_180 0 35 (dk_at dksX3_takes_5 17 rfl rfl)
theorem dX3_takes_136 : decode cX3_takes 136 = .ok (.iload_n 1, 1) := dk_27 (dk_at dksX3_takes_5 20 rfl rfl)
theorem dX3_takes_137 : decode cX3_takes 137 = .ok (.iaload, 1) := dk_46 (dk_at dksX3_takes_5 21 rfl rfl)
theorem dX3_takes_138 : decode cX3_takes 138 = .ok (.if_icmp .le 7, 3) := dk_164 0 7 (dk_at dksX3_takes_6 0 rfl rfl)
theorem dX3_takes_141 : decode cX3_takes 141 = .ok (.iload_n 2, 1) := dk_28 (dk_at dksX3_takes_6 3 rfl rfl)
theorem dX3_takes_142 : decode cX3_takes 142 = .ok (.goto 4, 3) := dk_167 0 4 (dk_at dksX3_takes_6 4 rfl rfl)
theorem dX3_takes_145 : decode cX3_takes 145 = .ok (.iload_n 1, 1) := dk_27 (dk_at dksX3_takes_6 7 rfl rfl)
theorem dX3_takes_146 : decode cX3_takes 146 = .ok (.istore_n 1, 1) := dk_60 (dk_at dksX3_takes_6 8 rfl rfl)
theorem dX3_takes_147 : decode cX3_takes 147 = .ok (.iinc 2 1, 3) := dk_132 2 1 (dk_at dksX3_takes_6 9 rfl rfl)
theorem dX3_takes_150 : decode cX3_takes 150 = .ok (.goto (-85), 3) := dk_167 255 171 (dk_at dksX3_takes_6 12 rfl rfl)
theorem dX3_takes_153 : decode cX3_takes 153 = .ok (.iload_n 1, 1) := dk_27 (dk_at dksX3_takes_6 15 rfl rfl)
theorem dX3_takes_154 : decode cX3_takes 154 = .ok (.iconst (-1), 1) := dk_2 (dk_at dksX3_takes_6 16 rfl rfl)
theorem dX3_takes_155 : decode cX3_takes 155 = .ok (.if_icmp .eq (-99), 3) := dk_159 255 157 (dk_at dksX3_takes_6 17 rfl rfl)
theorem dX3_takes_158 : decode cX3_takes 158 = .ok (.aload_n 0, 1) := dk_42 (dk_at dksX3_takes_6 20 rfl rfl)
theorem dX3_takes_159 : decode cX3_takes 159 = .ok (.getfield 38, 3) := dk_180 0 38 (dk_at dksX3_takes_6 21 rfl rfl)
theorem dX3_takes_162 : decode cX3_takes 162 = .ok (.iload_n 1, 1) := dk_27 (dk_at dksX3_takes_7 0 rfl rfl)
theorem dX3_takes_163 : decode cX3_takes 163 = .ok (.bipush 12, 2) := dk_16 12 (dk_at dksX3_takes_7 1 rfl rfl)
theorem dX3_takes_165 : decode cX3_takes 165 = .ok (.idiv, 1) := dk_108 (dk_at dksX3_takes_7 3 rfl rfl)
theorem dX3_takes_166 : decode cX3_takes 166 = .ok (.iload_n 1, 1) := dk_27 (dk_at dksX3_takes_7 4 rfl rfl)
theorem dX3_takes_167 : decode cX3_takes 167 = .ok (.bipush 12, 2) := dk_16 12 (dk_at dksX3_takes_7 5 rfl rfl)
theorem dX3_takes_169 : decode cX3_takes 169 = .ok (.irem, 1) := dk_112 (dk_at dksX3_takes_7 7 rfl rfl)
theorem dX3_takes_170 : decode cX3_takes 170 = .ok (.iastore, 1) := dk_79 (dk_at dksX3_takes_7 8 rfl rfl)
theorem dX3_takes_171 : decode cX3_takes 171 = .ok (.aload_n 0, 1) := dk_42 (dk_at dksX3_takes_7 9 rfl rfl)
theorem dX3_takes_172 : decode cX3_takes 172 = .ok (.getfield 41, 3) := dk_180 0 41 (dk_at dksX3_takes_7 10 rfl rfl)
theorem dX3_takes_175 : decode cX3_takes 175 = .ok (.iload_n 1, 1) := dk_27 (dk_at dksX3_takes_7 13 rfl rfl)
theorem dX3_takes_176 : decode cX3_takes 176 = .ok (.bipush 12, 2) := dk_16 12 (dk_at dksX3_takes_7 14 rfl rfl)
theorem dX3_takes_178 : decode cX3_takes 178 = .ok (.idiv, 1) := dk_108 (dk_at dksX3_takes_7 16 rfl rfl)
theorem dX3_takes_179 : decode cX3_takes 179 = .ok (.aload_n 0, 1) := dk_42 (dk_at dksX3_takes_7 17 rfl rfl)
theorem dX3_takes_180 : decode cX3_takes 180 = .ok (.getfield 192, 3) := dk_180 0 192 (dk_at dksX3_takes_7 18 rfl rfl)
theorem dX3_takes_183 : decode cX3_takes 183 = .ok (.iastore, 1) := dk_79 (dk_at dksX3_takes_7 21 rfl rfl)
theorem dX3_takes_184 : decode cX3_takes 184 = .ok (.aload_n 0, 1) := dk_42 (dk_at dksX3_takes_7 22 rfl rfl)
theorem dX3_takes_185 : decode cX3_takes 185 = .ok (.getfield 44, 3) := dk_180 0 44 (dk_at dksX3_takes_8 0 rfl rfl)
theorem dX3_takes_188 : decode cX3_takes 188 = .ok (.iload_n 1, 1) := dk_27 (dk_at dksX3_takes_8 3 rfl rfl)
theorem dX3_takes_189 : decode cX3_takes 189 = .ok (.bipush 12, 2) := dk_16 12 (dk_at dksX3_takes_8 4 rfl rfl)
theorem dX3_takes_191 : decode cX3_takes 191 = .ok (.irem, 1) := dk_112 (dk_at dksX3_takes_8 6 rfl rfl)
theorem dX3_takes_192 : decode cX3_takes 192 = .ok (.iconst 1, 1) := dk_4 (dk_at dksX3_takes_8 7 rfl rfl)
theorem dX3_takes_193 : decode cX3_takes 193 = .ok (.bastore, 1) := dk_84 (dk_at dksX3_takes_8 8 rfl rfl)
theorem dX3_takes_194 : decode cX3_takes 194 = .ok (.aload_n 0, 1) := dk_42 (dk_at dksX3_takes_8 9 rfl rfl)
theorem dX3_takes_195 : decode cX3_takes 195 = .ok (.dup, 1) := dk_89 (dk_at dksX3_takes_8 10 rfl rfl)
theorem dX3_takes_196 : decode cX3_takes 196 = .ok (.getfield 192, 3) := dk_180 0 192 (dk_at dksX3_takes_8 11 rfl rfl)
theorem dX3_takes_199 : decode cX3_takes 199 = .ok (.iconst 1, 1) := dk_4 (dk_at dksX3_takes_8 14 rfl rfl)
theorem dX3_takes_200 : decode cX3_takes 200 = .ok (.iadd, 1) := dk_96 (dk_at dksX3_takes_8 15 rfl rfl)
theorem dX3_takes_201 : decode cX3_takes 201 = .ok (.putfield 192, 3) := dk_181 0 192 (dk_at dksX3_takes_8 16 rfl rfl)
theorem dX3_takes_204 : decode cX3_takes 204 = .ok (.goto (-148), 3) := dk_167 255 108 (dk_at dksX3_takes_8 19 rfl rfl)
theorem dX3_takes_207 : decode cX3_takes 207 = .ok (.return_, 1) := dk_177 (dk_at dksX3_takes_8 22 rfl rfl)
abbrev cX3_turning : ByteArray := prog_11_method_49_code
def yX3_turning : MethodName := ⟨RX3, "turning", "()V"⟩
def dkwX3_turning_8 : List UInt8 := [42, 180, 0, 58, 29, 42, 29, 6, 108, 29, 6, 112, 182, 0, 217, 79, 132, 3, 1, 167, 255, 218, 177]
abbrev dktX3_turning_8 : List UInt8 := dkwX3_turning_8 ++ []
def dkwX3_turning_7 : List UInt8 := [167, 255, 194, 3, 62, 29, 6, 42, 180, 0, 25, 3, 46, 104, 162, 0, 32, 42, 180, 0, 203, 153, 0, 25]
abbrev dktX3_turning_7 : List UInt8 := dkwX3_turning_7 ++ dktX3_turning_8
def dkwX3_turning_6 : List UInt8 := [180, 0, 48, 6, 29, 104, 21, 4, 96, 47, 105, 97, 80, 132, 4, 1, 167, 255, 215, 132, 3, 1]
abbrev dktX3_turning_6 : List UInt8 := dkwX3_turning_6 ++ dktX3_turning_7
def dkwX3_turning_5 : List UInt8 := [162, 0, 41, 42, 180, 0, 55, 29, 92, 47, 42, 180, 0, 48, 6, 29, 104, 21, 4, 96, 47, 42]
abbrev dktX3_turning_5 : List UInt8 := dkwX3_turning_5 ++ dktX3_turning_6
def dkwX3_turning_4 : List UInt8 := [181, 0, 203, 3, 62, 29, 6, 162, 0, 63, 42, 180, 0, 55, 29, 9, 80, 3, 54, 4, 21, 4, 6]
abbrev dktX3_turning_4 : List UInt8 := dkwX3_turning_4 ++ dktX3_turning_5
def dkwX3_turning_3 : List UInt8 := [180, 0, 52, 184, 0, 213, 154, 0, 17, 42, 180, 0, 48, 184, 0, 213, 154, 0, 7, 4, 167, 0, 4, 3]
abbrev dktX3_turning_3 : List UInt8 := dkwX3_turning_3 ++ dktX3_turning_4
def dkwX3_turning_2 : List UInt8 := [42, 42, 180, 0, 48, 3, 42, 180, 0, 38, 27, 46, 42, 180, 0, 38, 28, 46, 182, 0, 210, 42, 42]
abbrev dktX3_turning_2 : List UInt8 := dkwX3_turning_2 ++ dktX3_turning_3
def dkwX3_turning_1 : List UInt8 := [177, 42, 3, 182, 0, 207, 60, 42, 4, 182, 0, 207, 61, 42, 42, 180, 0, 52, 4, 27, 28, 182, 0, 210]
abbrev dktX3_turning_1 : List UInt8 := dkwX3_turning_1 ++ dktX3_turning_2
def dkwX3_turning_0 : List UInt8 := [42, 42, 180, 0, 192, 4, 164, 0, 7, 4, 167, 0, 4, 3, 181, 0, 203, 42, 180, 0, 203, 154, 0, 4]
abbrev dktX3_turning_0 : List UInt8 := dkwX3_turning_0 ++ dktX3_turning_1
theorem dksX3_turning_0 : cX3_turning.data.toList.drop 0 = dktX3_turning_0 := by decide +kernel
theorem dksX3_turning_1 : cX3_turning.data.toList.drop 24 = dktX3_turning_1 := dk_seg dksX3_turning_0 24 rfl rfl
theorem dksX3_turning_2 : cX3_turning.data.toList.drop 48 = dktX3_turning_2 := dk_seg dksX3_turning_1 24 rfl rfl
theorem dksX3_turning_3 : cX3_turning.data.toList.drop 71 = dktX3_turning_3 := dk_seg dksX3_turning_2 23 rfl rfl
theorem dksX3_turning_4 : cX3_turning.data.toList.drop 95 = dktX3_turning_4 := dk_seg dksX3_turning_3 24 rfl rfl
theorem dksX3_turning_5 : cX3_turning.data.toList.drop 118 = dktX3_turning_5 := dk_seg dksX3_turning_4 23 rfl rfl
theorem dksX3_turning_6 : cX3_turning.data.toList.drop 140 = dktX3_turning_6 := dk_seg dksX3_turning_5 22 rfl rfl
theorem dksX3_turning_7 : cX3_turning.data.toList.drop 162 = dktX3_turning_7 := dk_seg dksX3_turning_6 22 rfl rfl
theorem dksX3_turning_8 : cX3_turning.data.toList.drop 186 = dktX3_turning_8 := dk_seg dksX3_turning_7 24 rfl rfl
theorem dX3_turning_0 : decode cX3_turning 0 = .ok (.aload_n 0, 1) := dk_42 (dk_at dksX3_turning_0 0 rfl rfl)
theorem dX3_turning_1 : decode cX3_turning 1 = .ok (.aload_n 0, 1) := dk_42 (dk_at dksX3_turning_0 1 rfl rfl)
theorem dX3_turning_2 : decode cX3_turning 2 = .ok (.getfield 192, 3) := dk_180 0 192 (dk_at dksX3_turning_0 2 rfl rfl)
theorem dX3_turning_5 : decode cX3_turning 5 = .ok (.iconst 1, 1) := dk_4 (dk_at dksX3_turning_0 5 rfl rfl)
theorem dX3_turning_6 : decode cX3_turning 6 = .ok (.if_icmp .le 7, 3) := dk_164 0 7 (dk_at dksX3_turning_0 6 rfl rfl)
theorem dX3_turning_9 : decode cX3_turning 9 = .ok (.iconst 1, 1) := dk_4 (dk_at dksX3_turning_0 9 rfl rfl)
theorem dX3_turning_10 : decode cX3_turning 10 = .ok (.goto 4, 3) := dk_167 0 4 (dk_at dksX3_turning_0 10 rfl rfl)
theorem dX3_turning_13 : decode cX3_turning 13 = .ok (.iconst 0, 1) := dk_3 (dk_at dksX3_turning_0 13 rfl rfl)
theorem dX3_turning_14 : decode cX3_turning 14 = .ok (.putfield 203, 3) := dk_181 0 203 (dk_at dksX3_turning_0 14 rfl rfl)
theorem dX3_turning_17 : decode cX3_turning 17 = .ok (.aload_n 0, 1) := dk_42 (dk_at dksX3_turning_0 17 rfl rfl)
theorem dX3_turning_18 : decode cX3_turning 18 = .ok (.getfield 203, 3) := dk_180 0 203 (dk_at dksX3_turning_0 18 rfl rfl)
theorem dX3_turning_21 : decode cX3_turning 21 = .ok (.ifCond .ne 4, 3) := dk_154 0 4 (dk_at dksX3_turning_0 21 rfl rfl)
theorem dX3_turning_24 : decode cX3_turning 24 = .ok (.return_, 1) := dk_177 (dk_at dksX3_turning_1 0 rfl rfl)
theorem dX3_turning_25 : decode cX3_turning 25 = .ok (.aload_n 0, 1) := dk_42 (dk_at dksX3_turning_1 1 rfl rfl)
theorem dX3_turning_26 : decode cX3_turning 26 = .ok (.iconst 0, 1) := dk_3 (dk_at dksX3_turning_1 2 rfl rfl)
theorem dX3_turning_27 : decode cX3_turning 27 = .ok (.invokevirtual 207, 3) := dk_182 0 207 (dk_at dksX3_turning_1 3 rfl rfl)
theorem dX3_turning_30 : decode cX3_turning 30 = .ok (.istore_n 1, 1) := dk_60 (dk_at dksX3_turning_1 6 rfl rfl)
theorem dX3_turning_31 : decode cX3_turning 31 = .ok (.aload_n 0, 1) := dk_42 (dk_at dksX3_turning_1 7 rfl rfl)
theorem dX3_turning_32 : decode cX3_turning 32 = .ok (.iconst 1, 1) := dk_4 (dk_at dksX3_turning_1 8 rfl rfl)
theorem dX3_turning_33 : decode cX3_turning 33 = .ok (.invokevirtual 207, 3) := dk_182 0 207 (dk_at dksX3_turning_1 9 rfl rfl)
theorem dX3_turning_36 : decode cX3_turning 36 = .ok (.istore_n 2, 1) := dk_61 (dk_at dksX3_turning_1 12 rfl rfl)
theorem dX3_turning_37 : decode cX3_turning 37 = .ok (.aload_n 0, 1) := dk_42 (dk_at dksX3_turning_1 13 rfl rfl)
theorem dX3_turning_38 : decode cX3_turning 38 = .ok (.aload_n 0, 1) := dk_42 (dk_at dksX3_turning_1 14 rfl rfl)
theorem dX3_turning_39 : decode cX3_turning 39 = .ok (.getfield 52, 3) := dk_180 0 52 (dk_at dksX3_turning_1 15 rfl rfl)
theorem dX3_turning_42 : decode cX3_turning 42 = .ok (.iconst 1, 1) := dk_4 (dk_at dksX3_turning_1 18 rfl rfl)
theorem dX3_turning_43 : decode cX3_turning 43 = .ok (.iload_n 1, 1) := dk_27 (dk_at dksX3_turning_1 19 rfl rfl)
theorem dX3_turning_44 : decode cX3_turning 44 = .ok (.iload_n 2, 1) := dk_28 (dk_at dksX3_turning_1 20 rfl rfl)
theorem dX3_turning_45 : decode cX3_turning 45 = .ok (.invokevirtual 210, 3) := dk_182 0 210 (dk_at dksX3_turning_1 21 rfl rfl)
theorem dX3_turning_48 : decode cX3_turning 48 = .ok (.aload_n 0, 1) := dk_42 (dk_at dksX3_turning_2 0 rfl rfl)
theorem dX3_turning_49 : decode cX3_turning 49 = .ok (.aload_n 0, 1) := dk_42 (dk_at dksX3_turning_2 1 rfl rfl)
theorem dX3_turning_50 : decode cX3_turning 50 = .ok (.getfield 48, 3) := dk_180 0 48 (dk_at dksX3_turning_2 2 rfl rfl)
theorem dX3_turning_53 : decode cX3_turning 53 = .ok (.iconst 0, 1) := dk_3 (dk_at dksX3_turning_2 5 rfl rfl)
theorem dX3_turning_54 : decode cX3_turning 54 = .ok (.aload_n 0, 1) := dk_42 (dk_at dksX3_turning_2 6 rfl rfl)
theorem dX3_turning_55 : decode cX3_turning 55 = .ok (.getfield 38, 3) := dk_180 0 38 (dk_at dksX3_turning_2 7 rfl rfl)
theorem dX3_turning_58 : decode cX3_turning 58 = .ok (.iload_n 1, 1) := dk_27 (dk_at dksX3_turning_2 10 rfl rfl)
theorem dX3_turning_59 : decode cX3_turning 59 = .ok (.iaload, 1) := dk_46 (dk_at dksX3_turning_2 11 rfl rfl)
theorem dX3_turning_60 : decode cX3_turning 60 = .ok (.aload_n 0, 1) := dk_42 (dk_at dksX3_turning_2 12 rfl rfl)
theorem dX3_turning_61 : decode cX3_turning 61 = .ok (.getfield 38, 3) := dk_180 0 38 (dk_at dksX3_turning_2 13 rfl rfl)
theorem dX3_turning_64 : decode cX3_turning 64 = .ok (.iload_n 2, 1) := dk_28 (dk_at dksX3_turning_2 16 rfl rfl)
theorem dX3_turning_65 : decode cX3_turning 65 = .ok (.iaload, 1) := dk_46 (dk_at dksX3_turning_2 17 rfl rfl)
theorem dX3_turning_66 : decode cX3_turning 66 = .ok (.invokevirtual 210, 3) := dk_182 0 210 (dk_at dksX3_turning_2 18 rfl rfl)
theorem dX3_turning_69 : decode cX3_turning 69 = .ok (.aload_n 0, 1) := dk_42 (dk_at dksX3_turning_2 21 rfl rfl)
theorem dX3_turning_70 : decode cX3_turning 70 = .ok (.aload_n 0, 1) := dk_42 (dk_at dksX3_turning_2 22 rfl rfl)
theorem dX3_turning_71 : decode cX3_turning 71 = .ok (.getfield 52, 3) := dk_180 0 52 (dk_at dksX3_turning_3 0 rfl rfl)
theorem dX3_turning_74 : decode cX3_turning 74 = .ok (.invokestatic 213, 3) := dk_184 0 213 (dk_at dksX3_turning_3 3 rfl rfl)
theorem dX3_turning_77 : decode cX3_turning 77 = .ok (.ifCond .ne 17, 3) := dk_154 0 17 (dk_at dksX3_turning_3 6 rfl rfl)
theorem dX3_turning_80 : decode cX3_turning 80 = .ok (.aload_n 0, 1) := dk_42 (dk_at dksX3_turning_3 9 rfl rfl)
theorem dX3_turning_81 : decode cX3_turning 81 = .ok (.getfield 48, 3) := dk_180 0 48 (dk_at dksX3_turning_3 10 rfl rfl)
theorem dX3_turning_84 : decode cX3_turning 84 = .ok (.invokestatic 213, 3) := dk_184 0 213 (dk_at dksX3_turning_3 13 rfl rfl)
theorem dX3_turning_87 : decode cX3_turning 87 = .ok (.ifCond .ne 7, 3) := dk_154 0 7 (dk_at dksX3_turning_3 16 rfl rfl)
theorem dX3_turning_90 : decode cX3_turning 90 = .ok (.iconst 1, 1) := dk_4 (dk_at dksX3_turning_3 19 rfl rfl)
theorem dX3_turning_91 : decode cX3_turning 91 = .ok (.goto 4, 3) := dk_167 0 4 (dk_at dksX3_turning_3 20 rfl rfl)
theorem dX3_turning_94 : decode cX3_turning 94 = .ok (.iconst 0, 1) := dk_3 (dk_at dksX3_turning_3 23 rfl rfl)
theorem dX3_turning_95 : decode cX3_turning 95 = .ok (.putfield 203, 3) := dk_181 0 203 (dk_at dksX3_turning_4 0 rfl rfl)
theorem dX3_turning_98 : decode cX3_turning 98 = .ok (.iconst 0, 1) := dk_3 (dk_at dksX3_turning_4 3 rfl rfl)
theorem dX3_turning_99 : decode cX3_turning 99 = .ok (.istore_n 3, 1) := dk_62 (dk_at dksX3_turning_4 4 rfl rfl)
theorem dX3_turning_100 : decode cX3_turning 100 = .ok (.iload_n 3, 1) := dk_29 (dk_at dksX3_turning_4 5 rfl rfl)
theorem dX3_turning_101 : decode cX3_turning 101 = .ok (.iconst 3, 1) := dk_6 (dk_at dksX3_turning_4 6 rfl rfl)
theorem dX3_turning_102 : decode cX3_turning 102 = .ok (.if_icmp .ge 63, 3) := dk_162 0 63 (dk_at dksX3_turning_4 7 rfl rfl)
theorem dX3_turning_105 : decode cX3_turning 105 = .ok (.aload_n 0, 1) := dk_42 (dk_at dksX3_turning_4 10 rfl rfl)
theorem dX3_turning_106 : decode cX3_turning 106 = .ok (.getfield 55, 3) := dk_180 0 55 (dk_at dksX3_turning_4 11 rfl rfl)
theorem dX3_turning_109 : decode cX3_turning 109 = .ok (.iload_n 3, 1) := dk_29 (dk_at dksX3_turning_4 14 rfl rfl)
theorem dX3_turning_110 : decode cX3_turning 110 = .ok (.lconst 0, 1) := dk_9 (dk_at dksX3_turning_4 15 rfl rfl)
theorem dX3_turning_111 : decode cX3_turning 111 = .ok (.lastore, 1) := dk_80 (dk_at dksX3_turning_4 16 rfl rfl)
theorem dX3_turning_112 : decode cX3_turning 112 = .ok (.iconst 0, 1) := dk_3 (dk_at dksX3_turning_4 17 rfl rfl)
theorem dX3_turning_113 : decode cX3_turning 113 = .ok (.istore 4, 2) := dk_54 4 (dk_at dksX3_turning_4 18 rfl rfl)
theorem dX3_turning_115 : decode cX3_turning 115 = .ok (.iload 4, 2) := dk_21 4 (dk_at dksX3_turning_4 20 rfl rfl)
theorem dX3_turning_117 : decode cX3_turning 117 = .ok (.iconst 3, 1) := dk_6 (dk_at dksX3_turning_4 22 rfl rfl)
theorem dX3_turning_118 : decode cX3_turning 118 = .ok (.if_icmp .ge 41, 3) := dk_162 0 41 (dk_at dksX3_turning_5 0 rfl rfl)
theorem dX3_turning_121 : decode cX3_turning 121 = .ok (.aload_n 0, 1) := dk_42 (dk_at dksX3_turning_5 3 rfl rfl)
theorem dX3_turning_122 : decode cX3_turning 122 = .ok (.getfield 55, 3) := dk_180 0 55 (dk_at dksX3_turning_5 4 rfl rfl)
theorem dX3_turning_125 : decode cX3_turning 125 = .ok (.iload_n 3, 1) := dk_29 (dk_at dksX3_turning_5 7 rfl rfl)
theorem dX3_turning_126 : decode cX3_turning 126 = .ok (.dup2, 1) := dk_92 (dk_at dksX3_turning_5 8 rfl rfl)
theorem dX3_turning_127 : decode cX3_turning 127 = .ok (.laload, 1) := dk_47 (dk_at dksX3_turning_5 9 rfl rfl)
theorem dX3_turning_128 : decode cX3_turning 128 = .ok (.aload_n 0, 1) := dk_42 (dk_at dksX3_turning_5 10 rfl rfl)
theorem dX3_turning_129 : decode cX3_turning 129 = .ok (.getfield 48, 3) := dk_180 0 48 (dk_at dksX3_turning_5 11 rfl rfl)
theorem dX3_turning_132 : decode cX3_turning 132 = .ok (.iconst 3, 1) := dk_6 (dk_at dksX3_turning_5 14 rfl rfl)
theorem dX3_turning_133 : decode cX3_turning 133 = .ok (.iload_n 3, 1) := dk_29 (dk_at dksX3_turning_5 15 rfl rfl)
theorem dX3_turning_134 : decode cX3_turning 134 = .ok (.imul, 1) := dk_104 (dk_at dksX3_turning_5 16 rfl rfl)
theorem dX3_turning_135 : decode cX3_turning 135 = .ok (.iload 4, 2) := dk_21 4 (dk_at dksX3_turning_5 17 rfl rfl)
theorem dX3_turning_137 : decode cX3_turning 137 = .ok (.iadd, 1) := dk_96 (dk_at dksX3_turning_5 19 rfl rfl)
theorem dX3_turning_138 : decode cX3_turning 138 = .ok (.laload, 1) := dk_47 (dk_at dksX3_turning_5 20 rfl rfl)
theorem dX3_turning_139 : decode cX3_turning 139 = .ok (.aload_n 0, 1) := dk_42 (dk_at dksX3_turning_5 21 rfl rfl)
theorem dX3_turning_140 : decode cX3_turning 140 = .ok (.getfield 48, 3) := dk_180 0 48 (dk_at dksX3_turning_6 0 rfl rfl)
theorem dX3_turning_143 : decode cX3_turning 143 = .ok (.iconst 3, 1) := dk_6 (dk_at dksX3_turning_6 3 rfl rfl)
theorem dX3_turning_144 : decode cX3_turning 144 = .ok (.iload_n 3, 1) := dk_29 (dk_at dksX3_turning_6 4 rfl rfl)
theorem dX3_turning_145 : decode cX3_turning 145 = .ok (.imul, 1) := dk_104 (dk_at dksX3_turning_6 5 rfl rfl)
theorem dX3_turning_146 : decode cX3_turning 146 = .ok (.iload 4, 2) := dk_21 4 (dk_at dksX3_turning_6 6 rfl rfl)
theorem dX3_turning_148 : decode cX3_turning 148 = .ok (.iadd, 1) := dk_96 (dk_at dksX3_turning_6 8 rfl rfl)
theorem dX3_turning_149 : decode cX3_turning 149 = .ok (.laload, 1) := dk_47 (dk_at dksX3_turning_6 9 rfl rfl)
theorem dX3_turning_150 : decode cX3_turning 150 = .ok (.lmul, 1) := dk_105 (dk_at dksX3_turning_6 10 rfl rfl)
theorem dX3_turning_151 : decode cX3_turning 151 = .ok (.ladd, 1) := dk_97 (dk_at dksX3_turning_6 11 rfl rfl)
theorem dX3_turning_152 : decode cX3_turning 152 = .ok (.lastore, 1) := dk_80 (dk_at dksX3_turning_6 12 rfl rfl)
theorem dX3_turning_153 : decode cX3_turning 153 = .ok (.iinc 4 1, 3) := dk_132 4 1 (dk_at dksX3_turning_6 13 rfl rfl)
theorem dX3_turning_156 : decode cX3_turning 156 = .ok (.goto (-41), 3) := dk_167 255 215 (dk_at dksX3_turning_6 16 rfl rfl)
theorem dX3_turning_159 : decode cX3_turning 159 = .ok (.iinc 3 1, 3) := dk_132 3 1 (dk_at dksX3_turning_6 19 rfl rfl)
theorem dX3_turning_162 : decode cX3_turning 162 = .ok (.goto (-62), 3) := dk_167 255 194 (dk_at dksX3_turning_7 0 rfl rfl)
theorem dX3_turning_165 : decode cX3_turning 165 = .ok (.iconst 0, 1) := dk_3 (dk_at dksX3_turning_7 3 rfl rfl)
theorem dX3_turning_166 : decode cX3_turning 166 = .ok (.istore_n 3, 1) := dk_62 (dk_at dksX3_turning_7 4 rfl rfl)
theorem dX3_turning_167 : decode cX3_turning 167 = .ok (.iload_n 3, 1) := dk_29 (dk_at dksX3_turning_7 5 rfl rfl)
theorem dX3_turning_168 : decode cX3_turning 168 = .ok (.iconst 3, 1) := dk_6 (dk_at dksX3_turning_7 6 rfl rfl)
theorem dX3_turning_169 : decode cX3_turning 169 = .ok (.aload_n 0, 1) := dk_42 (dk_at dksX3_turning_7 7 rfl rfl)
theorem dX3_turning_170 : decode cX3_turning 170 = .ok (.getfield 25, 3) := dk_180 0 25 (dk_at dksX3_turning_7 8 rfl rfl)
theorem dX3_turning_173 : decode cX3_turning 173 = .ok (.iconst 0, 1) := dk_3 (dk_at dksX3_turning_7 11 rfl rfl)
theorem dX3_turning_174 : decode cX3_turning 174 = .ok (.iaload, 1) := dk_46 (dk_at dksX3_turning_7 12 rfl rfl)
theorem dX3_turning_175 : decode cX3_turning 175 = .ok (.imul, 1) := dk_104 (dk_at dksX3_turning_7 13 rfl rfl)
theorem dX3_turning_176 : decode cX3_turning 176 = .ok (.if_icmp .ge 32, 3) := dk_162 0 32 (dk_at dksX3_turning_7 14 rfl rfl)
theorem dX3_turning_179 : decode cX3_turning 179 = .ok (.aload_n 0, 1) := dk_42 (dk_at dksX3_turning_7 17 rfl rfl)
theorem dX3_turning_180 : decode cX3_turning 180 = .ok (.getfield 203, 3) := dk_180 0 203 (dk_at dksX3_turning_7 18 rfl rfl)
theorem dX3_turning_183 : decode cX3_turning 183 = .ok (.ifCond .eq 25, 3) := dk_153 0 25 (dk_at dksX3_turning_7 21 rfl rfl)
theorem dX3_turning_186 : decode cX3_turning 186 = .ok (.aload_n 0, 1) := dk_42 (dk_at dksX3_turning_8 0 rfl rfl)
theorem dX3_turning_187 : decode cX3_turning 187 = .ok (.getfield 58, 3) := dk_180 0 58 (dk_at dksX3_turning_8 1 rfl rfl)
theorem dX3_turning_190 : decode cX3_turning 190 = .ok (.iload_n 3, 1) := dk_29 (dk_at dksX3_turning_8 4 rfl rfl)
theorem dX3_turning_191 : decode cX3_turning 191 = .ok (.aload_n 0, 1) := dk_42 (dk_at dksX3_turning_8 5 rfl rfl)
theorem dX3_turning_192 : decode cX3_turning 192 = .ok (.iload_n 3, 1) := dk_29 (dk_at dksX3_turning_8 6 rfl rfl)
theorem dX3_turning_193 : decode cX3_turning 193 = .ok (.iconst 3, 1) := dk_6 (dk_at dksX3_turning_8 7 rfl rfl)
theorem dX3_turning_194 : decode cX3_turning 194 = .ok (.idiv, 1) := dk_108 (dk_at dksX3_turning_8 8 rfl rfl)
theorem dX3_turning_195 : decode cX3_turning 195 = .ok (.iload_n 3, 1) := dk_29 (dk_at dksX3_turning_8 9 rfl rfl)
theorem dX3_turning_196 : decode cX3_turning 196 = .ok (.iconst 3, 1) := dk_6 (dk_at dksX3_turning_8 10 rfl rfl)
theorem dX3_turning_197 : decode cX3_turning 197 = .ok (.irem, 1) := dk_112 (dk_at dksX3_turning_8 11 rfl rfl)
theorem dX3_turning_198 : decode cX3_turning 198 = .ok (.invokevirtual 217, 3) := dk_182 0 217 (dk_at dksX3_turning_8 12 rfl rfl)
theorem dX3_turning_201 : decode cX3_turning 201 = .ok (.iastore, 1) := dk_79 (dk_at dksX3_turning_8 15 rfl rfl)
theorem dX3_turning_202 : decode cX3_turning 202 = .ok (.iinc 3 1, 3) := dk_132 3 1 (dk_at dksX3_turning_8 16 rfl rfl)
theorem dX3_turning_205 : decode cX3_turning 205 = .ok (.goto (-38), 3) := dk_167 255 218 (dk_at dksX3_turning_8 19 rfl rfl)
theorem dX3_turning_208 : decode cX3_turning 208 = .ok (.return_, 1) := dk_177 (dk_at dksX3_turning_8 22 rfl rfl)
abbrev cX3_spotOf : ByteArray := prog_11_method_47_code
def yX3_spotOf : MethodName := ⟨RX3, "spotOf", "(I)I"⟩
def dkwX3_spotOf_1 : List UInt8 := [28, 61, 132, 3, 1, 167, 255, 231, 28, 172]
abbrev dktX3_spotOf_1 : List UInt8 := dkwX3_spotOf_1 ++ []
def dkwX3_spotOf_0 : List UInt8 := [2, 61, 3, 62, 29, 16, 8, 162, 0, 25, 42, 180, 0, 41, 29, 46, 27, 160, 0, 7, 29, 167, 0, 4]
abbrev dktX3_spotOf_0 : List UInt8 := dkwX3_spotOf_0 ++ dktX3_spotOf_1
theorem dksX3_spotOf_0 : cX3_spotOf.data.toList.drop 0 = dktX3_spotOf_0 := by decide +kernel
theorem dksX3_spotOf_1 : cX3_spotOf.data.toList.drop 24 = dktX3_spotOf_1 := dk_seg dksX3_spotOf_0 24 rfl rfl
theorem dX3_spotOf_0 : decode cX3_spotOf 0 = .ok (.iconst (-1), 1) := dk_2 (dk_at dksX3_spotOf_0 0 rfl rfl)
theorem dX3_spotOf_1 : decode cX3_spotOf 1 = .ok (.istore_n 2, 1) := dk_61 (dk_at dksX3_spotOf_0 1 rfl rfl)
theorem dX3_spotOf_2 : decode cX3_spotOf 2 = .ok (.iconst 0, 1) := dk_3 (dk_at dksX3_spotOf_0 2 rfl rfl)
theorem dX3_spotOf_3 : decode cX3_spotOf 3 = .ok (.istore_n 3, 1) := dk_62 (dk_at dksX3_spotOf_0 3 rfl rfl)
theorem dX3_spotOf_4 : decode cX3_spotOf 4 = .ok (.iload_n 3, 1) := dk_29 (dk_at dksX3_spotOf_0 4 rfl rfl)
theorem dX3_spotOf_5 : decode cX3_spotOf 5 = .ok (.bipush 8, 2) := dk_16 8 (dk_at dksX3_spotOf_0 5 rfl rfl)
theorem dX3_spotOf_7 : decode cX3_spotOf 7 = .ok (.if_icmp .ge 25, 3) := dk_162 0 25 (dk_at dksX3_spotOf_0 7 rfl rfl)
theorem dX3_spotOf_10 : decode cX3_spotOf 10 = .ok (.aload_n 0, 1) := dk_42 (dk_at dksX3_spotOf_0 10 rfl rfl)
theorem dX3_spotOf_11 : decode cX3_spotOf 11 = .ok (.getfield 41, 3) := dk_180 0 41 (dk_at dksX3_spotOf_0 11 rfl rfl)
theorem dX3_spotOf_14 : decode cX3_spotOf 14 = .ok (.iload_n 3, 1) := dk_29 (dk_at dksX3_spotOf_0 14 rfl rfl)
theorem dX3_spotOf_15 : decode cX3_spotOf 15 = .ok (.iaload, 1) := dk_46 (dk_at dksX3_spotOf_0 15 rfl rfl)
theorem dX3_spotOf_16 : decode cX3_spotOf 16 = .ok (.iload_n 1, 1) := dk_27 (dk_at dksX3_spotOf_0 16 rfl rfl)
theorem dX3_spotOf_17 : decode cX3_spotOf 17 = .ok (.if_icmp .ne 7, 3) := dk_160 0 7 (dk_at dksX3_spotOf_0 17 rfl rfl)
theorem dX3_spotOf_20 : decode cX3_spotOf 20 = .ok (.iload_n 3, 1) := dk_29 (dk_at dksX3_spotOf_0 20 rfl rfl)
theorem dX3_spotOf_21 : decode cX3_spotOf 21 = .ok (.goto 4, 3) := dk_167 0 4 (dk_at dksX3_spotOf_0 21 rfl rfl)
theorem dX3_spotOf_24 : decode cX3_spotOf 24 = .ok (.iload_n 2, 1) := dk_28 (dk_at dksX3_spotOf_1 0 rfl rfl)
theorem dX3_spotOf_25 : decode cX3_spotOf 25 = .ok (.istore_n 2, 1) := dk_61 (dk_at dksX3_spotOf_1 1 rfl rfl)
theorem dX3_spotOf_26 : decode cX3_spotOf 26 = .ok (.iinc 3 1, 3) := dk_132 3 1 (dk_at dksX3_spotOf_1 2 rfl rfl)
theorem dX3_spotOf_29 : decode cX3_spotOf 29 = .ok (.goto (-25), 3) := dk_167 255 231 (dk_at dksX3_spotOf_1 5 rfl rfl)
theorem dX3_spotOf_32 : decode cX3_spotOf 32 = .ok (.iload_n 2, 1) := dk_28 (dk_at dksX3_spotOf_1 8 rfl rfl)
theorem dX3_spotOf_33 : decode cX3_spotOf 33 = .ok (.ireturn, 1) := dk_172 (dk_at dksX3_spotOf_1 9 rfl rfl)
abbrev cX3_arms : ByteArray := prog_11_method_44_code
def yX3_arms : MethodName := ⟨RX3, "arms", "([JIII)V"⟩
def dkwX3_arms_2 : List UInt8 := [16, 6, 6, 184, 0, 195, 43, 3, 6, 16, 6, 184, 0, 195, 177]
abbrev dktX3_arms_2 : List UInt8 := dkwX3_arms_2 ++ []
def dkwX3_arms_1 : List UInt8 := [16, 6, 21, 5, 96, 42, 28, 21, 4, 21, 5, 182, 0, 126, 133, 80, 132, 5, 1, 167, 255, 217, 43, 3]
abbrev dktX3_arms_1 : List UInt8 := dkwX3_arms_1 ++ dktX3_arms_2
def dkwX3_arms_0 : List UInt8 := [3, 54, 5, 21, 5, 6, 162, 0, 39, 43, 21, 5, 42, 28, 29, 21, 5, 182, 0, 126, 133, 80, 43]
abbrev dktX3_arms_0 : List UInt8 := dkwX3_arms_0 ++ dktX3_arms_1
theorem dksX3_arms_0 : cX3_arms.data.toList.drop 0 = dktX3_arms_0 := by decide +kernel
theorem dksX3_arms_1 : cX3_arms.data.toList.drop 23 = dktX3_arms_1 := dk_seg dksX3_arms_0 23 rfl rfl
theorem dksX3_arms_2 : cX3_arms.data.toList.drop 47 = dktX3_arms_2 := dk_seg dksX3_arms_1 24 rfl rfl
theorem dX3_arms_0 : decode cX3_arms 0 = .ok (.iconst 0, 1) := dk_3 (dk_at dksX3_arms_0 0 rfl rfl)
theorem dX3_arms_1 : decode cX3_arms 1 = .ok (.istore 5, 2) := dk_54 5 (dk_at dksX3_arms_0 1 rfl rfl)
theorem dX3_arms_3 : decode cX3_arms 3 = .ok (.iload 5, 2) := dk_21 5 (dk_at dksX3_arms_0 3 rfl rfl)
theorem dX3_arms_5 : decode cX3_arms 5 = .ok (.iconst 3, 1) := dk_6 (dk_at dksX3_arms_0 5 rfl rfl)
theorem dX3_arms_6 : decode cX3_arms 6 = .ok (.if_icmp .ge 39, 3) := dk_162 0 39 (dk_at dksX3_arms_0 6 rfl rfl)
theorem dX3_arms_9 : decode cX3_arms 9 = .ok (.aload_n 1, 1) := dk_43 (dk_at dksX3_arms_0 9 rfl rfl)
theorem dX3_arms_10 : decode cX3_arms 10 = .ok (.iload 5, 2) := dk_21 5 (dk_at dksX3_arms_0 10 rfl rfl)
theorem dX3_arms_12 : decode cX3_arms 12 = .ok (.aload_n 0, 1) := dk_42 (dk_at dksX3_arms_0 12 rfl rfl)
theorem dX3_arms_13 : decode cX3_arms 13 = .ok (.iload_n 2, 1) := dk_28 (dk_at dksX3_arms_0 13 rfl rfl)
theorem dX3_arms_14 : decode cX3_arms 14 = .ok (.iload_n 3, 1) := dk_29 (dk_at dksX3_arms_0 14 rfl rfl)
theorem dX3_arms_15 : decode cX3_arms 15 = .ok (.iload 5, 2) := dk_21 5 (dk_at dksX3_arms_0 15 rfl rfl)
theorem dX3_arms_17 : decode cX3_arms 17 = .ok (.invokevirtual 126, 3) := dk_182 0 126 (dk_at dksX3_arms_0 17 rfl rfl)
theorem dX3_arms_20 : decode cX3_arms 20 = .ok (.i2l, 1) := dk_133 (dk_at dksX3_arms_0 20 rfl rfl)
theorem dX3_arms_21 : decode cX3_arms 21 = .ok (.lastore, 1) := dk_80 (dk_at dksX3_arms_0 21 rfl rfl)
theorem dX3_arms_22 : decode cX3_arms 22 = .ok (.aload_n 1, 1) := dk_43 (dk_at dksX3_arms_0 22 rfl rfl)
theorem dX3_arms_23 : decode cX3_arms 23 = .ok (.bipush 6, 2) := dk_16 6 (dk_at dksX3_arms_1 0 rfl rfl)
theorem dX3_arms_25 : decode cX3_arms 25 = .ok (.iload 5, 2) := dk_21 5 (dk_at dksX3_arms_1 2 rfl rfl)
theorem dX3_arms_27 : decode cX3_arms 27 = .ok (.iadd, 1) := dk_96 (dk_at dksX3_arms_1 4 rfl rfl)
theorem dX3_arms_28 : decode cX3_arms 28 = .ok (.aload_n 0, 1) := dk_42 (dk_at dksX3_arms_1 5 rfl rfl)
theorem dX3_arms_29 : decode cX3_arms 29 = .ok (.iload_n 2, 1) := dk_28 (dk_at dksX3_arms_1 6 rfl rfl)
theorem dX3_arms_30 : decode cX3_arms 30 = .ok (.iload 4, 2) := dk_21 4 (dk_at dksX3_arms_1 7 rfl rfl)
theorem dX3_arms_32 : decode cX3_arms 32 = .ok (.iload 5, 2) := dk_21 5 (dk_at dksX3_arms_1 9 rfl rfl)
theorem dX3_arms_34 : decode cX3_arms 34 = .ok (.invokevirtual 126, 3) := dk_182 0 126 (dk_at dksX3_arms_1 11 rfl rfl)
theorem dX3_arms_37 : decode cX3_arms 37 = .ok (.i2l, 1) := dk_133 (dk_at dksX3_arms_1 14 rfl rfl)
theorem dX3_arms_38 : decode cX3_arms 38 = .ok (.lastore, 1) := dk_80 (dk_at dksX3_arms_1 15 rfl rfl)
theorem dX3_arms_39 : decode cX3_arms 39 = .ok (.iinc 5 1, 3) := dk_132 5 1 (dk_at dksX3_arms_1 16 rfl rfl)
theorem dX3_arms_42 : decode cX3_arms 42 = .ok (.goto (-39), 3) := dk_167 255 217 (dk_at dksX3_arms_1 19 rfl rfl)
theorem dX3_arms_45 : decode cX3_arms 45 = .ok (.aload_n 1, 1) := dk_43 (dk_at dksX3_arms_1 22 rfl rfl)
theorem dX3_arms_46 : decode cX3_arms 46 = .ok (.iconst 0, 1) := dk_3 (dk_at dksX3_arms_1 23 rfl rfl)
theorem dX3_arms_47 : decode cX3_arms 47 = .ok (.bipush 6, 2) := dk_16 6 (dk_at dksX3_arms_2 0 rfl rfl)
theorem dX3_arms_49 : decode cX3_arms 49 = .ok (.iconst 3, 1) := dk_6 (dk_at dksX3_arms_2 2 rfl rfl)
theorem dX3_arms_50 : decode cX3_arms 50 = .ok (.invokestatic 195, 3) := dk_184 0 195 (dk_at dksX3_arms_2 3 rfl rfl)
theorem dX3_arms_53 : decode cX3_arms 53 = .ok (.aload_n 1, 1) := dk_43 (dk_at dksX3_arms_2 6 rfl rfl)
theorem dX3_arms_54 : decode cX3_arms 54 = .ok (.iconst 0, 1) := dk_3 (dk_at dksX3_arms_2 7 rfl rfl)
theorem dX3_arms_55 : decode cX3_arms 55 = .ok (.iconst 3, 1) := dk_6 (dk_at dksX3_arms_2 8 rfl rfl)
theorem dX3_arms_56 : decode cX3_arms 56 = .ok (.bipush 6, 2) := dk_16 6 (dk_at dksX3_arms_2 9 rfl rfl)
theorem dX3_arms_58 : decode cX3_arms 58 = .ok (.invokestatic 195, 3) := dk_184 0 195 (dk_at dksX3_arms_2 11 rfl rfl)
theorem dX3_arms_61 : decode cX3_arms 61 = .ok (.return_, 1) := dk_177 (dk_at dksX3_arms_2 14 rfl rfl)
abbrev cX3_multiplies : ByteArray := prog_11_method_43_code
def yX3_multiplies : MethodName := ⟨RX3, "multiplies", "([JIII)V"⟩
def dkwX3_multiplies_3 : List UInt8 := [101, 80, 177]
abbrev dktX3_multiplies_3 : List UInt8 := dkwX3_multiplies_3 ++ []
def dkwX3_multiplies_2 : List UInt8 := [101, 80, 42, 29, 5, 96, 42, 27, 47, 42, 28, 4, 96, 47, 105, 42, 27, 4, 96, 47, 42, 28, 47, 105]
abbrev dktX3_multiplies_2 : List UInt8 := dkwX3_multiplies_2 ++ dktX3_multiplies_3
def dkwX3_multiplies_1 : List UInt8 := [101, 80, 42, 29, 4, 96, 42, 27, 5, 96, 47, 42, 28, 47, 105, 42, 27, 47, 42, 28, 5, 96, 47, 105]
abbrev dktX3_multiplies_1 : List UInt8 := dkwX3_multiplies_1 ++ dktX3_multiplies_2
def dkwX3_multiplies_0 : List UInt8 := [42, 29, 42, 27, 4, 96, 47, 42, 28, 5, 96, 47, 105, 42, 27, 5, 96, 47, 42, 28, 4, 96, 47, 105]
abbrev dktX3_multiplies_0 : List UInt8 := dkwX3_multiplies_0 ++ dktX3_multiplies_1
theorem dksX3_multiplies_0 : cX3_multiplies.data.toList.drop 0 = dktX3_multiplies_0 := by decide +kernel
theorem dksX3_multiplies_1 : cX3_multiplies.data.toList.drop 24 = dktX3_multiplies_1 := dk_seg dksX3_multiplies_0 24 rfl rfl
theorem dksX3_multiplies_2 : cX3_multiplies.data.toList.drop 48 = dktX3_multiplies_2 := dk_seg dksX3_multiplies_1 24 rfl rfl
theorem dksX3_multiplies_3 : cX3_multiplies.data.toList.drop 72 = dktX3_multiplies_3 := dk_seg dksX3_multiplies_2 24 rfl rfl
theorem dX3_multiplies_0 : decode cX3_multiplies 0 = .ok (.aload_n 0, 1) := dk_42 (dk_at dksX3_multiplies_0 0 rfl rfl)
theorem dX3_multiplies_1 : decode cX3_multiplies 1 = .ok (.iload_n 3, 1) := dk_29 (dk_at dksX3_multiplies_0 1 rfl rfl)
theorem dX3_multiplies_2 : decode cX3_multiplies 2 = .ok (.aload_n 0, 1) := dk_42 (dk_at dksX3_multiplies_0 2 rfl rfl)
theorem dX3_multiplies_3 : decode cX3_multiplies 3 = .ok (.iload_n 1, 1) := dk_27 (dk_at dksX3_multiplies_0 3 rfl rfl)
theorem dX3_multiplies_4 : decode cX3_multiplies 4 = .ok (.iconst 1, 1) := dk_4 (dk_at dksX3_multiplies_0 4 rfl rfl)
theorem dX3_multiplies_5 : decode cX3_multiplies 5 = .ok (.iadd, 1) := dk_96 (dk_at dksX3_multiplies_0 5 rfl rfl)
theorem dX3_multiplies_6 : decode cX3_multiplies 6 = .ok (.laload, 1) := dk_47 (dk_at dksX3_multiplies_0 6 rfl rfl)
theorem dX3_multiplies_7 : decode cX3_multiplies 7 = .ok (.aload_n 0, 1) := dk_42 (dk_at dksX3_multiplies_0 7 rfl rfl)
theorem dX3_multiplies_8 : decode cX3_multiplies 8 = .ok (.iload_n 2, 1) := dk_28 (dk_at dksX3_multiplies_0 8 rfl rfl)
theorem dX3_multiplies_9 : decode cX3_multiplies 9 = .ok (.iconst 2, 1) := dk_5 (dk_at dksX3_multiplies_0 9 rfl rfl)
theorem dX3_multiplies_10 : decode cX3_multiplies 10 = .ok (.iadd, 1) := dk_96 (dk_at dksX3_multiplies_0 10 rfl rfl)
theorem dX3_multiplies_11 : decode cX3_multiplies 11 = .ok (.laload, 1) := dk_47 (dk_at dksX3_multiplies_0 11 rfl rfl)
theorem dX3_multiplies_12 : decode cX3_multiplies 12 = .ok (.lmul, 1) := dk_105 (dk_at dksX3_multiplies_0 12 rfl rfl)
theorem dX3_multiplies_13 : decode cX3_multiplies 13 = .ok (.aload_n 0, 1) := dk_42 (dk_at dksX3_multiplies_0 13 rfl rfl)
theorem dX3_multiplies_14 : decode cX3_multiplies 14 = .ok (.iload_n 1, 1) := dk_27 (dk_at dksX3_multiplies_0 14 rfl rfl)
theorem dX3_multiplies_15 : decode cX3_multiplies 15 = .ok (.iconst 2, 1) := dk_5 (dk_at dksX3_multiplies_0 15 rfl rfl)
theorem dX3_multiplies_16 : decode cX3_multiplies 16 = .ok (.iadd, 1) := dk_96 (dk_at dksX3_multiplies_0 16 rfl rfl)
theorem dX3_multiplies_17 : decode cX3_multiplies 17 = .ok (.laload, 1) := dk_47 (dk_at dksX3_multiplies_0 17 rfl rfl)
theorem dX3_multiplies_18 : decode cX3_multiplies 18 = .ok (.aload_n 0, 1) := dk_42 (dk_at dksX3_multiplies_0 18 rfl rfl)
theorem dX3_multiplies_19 : decode cX3_multiplies 19 = .ok (.iload_n 2, 1) := dk_28 (dk_at dksX3_multiplies_0 19 rfl rfl)
theorem dX3_multiplies_20 : decode cX3_multiplies 20 = .ok (.iconst 1, 1) := dk_4 (dk_at dksX3_multiplies_0 20 rfl rfl)
theorem dX3_multiplies_21 : decode cX3_multiplies 21 = .ok (.iadd, 1) := dk_96 (dk_at dksX3_multiplies_0 21 rfl rfl)
theorem dX3_multiplies_22 : decode cX3_multiplies 22 = .ok (.laload, 1) := dk_47 (dk_at dksX3_multiplies_0 22 rfl rfl)
theorem dX3_multiplies_23 : decode cX3_multiplies 23 = .ok (.lmul, 1) := dk_105 (dk_at dksX3_multiplies_0 23 rfl rfl)
theorem dX3_multiplies_24 : decode cX3_multiplies 24 = .ok (.lsub, 1) := dk_101 (dk_at dksX3_multiplies_1 0 rfl rfl)
theorem dX3_multiplies_25 : decode cX3_multiplies 25 = .ok (.lastore, 1) := dk_80 (dk_at dksX3_multiplies_1 1 rfl rfl)
theorem dX3_multiplies_26 : decode cX3_multiplies 26 = .ok (.aload_n 0, 1) := dk_42 (dk_at dksX3_multiplies_1 2 rfl rfl)
theorem dX3_multiplies_27 : decode cX3_multiplies 27 = .ok (.iload_n 3, 1) := dk_29 (dk_at dksX3_multiplies_1 3 rfl rfl)
theorem dX3_multiplies_28 : decode cX3_multiplies 28 = .ok (.iconst 1, 1) := dk_4 (dk_at dksX3_multiplies_1 4 rfl rfl)
theorem dX3_multiplies_29 : decode cX3_multiplies 29 = .ok (.iadd, 1) := dk_96 (dk_at dksX3_multiplies_1 5 rfl rfl)
theorem dX3_multiplies_30 : decode cX3_multiplies 30 = .ok (.aload_n 0, 1) := dk_42 (dk_at dksX3_multiplies_1 6 rfl rfl)
theorem dX3_multiplies_31 : decode cX3_multiplies 31 = .ok (.iload_n 1, 1) := dk_27 (dk_at dksX3_multiplies_1 7 rfl rfl)
theorem dX3_multiplies_32 : decode cX3_multiplies 32 = .ok (.iconst 2, 1) := dk_5 (dk_at dksX3_multiplies_1 8 rfl rfl)
theorem dX3_multiplies_33 : decode cX3_multiplies 33 = .ok (.iadd, 1) := dk_96 (dk_at dksX3_multiplies_1 9 rfl rfl)
theorem dX3_multiplies_34 : decode cX3_multiplies 34 = .ok (.laload, 1) := dk_47 (dk_at dksX3_multiplies_1 10 rfl rfl)
theorem dX3_multiplies_35 : decode cX3_multiplies 35 = .ok (.aload_n 0, 1) := dk_42 (dk_at dksX3_multiplies_1 11 rfl rfl)
theorem dX3_multiplies_36 : decode cX3_multiplies 36 = .ok (.iload_n 2, 1) := dk_28 (dk_at dksX3_multiplies_1 12 rfl rfl)
theorem dX3_multiplies_37 : decode cX3_multiplies 37 = .ok (.laload, 1) := dk_47 (dk_at dksX3_multiplies_1 13 rfl rfl)
theorem dX3_multiplies_38 : decode cX3_multiplies 38 = .ok (.lmul, 1) := dk_105 (dk_at dksX3_multiplies_1 14 rfl rfl)
theorem dX3_multiplies_39 : decode cX3_multiplies 39 = .ok (.aload_n 0, 1) := dk_42 (dk_at dksX3_multiplies_1 15 rfl rfl)
theorem dX3_multiplies_40 : decode cX3_multiplies 40 = .ok (.iload_n 1, 1) := dk_27 (dk_at dksX3_multiplies_1 16 rfl rfl)
theorem dX3_multiplies_41 : decode cX3_multiplies 41 = .ok (.laload, 1) := dk_47 (dk_at dksX3_multiplies_1 17 rfl rfl)
theorem dX3_multiplies_42 : decode cX3_multiplies 42 = .ok (.aload_n 0, 1) := dk_42 (dk_at dksX3_multiplies_1 18 rfl rfl)
theorem dX3_multiplies_43 : decode cX3_multiplies 43 = .ok (.iload_n 2, 1) := dk_28 (dk_at dksX3_multiplies_1 19 rfl rfl)
theorem dX3_multiplies_44 : decode cX3_multiplies 44 = .ok (.iconst 2, 1) := dk_5 (dk_at dksX3_multiplies_1 20 rfl rfl)
theorem dX3_multiplies_45 : decode cX3_multiplies 45 = .ok (.iadd, 1) := dk_96 (dk_at dksX3_multiplies_1 21 rfl rfl)
theorem dX3_multiplies_46 : decode cX3_multiplies 46 = .ok (.laload, 1) := dk_47 (dk_at dksX3_multiplies_1 22 rfl rfl)
theorem dX3_multiplies_47 : decode cX3_multiplies 47 = .ok (.lmul, 1) := dk_105 (dk_at dksX3_multiplies_1 23 rfl rfl)
theorem dX3_multiplies_48 : decode cX3_multiplies 48 = .ok (.lsub, 1) := dk_101 (dk_at dksX3_multiplies_2 0 rfl rfl)
theorem dX3_multiplies_49 : decode cX3_multiplies 49 = .ok (.lastore, 1) := dk_80 (dk_at dksX3_multiplies_2 1 rfl rfl)
theorem dX3_multiplies_50 : decode cX3_multiplies 50 = .ok (.aload_n 0, 1) := dk_42 (dk_at dksX3_multiplies_2 2 rfl rfl)
theorem dX3_multiplies_51 : decode cX3_multiplies 51 = .ok (.iload_n 3, 1) := dk_29 (dk_at dksX3_multiplies_2 3 rfl rfl)
theorem dX3_multiplies_52 : decode cX3_multiplies 52 = .ok (.iconst 2, 1) := dk_5 (dk_at dksX3_multiplies_2 4 rfl rfl)
theorem dX3_multiplies_53 : decode cX3_multiplies 53 = .ok (.iadd, 1) := dk_96 (dk_at dksX3_multiplies_2 5 rfl rfl)
theorem dX3_multiplies_54 : decode cX3_multiplies 54 = .ok (.aload_n 0, 1) := dk_42 (dk_at dksX3_multiplies_2 6 rfl rfl)
theorem dX3_multiplies_55 : decode cX3_multiplies 55 = .ok (.iload_n 1, 1) := dk_27 (dk_at dksX3_multiplies_2 7 rfl rfl)
theorem dX3_multiplies_56 : decode cX3_multiplies 56 = .ok (.laload, 1) := dk_47 (dk_at dksX3_multiplies_2 8 rfl rfl)
theorem dX3_multiplies_57 : decode cX3_multiplies 57 = .ok (.aload_n 0, 1) := dk_42 (dk_at dksX3_multiplies_2 9 rfl rfl)
theorem dX3_multiplies_58 : decode cX3_multiplies 58 = .ok (.iload_n 2, 1) := dk_28 (dk_at dksX3_multiplies_2 10 rfl rfl)
theorem dX3_multiplies_59 : decode cX3_multiplies 59 = .ok (.iconst 1, 1) := dk_4 (dk_at dksX3_multiplies_2 11 rfl rfl)
theorem dX3_multiplies_60 : decode cX3_multiplies 60 = .ok (.iadd, 1) := dk_96 (dk_at dksX3_multiplies_2 12 rfl rfl)
theorem dX3_multiplies_61 : decode cX3_multiplies 61 = .ok (.laload, 1) := dk_47 (dk_at dksX3_multiplies_2 13 rfl rfl)
theorem dX3_multiplies_62 : decode cX3_multiplies 62 = .ok (.lmul, 1) := dk_105 (dk_at dksX3_multiplies_2 14 rfl rfl)
theorem dX3_multiplies_63 : decode cX3_multiplies 63 = .ok (.aload_n 0, 1) := dk_42 (dk_at dksX3_multiplies_2 15 rfl rfl)
theorem dX3_multiplies_64 : decode cX3_multiplies 64 = .ok (.iload_n 1, 1) := dk_27 (dk_at dksX3_multiplies_2 16 rfl rfl)
theorem dX3_multiplies_65 : decode cX3_multiplies 65 = .ok (.iconst 1, 1) := dk_4 (dk_at dksX3_multiplies_2 17 rfl rfl)
theorem dX3_multiplies_66 : decode cX3_multiplies 66 = .ok (.iadd, 1) := dk_96 (dk_at dksX3_multiplies_2 18 rfl rfl)
theorem dX3_multiplies_67 : decode cX3_multiplies 67 = .ok (.laload, 1) := dk_47 (dk_at dksX3_multiplies_2 19 rfl rfl)
theorem dX3_multiplies_68 : decode cX3_multiplies 68 = .ok (.aload_n 0, 1) := dk_42 (dk_at dksX3_multiplies_2 20 rfl rfl)
theorem dX3_multiplies_69 : decode cX3_multiplies 69 = .ok (.iload_n 2, 1) := dk_28 (dk_at dksX3_multiplies_2 21 rfl rfl)
theorem dX3_multiplies_70 : decode cX3_multiplies 70 = .ok (.laload, 1) := dk_47 (dk_at dksX3_multiplies_2 22 rfl rfl)
theorem dX3_multiplies_71 : decode cX3_multiplies 71 = .ok (.lmul, 1) := dk_105 (dk_at dksX3_multiplies_2 23 rfl rfl)
theorem dX3_multiplies_72 : decode cX3_multiplies 72 = .ok (.lsub, 1) := dk_101 (dk_at dksX3_multiplies_3 0 rfl rfl)
theorem dX3_multiplies_73 : decode cX3_multiplies 73 = .ok (.lastore, 1) := dk_80 (dk_at dksX3_multiplies_3 1 rfl rfl)
theorem dX3_multiplies_74 : decode cX3_multiplies 74 = .ok (.return_, 1) := dk_177 (dk_at dksX3_multiplies_3 2 rfl rfl)
abbrev cX3_isNone : ByteArray := prog_11_method_48_code
def yX3_isNone : MethodName := ⟨RX3, "isNone", "([J)Z"⟩
def dkwX3_isNone_1 : List UInt8 := [4, 167, 0, 4, 3, 172]
abbrev dktX3_isNone_1 : List UInt8 := dkwX3_isNone_1 ++ []
def dkwX3_isNone_0 : List UInt8 := [42, 6, 47, 9, 148, 154, 0, 23, 42, 7, 47, 9, 148, 154, 0, 15, 42, 8, 47, 9, 148, 154, 0, 7]
abbrev dktX3_isNone_0 : List UInt8 := dkwX3_isNone_0 ++ dktX3_isNone_1
theorem dksX3_isNone_0 : cX3_isNone.data.toList.drop 0 = dktX3_isNone_0 := by decide +kernel
theorem dksX3_isNone_1 : cX3_isNone.data.toList.drop 24 = dktX3_isNone_1 := dk_seg dksX3_isNone_0 24 rfl rfl
theorem dX3_isNone_0 : decode cX3_isNone 0 = .ok (.aload_n 0, 1) := dk_42 (dk_at dksX3_isNone_0 0 rfl rfl)
theorem dX3_isNone_1 : decode cX3_isNone 1 = .ok (.iconst 3, 1) := dk_6 (dk_at dksX3_isNone_0 1 rfl rfl)
theorem dX3_isNone_2 : decode cX3_isNone 2 = .ok (.laload, 1) := dk_47 (dk_at dksX3_isNone_0 2 rfl rfl)
theorem dX3_isNone_3 : decode cX3_isNone 3 = .ok (.lconst 0, 1) := dk_9 (dk_at dksX3_isNone_0 3 rfl rfl)
theorem dX3_isNone_4 : decode cX3_isNone 4 = .ok (.lcmp, 1) := dk_148 (dk_at dksX3_isNone_0 4 rfl rfl)
theorem dX3_isNone_5 : decode cX3_isNone 5 = .ok (.ifCond .ne 23, 3) := dk_154 0 23 (dk_at dksX3_isNone_0 5 rfl rfl)
theorem dX3_isNone_8 : decode cX3_isNone 8 = .ok (.aload_n 0, 1) := dk_42 (dk_at dksX3_isNone_0 8 rfl rfl)
theorem dX3_isNone_9 : decode cX3_isNone 9 = .ok (.iconst 4, 1) := dk_7 (dk_at dksX3_isNone_0 9 rfl rfl)
theorem dX3_isNone_10 : decode cX3_isNone 10 = .ok (.laload, 1) := dk_47 (dk_at dksX3_isNone_0 10 rfl rfl)
theorem dX3_isNone_11 : decode cX3_isNone 11 = .ok (.lconst 0, 1) := dk_9 (dk_at dksX3_isNone_0 11 rfl rfl)
theorem dX3_isNone_12 : decode cX3_isNone 12 = .ok (.lcmp, 1) := dk_148 (dk_at dksX3_isNone_0 12 rfl rfl)
theorem dX3_isNone_13 : decode cX3_isNone 13 = .ok (.ifCond .ne 15, 3) := dk_154 0 15 (dk_at dksX3_isNone_0 13 rfl rfl)
theorem dX3_isNone_16 : decode cX3_isNone 16 = .ok (.aload_n 0, 1) := dk_42 (dk_at dksX3_isNone_0 16 rfl rfl)
theorem dX3_isNone_17 : decode cX3_isNone 17 = .ok (.iconst 5, 1) := dk_8 (dk_at dksX3_isNone_0 17 rfl rfl)
theorem dX3_isNone_18 : decode cX3_isNone 18 = .ok (.laload, 1) := dk_47 (dk_at dksX3_isNone_0 18 rfl rfl)
theorem dX3_isNone_19 : decode cX3_isNone 19 = .ok (.lconst 0, 1) := dk_9 (dk_at dksX3_isNone_0 19 rfl rfl)
theorem dX3_isNone_20 : decode cX3_isNone 20 = .ok (.lcmp, 1) := dk_148 (dk_at dksX3_isNone_0 20 rfl rfl)
theorem dX3_isNone_21 : decode cX3_isNone 21 = .ok (.ifCond .ne 7, 3) := dk_154 0 7 (dk_at dksX3_isNone_0 21 rfl rfl)
theorem dX3_isNone_24 : decode cX3_isNone 24 = .ok (.iconst 1, 1) := dk_4 (dk_at dksX3_isNone_1 0 rfl rfl)
theorem dX3_isNone_25 : decode cX3_isNone 25 = .ok (.goto 4, 3) := dk_167 0 4 (dk_at dksX3_isNone_1 1 rfl rfl)
theorem dX3_isNone_28 : decode cX3_isNone 28 = .ok (.iconst 0, 1) := dk_3 (dk_at dksX3_isNone_1 4 rfl rfl)
theorem dX3_isNone_29 : decode cX3_isNone 29 = .ok (.ireturn, 1) := dk_172 (dk_at dksX3_isNone_1 5 rfl rfl)
abbrev cX3_coordinate : ByteArray := prog_11_method_46_code
def yX3_coordinate : MethodName := ⟨RX3, "coordinate", "(II)I"⟩
def dkwX3_coordinate_5 : List UInt8 := [184, 0, 199, 136, 172]
abbrev dktX3_coordinate_5 : List UInt8 := dkwX3_coordinate_5 ++ []
def dkwX3_coordinate_4 : List UInt8 := [3, 47, 167, 0, 4, 10, 105, 97, 66, 132, 5, 1, 167, 255, 154, 33, 42, 180, 0, 55, 5, 47]
abbrev dktX3_coordinate_4 : List UInt8 := dkwX3_coordinate_4 ++ dktX3_coordinate_5
def dkwX3_coordinate_3 : List UInt8 := [21, 5, 154, 0, 12, 42, 180, 0, 55, 4, 47, 167, 0, 19, 21, 5, 4, 160, 0, 12, 42, 180, 0, 55]
abbrev dktX3_coordinate_3 : List UInt8 := dkwX3_coordinate_3 ++ dktX3_coordinate_4
def dkwX3_coordinate_2 : List UInt8 := [97, 55, 6, 132, 8, 1, 167, 255, 220, 33, 22, 6, 42, 180, 0, 52, 6, 21, 5, 104, 28, 96, 47, 105]
abbrev dktX3_coordinate_2 : List UInt8 := dkwX3_coordinate_2 ++ dktX3_coordinate_3
def dkwX3_coordinate_1 : List UInt8 := [22, 6, 42, 3, 27, 21, 8, 182, 0, 126, 133, 42, 180, 0, 48, 6, 21, 5, 104, 21, 8, 96, 47, 105]
abbrev dktX3_coordinate_1 : List UInt8 := dkwX3_coordinate_1 ++ dktX3_coordinate_2
def dkwX3_coordinate_0 : List UInt8 := [9, 66, 3, 54, 5, 21, 5, 6, 162, 0, 102, 9, 55, 6, 3, 54, 8, 21, 8, 6, 162, 0, 36]
abbrev dktX3_coordinate_0 : List UInt8 := dkwX3_coordinate_0 ++ dktX3_coordinate_1
theorem dksX3_coordinate_0 : cX3_coordinate.data.toList.drop 0 = dktX3_coordinate_0 := by decide +kernel
theorem dksX3_coordinate_1 : cX3_coordinate.data.toList.drop 23 = dktX3_coordinate_1 := dk_seg dksX3_coordinate_0 23 rfl rfl
theorem dksX3_coordinate_2 : cX3_coordinate.data.toList.drop 47 = dktX3_coordinate_2 := dk_seg dksX3_coordinate_1 24 rfl rfl
theorem dksX3_coordinate_3 : cX3_coordinate.data.toList.drop 71 = dktX3_coordinate_3 := dk_seg dksX3_coordinate_2 24 rfl rfl
theorem dksX3_coordinate_4 : cX3_coordinate.data.toList.drop 95 = dktX3_coordinate_4 := dk_seg dksX3_coordinate_3 24 rfl rfl
theorem dksX3_coordinate_5 : cX3_coordinate.data.toList.drop 117 = dktX3_coordinate_5 := dk_seg dksX3_coordinate_4 22 rfl rfl
theorem dX3_coordinate_0 : decode cX3_coordinate 0 = .ok (.lconst 0, 1) := dk_9 (dk_at dksX3_coordinate_0 0 rfl rfl)
theorem dX3_coordinate_1 : decode cX3_coordinate 1 = .ok (.lstore_n 3, 1) := dk_66 (dk_at dksX3_coordinate_0 1 rfl rfl)
theorem dX3_coordinate_2 : decode cX3_coordinate 2 = .ok (.iconst 0, 1) := dk_3 (dk_at dksX3_coordinate_0 2 rfl rfl)
theorem dX3_coordinate_3 : decode cX3_coordinate 3 = .ok (.istore 5, 2) := dk_54 5 (dk_at dksX3_coordinate_0 3 rfl rfl)
theorem dX3_coordinate_5 : decode cX3_coordinate 5 = .ok (.iload 5, 2) := dk_21 5 (dk_at dksX3_coordinate_0 5 rfl rfl)
theorem dX3_coordinate_7 : decode cX3_coordinate 7 = .ok (.iconst 3, 1) := dk_6 (dk_at dksX3_coordinate_0 7 rfl rfl)
theorem dX3_coordinate_8 : decode cX3_coordinate 8 = .ok (.if_icmp .ge 102, 3) := dk_162 0 102 (dk_at dksX3_coordinate_0 8 rfl rfl)
theorem dX3_coordinate_11 : decode cX3_coordinate 11 = .ok (.lconst 0, 1) := dk_9 (dk_at dksX3_coordinate_0 11 rfl rfl)
theorem dX3_coordinate_12 : decode cX3_coordinate 12 = .ok (.lstore 6, 2) := dk_55 6 (dk_at dksX3_coordinate_0 12 rfl rfl)
theorem dX3_coordinate_14 : decode cX3_coordinate 14 = .ok (.iconst 0, 1) := dk_3 (dk_at dksX3_coordinate_0 14 rfl rfl)
theorem dX3_coordinate_15 : decode cX3_coordinate 15 = .ok (.istore 8, 2) := dk_54 8 (dk_at dksX3_coordinate_0 15 rfl rfl)
theorem dX3_coordinate_17 : decode cX3_coordinate 17 = .ok (.iload 8, 2) := dk_21 8 (dk_at dksX3_coordinate_0 17 rfl rfl)
theorem dX3_coordinate_19 : decode cX3_coordinate 19 = .ok (.iconst 3, 1) := dk_6 (dk_at dksX3_coordinate_0 19 rfl rfl)
theorem dX3_coordinate_20 : decode cX3_coordinate 20 = .ok (.if_icmp .ge 36, 3) := dk_162 0 36 (dk_at dksX3_coordinate_0 20 rfl rfl)
theorem dX3_coordinate_23 : decode cX3_coordinate 23 = .ok (.lload 6, 2) := dk_22 6 (dk_at dksX3_coordinate_1 0 rfl rfl)
theorem dX3_coordinate_25 : decode cX3_coordinate 25 = .ok (.aload_n 0, 1) := dk_42 (dk_at dksX3_coordinate_1 2 rfl rfl)
theorem dX3_coordinate_26 : decode cX3_coordinate 26 = .ok (.iconst 0, 1) := dk_3 (dk_at dksX3_coordinate_1 3 rfl rfl)
theorem dX3_coordinate_27 : decode cX3_coordinate 27 = .ok (.iload_n 1, 1) := dk_27 (dk_at dksX3_coordinate_1 4 rfl rfl)
theorem dX3_coordinate_28 : decode cX3_coordinate 28 = .ok (.iload 8, 2) := dk_21 8 (dk_at dksX3_coordinate_1 5 rfl rfl)
theorem dX3_coordinate_30 : decode cX3_coordinate 30 = .ok (.invokevirtual 126, 3) := dk_182 0 126 (dk_at dksX3_coordinate_1 7 rfl rfl)
theorem dX3_coordinate_33 : decode cX3_coordinate 33 = .ok (.i2l, 1) := dk_133 (dk_at dksX3_coordinate_1 10 rfl rfl)
theorem dX3_coordinate_34 : decode cX3_coordinate 34 = .ok (.aload_n 0, 1) := dk_42 (dk_at dksX3_coordinate_1 11 rfl rfl)
theorem dX3_coordinate_35 : decode cX3_coordinate 35 = .ok (.getfield 48, 3) := dk_180 0 48 (dk_at dksX3_coordinate_1 12 rfl rfl)
theorem dX3_coordinate_38 : decode cX3_coordinate 38 = .ok (.iconst 3, 1) := dk_6 (dk_at dksX3_coordinate_1 15 rfl rfl)
theorem dX3_coordinate_39 : decode cX3_coordinate 39 = .ok (.iload 5, 2) := dk_21 5 (dk_at dksX3_coordinate_1 16 rfl rfl)
theorem dX3_coordinate_41 : decode cX3_coordinate 41 = .ok (.imul, 1) := dk_104 (dk_at dksX3_coordinate_1 18 rfl rfl)
theorem dX3_coordinate_42 : decode cX3_coordinate 42 = .ok (.iload 8, 2) := dk_21 8 (dk_at dksX3_coordinate_1 19 rfl rfl)
theorem dX3_coordinate_44 : decode cX3_coordinate 44 = .ok (.iadd, 1) := dk_96 (dk_at dksX3_coordinate_1 21 rfl rfl)
theorem dX3_coordinate_45 : decode cX3_coordinate 45 = .ok (.laload, 1) := dk_47 (dk_at dksX3_coordinate_1 22 rfl rfl)
theorem dX3_coordinate_46 : decode cX3_coordinate 46 = .ok (.lmul, 1) := dk_105 (dk_at dksX3_coordinate_1 23 rfl rfl)
theorem dX3_coordinate_47 : decode cX3_coordinate 47 = .ok (.ladd, 1) := dk_97 (dk_at dksX3_coordinate_2 0 rfl rfl)
theorem dX3_coordinate_48 : decode cX3_coordinate 48 = .ok (.lstore 6, 2) := dk_55 6 (dk_at dksX3_coordinate_2 1 rfl rfl)
theorem dX3_coordinate_50 : decode cX3_coordinate 50 = .ok (.iinc 8 1, 3) := dk_132 8 1 (dk_at dksX3_coordinate_2 3 rfl rfl)
theorem dX3_coordinate_53 : decode cX3_coordinate 53 = .ok (.goto (-36), 3) := dk_167 255 220 (dk_at dksX3_coordinate_2 6 rfl rfl)
theorem dX3_coordinate_56 : decode cX3_coordinate 56 = .ok (.lload_n 3, 1) := dk_33 (dk_at dksX3_coordinate_2 9 rfl rfl)
theorem dX3_coordinate_57 : decode cX3_coordinate 57 = .ok (.lload 6, 2) := dk_22 6 (dk_at dksX3_coordinate_2 10 rfl rfl)
theorem dX3_coordinate_59 : decode cX3_coordinate 59 = .ok (.aload_n 0, 1) := dk_42 (dk_at dksX3_coordinate_2 12 rfl rfl)
theorem dX3_coordinate_60 : decode cX3_coordinate 60 = .ok (.getfield 52, 3) := dk_180 0 52 (dk_at dksX3_coordinate_2 13 rfl rfl)
theorem dX3_coordinate_63 : decode cX3_coordinate 63 = .ok (.iconst 3, 1) := dk_6 (dk_at dksX3_coordinate_2 16 rfl rfl)
theorem dX3_coordinate_64 : decode cX3_coordinate 64 = .ok (.iload 5, 2) := dk_21 5 (dk_at dksX3_coordinate_2 17 rfl rfl)
theorem dX3_coordinate_66 : decode cX3_coordinate 66 = .ok (.imul, 1) := dk_104 (dk_at dksX3_coordinate_2 19 rfl rfl)
theorem dX3_coordinate_67 : decode cX3_coordinate 67 = .ok (.iload_n 2, 1) := dk_28 (dk_at dksX3_coordinate_2 20 rfl rfl)
theorem dX3_coordinate_68 : decode cX3_coordinate 68 = .ok (.iadd, 1) := dk_96 (dk_at dksX3_coordinate_2 21 rfl rfl)
theorem dX3_coordinate_69 : decode cX3_coordinate 69 = .ok (.laload, 1) := dk_47 (dk_at dksX3_coordinate_2 22 rfl rfl)
theorem dX3_coordinate_70 : decode cX3_coordinate 70 = .ok (.lmul, 1) := dk_105 (dk_at dksX3_coordinate_2 23 rfl rfl)
theorem dX3_coordinate_71 : decode cX3_coordinate 71 = .ok (.iload 5, 2) := dk_21 5 (dk_at dksX3_coordinate_3 0 rfl rfl)
theorem dX3_coordinate_73 : decode cX3_coordinate 73 = .ok (.ifCond .ne 12, 3) := dk_154 0 12 (dk_at dksX3_coordinate_3 2 rfl rfl)
theorem dX3_coordinate_76 : decode cX3_coordinate 76 = .ok (.aload_n 0, 1) := dk_42 (dk_at dksX3_coordinate_3 5 rfl rfl)
theorem dX3_coordinate_77 : decode cX3_coordinate 77 = .ok (.getfield 55, 3) := dk_180 0 55 (dk_at dksX3_coordinate_3 6 rfl rfl)
theorem dX3_coordinate_80 : decode cX3_coordinate 80 = .ok (.iconst 1, 1) := dk_4 (dk_at dksX3_coordinate_3 9 rfl rfl)
theorem dX3_coordinate_81 : decode cX3_coordinate 81 = .ok (.laload, 1) := dk_47 (dk_at dksX3_coordinate_3 10 rfl rfl)
theorem dX3_coordinate_82 : decode cX3_coordinate 82 = .ok (.goto 19, 3) := dk_167 0 19 (dk_at dksX3_coordinate_3 11 rfl rfl)
theorem dX3_coordinate_85 : decode cX3_coordinate 85 = .ok (.iload 5, 2) := dk_21 5 (dk_at dksX3_coordinate_3 14 rfl rfl)
theorem dX3_coordinate_87 : decode cX3_coordinate 87 = .ok (.iconst 1, 1) := dk_4 (dk_at dksX3_coordinate_3 16 rfl rfl)
theorem dX3_coordinate_88 : decode cX3_coordinate 88 = .ok (.if_icmp .ne 12, 3) := dk_160 0 12 (dk_at dksX3_coordinate_3 17 rfl rfl)
theorem dX3_coordinate_91 : decode cX3_coordinate 91 = .ok (.aload_n 0, 1) := dk_42 (dk_at dksX3_coordinate_3 20 rfl rfl)
theorem dX3_coordinate_92 : decode cX3_coordinate 92 = .ok (.getfield 55, 3) := dk_180 0 55 (dk_at dksX3_coordinate_3 21 rfl rfl)
theorem dX3_coordinate_95 : decode cX3_coordinate 95 = .ok (.iconst 0, 1) := dk_3 (dk_at dksX3_coordinate_4 0 rfl rfl)
theorem dX3_coordinate_96 : decode cX3_coordinate 96 = .ok (.laload, 1) := dk_47 (dk_at dksX3_coordinate_4 1 rfl rfl)
theorem dX3_coordinate_97 : decode cX3_coordinate 97 = .ok (.goto 4, 3) := dk_167 0 4 (dk_at dksX3_coordinate_4 2 rfl rfl)
theorem dX3_coordinate_100 : decode cX3_coordinate 100 = .ok (.lconst 1, 1) := dk_10 (dk_at dksX3_coordinate_4 5 rfl rfl)
theorem dX3_coordinate_101 : decode cX3_coordinate 101 = .ok (.lmul, 1) := dk_105 (dk_at dksX3_coordinate_4 6 rfl rfl)
theorem dX3_coordinate_102 : decode cX3_coordinate 102 = .ok (.ladd, 1) := dk_97 (dk_at dksX3_coordinate_4 7 rfl rfl)
theorem dX3_coordinate_103 : decode cX3_coordinate 103 = .ok (.lstore_n 3, 1) := dk_66 (dk_at dksX3_coordinate_4 8 rfl rfl)
theorem dX3_coordinate_104 : decode cX3_coordinate 104 = .ok (.iinc 5 1, 3) := dk_132 5 1 (dk_at dksX3_coordinate_4 9 rfl rfl)
theorem dX3_coordinate_107 : decode cX3_coordinate 107 = .ok (.goto (-102), 3) := dk_167 255 154 (dk_at dksX3_coordinate_4 12 rfl rfl)
theorem dX3_coordinate_110 : decode cX3_coordinate 110 = .ok (.lload_n 3, 1) := dk_33 (dk_at dksX3_coordinate_4 15 rfl rfl)
theorem dX3_coordinate_111 : decode cX3_coordinate 111 = .ok (.aload_n 0, 1) := dk_42 (dk_at dksX3_coordinate_4 16 rfl rfl)
theorem dX3_coordinate_112 : decode cX3_coordinate 112 = .ok (.getfield 55, 3) := dk_180 0 55 (dk_at dksX3_coordinate_4 17 rfl rfl)
theorem dX3_coordinate_115 : decode cX3_coordinate 115 = .ok (.iconst 2, 1) := dk_5 (dk_at dksX3_coordinate_4 20 rfl rfl)
theorem dX3_coordinate_116 : decode cX3_coordinate 116 = .ok (.laload, 1) := dk_47 (dk_at dksX3_coordinate_4 21 rfl rfl)
theorem dX3_coordinate_117 : decode cX3_coordinate 117 = .ok (.invokestatic 199, 3) := dk_184 0 199 (dk_at dksX3_coordinate_5 0 rfl rfl)
theorem dX3_coordinate_120 : decode cX3_coordinate 120 = .ok (.l2i, 1) := dk_136 (dk_at dksX3_coordinate_5 3 rfl rfl)
theorem dX3_coordinate_121 : decode cX3_coordinate 121 = .ok (.ireturn, 1) := dk_172 (dk_at dksX3_coordinate_5 4 rfl rfl)
abbrev cX3_nearest : ByteArray := prog_11_method_45_code
def yX3_nearest : MethodName := ⟨RX3, "nearest", "(JJ)J"⟩
def dkwX3_nearest_1 : List UInt8 := [22, 4, 22, 6, 113, 9, 148, 156, 0, 10, 22, 8, 10, 101, 167, 0, 5, 22, 8, 173]
abbrev dktX3_nearest_1 : List UInt8 := dkwX3_nearest_1 ++ []
def dkwX3_nearest_0 : List UInt8 := [20, 0, 89, 30, 105, 32, 97, 55, 4, 20, 0, 89, 32, 105, 55, 6, 22, 4, 22, 6, 109, 55, 8]
abbrev dktX3_nearest_0 : List UInt8 := dkwX3_nearest_0 ++ dktX3_nearest_1
theorem dksX3_nearest_0 : cX3_nearest.data.toList.drop 0 = dktX3_nearest_0 := by decide +kernel
theorem dksX3_nearest_1 : cX3_nearest.data.toList.drop 23 = dktX3_nearest_1 := dk_seg dksX3_nearest_0 23 rfl rfl
theorem dX3_nearest_0 : decode cX3_nearest 0 = .ok (.ldc2_w 89, 3) := dk_20 0 89 (dk_at dksX3_nearest_0 0 rfl rfl)
theorem dX3_nearest_3 : decode cX3_nearest 3 = .ok (.lload_n 0, 1) := dk_30 (dk_at dksX3_nearest_0 3 rfl rfl)
theorem dX3_nearest_4 : decode cX3_nearest 4 = .ok (.lmul, 1) := dk_105 (dk_at dksX3_nearest_0 4 rfl rfl)
theorem dX3_nearest_5 : decode cX3_nearest 5 = .ok (.lload_n 2, 1) := dk_32 (dk_at dksX3_nearest_0 5 rfl rfl)
theorem dX3_nearest_6 : decode cX3_nearest 6 = .ok (.ladd, 1) := dk_97 (dk_at dksX3_nearest_0 6 rfl rfl)
theorem dX3_nearest_7 : decode cX3_nearest 7 = .ok (.lstore 4, 2) := dk_55 4 (dk_at dksX3_nearest_0 7 rfl rfl)
theorem dX3_nearest_9 : decode cX3_nearest 9 = .ok (.ldc2_w 89, 3) := dk_20 0 89 (dk_at dksX3_nearest_0 9 rfl rfl)
theorem dX3_nearest_12 : decode cX3_nearest 12 = .ok (.lload_n 2, 1) := dk_32 (dk_at dksX3_nearest_0 12 rfl rfl)
theorem dX3_nearest_13 : decode cX3_nearest 13 = .ok (.lmul, 1) := dk_105 (dk_at dksX3_nearest_0 13 rfl rfl)
theorem dX3_nearest_14 : decode cX3_nearest 14 = .ok (.lstore 6, 2) := dk_55 6 (dk_at dksX3_nearest_0 14 rfl rfl)
theorem dX3_nearest_16 : decode cX3_nearest 16 = .ok (.lload 4, 2) := dk_22 4 (dk_at dksX3_nearest_0 16 rfl rfl)
theorem dX3_nearest_18 : decode cX3_nearest 18 = .ok (.lload 6, 2) := dk_22 6 (dk_at dksX3_nearest_0 18 rfl rfl)
theorem dX3_nearest_20 : decode cX3_nearest 20 = .ok (.ldiv, 1) := dk_109 (dk_at dksX3_nearest_0 20 rfl rfl)
theorem dX3_nearest_21 : decode cX3_nearest 21 = .ok (.lstore 8, 2) := dk_55 8 (dk_at dksX3_nearest_0 21 rfl rfl)
theorem dX3_nearest_23 : decode cX3_nearest 23 = .ok (.lload 4, 2) := dk_22 4 (dk_at dksX3_nearest_1 0 rfl rfl)
theorem dX3_nearest_25 : decode cX3_nearest 25 = .ok (.lload 6, 2) := dk_22 6 (dk_at dksX3_nearest_1 2 rfl rfl)
theorem dX3_nearest_27 : decode cX3_nearest 27 = .ok (.lrem, 1) := dk_113 (dk_at dksX3_nearest_1 4 rfl rfl)
theorem dX3_nearest_28 : decode cX3_nearest 28 = .ok (.lconst 0, 1) := dk_9 (dk_at dksX3_nearest_1 5 rfl rfl)
theorem dX3_nearest_29 : decode cX3_nearest 29 = .ok (.lcmp, 1) := dk_148 (dk_at dksX3_nearest_1 6 rfl rfl)
theorem dX3_nearest_30 : decode cX3_nearest 30 = .ok (.ifCond .ge 10, 3) := dk_156 0 10 (dk_at dksX3_nearest_1 7 rfl rfl)
theorem dX3_nearest_33 : decode cX3_nearest 33 = .ok (.lload 8, 2) := dk_22 8 (dk_at dksX3_nearest_1 10 rfl rfl)
theorem dX3_nearest_35 : decode cX3_nearest 35 = .ok (.lconst 1, 1) := dk_10 (dk_at dksX3_nearest_1 12 rfl rfl)
theorem dX3_nearest_36 : decode cX3_nearest 36 = .ok (.lsub, 1) := dk_101 (dk_at dksX3_nearest_1 13 rfl rfl)
theorem dX3_nearest_37 : decode cX3_nearest 37 = .ok (.goto 5, 3) := dk_167 0 5 (dk_at dksX3_nearest_1 14 rfl rfl)
theorem dX3_nearest_40 : decode cX3_nearest 40 = .ok (.lload 8, 2) := dk_22 8 (dk_at dksX3_nearest_1 17 rfl rfl)
theorem dX3_nearest_42 : decode cX3_nearest 42 = .ok (.lreturn, 1) := dk_173 (dk_at dksX3_nearest_1 19 rfl rfl)
abbrev cX3_confirms : ByteArray := prog_11_method_51_code
def yX3_confirms : MethodName := ⟨RX3, "confirms", "()V"⟩
def dkwX3_confirms_8 : List UInt8 := [167, 255, 98, 177]
abbrev dktX3_confirms_8 : List UInt8 := dkwX3_confirms_8 ++ []
def dkwX3_confirms_7 : List UInt8 := [180, 0, 44, 42, 180, 0, 61, 27, 46, 4, 84, 42, 89, 180, 0, 220, 4, 96, 181, 0, 220, 132, 1, 1]
abbrev dktX3_confirms_7 : List UInt8 := dkwX3_confirms_7 ++ dktX3_confirms_8
def dkwX3_confirms_6 : List UInt8 := [180, 0, 64, 27, 29, 79, 132, 2, 1, 167, 255, 158, 42, 180, 0, 61, 27, 46, 2, 159, 0, 25, 42]
abbrev dktX3_confirms_6 : List UInt8 := dkwX3_confirms_6 ++ dktX3_confirms_7
def dkwX3_confirms_5 : List UInt8 := [2, 159, 0, 13, 29, 42, 180, 0, 64, 27, 46, 162, 0, 17, 42, 180, 0, 61, 27, 28, 79, 42]
abbrev dktX3_confirms_5 : List UInt8 := dkwX3_confirms_5 ++ dktX3_confirms_6
def dkwX3_confirms_4 : List UInt8 := [180, 0, 44, 28, 51, 154, 0, 47, 29, 42, 180, 0, 28, 6, 46, 163, 0, 37, 42, 180, 0, 61, 27, 46]
abbrev dktX3_confirms_4 : List UInt8 := dkwX3_confirms_4 ++ dktX3_confirms_5
def dkwX3_confirms_3 : List UInt8 := [180, 0, 25, 4, 46, 162, 0, 77, 27, 42, 180, 0, 31, 159, 0, 69, 42, 27, 28, 182, 0, 223, 62, 42]
abbrev dktX3_confirms_3 : List UInt8 := dkwX3_confirms_3 ++ dktX3_confirms_4
def dkwX3_confirms_2 : List UInt8 := [79, 3, 61, 28, 42, 180, 0, 25, 3, 46, 162, 0, 94, 42, 180, 0, 203, 153, 0, 87, 27, 42]
abbrev dktX3_confirms_2 : List UInt8 := dkwX3_confirms_2 ++ dktX3_confirms_3
def dkwX3_confirms_1 : List UInt8 := [167, 255, 240, 3, 60, 27, 16, 8, 162, 0, 158, 42, 180, 0, 61, 27, 2, 79, 42, 180, 0, 64, 27, 2]
abbrev dktX3_confirms_1 : List UInt8 := dkwX3_confirms_1 ++ dktX3_confirms_2
def dkwX3_confirms_0 : List UInt8 := [42, 3, 181, 0, 220, 3, 60, 27, 16, 12, 162, 0, 16, 42, 180, 0, 44, 27, 3, 84, 132, 1, 1]
abbrev dktX3_confirms_0 : List UInt8 := dkwX3_confirms_0 ++ dktX3_confirms_1
theorem dksX3_confirms_0 : cX3_confirms.data.toList.drop 0 = dktX3_confirms_0 := by decide +kernel
theorem dksX3_confirms_1 : cX3_confirms.data.toList.drop 23 = dktX3_confirms_1 := dk_seg dksX3_confirms_0 23 rfl rfl
theorem dksX3_confirms_2 : cX3_confirms.data.toList.drop 47 = dktX3_confirms_2 := dk_seg dksX3_confirms_1 24 rfl rfl
theorem dksX3_confirms_3 : cX3_confirms.data.toList.drop 69 = dktX3_confirms_3 := dk_seg dksX3_confirms_2 22 rfl rfl
theorem dksX3_confirms_4 : cX3_confirms.data.toList.drop 93 = dktX3_confirms_4 := dk_seg dksX3_confirms_3 24 rfl rfl
theorem dksX3_confirms_5 : cX3_confirms.data.toList.drop 117 = dktX3_confirms_5 := dk_seg dksX3_confirms_4 24 rfl rfl
theorem dksX3_confirms_6 : cX3_confirms.data.toList.drop 139 = dktX3_confirms_6 := dk_seg dksX3_confirms_5 22 rfl rfl
theorem dksX3_confirms_7 : cX3_confirms.data.toList.drop 162 = dktX3_confirms_7 := dk_seg dksX3_confirms_6 23 rfl rfl
theorem dksX3_confirms_8 : cX3_confirms.data.toList.drop 186 = dktX3_confirms_8 := dk_seg dksX3_confirms_7 24 rfl rfl
theorem dX3_confirms_0 : decode cX3_confirms 0 = .ok (.aload_n 0, 1) := dk_42 (dk_at dksX3_confirms_0 0 rfl rfl)
theorem dX3_confirms_1 : decode cX3_confirms 1 = .ok (.iconst 0, 1) := dk_3 (dk_at dksX3_confirms_0 1 rfl rfl)
theorem dX3_confirms_2 : decode cX3_confirms 2 = .ok (.putfield 220, 3) := dk_181 0 220 (dk_at dksX3_confirms_0 2 rfl rfl)
theorem dX3_confirms_5 : decode cX3_confirms 5 = .ok (.iconst 0, 1) := dk_3 (dk_at dksX3_confirms_0 5 rfl rfl)
theorem dX3_confirms_6 : decode cX3_confirms 6 = .ok (.istore_n 1, 1) := dk_60 (dk_at dksX3_confirms_0 6 rfl rfl)
theorem dX3_confirms_7 : decode cX3_confirms 7 = .ok (.iload_n 1, 1) := dk_27 (dk_at dksX3_confirms_0 7 rfl rfl)
theorem dX3_confirms_8 : decode cX3_confirms 8 = .ok (.bipush 12, 2) := dk_16 12 (dk_at dksX3_confirms_0 8 rfl rfl)
theorem dX3_confirms_10 : decode cX3_confirms 10 = .ok (.if_icmp .ge 16, 3) := dk_162 0 16 (dk_at dksX3_confirms_0 10 rfl rfl)
theorem dX3_confirms_13 : decode cX3_confirms 13 = .ok (.aload_n 0, 1) := dk_42 (dk_at dksX3_confirms_0 13 rfl rfl)
theorem dX3_confirms_14 : decode cX3_confirms 14 = .ok (.getfield 44, 3) := dk_180 0 44 (dk_at dksX3_confirms_0 14 rfl rfl)
theorem dX3_confirms_17 : decode cX3_confirms 17 = .ok (.iload_n 1, 1) := dk_27 (dk_at dksX3_confirms_0 17 rfl rfl)
theorem dX3_confirms_18 : decode cX3_confirms 18 = .ok (.iconst 0, 1) := dk_3 (dk_at dksX3_confirms_0 18 rfl rfl)
theorem dX3_confirms_19 : decode cX3_confirms 19 = .ok (.bastore, 1) := dk_84 (dk_at dksX3_confirms_0 19 rfl rfl)
theorem dX3_confirms_20 : decode cX3_confirms 20 = .ok (.iinc 1 1, 3) := dk_132 1 1 (dk_at dksX3_confirms_0 20 rfl rfl)
theorem dX3_confirms_23 : decode cX3_confirms 23 = .ok (.goto (-16), 3) := dk_167 255 240 (dk_at dksX3_confirms_1 0 rfl rfl)
theorem dX3_confirms_26 : decode cX3_confirms 26 = .ok (.iconst 0, 1) := dk_3 (dk_at dksX3_confirms_1 3 rfl rfl)
theorem dX3_confirms_27 : decode cX3_confirms 27 = .ok (.istore_n 1, 1) := dk_60 (dk_at dksX3_confirms_1 4 rfl rfl)
theorem dX3_confirms_28 : decode cX3_confirms 28 = .ok (.iload_n 1, 1) := dk_27 (dk_at dksX3_confirms_1 5 rfl rfl)
theorem dX3_confirms_29 : decode cX3_confirms 29 = .ok (.bipush 8, 2) := dk_16 8 (dk_at dksX3_confirms_1 6 rfl rfl)
theorem dX3_confirms_31 : decode cX3_confirms 31 = .ok (.if_icmp .ge 158, 3) := dk_162 0 158 (dk_at dksX3_confirms_1 8 rfl rfl)
theorem dX3_confirms_34 : decode cX3_confirms 34 = .ok (.aload_n 0, 1) := dk_42 (dk_at dksX3_confirms_1 11 rfl rfl)
theorem dX3_confirms_35 : decode cX3_confirms 35 = .ok (.getfield 61, 3) := dk_180 0 61 (dk_at dksX3_confirms_1 12 rfl rfl)
theorem dX3_confirms_38 : decode cX3_confirms 38 = .ok (.iload_n 1, 1) := dk_27 (dk_at dksX3_confirms_1 15 rfl rfl)
theorem dX3_confirms_39 : decode cX3_confirms 39 = .ok (.iconst (-1), 1) := dk_2 (dk_at dksX3_confirms_1 16 rfl rfl)
theorem dX3_confirms_40 : decode cX3_confirms 40 = .ok (.iastore, 1) := dk_79 (dk_at dksX3_confirms_1 17 rfl rfl)
theorem dX3_confirms_41 : decode cX3_confirms 41 = .ok (.aload_n 0, 1) := dk_42 (dk_at dksX3_confirms_1 18 rfl rfl)
theorem dX3_confirms_42 : decode cX3_confirms 42 = .ok (.getfield 64, 3) := dk_180 0 64 (dk_at dksX3_confirms_1 19 rfl rfl)
theorem dX3_confirms_45 : decode cX3_confirms 45 = .ok (.iload_n 1, 1) := dk_27 (dk_at dksX3_confirms_1 22 rfl rfl)
theorem dX3_confirms_46 : decode cX3_confirms 46 = .ok (.iconst (-1), 1) := dk_2 (dk_at dksX3_confirms_1 23 rfl rfl)
theorem dX3_confirms_47 : decode cX3_confirms 47 = .ok (.iastore, 1) := dk_79 (dk_at dksX3_confirms_2 0 rfl rfl)
theorem dX3_confirms_48 : decode cX3_confirms 48 = .ok (.iconst 0, 1) := dk_3 (dk_at dksX3_confirms_2 1 rfl rfl)
theorem dX3_confirms_49 : decode cX3_confirms 49 = .ok (.istore_n 2, 1) := dk_61 (dk_at dksX3_confirms_2 2 rfl rfl)
theorem dX3_confirms_50 : decode cX3_confirms 50 = .ok (.iload_n 2, 1) := dk_28 (dk_at dksX3_confirms_2 3 rfl rfl)
theorem dX3_confirms_51 : decode cX3_confirms 51 = .ok (.aload_n 0, 1) := dk_42 (dk_at dksX3_confirms_2 4 rfl rfl)
theorem dX3_confirms_52 : decode cX3_confirms 52 = .ok (.getfield 25, 3) := dk_180 0 25 (dk_at dksX3_confirms_2 5 rfl rfl)
theorem dX3_confirms_55 : decode cX3_confirms 55 = .ok (.iconst 0, 1) := dk_3 (dk_at dksX3_confirms_2 8 rfl rfl)
theorem dX3_confirms_56 : decode cX3_confirms 56 = .ok (.iaload, 1) := dk_46 (dk_at dksX3_confirms_2 9 rfl rfl)
theorem dX3_confirms_57 : decode cX3_confirms 57 = .ok (.if_icmp .ge 94, 3) := dk_162 0 94 (dk_at dksX3_confirms_2 10 rfl rfl)
theorem dX3_confirms_60 : decode cX3_confirms 60 = .ok (.aload_n 0, 1) := dk_42 (dk_at dksX3_confirms_2 13 rfl rfl)
theorem dX3_confirms_61 : decode cX3_confirms 61 = .ok (.getfield 203, 3) := dk_180 0 203 (dk_at dksX3_confirms_2 14 rfl rfl)
theorem dX3_confirms_64 : decode cX3_confirms 64 = .ok (.ifCond .eq 87, 3) := dk_153 0 87 (dk_at dksX3_confirms_2 17 rfl rfl)
theorem dX3_confirms_67 : decode cX3_confirms 67 = .ok (.iload_n 1, 1) := dk_27 (dk_at dksX3_confirms_2 20 rfl rfl)
theorem dX3_confirms_68 : decode cX3_confirms 68 = .ok (.aload_n 0, 1) := dk_42 (dk_at dksX3_confirms_2 21 rfl rfl)
theorem dX3_confirms_69 : decode cX3_confirms 69 = .ok (.getfield 25, 3) := dk_180 0 25 (dk_at dksX3_confirms_3 0 rfl rfl)
theorem dX3_confirms_72 : decode cX3_confirms 72 = .ok (.iconst 1, 1) := dk_4 (dk_at dksX3_confirms_3 3 rfl rfl)
theorem dX3_confirms_73 : decode cX3_confirms 73 = .ok (.iaload, 1) := dk_46 (dk_at dksX3_confirms_3 4 rfl rfl)
theorem dX3_confirms_74 : decode cX3_confirms 74 = .ok (.if_icmp .ge 77, 3) := dk_162 0 77 (dk_at dksX3_confirms_3 5 rfl rfl)
theorem dX3_confirms_77 : decode cX3_confirms 77 = .ok (.iload_n 1, 1) := dk_27 (dk_at dksX3_confirms_3 8 rfl rfl)
theorem dX3_confirms_78 : decode cX3_confirms 78 = .ok (.aload_n 0, 1) := dk_42 (dk_at dksX3_confirms_3 9 rfl rfl)
theorem dX3_confirms_79 : decode cX3_confirms 79 = .ok (.getfield 31, 3) := dk_180 0 31 (dk_at dksX3_confirms_3 10 rfl rfl)
theorem dX3_confirms_82 : decode cX3_confirms 82 = .ok (.if_icmp .eq 69, 3) := dk_159 0 69 (dk_at dksX3_confirms_3 13 rfl rfl)
theorem dX3_confirms_85 : decode cX3_confirms 85 = .ok (.aload_n 0, 1) := dk_42 (dk_at dksX3_confirms_3 16 rfl rfl)
theorem dX3_confirms_86 : decode cX3_confirms 86 = .ok (.iload_n 1, 1) := dk_27 (dk_at dksX3_confirms_3 17 rfl rfl)
theorem dX3_confirms_87 : decode cX3_confirms 87 = .ok (.iload_n 2, 1) := dk_28 (dk_at dksX3_confirms_3 18 rfl rfl)
theorem dX3_confirms_88 : decode cX3_confirms 88 = .ok (.invokevirtual 223, 3) := dk_182 0 223 (dk_at dksX3_confirms_3 19 rfl rfl)
theorem dX3_confirms_91 : decode cX3_confirms 91 = .ok (.istore_n 3, 1) := dk_62 (dk_at dksX3_confirms_3 22 rfl rfl)
theorem dX3_confirms_92 : decode cX3_confirms 92 = .ok (.aload_n 0, 1) := dk_42 (dk_at dksX3_confirms_3 23 rfl rfl)
theorem dX3_confirms_93 : decode cX3_confirms 93 = .ok (.getfield 44, 3) := dk_180 0 44 (dk_at dksX3_confirms_4 0 rfl rfl)
theorem dX3_confirms_96 : decode cX3_confirms 96 = .ok (.iload_n 2, 1) := dk_28 (dk_at dksX3_confirms_4 3 rfl rfl)
theorem dX3_confirms_97 : decode cX3_confirms 97 = .ok (.baload, 1) := dk_51 (dk_at dksX3_confirms_4 4 rfl rfl)
theorem dX3_confirms_98 : decode cX3_confirms 98 = .ok (.ifCond .ne 47, 3) := dk_154 0 47 (dk_at dksX3_confirms_4 5 rfl rfl)
theorem dX3_confirms_101 : decode cX3_confirms 101 = .ok (.iload_n 3, 1) := dk_29 (dk_at dksX3_confirms_4 8 rfl rfl)
theorem dX3_confirms_102 : decode cX3_confirms 102 = .ok (.aload_n 0, 1) := dk_42 (dk_at dksX3_confirms_4 9 rfl rfl)
theorem dX3_confirms_103 : decode cX3_confirms 103 = .ok (.getfield 28, 3) := dk_180 0 28 (dk_at dksX3_confirms_4 10 rfl rfl)
theorem dX3_confirms_106 : decode cX3_confirms 106 = .ok (.iconst 3, 1) := dk_6 (dk_at dksX3_confirms_4 13 rfl rfl)
theorem dX3_confirms_107 : decode cX3_confirms 107 = .ok (.iaload, 1) := dk_46 (dk_at dksX3_confirms_4 14 rfl rfl)
theorem dX3_confirms_108 : decode cX3_confirms 108 = .ok (.if_icmp .gt 37, 3) := dk_163 0 37 (dk_at dksX3_confirms_4 15 rfl rfl)
theorem dX3_confirms_111 : decode cX3_confirms 111 = .ok (.aload_n 0, 1) := dk_42 (dk_at dksX3_confirms_4 18 rfl rfl)
theorem dX3_confirms_112 : decode cX3_confirms 112 = .ok (.getfield 61, 3) := dk_180 0 61 (dk_at dksX3_confirms_4 19 rfl rfl)
theorem dX3_confirms_115 : decode cX3_confirms 115 = .ok (.iload_n 1, 1) := dk_27 (dk_at dksX3_confirms_4 22 rfl rfl)
theorem dX3_confirms_116 : decode cX3_confirms 116 = .ok (.iaload, 1) := dk_46 (dk_at dksX3_confirms_4 23 rfl rfl)
theorem dX3_confirms_117 : decode cX3_confirms 117 = .ok (.iconst (-1), 1) := dk_2 (dk_at dksX3_confirms_5 0 rfl rfl)
theorem dX3_confirms_118 : decode cX3_confirms 118 = .ok (.if_icmp .eq 13, 3) := dk_159 0 13 (dk_at dksX3_confirms_5 1 rfl rfl)
theorem dX3_confirms_121 : decode cX3_confirms 121 = .ok (.iload_n 3, 1) := dk_29 (dk_at dksX3_confirms_5 4 rfl rfl)
theorem dX3_confirms_122 : decode cX3_confirms 122 = .ok (.aload_n 0, 1) := dk_42 (dk_at dksX3_confirms_5 5 rfl rfl)
theorem dX3_confirms_123 : decode cX3_confirms 123 = .ok (.getfield 64, 3) := dk_180 0 64 (dk_at dksX3_confirms_5 6 rfl rfl)
theorem dX3_confirms_126 : decode cX3_confirms 126 = .ok (.iload_n 1, 1) := dk_27 (dk_at dksX3_confirms_5 9 rfl rfl)
theorem dX3_confirms_127 : decode cX3_confirms 127 = .ok (.iaload, 1) := dk_46 (dk_at dksX3_confirms_5 10 rfl rfl)
theorem dX3_confirms_128 : decode cX3_confirms 128 = .ok (.if_icmp .ge 17, 3) := dk_162 0 17 (dk_at dksX3_confirms_5 11 rfl rfl)
theorem dX3_confirms_131 : decode cX3_confirms 131 = .ok (.aload_n 0, 1) := dk_42 (dk_at dksX3_confirms_5 14 rfl rfl)
theorem dX3_confirms_132 : decode cX3_confirms 132 = .ok (.getfield 61, 3) := dk_180 0 61 (dk_at dksX3_confirms_5 15 rfl rfl)
theorem dX3_confirms_135 : decode cX3_confirms 135 = .ok (.iload_n 1, 1) := dk_27 (dk_at dksX3_confirms_5 18 rfl rfl)
theorem dX3_confirms_136 : decode cX3_confirms 136 = .ok (.iload_n 2, 1) := dk_28 (dk_at dksX3_confirms_5 19 rfl rfl)
theorem dX3_confirms_137 : decode cX3_confirms 137 = .ok (.iastore, 1) := dk_79 (dk_at dksX3_confirms_5 20 rfl rfl)
theorem dX3_confirms_138 : decode cX3_confirms 138 = .ok (.aload_n 0, 1) := dk_42 (dk_at dksX3_confirms_5 21 rfl rfl)
theorem dX3_confirms_139 : decode cX3_confirms 139 = .ok (.getfield 64, 3) := dk_180 0 64 (dk_at dksX3_confirms_6 0 rfl rfl)
theorem dX3_confirms_142 : decode cX3_confirms 142 = .ok (.iload_n 1, 1) := dk_27 (dk_at dksX3_confirms_6 3 rfl rfl)
theorem dX3_confirms_143 : decode cX3_confirms 143 = .ok (.iload_n 3, 1) := dk_29 (dk_at dksX3_confirms_6 4 rfl rfl)
theorem dX3_confirms_144 : decode cX3_confirms 144 = .ok (.iastore, 1) := dk_79 (dk_at dksX3_confirms_6 5 rfl rfl)
theorem dX3_confirms_145 : decode cX3_confirms 145 = .ok (.iinc 2 1, 3) := dk_132 2 1 (dk_at dksX3_confirms_6 6 rfl rfl)
theorem dX3_confirms_148 : decode cX3_confirms 148 = .ok (.goto (-98), 3) := dk_167 255 158 (dk_at dksX3_confirms_6 9 rfl rfl)
theorem dX3_confirms_151 : decode cX3_confirms 151 = .ok (.aload_n 0, 1) := dk_42 (dk_at dksX3_confirms_6 12 rfl rfl)
theorem dX3_confirms_152 : decode cX3_confirms 152 = .ok (.getfield 61, 3) := dk_180 0 61 (dk_at dksX3_confirms_6 13 rfl rfl)
theorem dX3_confirms_155 : decode cX3_confirms 155 = .ok (.iload_n 1, 1) := dk_27 (dk_at dksX3_confirms_6 16 rfl rfl)
theorem dX3_confirms_156 : decode cX3_confirms 156 = .ok (.iaload, 1) := dk_46 (dk_at dksX3_confirms_6 17 rfl rfl)
theorem dX3_confirms_157 : decode cX3_confirms 157 = .ok (.iconst (-1), 1) := dk_2 (dk_at dksX3_confirms_6 18 rfl rfl)
theorem dX3_confirms_158 : decode cX3_confirms 158 = .ok (.if_icmp .eq 25, 3) := dk_159 0 25 (dk_at dksX3_confirms_6 19 rfl rfl)
theorem dX3_confirms_161 : decode cX3_confirms 161 = .ok (.aload_n 0, 1) := dk_42 (dk_at dksX3_confirms_6 22 rfl rfl)
theorem dX3_confirms_162 : decode cX3_confirms 162 = .ok (.getfield 44, 3) := dk_180 0 44 (dk_at dksX3_confirms_7 0 rfl rfl)
theorem dX3_confirms_165 : decode cX3_confirms 165 = .ok (.aload_n 0, 1) := dk_42 (dk_at dksX3_confirms_7 3 rfl rfl)
theorem dX3_confirms_166 : decode cX3_confirms 166 = .ok (.getfield 61, 3) := dk_180 0 61 (dk_at dksX3_confirms_7 4 rfl rfl)
theorem dX3_confirms_169 : decode cX3_confirms 169 = .ok (.iload_n 1, 1) := dk_27 (dk_at dksX3_confirms_7 7 rfl rfl)
theorem dX3_confirms_170 : decode cX3_confirms 170 = .ok (.iaload, 1) := dk_46 (dk_at dksX3_confirms_7 8 rfl rfl)
theorem dX3_confirms_171 : decode cX3_confirms 171 = .ok (.iconst 1, 1) := dk_4 (dk_at dksX3_confirms_7 9 rfl rfl)
theorem dX3_confirms_172 : decode cX3_confirms 172 = .ok (.bastore, 1) := dk_84 (dk_at dksX3_confirms_7 10 rfl rfl)
theorem dX3_confirms_173 : decode cX3_confirms 173 = .ok (.aload_n 0, 1) := dk_42 (dk_at dksX3_confirms_7 11 rfl rfl)
theorem dX3_confirms_174 : decode cX3_confirms 174 = .ok (.dup, 1) := dk_89 (dk_at dksX3_confirms_7 12 rfl rfl)
theorem dX3_confirms_175 : decode cX3_confirms 175 = .ok (.getfield 220, 3) := dk_180 0 220 (dk_at dksX3_confirms_7 13 rfl rfl)
theorem dX3_confirms_178 : decode cX3_confirms 178 = .ok (.iconst 1, 1) := dk_4 (dk_at dksX3_confirms_7 16 rfl rfl)
theorem dX3_confirms_179 : decode cX3_confirms 179 = .ok (.iadd, 1) := dk_96 (dk_at dksX3_confirms_7 17 rfl rfl)
theorem dX3_confirms_180 : decode cX3_confirms 180 = .ok (.putfield 220, 3) := dk_181 0 220 (dk_at dksX3_confirms_7 18 rfl rfl)
theorem dX3_confirms_183 : decode cX3_confirms 183 = .ok (.iinc 1 1, 3) := dk_132 1 1 (dk_at dksX3_confirms_7 21 rfl rfl)
theorem dX3_confirms_186 : decode cX3_confirms 186 = .ok (.goto (-158), 3) := dk_167 255 98 (dk_at dksX3_confirms_8 0 rfl rfl)
theorem dX3_confirms_189 : decode cX3_confirms 189 = .ok (.return_, 1) := dk_177 (dk_at dksX3_confirms_8 3 rfl rfl)
abbrev cX3_farOf : ByteArray := prog_11_method_50_code
def yX3_farOf : MethodName := ⟨RX3, "farOf", "(II)I"⟩
def dkwX3_farOf_1 : List UInt8 := [6, 28, 104, 21, 4, 96, 46, 184, 0, 169, 96, 62, 132, 4, 1, 167, 255, 222, 29, 172]
abbrev dktX3_farOf_1 : List UInt8 := dkwX3_farOf_1 ++ []
def dkwX3_farOf_0 : List UInt8 := [3, 62, 3, 54, 4, 21, 4, 6, 162, 0, 34, 29, 42, 4, 27, 21, 4, 182, 0, 126, 42, 180, 0, 58]
abbrev dktX3_farOf_0 : List UInt8 := dkwX3_farOf_0 ++ dktX3_farOf_1
theorem dksX3_farOf_0 : cX3_farOf.data.toList.drop 0 = dktX3_farOf_0 := by decide +kernel
theorem dksX3_farOf_1 : cX3_farOf.data.toList.drop 24 = dktX3_farOf_1 := dk_seg dksX3_farOf_0 24 rfl rfl
theorem dX3_farOf_0 : decode cX3_farOf 0 = .ok (.iconst 0, 1) := dk_3 (dk_at dksX3_farOf_0 0 rfl rfl)
theorem dX3_farOf_1 : decode cX3_farOf 1 = .ok (.istore_n 3, 1) := dk_62 (dk_at dksX3_farOf_0 1 rfl rfl)
theorem dX3_farOf_2 : decode cX3_farOf 2 = .ok (.iconst 0, 1) := dk_3 (dk_at dksX3_farOf_0 2 rfl rfl)
theorem dX3_farOf_3 : decode cX3_farOf 3 = .ok (.istore 4, 2) := dk_54 4 (dk_at dksX3_farOf_0 3 rfl rfl)
theorem dX3_farOf_5 : decode cX3_farOf 5 = .ok (.iload 4, 2) := dk_21 4 (dk_at dksX3_farOf_0 5 rfl rfl)
theorem dX3_farOf_7 : decode cX3_farOf 7 = .ok (.iconst 3, 1) := dk_6 (dk_at dksX3_farOf_0 7 rfl rfl)
theorem dX3_farOf_8 : decode cX3_farOf 8 = .ok (.if_icmp .ge 34, 3) := dk_162 0 34 (dk_at dksX3_farOf_0 8 rfl rfl)
theorem dX3_farOf_11 : decode cX3_farOf 11 = .ok (.iload_n 3, 1) := dk_29 (dk_at dksX3_farOf_0 11 rfl rfl)
theorem dX3_farOf_12 : decode cX3_farOf 12 = .ok (.aload_n 0, 1) := dk_42 (dk_at dksX3_farOf_0 12 rfl rfl)
theorem dX3_farOf_13 : decode cX3_farOf 13 = .ok (.iconst 1, 1) := dk_4 (dk_at dksX3_farOf_0 13 rfl rfl)
theorem dX3_farOf_14 : decode cX3_farOf 14 = .ok (.iload_n 1, 1) := dk_27 (dk_at dksX3_farOf_0 14 rfl rfl)
theorem dX3_farOf_15 : decode cX3_farOf 15 = .ok (.iload 4, 2) := dk_21 4 (dk_at dksX3_farOf_0 15 rfl rfl)
theorem dX3_farOf_17 : decode cX3_farOf 17 = .ok (.invokevirtual 126, 3) := dk_182 0 126 (dk_at dksX3_farOf_0 17 rfl rfl)
theorem dX3_farOf_20 : decode cX3_farOf 20 = .ok (.aload_n 0, 1) := dk_42 (dk_at dksX3_farOf_0 20 rfl rfl)
theorem dX3_farOf_21 : decode cX3_farOf 21 = .ok (.getfield 58, 3) := dk_180 0 58 (dk_at dksX3_farOf_0 21 rfl rfl)
theorem dX3_farOf_24 : decode cX3_farOf 24 = .ok (.iconst 3, 1) := dk_6 (dk_at dksX3_farOf_1 0 rfl rfl)
theorem dX3_farOf_25 : decode cX3_farOf 25 = .ok (.iload_n 2, 1) := dk_28 (dk_at dksX3_farOf_1 1 rfl rfl)
theorem dX3_farOf_26 : decode cX3_farOf 26 = .ok (.imul, 1) := dk_104 (dk_at dksX3_farOf_1 2 rfl rfl)
theorem dX3_farOf_27 : decode cX3_farOf 27 = .ok (.iload 4, 2) := dk_21 4 (dk_at dksX3_farOf_1 3 rfl rfl)
theorem dX3_farOf_29 : decode cX3_farOf 29 = .ok (.iadd, 1) := dk_96 (dk_at dksX3_farOf_1 5 rfl rfl)
theorem dX3_farOf_30 : decode cX3_farOf 30 = .ok (.iaload, 1) := dk_46 (dk_at dksX3_farOf_1 6 rfl rfl)
theorem dX3_farOf_31 : decode cX3_farOf 31 = .ok (.invokestatic 169, 3) := dk_184 0 169 (dk_at dksX3_farOf_1 7 rfl rfl)
theorem dX3_farOf_34 : decode cX3_farOf 34 = .ok (.iadd, 1) := dk_96 (dk_at dksX3_farOf_1 10 rfl rfl)
theorem dX3_farOf_35 : decode cX3_farOf 35 = .ok (.istore_n 3, 1) := dk_62 (dk_at dksX3_farOf_1 11 rfl rfl)
theorem dX3_farOf_36 : decode cX3_farOf 36 = .ok (.iinc 4 1, 3) := dk_132 4 1 (dk_at dksX3_farOf_1 12 rfl rfl)
theorem dX3_farOf_39 : decode cX3_farOf 39 = .ok (.goto (-34), 3) := dk_167 255 222 (dk_at dksX3_farOf_1 15 rfl rfl)
theorem dX3_farOf_42 : decode cX3_farOf 42 = .ok (.iload_n 3, 1) := dk_29 (dk_at dksX3_farOf_1 18 rfl rfl)
theorem dX3_farOf_43 : decode cX3_farOf 43 = .ok (.ireturn, 1) := dk_172 (dk_at dksX3_farOf_1 19 rfl rfl)
abbrev cX3_looksBy : ByteArray := prog_11_method_54_code
def yX3_looksBy : MethodName := ⟨RX3, "looksBy", "(I)I"⟩
def dkwX3_looksBy_2 : List UInt8 := [180, 0, 175, 172]
abbrev dktX3_looksBy_2 : List UInt8 := dkwX3_looksBy_2 ++ []
def dkwX3_looksBy_1 : List UInt8 := [180, 0, 25, 4, 46, 184, 0, 238, 167, 0, 19, 27, 5, 160, 0, 10, 42, 180, 0, 178, 167, 0, 7, 42]
abbrev dktX3_looksBy_1 : List UInt8 := dkwX3_looksBy_1 ++ dktX3_looksBy_2
def dkwX3_looksBy_0 : List UInt8 := [27, 154, 0, 15, 42, 180, 0, 25, 3, 46, 184, 0, 238, 167, 0, 36, 27, 4, 160, 0, 15, 42]
abbrev dktX3_looksBy_0 : List UInt8 := dkwX3_looksBy_0 ++ dktX3_looksBy_1
theorem dksX3_looksBy_0 : cX3_looksBy.data.toList.drop 0 = dktX3_looksBy_0 := by decide +kernel
theorem dksX3_looksBy_1 : cX3_looksBy.data.toList.drop 22 = dktX3_looksBy_1 := dk_seg dksX3_looksBy_0 22 rfl rfl
theorem dksX3_looksBy_2 : cX3_looksBy.data.toList.drop 46 = dktX3_looksBy_2 := dk_seg dksX3_looksBy_1 24 rfl rfl
theorem dX3_looksBy_0 : decode cX3_looksBy 0 = .ok (.iload_n 1, 1) := dk_27 (dk_at dksX3_looksBy_0 0 rfl rfl)
theorem dX3_looksBy_1 : decode cX3_looksBy 1 = .ok (.ifCond .ne 15, 3) := dk_154 0 15 (dk_at dksX3_looksBy_0 1 rfl rfl)
theorem dX3_looksBy_4 : decode cX3_looksBy 4 = .ok (.aload_n 0, 1) := dk_42 (dk_at dksX3_looksBy_0 4 rfl rfl)
theorem dX3_looksBy_5 : decode cX3_looksBy 5 = .ok (.getfield 25, 3) := dk_180 0 25 (dk_at dksX3_looksBy_0 5 rfl rfl)
theorem dX3_looksBy_8 : decode cX3_looksBy 8 = .ok (.iconst 0, 1) := dk_3 (dk_at dksX3_looksBy_0 8 rfl rfl)
theorem dX3_looksBy_9 : decode cX3_looksBy 9 = .ok (.iaload, 1) := dk_46 (dk_at dksX3_looksBy_0 9 rfl rfl)
theorem dX3_looksBy_10 : decode cX3_looksBy 10 = .ok (.invokestatic 238, 3) := dk_184 0 238 (dk_at dksX3_looksBy_0 10 rfl rfl)
theorem dX3_looksBy_13 : decode cX3_looksBy 13 = .ok (.goto 36, 3) := dk_167 0 36 (dk_at dksX3_looksBy_0 13 rfl rfl)
theorem dX3_looksBy_16 : decode cX3_looksBy 16 = .ok (.iload_n 1, 1) := dk_27 (dk_at dksX3_looksBy_0 16 rfl rfl)
theorem dX3_looksBy_17 : decode cX3_looksBy 17 = .ok (.iconst 1, 1) := dk_4 (dk_at dksX3_looksBy_0 17 rfl rfl)
theorem dX3_looksBy_18 : decode cX3_looksBy 18 = .ok (.if_icmp .ne 15, 3) := dk_160 0 15 (dk_at dksX3_looksBy_0 18 rfl rfl)
theorem dX3_looksBy_21 : decode cX3_looksBy 21 = .ok (.aload_n 0, 1) := dk_42 (dk_at dksX3_looksBy_0 21 rfl rfl)
theorem dX3_looksBy_22 : decode cX3_looksBy 22 = .ok (.getfield 25, 3) := dk_180 0 25 (dk_at dksX3_looksBy_1 0 rfl rfl)
theorem dX3_looksBy_25 : decode cX3_looksBy 25 = .ok (.iconst 1, 1) := dk_4 (dk_at dksX3_looksBy_1 3 rfl rfl)
theorem dX3_looksBy_26 : decode cX3_looksBy 26 = .ok (.iaload, 1) := dk_46 (dk_at dksX3_looksBy_1 4 rfl rfl)
theorem dX3_looksBy_27 : decode cX3_looksBy 27 = .ok (.invokestatic 238, 3) := dk_184 0 238 (dk_at dksX3_looksBy_1 5 rfl rfl)
theorem dX3_looksBy_30 : decode cX3_looksBy 30 = .ok (.goto 19, 3) := dk_167 0 19 (dk_at dksX3_looksBy_1 8 rfl rfl)
theorem dX3_looksBy_33 : decode cX3_looksBy 33 = .ok (.iload_n 1, 1) := dk_27 (dk_at dksX3_looksBy_1 11 rfl rfl)
theorem dX3_looksBy_34 : decode cX3_looksBy 34 = .ok (.iconst 2, 1) := dk_5 (dk_at dksX3_looksBy_1 12 rfl rfl)
theorem dX3_looksBy_35 : decode cX3_looksBy 35 = .ok (.if_icmp .ne 10, 3) := dk_160 0 10 (dk_at dksX3_looksBy_1 13 rfl rfl)
theorem dX3_looksBy_38 : decode cX3_looksBy 38 = .ok (.aload_n 0, 1) := dk_42 (dk_at dksX3_looksBy_1 16 rfl rfl)
theorem dX3_looksBy_39 : decode cX3_looksBy 39 = .ok (.getfield 178, 3) := dk_180 0 178 (dk_at dksX3_looksBy_1 17 rfl rfl)
theorem dX3_looksBy_42 : decode cX3_looksBy 42 = .ok (.goto 7, 3) := dk_167 0 7 (dk_at dksX3_looksBy_1 20 rfl rfl)
theorem dX3_looksBy_45 : decode cX3_looksBy 45 = .ok (.aload_n 0, 1) := dk_42 (dk_at dksX3_looksBy_1 23 rfl rfl)
theorem dX3_looksBy_46 : decode cX3_looksBy 46 = .ok (.getfield 175, 3) := dk_180 0 175 (dk_at dksX3_looksBy_2 0 rfl rfl)
theorem dX3_looksBy_49 : decode cX3_looksBy 49 = .ok (.ireturn, 1) := dk_172 (dk_at dksX3_looksBy_2 3 rfl rfl)
abbrev cX3_threes : ByteArray := prog_11_method_53_code
def yX3_threes : MethodName := ⟨RX3, "threes", "(I)I"⟩
def dkwX3_threes_0 : List UInt8 := [26, 26, 4, 100, 104, 26, 5, 100, 104, 16, 6, 108, 172]
abbrev dktX3_threes_0 : List UInt8 := dkwX3_threes_0 ++ []
theorem dksX3_threes_0 : cX3_threes.data.toList.drop 0 = dktX3_threes_0 := by decide +kernel
theorem dX3_threes_0 : decode cX3_threes 0 = .ok (.iload_n 0, 1) := dk_26 (dk_at dksX3_threes_0 0 rfl rfl)
theorem dX3_threes_1 : decode cX3_threes 1 = .ok (.iload_n 0, 1) := dk_26 (dk_at dksX3_threes_0 1 rfl rfl)
theorem dX3_threes_2 : decode cX3_threes 2 = .ok (.iconst 1, 1) := dk_4 (dk_at dksX3_threes_0 2 rfl rfl)
theorem dX3_threes_3 : decode cX3_threes 3 = .ok (.isub, 1) := dk_100 (dk_at dksX3_threes_0 3 rfl rfl)
theorem dX3_threes_4 : decode cX3_threes 4 = .ok (.imul, 1) := dk_104 (dk_at dksX3_threes_0 4 rfl rfl)
theorem dX3_threes_5 : decode cX3_threes 5 = .ok (.iload_n 0, 1) := dk_26 (dk_at dksX3_threes_0 5 rfl rfl)
theorem dX3_threes_6 : decode cX3_threes 6 = .ok (.iconst 2, 1) := dk_5 (dk_at dksX3_threes_0 6 rfl rfl)
theorem dX3_threes_7 : decode cX3_threes 7 = .ok (.isub, 1) := dk_100 (dk_at dksX3_threes_0 7 rfl rfl)
theorem dX3_threes_8 : decode cX3_threes 8 = .ok (.imul, 1) := dk_104 (dk_at dksX3_threes_0 8 rfl rfl)
theorem dX3_threes_9 : decode cX3_threes 9 = .ok (.bipush 6, 2) := dk_16 6 (dk_at dksX3_threes_0 9 rfl rfl)
theorem dX3_threes_11 : decode cX3_threes 11 = .ok (.idiv, 1) := dk_108 (dk_at dksX3_threes_0 11 rfl rfl)
theorem dX3_threes_12 : decode cX3_threes 12 = .ok (.ireturn, 1) := dk_172 (dk_at dksX3_threes_0 12 rfl rfl)
abbrev cX3_votes : ByteArray := prog_11_method_56_code
def yX3_votes : MethodName := ⟨RX3, "votes", "(II)I"⟩
def dkwX3_votes_1 : List UInt8 := [180, 0, 35, 16, 12, 27, 104, 28, 96, 46, 167, 0, 5, 16, 254, 172]
abbrev dktX3_votes_1 : List UInt8 := dkwX3_votes_1 ++ []
def dkwX3_votes_0 : List UInt8 := [42, 182, 0, 241, 42, 4, 27, 182, 0, 122, 153, 0, 26, 42, 3, 28, 182, 0, 122, 153, 0, 17, 42]
abbrev dktX3_votes_0 : List UInt8 := dkwX3_votes_0 ++ dktX3_votes_1
theorem dksX3_votes_0 : cX3_votes.data.toList.drop 0 = dktX3_votes_0 := by decide +kernel
theorem dksX3_votes_1 : cX3_votes.data.toList.drop 23 = dktX3_votes_1 := dk_seg dksX3_votes_0 23 rfl rfl
theorem dX3_votes_0 : decode cX3_votes 0 = .ok (.aload_n 0, 1) := dk_42 (dk_at dksX3_votes_0 0 rfl rfl)
theorem dX3_votes_1 : decode cX3_votes 1 = .ok (.invokevirtual 241, 3) := dk_182 0 241 (dk_at dksX3_votes_0 1 rfl rfl)
theorem dX3_votes_4 : decode cX3_votes 4 = .ok (.aload_n 0, 1) := dk_42 (dk_at dksX3_votes_0 4 rfl rfl)
theorem dX3_votes_5 : decode cX3_votes 5 = .ok (.iconst 1, 1) := dk_4 (dk_at dksX3_votes_0 5 rfl rfl)
theorem dX3_votes_6 : decode cX3_votes 6 = .ok (.iload_n 1, 1) := dk_27 (dk_at dksX3_votes_0 6 rfl rfl)
theorem dX3_votes_7 : decode cX3_votes 7 = .ok (.invokevirtual 122, 3) := dk_182 0 122 (dk_at dksX3_votes_0 7 rfl rfl)
theorem dX3_votes_10 : decode cX3_votes 10 = .ok (.ifCond .eq 26, 3) := dk_153 0 26 (dk_at dksX3_votes_0 10 rfl rfl)
theorem dX3_votes_13 : decode cX3_votes 13 = .ok (.aload_n 0, 1) := dk_42 (dk_at dksX3_votes_0 13 rfl rfl)
theorem dX3_votes_14 : decode cX3_votes 14 = .ok (.iconst 0, 1) := dk_3 (dk_at dksX3_votes_0 14 rfl rfl)
theorem dX3_votes_15 : decode cX3_votes 15 = .ok (.iload_n 2, 1) := dk_28 (dk_at dksX3_votes_0 15 rfl rfl)
theorem dX3_votes_16 : decode cX3_votes 16 = .ok (.invokevirtual 122, 3) := dk_182 0 122 (dk_at dksX3_votes_0 16 rfl rfl)
theorem dX3_votes_19 : decode cX3_votes 19 = .ok (.ifCond .eq 17, 3) := dk_153 0 17 (dk_at dksX3_votes_0 19 rfl rfl)
theorem dX3_votes_22 : decode cX3_votes 22 = .ok (.aload_n 0, 1) := dk_42 (dk_at dksX3_votes_0 22 rfl rfl)
theorem dX3_votes_23 : decode cX3_votes 23 = .ok (.getfield 35, 3) := dk_180 0 35 (dk_at dksX3_votes_1 0 rfl rfl)
theorem dX3_votes_26 : decode cX3_votes 26 = .ok (.bipush 12, 2) := dk_16 12 (dk_at dksX3_votes_1 3 rfl rfl)
theorem dX3_votes_28 : decode cX3_votes 28 = .ok (.iload_n 1, 1) := dk_27 (dk_at dksX3_votes_1 5 rfl rfl)
theorem dX3_votes_29 : decode cX3_votes 29 = .ok (.imul, 1) := dk_104 (dk_at dksX3_votes_1 6 rfl rfl)
theorem dX3_votes_30 : decode cX3_votes 30 = .ok (.iload_n 2, 1) := dk_28 (dk_at dksX3_votes_1 7 rfl rfl)
theorem dX3_votes_31 : decode cX3_votes 31 = .ok (.iadd, 1) := dk_96 (dk_at dksX3_votes_1 8 rfl rfl)
theorem dX3_votes_32 : decode cX3_votes 32 = .ok (.iaload, 1) := dk_46 (dk_at dksX3_votes_1 9 rfl rfl)
theorem dX3_votes_33 : decode cX3_votes 33 = .ok (.goto 5, 3) := dk_167 0 5 (dk_at dksX3_votes_1 10 rfl rfl)
theorem dX3_votes_36 : decode cX3_votes 36 = .ok (.bipush (-2), 2) := dk_16 254 (dk_at dksX3_votes_1 13 rfl rfl)
theorem dX3_votes_38 : decode cX3_votes 38 = .ok (.ireturn, 1) := dk_172 (dk_at dksX3_votes_1 15 rfl rfl)
abbrev cX3_taken : ByteArray := prog_11_method_58_code
def yX3_taken : MethodName := ⟨RX3, "taken", "(II)I"⟩
def dkwX3_taken_1 : List UInt8 := [182, 0, 247, 167, 0, 5, 16, 254, 172]
abbrev dktX3_taken_1 : List UInt8 := dkwX3_taken_1 ++ []
def dkwX3_taken_0 : List UInt8 := [42, 182, 0, 241, 42, 4, 27, 182, 0, 122, 153, 0, 19, 28, 184, 0, 108, 153, 0, 12, 42, 27, 28]
abbrev dktX3_taken_0 : List UInt8 := dkwX3_taken_0 ++ dktX3_taken_1
theorem dksX3_taken_0 : cX3_taken.data.toList.drop 0 = dktX3_taken_0 := by decide +kernel
theorem dksX3_taken_1 : cX3_taken.data.toList.drop 23 = dktX3_taken_1 := dk_seg dksX3_taken_0 23 rfl rfl
theorem dX3_taken_0 : decode cX3_taken 0 = .ok (.aload_n 0, 1) := dk_42 (dk_at dksX3_taken_0 0 rfl rfl)
theorem dX3_taken_1 : decode cX3_taken 1 = .ok (.invokevirtual 241, 3) := dk_182 0 241 (dk_at dksX3_taken_0 1 rfl rfl)
theorem dX3_taken_4 : decode cX3_taken 4 = .ok (.aload_n 0, 1) := dk_42 (dk_at dksX3_taken_0 4 rfl rfl)
theorem dX3_taken_5 : decode cX3_taken 5 = .ok (.iconst 1, 1) := dk_4 (dk_at dksX3_taken_0 5 rfl rfl)
theorem dX3_taken_6 : decode cX3_taken 6 = .ok (.iload_n 1, 1) := dk_27 (dk_at dksX3_taken_0 6 rfl rfl)
theorem dX3_taken_7 : decode cX3_taken 7 = .ok (.invokevirtual 122, 3) := dk_182 0 122 (dk_at dksX3_taken_0 7 rfl rfl)
theorem dX3_taken_10 : decode cX3_taken 10 = .ok (.ifCond .eq 19, 3) := dk_153 0 19 (dk_at dksX3_taken_0 10 rfl rfl)
theorem dX3_taken_13 : decode cX3_taken 13 = .ok (.iload_n 2, 1) := dk_28 (dk_at dksX3_taken_0 13 rfl rfl)
theorem dX3_taken_14 : decode cX3_taken 14 = .ok (.invokestatic 108, 3) := dk_184 0 108 (dk_at dksX3_taken_0 14 rfl rfl)
theorem dX3_taken_17 : decode cX3_taken 17 = .ok (.ifCond .eq 12, 3) := dk_153 0 12 (dk_at dksX3_taken_0 17 rfl rfl)
theorem dX3_taken_20 : decode cX3_taken 20 = .ok (.aload_n 0, 1) := dk_42 (dk_at dksX3_taken_0 20 rfl rfl)
theorem dX3_taken_21 : decode cX3_taken 21 = .ok (.iload_n 1, 1) := dk_27 (dk_at dksX3_taken_0 21 rfl rfl)
theorem dX3_taken_22 : decode cX3_taken 22 = .ok (.iload_n 2, 1) := dk_28 (dk_at dksX3_taken_0 22 rfl rfl)
theorem dX3_taken_23 : decode cX3_taken 23 = .ok (.invokevirtual 247, 3) := dk_182 0 247 (dk_at dksX3_taken_1 0 rfl rfl)
theorem dX3_taken_26 : decode cX3_taken 26 = .ok (.goto 5, 3) := dk_167 0 5 (dk_at dksX3_taken_1 3 rfl rfl)
theorem dX3_taken_29 : decode cX3_taken 29 = .ok (.bipush (-2), 2) := dk_16 254 (dk_at dksX3_taken_1 6 rfl rfl)
theorem dX3_taken_31 : decode cX3_taken 31 = .ok (.ireturn, 1) := dk_172 (dk_at dksX3_taken_1 8 rfl rfl)
abbrev cX3_takenBy : ByteArray := prog_11_method_57_code
def yX3_takenBy : MethodName := ⟨RX3, "takenBy", "(II)I"⟩
def dkwX3_takenBy_0 : List UInt8 := [28, 154, 0, 12, 42, 180, 0, 38, 27, 46, 167, 0, 9, 42, 180, 0, 41, 27, 46, 172]
abbrev dktX3_takenBy_0 : List UInt8 := dkwX3_takenBy_0 ++ []
theorem dksX3_takenBy_0 : cX3_takenBy.data.toList.drop 0 = dktX3_takenBy_0 := by decide +kernel
theorem dX3_takenBy_0 : decode cX3_takenBy 0 = .ok (.iload_n 2, 1) := dk_28 (dk_at dksX3_takenBy_0 0 rfl rfl)
theorem dX3_takenBy_1 : decode cX3_takenBy 1 = .ok (.ifCond .ne 12, 3) := dk_154 0 12 (dk_at dksX3_takenBy_0 1 rfl rfl)
theorem dX3_takenBy_4 : decode cX3_takenBy 4 = .ok (.aload_n 0, 1) := dk_42 (dk_at dksX3_takenBy_0 4 rfl rfl)
theorem dX3_takenBy_5 : decode cX3_takenBy 5 = .ok (.getfield 38, 3) := dk_180 0 38 (dk_at dksX3_takenBy_0 5 rfl rfl)
theorem dX3_takenBy_8 : decode cX3_takenBy 8 = .ok (.iload_n 1, 1) := dk_27 (dk_at dksX3_takenBy_0 8 rfl rfl)
theorem dX3_takenBy_9 : decode cX3_takenBy 9 = .ok (.iaload, 1) := dk_46 (dk_at dksX3_takenBy_0 9 rfl rfl)
theorem dX3_takenBy_10 : decode cX3_takenBy 10 = .ok (.goto 9, 3) := dk_167 0 9 (dk_at dksX3_takenBy_0 10 rfl rfl)
theorem dX3_takenBy_13 : decode cX3_takenBy 13 = .ok (.aload_n 0, 1) := dk_42 (dk_at dksX3_takenBy_0 13 rfl rfl)
theorem dX3_takenBy_14 : decode cX3_takenBy 14 = .ok (.getfield 41, 3) := dk_180 0 41 (dk_at dksX3_takenBy_0 14 rfl rfl)
theorem dX3_takenBy_17 : decode cX3_takenBy 17 = .ok (.iload_n 1, 1) := dk_27 (dk_at dksX3_takenBy_0 17 rfl rfl)
theorem dX3_takenBy_18 : decode cX3_takenBy 18 = .ok (.iaload, 1) := dk_46 (dk_at dksX3_takenBy_0 18 rfl rfl)
theorem dX3_takenBy_19 : decode cX3_takenBy 19 = .ok (.ireturn, 1) := dk_172 (dk_at dksX3_takenBy_0 19 rfl rfl)
abbrev cX3_turn : ByteArray := prog_11_method_59_code
def yX3_turn : MethodName := ⟨RX3, "turn", "()I"⟩
def dkwX3_turn_0 : List UInt8 := [42, 182, 0, 241, 42, 180, 0, 203, 153, 0, 7, 4, 167, 0, 4, 3, 172]
abbrev dktX3_turn_0 : List UInt8 := dkwX3_turn_0 ++ []
theorem dksX3_turn_0 : cX3_turn.data.toList.drop 0 = dktX3_turn_0 := by decide +kernel
theorem dX3_turn_0 : decode cX3_turn 0 = .ok (.aload_n 0, 1) := dk_42 (dk_at dksX3_turn_0 0 rfl rfl)
theorem dX3_turn_1 : decode cX3_turn 1 = .ok (.invokevirtual 241, 3) := dk_182 0 241 (dk_at dksX3_turn_0 1 rfl rfl)
theorem dX3_turn_4 : decode cX3_turn 4 = .ok (.aload_n 0, 1) := dk_42 (dk_at dksX3_turn_0 4 rfl rfl)
theorem dX3_turn_5 : decode cX3_turn 5 = .ok (.getfield 203, 3) := dk_180 0 203 (dk_at dksX3_turn_0 5 rfl rfl)
theorem dX3_turn_8 : decode cX3_turn 8 = .ok (.ifCond .eq 7, 3) := dk_153 0 7 (dk_at dksX3_turn_0 8 rfl rfl)
theorem dX3_turn_11 : decode cX3_turn 11 = .ok (.iconst 1, 1) := dk_4 (dk_at dksX3_turn_0 11 rfl rfl)
theorem dX3_turn_12 : decode cX3_turn 12 = .ok (.goto 4, 3) := dk_167 0 4 (dk_at dksX3_turn_0 12 rfl rfl)
theorem dX3_turn_15 : decode cX3_turn 15 = .ok (.iconst 0, 1) := dk_3 (dk_at dksX3_turn_0 15 rfl rfl)
theorem dX3_turn_16 : decode cX3_turn 16 = .ok (.ireturn, 1) := dk_172 (dk_at dksX3_turn_0 16 rfl rfl)
abbrev cX3_place : ByteArray := prog_11_method_61_code
def yX3_place : MethodName := ⟨RX3, "place", "(II)I"⟩
def dkwX3_place_1 : List UInt8 := [153, 0, 12, 42, 27, 28, 182, 0, 250, 167, 0, 5, 18, 103, 172]
abbrev dktX3_place_1 : List UInt8 := dkwX3_place_1 ++ []
def dkwX3_place_0 : List UInt8 := [42, 182, 0, 241, 42, 3, 27, 182, 0, 122, 153, 0, 24, 28, 133, 9, 20, 0, 89, 184, 0, 76]
abbrev dktX3_place_0 : List UInt8 := dkwX3_place_0 ++ dktX3_place_1
theorem dksX3_place_0 : cX3_place.data.toList.drop 0 = dktX3_place_0 := by decide +kernel
theorem dksX3_place_1 : cX3_place.data.toList.drop 22 = dktX3_place_1 := dk_seg dksX3_place_0 22 rfl rfl
theorem dX3_place_0 : decode cX3_place 0 = .ok (.aload_n 0, 1) := dk_42 (dk_at dksX3_place_0 0 rfl rfl)
theorem dX3_place_1 : decode cX3_place 1 = .ok (.invokevirtual 241, 3) := dk_182 0 241 (dk_at dksX3_place_0 1 rfl rfl)
theorem dX3_place_4 : decode cX3_place 4 = .ok (.aload_n 0, 1) := dk_42 (dk_at dksX3_place_0 4 rfl rfl)
theorem dX3_place_5 : decode cX3_place 5 = .ok (.iconst 0, 1) := dk_3 (dk_at dksX3_place_0 5 rfl rfl)
theorem dX3_place_6 : decode cX3_place 6 = .ok (.iload_n 1, 1) := dk_27 (dk_at dksX3_place_0 6 rfl rfl)
theorem dX3_place_7 : decode cX3_place 7 = .ok (.invokevirtual 122, 3) := dk_182 0 122 (dk_at dksX3_place_0 7 rfl rfl)
theorem dX3_place_10 : decode cX3_place 10 = .ok (.ifCond .eq 24, 3) := dk_153 0 24 (dk_at dksX3_place_0 10 rfl rfl)
theorem dX3_place_13 : decode cX3_place 13 = .ok (.iload_n 2, 1) := dk_28 (dk_at dksX3_place_0 13 rfl rfl)
theorem dX3_place_14 : decode cX3_place 14 = .ok (.i2l, 1) := dk_133 (dk_at dksX3_place_0 14 rfl rfl)
theorem dX3_place_15 : decode cX3_place 15 = .ok (.lconst 0, 1) := dk_9 (dk_at dksX3_place_0 15 rfl rfl)
theorem dX3_place_16 : decode cX3_place 16 = .ok (.ldc2_w 89, 3) := dk_20 0 89 (dk_at dksX3_place_0 16 rfl rfl)
theorem dX3_place_19 : decode cX3_place 19 = .ok (.invokestatic 76, 3) := dk_184 0 76 (dk_at dksX3_place_0 19 rfl rfl)
theorem dX3_place_22 : decode cX3_place 22 = .ok (.ifCond .eq 12, 3) := dk_153 0 12 (dk_at dksX3_place_1 0 rfl rfl)
theorem dX3_place_25 : decode cX3_place 25 = .ok (.aload_n 0, 1) := dk_42 (dk_at dksX3_place_1 3 rfl rfl)
theorem dX3_place_26 : decode cX3_place 26 = .ok (.iload_n 1, 1) := dk_27 (dk_at dksX3_place_1 4 rfl rfl)
theorem dX3_place_27 : decode cX3_place 27 = .ok (.iload_n 2, 1) := dk_28 (dk_at dksX3_place_1 5 rfl rfl)
theorem dX3_place_28 : decode cX3_place 28 = .ok (.invokevirtual 250, 3) := dk_182 0 250 (dk_at dksX3_place_1 6 rfl rfl)
theorem dX3_place_31 : decode cX3_place 31 = .ok (.goto 5, 3) := dk_167 0 5 (dk_at dksX3_place_1 9 rfl rfl)
theorem dX3_place_34 : decode cX3_place 34 = .ok (.ldc 103, 2) := dk_18 103 (dk_at dksX3_place_1 12 rfl rfl)
theorem dX3_place_36 : decode cX3_place 36 = .ok (.ireturn, 1) := dk_172 (dk_at dksX3_place_1 14 rfl rfl)
abbrev cX3_placeBy : ByteArray := prog_11_method_60_code
def yX3_placeBy : MethodName := ⟨RX3, "placeBy", "(II)I"⟩
def dkwX3_placeBy_0 : List UInt8 := [42, 180, 0, 203, 153, 0, 16, 42, 180, 0, 58, 6, 27, 104, 28, 96, 46, 167, 0, 5, 18, 103, 172]
abbrev dktX3_placeBy_0 : List UInt8 := dkwX3_placeBy_0 ++ []
theorem dksX3_placeBy_0 : cX3_placeBy.data.toList.drop 0 = dktX3_placeBy_0 := by decide +kernel
theorem dX3_placeBy_0 : decode cX3_placeBy 0 = .ok (.aload_n 0, 1) := dk_42 (dk_at dksX3_placeBy_0 0 rfl rfl)
theorem dX3_placeBy_1 : decode cX3_placeBy 1 = .ok (.getfield 203, 3) := dk_180 0 203 (dk_at dksX3_placeBy_0 1 rfl rfl)
theorem dX3_placeBy_4 : decode cX3_placeBy 4 = .ok (.ifCond .eq 16, 3) := dk_153 0 16 (dk_at dksX3_placeBy_0 4 rfl rfl)
theorem dX3_placeBy_7 : decode cX3_placeBy 7 = .ok (.aload_n 0, 1) := dk_42 (dk_at dksX3_placeBy_0 7 rfl rfl)
theorem dX3_placeBy_8 : decode cX3_placeBy 8 = .ok (.getfield 58, 3) := dk_180 0 58 (dk_at dksX3_placeBy_0 8 rfl rfl)
theorem dX3_placeBy_11 : decode cX3_placeBy 11 = .ok (.iconst 3, 1) := dk_6 (dk_at dksX3_placeBy_0 11 rfl rfl)
theorem dX3_placeBy_12 : decode cX3_placeBy 12 = .ok (.iload_n 1, 1) := dk_27 (dk_at dksX3_placeBy_0 12 rfl rfl)
theorem dX3_placeBy_13 : decode cX3_placeBy 13 = .ok (.imul, 1) := dk_104 (dk_at dksX3_placeBy_0 13 rfl rfl)
theorem dX3_placeBy_14 : decode cX3_placeBy 14 = .ok (.iload_n 2, 1) := dk_28 (dk_at dksX3_placeBy_0 14 rfl rfl)
theorem dX3_placeBy_15 : decode cX3_placeBy 15 = .ok (.iadd, 1) := dk_96 (dk_at dksX3_placeBy_0 15 rfl rfl)
theorem dX3_placeBy_16 : decode cX3_placeBy 16 = .ok (.iaload, 1) := dk_46 (dk_at dksX3_placeBy_0 16 rfl rfl)
theorem dX3_placeBy_17 : decode cX3_placeBy 17 = .ok (.goto 5, 3) := dk_167 0 5 (dk_at dksX3_placeBy_0 17 rfl rfl)
theorem dX3_placeBy_20 : decode cX3_placeBy 20 = .ok (.ldc 103, 2) := dk_18 103 (dk_at dksX3_placeBy_0 20 rfl rfl)
theorem dX3_placeBy_22 : decode cX3_placeBy 22 = .ok (.ireturn, 1) := dk_172 (dk_at dksX3_placeBy_0 22 rfl rfl)
abbrev cX3_confirmed : ByteArray := prog_11_method_63_code
def yX3_confirmed : MethodName := ⟨RX3, "confirmed", "(II)I"⟩
def dkwX3_confirmed_1 : List UInt8 := [182, 0, 253, 167, 0, 5, 16, 254, 172]
abbrev dktX3_confirmed_1 : List UInt8 := dkwX3_confirmed_1 ++ []
def dkwX3_confirmed_0 : List UInt8 := [42, 182, 0, 241, 42, 4, 27, 182, 0, 122, 153, 0, 19, 28, 184, 0, 108, 153, 0, 12, 42, 27, 28]
abbrev dktX3_confirmed_0 : List UInt8 := dkwX3_confirmed_0 ++ dktX3_confirmed_1
theorem dksX3_confirmed_0 : cX3_confirmed.data.toList.drop 0 = dktX3_confirmed_0 := by decide +kernel
theorem dksX3_confirmed_1 : cX3_confirmed.data.toList.drop 23 = dktX3_confirmed_1 := dk_seg dksX3_confirmed_0 23 rfl rfl
theorem dX3_confirmed_0 : decode cX3_confirmed 0 = .ok (.aload_n 0, 1) := dk_42 (dk_at dksX3_confirmed_0 0 rfl rfl)
theorem dX3_confirmed_1 : decode cX3_confirmed 1 = .ok (.invokevirtual 241, 3) := dk_182 0 241 (dk_at dksX3_confirmed_0 1 rfl rfl)
theorem dX3_confirmed_4 : decode cX3_confirmed 4 = .ok (.aload_n 0, 1) := dk_42 (dk_at dksX3_confirmed_0 4 rfl rfl)
theorem dX3_confirmed_5 : decode cX3_confirmed 5 = .ok (.iconst 1, 1) := dk_4 (dk_at dksX3_confirmed_0 5 rfl rfl)
theorem dX3_confirmed_6 : decode cX3_confirmed 6 = .ok (.iload_n 1, 1) := dk_27 (dk_at dksX3_confirmed_0 6 rfl rfl)
theorem dX3_confirmed_7 : decode cX3_confirmed 7 = .ok (.invokevirtual 122, 3) := dk_182 0 122 (dk_at dksX3_confirmed_0 7 rfl rfl)
theorem dX3_confirmed_10 : decode cX3_confirmed 10 = .ok (.ifCond .eq 19, 3) := dk_153 0 19 (dk_at dksX3_confirmed_0 10 rfl rfl)
theorem dX3_confirmed_13 : decode cX3_confirmed 13 = .ok (.iload_n 2, 1) := dk_28 (dk_at dksX3_confirmed_0 13 rfl rfl)
theorem dX3_confirmed_14 : decode cX3_confirmed 14 = .ok (.invokestatic 108, 3) := dk_184 0 108 (dk_at dksX3_confirmed_0 14 rfl rfl)
theorem dX3_confirmed_17 : decode cX3_confirmed 17 = .ok (.ifCond .eq 12, 3) := dk_153 0 12 (dk_at dksX3_confirmed_0 17 rfl rfl)
theorem dX3_confirmed_20 : decode cX3_confirmed 20 = .ok (.aload_n 0, 1) := dk_42 (dk_at dksX3_confirmed_0 20 rfl rfl)
theorem dX3_confirmed_21 : decode cX3_confirmed 21 = .ok (.iload_n 1, 1) := dk_27 (dk_at dksX3_confirmed_0 21 rfl rfl)
theorem dX3_confirmed_22 : decode cX3_confirmed 22 = .ok (.iload_n 2, 1) := dk_28 (dk_at dksX3_confirmed_0 22 rfl rfl)
theorem dX3_confirmed_23 : decode cX3_confirmed 23 = .ok (.invokevirtual 253, 3) := dk_182 0 253 (dk_at dksX3_confirmed_1 0 rfl rfl)
theorem dX3_confirmed_26 : decode cX3_confirmed 26 = .ok (.goto 5, 3) := dk_167 0 5 (dk_at dksX3_confirmed_1 3 rfl rfl)
theorem dX3_confirmed_29 : decode cX3_confirmed 29 = .ok (.bipush (-2), 2) := dk_16 254 (dk_at dksX3_confirmed_1 6 rfl rfl)
theorem dX3_confirmed_31 : decode cX3_confirmed 31 = .ok (.ireturn, 1) := dk_172 (dk_at dksX3_confirmed_1 8 rfl rfl)
abbrev cX3_confirmedBy : ByteArray := prog_11_method_62_code
def yX3_confirmedBy : MethodName := ⟨RX3, "confirmedBy", "(II)I"⟩
def dkwX3_confirmedBy_0 : List UInt8 := [28, 154, 0, 12, 42, 180, 0, 61, 27, 46, 167, 0, 9, 42, 180, 0, 64, 27, 46, 172]
abbrev dktX3_confirmedBy_0 : List UInt8 := dkwX3_confirmedBy_0 ++ []
theorem dksX3_confirmedBy_0 : cX3_confirmedBy.data.toList.drop 0 = dktX3_confirmedBy_0 := by decide +kernel
theorem dX3_confirmedBy_0 : decode cX3_confirmedBy 0 = .ok (.iload_n 2, 1) := dk_28 (dk_at dksX3_confirmedBy_0 0 rfl rfl)
theorem dX3_confirmedBy_1 : decode cX3_confirmedBy 1 = .ok (.ifCond .ne 12, 3) := dk_154 0 12 (dk_at dksX3_confirmedBy_0 1 rfl rfl)
theorem dX3_confirmedBy_4 : decode cX3_confirmedBy 4 = .ok (.aload_n 0, 1) := dk_42 (dk_at dksX3_confirmedBy_0 4 rfl rfl)
theorem dX3_confirmedBy_5 : decode cX3_confirmedBy 5 = .ok (.getfield 61, 3) := dk_180 0 61 (dk_at dksX3_confirmedBy_0 5 rfl rfl)
theorem dX3_confirmedBy_8 : decode cX3_confirmedBy 8 = .ok (.iload_n 1, 1) := dk_27 (dk_at dksX3_confirmedBy_0 8 rfl rfl)
theorem dX3_confirmedBy_9 : decode cX3_confirmedBy 9 = .ok (.iaload, 1) := dk_46 (dk_at dksX3_confirmedBy_0 9 rfl rfl)
theorem dX3_confirmedBy_10 : decode cX3_confirmedBy 10 = .ok (.goto 9, 3) := dk_167 0 9 (dk_at dksX3_confirmedBy_0 10 rfl rfl)
theorem dX3_confirmedBy_13 : decode cX3_confirmedBy 13 = .ok (.aload_n 0, 1) := dk_42 (dk_at dksX3_confirmedBy_0 13 rfl rfl)
theorem dX3_confirmedBy_14 : decode cX3_confirmedBy 14 = .ok (.getfield 64, 3) := dk_180 0 64 (dk_at dksX3_confirmedBy_0 14 rfl rfl)
theorem dX3_confirmedBy_17 : decode cX3_confirmedBy 17 = .ok (.iload_n 1, 1) := dk_27 (dk_at dksX3_confirmedBy_0 17 rfl rfl)
theorem dX3_confirmedBy_18 : decode cX3_confirmedBy 18 = .ok (.iaload, 1) := dk_46 (dk_at dksX3_confirmedBy_0 18 rfl rfl)
theorem dX3_confirmedBy_19 : decode cX3_confirmedBy 19 = .ok (.ireturn, 1) := dk_172 (dk_at dksX3_confirmedBy_0 19 rfl rfl)
abbrev cX3_wrong : ByteArray := prog_11_method_65_code
def yX3_wrong : MethodName := ⟨RX3, "wrong", "()I"⟩
def dkwX3_wrong_0 : List UInt8 := [42, 182, 0, 241, 42, 182, 1, 0, 172]
abbrev dktX3_wrong_0 : List UInt8 := dkwX3_wrong_0 ++ []
theorem dksX3_wrong_0 : cX3_wrong.data.toList.drop 0 = dktX3_wrong_0 := by decide +kernel
theorem dX3_wrong_0 : decode cX3_wrong 0 = .ok (.aload_n 0, 1) := dk_42 (dk_at dksX3_wrong_0 0 rfl rfl)
theorem dX3_wrong_1 : decode cX3_wrong 1 = .ok (.invokevirtual 241, 3) := dk_182 0 241 (dk_at dksX3_wrong_0 1 rfl rfl)
theorem dX3_wrong_4 : decode cX3_wrong 4 = .ok (.aload_n 0, 1) := dk_42 (dk_at dksX3_wrong_0 4 rfl rfl)
theorem dX3_wrong_5 : decode cX3_wrong 5 = .ok (.invokevirtual 256, 3) := dk_182 1 0 (dk_at dksX3_wrong_0 5 rfl rfl)
theorem dX3_wrong_8 : decode cX3_wrong 8 = .ok (.ireturn, 1) := dk_172 (dk_at dksX3_wrong_0 8 rfl rfl)
abbrev cX3_wrongNow : ByteArray := prog_11_method_64_code
def yX3_wrongNow : MethodName := ⟨RX3, "wrongNow", "()I"⟩
def dkwX3_wrongNow_2 : List UInt8 := [132, 2, 1, 167, 255, 212, 27, 172]
abbrev dktX3_wrongNow_2 : List UInt8 := dkwX3_wrongNow_2 ++ []
def dkwX3_wrongNow_1 : List UInt8 := [180, 0, 38, 28, 46, 42, 180, 0, 61, 28, 46, 159, 0, 9, 4, 28, 120, 167, 0, 4, 3, 128, 60]
abbrev dktX3_wrongNow_1 : List UInt8 := dkwX3_wrongNow_1 ++ dktX3_wrongNow_2
def dkwX3_wrongNow_0 : List UInt8 := [3, 60, 3, 61, 28, 16, 8, 162, 0, 44, 27, 42, 180, 0, 38, 28, 46, 2, 159, 0, 24, 42]
abbrev dktX3_wrongNow_0 : List UInt8 := dkwX3_wrongNow_0 ++ dktX3_wrongNow_1
theorem dksX3_wrongNow_0 : cX3_wrongNow.data.toList.drop 0 = dktX3_wrongNow_0 := by decide +kernel
theorem dksX3_wrongNow_1 : cX3_wrongNow.data.toList.drop 22 = dktX3_wrongNow_1 := dk_seg dksX3_wrongNow_0 22 rfl rfl
theorem dksX3_wrongNow_2 : cX3_wrongNow.data.toList.drop 45 = dktX3_wrongNow_2 := dk_seg dksX3_wrongNow_1 23 rfl rfl
theorem dX3_wrongNow_0 : decode cX3_wrongNow 0 = .ok (.iconst 0, 1) := dk_3 (dk_at dksX3_wrongNow_0 0 rfl rfl)
theorem dX3_wrongNow_1 : decode cX3_wrongNow 1 = .ok (.istore_n 1, 1) := dk_60 (dk_at dksX3_wrongNow_0 1 rfl rfl)
theorem dX3_wrongNow_2 : decode cX3_wrongNow 2 = .ok (.iconst 0, 1) := dk_3 (dk_at dksX3_wrongNow_0 2 rfl rfl)
theorem dX3_wrongNow_3 : decode cX3_wrongNow 3 = .ok (.istore_n 2, 1) := dk_61 (dk_at dksX3_wrongNow_0 3 rfl rfl)
theorem dX3_wrongNow_4 : decode cX3_wrongNow 4 = .ok (.iload_n 2, 1) := dk_28 (dk_at dksX3_wrongNow_0 4 rfl rfl)
theorem dX3_wrongNow_5 : decode cX3_wrongNow 5 = .ok (.bipush 8, 2) := dk_16 8 (dk_at dksX3_wrongNow_0 5 rfl rfl)
theorem dX3_wrongNow_7 : decode cX3_wrongNow 7 = .ok (.if_icmp .ge 44, 3) := dk_162 0 44 (dk_at dksX3_wrongNow_0 7 rfl rfl)
theorem dX3_wrongNow_10 : decode cX3_wrongNow 10 = .ok (.iload_n 1, 1) := dk_27 (dk_at dksX3_wrongNow_0 10 rfl rfl)
theorem dX3_wrongNow_11 : decode cX3_wrongNow 11 = .ok (.aload_n 0, 1) := dk_42 (dk_at dksX3_wrongNow_0 11 rfl rfl)
theorem dX3_wrongNow_12 : decode cX3_wrongNow 12 = .ok (.getfield 38, 3) := dk_180 0 38 (dk_at dksX3_wrongNow_0 12 rfl rfl)
theorem dX3_wrongNow_15 : decode cX3_wrongNow 15 = .ok (.iload_n 2, 1) := dk_28 (dk_at dksX3_wrongNow_0 15 rfl rfl)
theorem dX3_wrongNow_16 : decode cX3_wrongNow 16 = .ok (.iaload, 1) := dk_46 (dk_at dksX3_wrongNow_0 16 rfl rfl)
theorem dX3_wrongNow_17 : decode cX3_wrongNow 17 = .ok (.iconst (-1), 1) := dk_2 (dk_at dksX3_wrongNow_0 17 rfl rfl)
theorem dX3_wrongNow_18 : decode cX3_wrongNow 18 = .ok (.if_icmp .eq 24, 3) := dk_159 0 24 (dk_at dksX3_wrongNow_0 18 rfl rfl)
theorem dX3_wrongNow_21 : decode cX3_wrongNow 21 = .ok (.aload_n 0, 1) := dk_42 (dk_at dksX3_wrongNow_0 21 rfl rfl)
theorem dX3_wrongNow_22 : decode cX3_wrongNow 22 = .ok (.getfield 38, 3) := dk_180 0 38 (dk_at dksX3_wrongNow_1 0 rfl rfl)
theorem dX3_wrongNow_25 : decode cX3_wrongNow 25 = .ok (.iload_n 2, 1) := dk_28 (dk_at dksX3_wrongNow_1 3 rfl rfl)
theorem dX3_wrongNow_26 : decode cX3_wrongNow 26 = .ok (.iaload, 1) := dk_46 (dk_at dksX3_wrongNow_1 4 rfl rfl)
theorem dX3_wrongNow_27 : decode cX3_wrongNow 27 = .ok (.aload_n 0, 1) := dk_42 (dk_at dksX3_wrongNow_1 5 rfl rfl)
theorem dX3_wrongNow_28 : decode cX3_wrongNow 28 = .ok (.getfield 61, 3) := dk_180 0 61 (dk_at dksX3_wrongNow_1 6 rfl rfl)
theorem dX3_wrongNow_31 : decode cX3_wrongNow 31 = .ok (.iload_n 2, 1) := dk_28 (dk_at dksX3_wrongNow_1 9 rfl rfl)
theorem dX3_wrongNow_32 : decode cX3_wrongNow 32 = .ok (.iaload, 1) := dk_46 (dk_at dksX3_wrongNow_1 10 rfl rfl)
theorem dX3_wrongNow_33 : decode cX3_wrongNow 33 = .ok (.if_icmp .eq 9, 3) := dk_159 0 9 (dk_at dksX3_wrongNow_1 11 rfl rfl)
theorem dX3_wrongNow_36 : decode cX3_wrongNow 36 = .ok (.iconst 1, 1) := dk_4 (dk_at dksX3_wrongNow_1 14 rfl rfl)
theorem dX3_wrongNow_37 : decode cX3_wrongNow 37 = .ok (.iload_n 2, 1) := dk_28 (dk_at dksX3_wrongNow_1 15 rfl rfl)
theorem dX3_wrongNow_38 : decode cX3_wrongNow 38 = .ok (.ishl, 1) := dk_120 (dk_at dksX3_wrongNow_1 16 rfl rfl)
theorem dX3_wrongNow_39 : decode cX3_wrongNow 39 = .ok (.goto 4, 3) := dk_167 0 4 (dk_at dksX3_wrongNow_1 17 rfl rfl)
theorem dX3_wrongNow_42 : decode cX3_wrongNow 42 = .ok (.iconst 0, 1) := dk_3 (dk_at dksX3_wrongNow_1 20 rfl rfl)
theorem dX3_wrongNow_43 : decode cX3_wrongNow 43 = .ok (.ior, 1) := dk_128 (dk_at dksX3_wrongNow_1 21 rfl rfl)
theorem dX3_wrongNow_44 : decode cX3_wrongNow 44 = .ok (.istore_n 1, 1) := dk_60 (dk_at dksX3_wrongNow_1 22 rfl rfl)
theorem dX3_wrongNow_45 : decode cX3_wrongNow 45 = .ok (.iinc 2 1, 3) := dk_132 2 1 (dk_at dksX3_wrongNow_2 0 rfl rfl)
theorem dX3_wrongNow_48 : decode cX3_wrongNow 48 = .ok (.goto (-44), 3) := dk_167 255 212 (dk_at dksX3_wrongNow_2 3 rfl rfl)
theorem dX3_wrongNow_51 : decode cX3_wrongNow 51 = .ok (.iload_n 1, 1) := dk_27 (dk_at dksX3_wrongNow_2 6 rfl rfl)
theorem dX3_wrongNow_52 : decode cX3_wrongNow 52 = .ok (.ireturn, 1) := dk_172 (dk_at dksX3_wrongNow_2 7 rfl rfl)
abbrev cX3_better : ByteArray := prog_11_method_67_code
def yX3_better : MethodName := ⟨RX3, "better", "(I)I"⟩
def dkwX3_better_0 : List UInt8 := [27, 184, 0, 108, 153, 0, 11, 42, 27, 182, 1, 4, 167, 0, 5, 16, 254, 172]
abbrev dktX3_better_0 : List UInt8 := dkwX3_better_0 ++ []
theorem dksX3_better_0 : cX3_better.data.toList.drop 0 = dktX3_better_0 := by decide +kernel
theorem dX3_better_0 : decode cX3_better 0 = .ok (.iload_n 1, 1) := dk_27 (dk_at dksX3_better_0 0 rfl rfl)
theorem dX3_better_1 : decode cX3_better 1 = .ok (.invokestatic 108, 3) := dk_184 0 108 (dk_at dksX3_better_0 1 rfl rfl)
theorem dX3_better_4 : decode cX3_better 4 = .ok (.ifCond .eq 11, 3) := dk_153 0 11 (dk_at dksX3_better_0 4 rfl rfl)
theorem dX3_better_7 : decode cX3_better 7 = .ok (.aload_n 0, 1) := dk_42 (dk_at dksX3_better_0 7 rfl rfl)
theorem dX3_better_8 : decode cX3_better 8 = .ok (.iload_n 1, 1) := dk_27 (dk_at dksX3_better_0 8 rfl rfl)
theorem dX3_better_9 : decode cX3_better 9 = .ok (.invokevirtual 260, 3) := dk_182 1 4 (dk_at dksX3_better_0 9 rfl rfl)
theorem dX3_better_12 : decode cX3_better 12 = .ok (.goto 5, 3) := dk_167 0 5 (dk_at dksX3_better_0 12 rfl rfl)
theorem dX3_better_15 : decode cX3_better 15 = .ok (.bipush (-2), 2) := dk_16 254 (dk_at dksX3_better_0 15 rfl rfl)
theorem dX3_better_17 : decode cX3_better 17 = .ok (.ireturn, 1) := dk_172 (dk_at dksX3_better_0 17 rfl rfl)
abbrev cX3_betterBy : ByteArray := prog_11_method_66_code
def yX3_betterBy : MethodName := ⟨RX3, "betterBy", "(I)I"⟩
def dkwX3_betterBy_3 : List UInt8 := [180, 0, 28, 4, 28, 79, 42, 182, 0, 241, 27, 154, 0, 7, 29, 167, 0, 5, 21, 4, 172]
abbrev dktX3_betterBy_3 : List UInt8 := dkwX3_betterBy_3 ++ []
def dkwX3_betterBy_2 : List UInt8 := [167, 0, 4, 29, 62, 42, 180, 0, 220, 21, 4, 184, 0, 140, 54, 4, 132, 5, 50, 167, 255, 206, 42]
abbrev dktX3_betterBy_2 : List UInt8 := dkwX3_betterBy_2 ++ dktX3_betterBy_3
def dkwX3_betterBy_1 : List UInt8 := [180, 0, 28, 4, 21, 5, 79, 42, 182, 0, 241, 42, 180, 0, 220, 21, 4, 164, 0, 8, 21, 5]
abbrev dktX3_betterBy_1 : List UInt8 := dkwX3_betterBy_1 ++ dktX3_betterBy_2
def dkwX3_betterBy_0 : List UInt8 := [42, 180, 0, 28, 4, 46, 61, 2, 62, 2, 54, 4, 3, 54, 5, 21, 5, 17, 3, 232, 163, 0, 48, 42]
abbrev dktX3_betterBy_0 : List UInt8 := dkwX3_betterBy_0 ++ dktX3_betterBy_1
theorem dksX3_betterBy_0 : cX3_betterBy.data.toList.drop 0 = dktX3_betterBy_0 := by decide +kernel
theorem dksX3_betterBy_1 : cX3_betterBy.data.toList.drop 24 = dktX3_betterBy_1 := dk_seg dksX3_betterBy_0 24 rfl rfl
theorem dksX3_betterBy_2 : cX3_betterBy.data.toList.drop 46 = dktX3_betterBy_2 := dk_seg dksX3_betterBy_1 22 rfl rfl
theorem dksX3_betterBy_3 : cX3_betterBy.data.toList.drop 69 = dktX3_betterBy_3 := dk_seg dksX3_betterBy_2 23 rfl rfl
theorem dX3_betterBy_0 : decode cX3_betterBy 0 = .ok (.aload_n 0, 1) := dk_42 (dk_at dksX3_betterBy_0 0 rfl rfl)
theorem dX3_betterBy_1 : decode cX3_betterBy 1 = .ok (.getfield 28, 3) := dk_180 0 28 (dk_at dksX3_betterBy_0 1 rfl rfl)
theorem dX3_betterBy_4 : decode cX3_betterBy 4 = .ok (.iconst 1, 1) := dk_4 (dk_at dksX3_betterBy_0 4 rfl rfl)
theorem dX3_betterBy_5 : decode cX3_betterBy 5 = .ok (.iaload, 1) := dk_46 (dk_at dksX3_betterBy_0 5 rfl rfl)
theorem dX3_betterBy_6 : decode cX3_betterBy 6 = .ok (.istore_n 2, 1) := dk_61 (dk_at dksX3_betterBy_0 6 rfl rfl)
theorem dX3_betterBy_7 : decode cX3_betterBy 7 = .ok (.iconst (-1), 1) := dk_2 (dk_at dksX3_betterBy_0 7 rfl rfl)
theorem dX3_betterBy_8 : decode cX3_betterBy 8 = .ok (.istore_n 3, 1) := dk_62 (dk_at dksX3_betterBy_0 8 rfl rfl)
theorem dX3_betterBy_9 : decode cX3_betterBy 9 = .ok (.iconst (-1), 1) := dk_2 (dk_at dksX3_betterBy_0 9 rfl rfl)
theorem dX3_betterBy_10 : decode cX3_betterBy 10 = .ok (.istore 4, 2) := dk_54 4 (dk_at dksX3_betterBy_0 10 rfl rfl)
theorem dX3_betterBy_12 : decode cX3_betterBy 12 = .ok (.iconst 0, 1) := dk_3 (dk_at dksX3_betterBy_0 12 rfl rfl)
theorem dX3_betterBy_13 : decode cX3_betterBy 13 = .ok (.istore 5, 2) := dk_54 5 (dk_at dksX3_betterBy_0 13 rfl rfl)
theorem dX3_betterBy_15 : decode cX3_betterBy 15 = .ok (.iload 5, 2) := dk_21 5 (dk_at dksX3_betterBy_0 15 rfl rfl)
theorem dX3_betterBy_17 : decode cX3_betterBy 17 = .ok (.sipush 1000, 3) := dk_17 3 232 (dk_at dksX3_betterBy_0 17 rfl rfl)
theorem dX3_betterBy_20 : decode cX3_betterBy 20 = .ok (.if_icmp .gt 48, 3) := dk_163 0 48 (dk_at dksX3_betterBy_0 20 rfl rfl)
theorem dX3_betterBy_23 : decode cX3_betterBy 23 = .ok (.aload_n 0, 1) := dk_42 (dk_at dksX3_betterBy_0 23 rfl rfl)
theorem dX3_betterBy_24 : decode cX3_betterBy 24 = .ok (.getfield 28, 3) := dk_180 0 28 (dk_at dksX3_betterBy_1 0 rfl rfl)
theorem dX3_betterBy_27 : decode cX3_betterBy 27 = .ok (.iconst 1, 1) := dk_4 (dk_at dksX3_betterBy_1 3 rfl rfl)
theorem dX3_betterBy_28 : decode cX3_betterBy 28 = .ok (.iload 5, 2) := dk_21 5 (dk_at dksX3_betterBy_1 4 rfl rfl)
theorem dX3_betterBy_30 : decode cX3_betterBy 30 = .ok (.iastore, 1) := dk_79 (dk_at dksX3_betterBy_1 6 rfl rfl)
theorem dX3_betterBy_31 : decode cX3_betterBy 31 = .ok (.aload_n 0, 1) := dk_42 (dk_at dksX3_betterBy_1 7 rfl rfl)
theorem dX3_betterBy_32 : decode cX3_betterBy 32 = .ok (.invokevirtual 241, 3) := dk_182 0 241 (dk_at dksX3_betterBy_1 8 rfl rfl)
theorem dX3_betterBy_35 : decode cX3_betterBy 35 = .ok (.aload_n 0, 1) := dk_42 (dk_at dksX3_betterBy_1 11 rfl rfl)
theorem dX3_betterBy_36 : decode cX3_betterBy 36 = .ok (.getfield 220, 3) := dk_180 0 220 (dk_at dksX3_betterBy_1 12 rfl rfl)
theorem dX3_betterBy_39 : decode cX3_betterBy 39 = .ok (.iload 4, 2) := dk_21 4 (dk_at dksX3_betterBy_1 15 rfl rfl)
theorem dX3_betterBy_41 : decode cX3_betterBy 41 = .ok (.if_icmp .le 8, 3) := dk_164 0 8 (dk_at dksX3_betterBy_1 17 rfl rfl)
theorem dX3_betterBy_44 : decode cX3_betterBy 44 = .ok (.iload 5, 2) := dk_21 5 (dk_at dksX3_betterBy_1 20 rfl rfl)
theorem dX3_betterBy_46 : decode cX3_betterBy 46 = .ok (.goto 4, 3) := dk_167 0 4 (dk_at dksX3_betterBy_2 0 rfl rfl)
theorem dX3_betterBy_49 : decode cX3_betterBy 49 = .ok (.iload_n 3, 1) := dk_29 (dk_at dksX3_betterBy_2 3 rfl rfl)
theorem dX3_betterBy_50 : decode cX3_betterBy 50 = .ok (.istore_n 3, 1) := dk_62 (dk_at dksX3_betterBy_2 4 rfl rfl)
theorem dX3_betterBy_51 : decode cX3_betterBy 51 = .ok (.aload_n 0, 1) := dk_42 (dk_at dksX3_betterBy_2 5 rfl rfl)
theorem dX3_betterBy_52 : decode cX3_betterBy 52 = .ok (.getfield 220, 3) := dk_180 0 220 (dk_at dksX3_betterBy_2 6 rfl rfl)
theorem dX3_betterBy_55 : decode cX3_betterBy 55 = .ok (.iload 4, 2) := dk_21 4 (dk_at dksX3_betterBy_2 9 rfl rfl)
theorem dX3_betterBy_57 : decode cX3_betterBy 57 = .ok (.invokestatic 140, 3) := dk_184 0 140 (dk_at dksX3_betterBy_2 11 rfl rfl)
theorem dX3_betterBy_60 : decode cX3_betterBy 60 = .ok (.istore 4, 2) := dk_54 4 (dk_at dksX3_betterBy_2 14 rfl rfl)
theorem dX3_betterBy_62 : decode cX3_betterBy 62 = .ok (.iinc 5 50, 3) := dk_132 5 50 (dk_at dksX3_betterBy_2 16 rfl rfl)
theorem dX3_betterBy_65 : decode cX3_betterBy 65 = .ok (.goto (-50), 3) := dk_167 255 206 (dk_at dksX3_betterBy_2 19 rfl rfl)
theorem dX3_betterBy_68 : decode cX3_betterBy 68 = .ok (.aload_n 0, 1) := dk_42 (dk_at dksX3_betterBy_2 22 rfl rfl)
theorem dX3_betterBy_69 : decode cX3_betterBy 69 = .ok (.getfield 28, 3) := dk_180 0 28 (dk_at dksX3_betterBy_3 0 rfl rfl)
theorem dX3_betterBy_72 : decode cX3_betterBy 72 = .ok (.iconst 1, 1) := dk_4 (dk_at dksX3_betterBy_3 3 rfl rfl)
theorem dX3_betterBy_73 : decode cX3_betterBy 73 = .ok (.iload_n 2, 1) := dk_28 (dk_at dksX3_betterBy_3 4 rfl rfl)
theorem dX3_betterBy_74 : decode cX3_betterBy 74 = .ok (.iastore, 1) := dk_79 (dk_at dksX3_betterBy_3 5 rfl rfl)
theorem dX3_betterBy_75 : decode cX3_betterBy 75 = .ok (.aload_n 0, 1) := dk_42 (dk_at dksX3_betterBy_3 6 rfl rfl)
theorem dX3_betterBy_76 : decode cX3_betterBy 76 = .ok (.invokevirtual 241, 3) := dk_182 0 241 (dk_at dksX3_betterBy_3 7 rfl rfl)
theorem dX3_betterBy_79 : decode cX3_betterBy 79 = .ok (.iload_n 1, 1) := dk_27 (dk_at dksX3_betterBy_3 10 rfl rfl)
theorem dX3_betterBy_80 : decode cX3_betterBy 80 = .ok (.ifCond .ne 7, 3) := dk_154 0 7 (dk_at dksX3_betterBy_3 11 rfl rfl)
theorem dX3_betterBy_83 : decode cX3_betterBy 83 = .ok (.iload_n 3, 1) := dk_29 (dk_at dksX3_betterBy_3 14 rfl rfl)
theorem dX3_betterBy_84 : decode cX3_betterBy 84 = .ok (.goto 5, 3) := dk_167 0 5 (dk_at dksX3_betterBy_3 15 rfl rfl)
theorem dX3_betterBy_87 : decode cX3_betterBy 87 = .ok (.iload 4, 2) := dk_21 4 (dk_at dksX3_betterBy_3 18 rfl rfl)
theorem dX3_betterBy_89 : decode cX3_betterBy 89 = .ok (.ireturn, 1) := dk_172 (dk_at dksX3_betterBy_3 20 rfl rfl)
abbrev cX3_spare : ByteArray := prog_11_method_69_code
def yX3_spare : MethodName := ⟨RX3, "spare", "(I)I"⟩
def dkwX3_spare_0 : List UInt8 := [27, 184, 0, 108, 153, 0, 11, 42, 27, 182, 1, 7, 167, 0, 5, 16, 254, 172]
abbrev dktX3_spare_0 : List UInt8 := dkwX3_spare_0 ++ []
theorem dksX3_spare_0 : cX3_spare.data.toList.drop 0 = dktX3_spare_0 := by decide +kernel
theorem dX3_spare_0 : decode cX3_spare 0 = .ok (.iload_n 1, 1) := dk_27 (dk_at dksX3_spare_0 0 rfl rfl)
theorem dX3_spare_1 : decode cX3_spare 1 = .ok (.invokestatic 108, 3) := dk_184 0 108 (dk_at dksX3_spare_0 1 rfl rfl)
theorem dX3_spare_4 : decode cX3_spare 4 = .ok (.ifCond .eq 11, 3) := dk_153 0 11 (dk_at dksX3_spare_0 4 rfl rfl)
theorem dX3_spare_7 : decode cX3_spare 7 = .ok (.aload_n 0, 1) := dk_42 (dk_at dksX3_spare_0 7 rfl rfl)
theorem dX3_spare_8 : decode cX3_spare 8 = .ok (.iload_n 1, 1) := dk_27 (dk_at dksX3_spare_0 8 rfl rfl)
theorem dX3_spare_9 : decode cX3_spare 9 = .ok (.invokevirtual 263, 3) := dk_182 1 7 (dk_at dksX3_spare_0 9 rfl rfl)
theorem dX3_spare_12 : decode cX3_spare 12 = .ok (.goto 5, 3) := dk_167 0 5 (dk_at dksX3_spare_0 12 rfl rfl)
theorem dX3_spare_15 : decode cX3_spare 15 = .ok (.bipush (-2), 2) := dk_16 254 (dk_at dksX3_spare_0 15 rfl rfl)
theorem dX3_spare_17 : decode cX3_spare 17 = .ok (.ireturn, 1) := dk_172 (dk_at dksX3_spare_0 17 rfl rfl)
abbrev cX3_spareBy : ByteArray := prog_11_method_68_code
def yX3_spareBy : MethodName := ⟨RX3, "spareBy", "(I)I"⟩
def dkwX3_spareBy_3 : List UInt8 := [167, 0, 4, 29, 172]
abbrev dktX3_spareBy_3 : List UInt8 := dkwX3_spareBy_3 ++ []
def dkwX3_spareBy_2 : List UInt8 := [184, 0, 140, 62, 132, 4, 1, 167, 255, 208, 42, 2, 181, 0, 31, 42, 182, 0, 241, 27, 154, 0, 7, 28]
abbrev dktX3_spareBy_2 : List UInt8 := dkwX3_spareBy_2 ++ dktX3_spareBy_3
def dkwX3_spareBy_1 : List UInt8 := [42, 182, 0, 241, 42, 180, 0, 220, 29, 164, 0, 8, 21, 4, 167, 0, 4, 28, 61, 42, 180, 0, 220, 29]
abbrev dktX3_spareBy_1 : List UInt8 := dkwX3_spareBy_1 ++ dktX3_spareBy_2
def dkwX3_spareBy_0 : List UInt8 := [2, 61, 2, 62, 3, 54, 4, 21, 4, 42, 180, 0, 25, 4, 46, 162, 0, 43, 42, 21, 4, 181, 0, 31]
abbrev dktX3_spareBy_0 : List UInt8 := dkwX3_spareBy_0 ++ dktX3_spareBy_1
theorem dksX3_spareBy_0 : cX3_spareBy.data.toList.drop 0 = dktX3_spareBy_0 := by decide +kernel
theorem dksX3_spareBy_1 : cX3_spareBy.data.toList.drop 24 = dktX3_spareBy_1 := dk_seg dksX3_spareBy_0 24 rfl rfl
theorem dksX3_spareBy_2 : cX3_spareBy.data.toList.drop 48 = dktX3_spareBy_2 := dk_seg dksX3_spareBy_1 24 rfl rfl
theorem dksX3_spareBy_3 : cX3_spareBy.data.toList.drop 72 = dktX3_spareBy_3 := dk_seg dksX3_spareBy_2 24 rfl rfl
theorem dX3_spareBy_0 : decode cX3_spareBy 0 = .ok (.iconst (-1), 1) := dk_2 (dk_at dksX3_spareBy_0 0 rfl rfl)
theorem dX3_spareBy_1 : decode cX3_spareBy 1 = .ok (.istore_n 2, 1) := dk_61 (dk_at dksX3_spareBy_0 1 rfl rfl)
theorem dX3_spareBy_2 : decode cX3_spareBy 2 = .ok (.iconst (-1), 1) := dk_2 (dk_at dksX3_spareBy_0 2 rfl rfl)
theorem dX3_spareBy_3 : decode cX3_spareBy 3 = .ok (.istore_n 3, 1) := dk_62 (dk_at dksX3_spareBy_0 3 rfl rfl)
theorem dX3_spareBy_4 : decode cX3_spareBy 4 = .ok (.iconst 0, 1) := dk_3 (dk_at dksX3_spareBy_0 4 rfl rfl)
theorem dX3_spareBy_5 : decode cX3_spareBy 5 = .ok (.istore 4, 2) := dk_54 4 (dk_at dksX3_spareBy_0 5 rfl rfl)
theorem dX3_spareBy_7 : decode cX3_spareBy 7 = .ok (.iload 4, 2) := dk_21 4 (dk_at dksX3_spareBy_0 7 rfl rfl)
theorem dX3_spareBy_9 : decode cX3_spareBy 9 = .ok (.aload_n 0, 1) := dk_42 (dk_at dksX3_spareBy_0 9 rfl rfl)
theorem dX3_spareBy_10 : decode cX3_spareBy 10 = .ok (.getfield 25, 3) := dk_180 0 25 (dk_at dksX3_spareBy_0 10 rfl rfl)
theorem dX3_spareBy_13 : decode cX3_spareBy 13 = .ok (.iconst 1, 1) := dk_4 (dk_at dksX3_spareBy_0 13 rfl rfl)
theorem dX3_spareBy_14 : decode cX3_spareBy 14 = .ok (.iaload, 1) := dk_46 (dk_at dksX3_spareBy_0 14 rfl rfl)
theorem dX3_spareBy_15 : decode cX3_spareBy 15 = .ok (.if_icmp .ge 43, 3) := dk_162 0 43 (dk_at dksX3_spareBy_0 15 rfl rfl)
theorem dX3_spareBy_18 : decode cX3_spareBy 18 = .ok (.aload_n 0, 1) := dk_42 (dk_at dksX3_spareBy_0 18 rfl rfl)
theorem dX3_spareBy_19 : decode cX3_spareBy 19 = .ok (.iload 4, 2) := dk_21 4 (dk_at dksX3_spareBy_0 19 rfl rfl)
theorem dX3_spareBy_21 : decode cX3_spareBy 21 = .ok (.putfield 31, 3) := dk_181 0 31 (dk_at dksX3_spareBy_0 21 rfl rfl)
theorem dX3_spareBy_24 : decode cX3_spareBy 24 = .ok (.aload_n 0, 1) := dk_42 (dk_at dksX3_spareBy_1 0 rfl rfl)
theorem dX3_spareBy_25 : decode cX3_spareBy 25 = .ok (.invokevirtual 241, 3) := dk_182 0 241 (dk_at dksX3_spareBy_1 1 rfl rfl)
theorem dX3_spareBy_28 : decode cX3_spareBy 28 = .ok (.aload_n 0, 1) := dk_42 (dk_at dksX3_spareBy_1 4 rfl rfl)
theorem dX3_spareBy_29 : decode cX3_spareBy 29 = .ok (.getfield 220, 3) := dk_180 0 220 (dk_at dksX3_spareBy_1 5 rfl rfl)
theorem dX3_spareBy_32 : decode cX3_spareBy 32 = .ok (.iload_n 3, 1) := dk_29 (dk_at dksX3_spareBy_1 8 rfl rfl)
theorem dX3_spareBy_33 : decode cX3_spareBy 33 = .ok (.if_icmp .le 8, 3) := dk_164 0 8 (dk_at dksX3_spareBy_1 9 rfl rfl)
theorem dX3_spareBy_36 : decode cX3_spareBy 36 = .ok (.iload 4, 2) := dk_21 4 (dk_at dksX3_spareBy_1 12 rfl rfl)
theorem dX3_spareBy_38 : decode cX3_spareBy 38 = .ok (.goto 4, 3) := dk_167 0 4 (dk_at dksX3_spareBy_1 14 rfl rfl)
theorem dX3_spareBy_41 : decode cX3_spareBy 41 = .ok (.iload_n 2, 1) := dk_28 (dk_at dksX3_spareBy_1 17 rfl rfl)
theorem dX3_spareBy_42 : decode cX3_spareBy 42 = .ok (.istore_n 2, 1) := dk_61 (dk_at dksX3_spareBy_1 18 rfl rfl)
theorem dX3_spareBy_43 : decode cX3_spareBy 43 = .ok (.aload_n 0, 1) := dk_42 (dk_at dksX3_spareBy_1 19 rfl rfl)
theorem dX3_spareBy_44 : decode cX3_spareBy 44 = .ok (.getfield 220, 3) := dk_180 0 220 (dk_at dksX3_spareBy_1 20 rfl rfl)
theorem dX3_spareBy_47 : decode cX3_spareBy 47 = .ok (.iload_n 3, 1) := dk_29 (dk_at dksX3_spareBy_1 23 rfl rfl)
theorem dX3_spareBy_48 : decode cX3_spareBy 48 = .ok (.invokestatic 140, 3) := dk_184 0 140 (dk_at dksX3_spareBy_2 0 rfl rfl)
theorem dX3_spareBy_51 : decode cX3_spareBy 51 = .ok (.istore_n 3, 1) := dk_62 (dk_at dksX3_spareBy_2 3 rfl rfl)
theorem dX3_spareBy_52 : decode cX3_spareBy 52 = .ok (.iinc 4 1, 3) := dk_132 4 1 (dk_at dksX3_spareBy_2 4 rfl rfl)
theorem dX3_spareBy_55 : decode cX3_spareBy 55 = .ok (.goto (-48), 3) := dk_167 255 208 (dk_at dksX3_spareBy_2 7 rfl rfl)
theorem dX3_spareBy_58 : decode cX3_spareBy 58 = .ok (.aload_n 0, 1) := dk_42 (dk_at dksX3_spareBy_2 10 rfl rfl)
theorem dX3_spareBy_59 : decode cX3_spareBy 59 = .ok (.iconst (-1), 1) := dk_2 (dk_at dksX3_spareBy_2 11 rfl rfl)
theorem dX3_spareBy_60 : decode cX3_spareBy 60 = .ok (.putfield 31, 3) := dk_181 0 31 (dk_at dksX3_spareBy_2 12 rfl rfl)
theorem dX3_spareBy_63 : decode cX3_spareBy 63 = .ok (.aload_n 0, 1) := dk_42 (dk_at dksX3_spareBy_2 15 rfl rfl)
theorem dX3_spareBy_64 : decode cX3_spareBy 64 = .ok (.invokevirtual 241, 3) := dk_182 0 241 (dk_at dksX3_spareBy_2 16 rfl rfl)
theorem dX3_spareBy_67 : decode cX3_spareBy 67 = .ok (.iload_n 1, 1) := dk_27 (dk_at dksX3_spareBy_2 19 rfl rfl)
theorem dX3_spareBy_68 : decode cX3_spareBy 68 = .ok (.ifCond .ne 7, 3) := dk_154 0 7 (dk_at dksX3_spareBy_2 20 rfl rfl)
theorem dX3_spareBy_71 : decode cX3_spareBy 71 = .ok (.iload_n 2, 1) := dk_28 (dk_at dksX3_spareBy_2 23 rfl rfl)
theorem dX3_spareBy_72 : decode cX3_spareBy 72 = .ok (.goto 4, 3) := dk_167 0 4 (dk_at dksX3_spareBy_3 0 rfl rfl)
theorem dX3_spareBy_75 : decode cX3_spareBy 75 = .ok (.iload_n 3, 1) := dk_29 (dk_at dksX3_spareBy_3 3 rfl rfl)
theorem dX3_spareBy_76 : decode cX3_spareBy 76 = .ok (.ireturn, 1) := dk_172 (dk_at dksX3_spareBy_3 4 rfl rfl)
abbrev cX3_put : ByteArray := prog_11_method_71_code
def yX3_put : MethodName := ⟨RX3, "put", "(III)I"⟩
def dkwX3_put_5 : List UInt8 := [180, 0, 70, 27, 92, 46, 4, 96, 79, 42, 180, 0, 70, 27, 46, 172]
abbrev dktX3_put_5 : List UInt8 := dkwX3_put_5 ++ []
def dkwX3_put_4 : List UInt8 := [21, 4, 4, 96, 21, 5, 96, 42, 28, 29, 21, 5, 182, 0, 126, 79, 132, 5, 1, 167, 255, 227, 42]
abbrev dktX3_put_4 : List UInt8 := dkwX3_put_4 ++ dktX3_put_5
def dkwX3_put_3 : List UInt8 := [54, 4, 42, 180, 0, 67, 21, 4, 28, 79, 3, 54, 5, 21, 5, 6, 162, 0, 29, 42, 180, 0, 67]
abbrev dktX3_put_3 : List UInt8 := dkwX3_put_3 ++ dktX3_put_4
def dkwX3_put_2 : List UInt8 := [46, 28, 159, 0, 9, 42, 7, 182, 0, 91, 172, 16, 32, 27, 104, 7, 42, 180, 0, 70, 27, 46, 104, 96]
abbrev dktX3_put_2 : List UInt8 := dkwX3_put_2 ++ dktX3_put_3
def dkwX3_put_1 : List UInt8 := [46, 16, 8, 160, 0, 6, 16, 252, 172, 42, 180, 0, 73, 27, 46, 5, 162, 0, 19, 42, 180, 0, 73, 27]
abbrev dktX3_put_1 : List UInt8 := dkwX3_put_1 ++ dktX3_put_2
def dkwX3_put_0 : List UInt8 := [27, 184, 1, 10, 153, 0, 12, 42, 28, 29, 182, 0, 122, 154, 0, 6, 16, 254, 172, 42, 180, 0, 70, 27]
abbrev dktX3_put_0 : List UInt8 := dkwX3_put_0 ++ dktX3_put_1
theorem dksX3_put_0 : cX3_put.data.toList.drop 0 = dktX3_put_0 := by decide +kernel
theorem dksX3_put_1 : cX3_put.data.toList.drop 24 = dktX3_put_1 := dk_seg dksX3_put_0 24 rfl rfl
theorem dksX3_put_2 : cX3_put.data.toList.drop 48 = dktX3_put_2 := dk_seg dksX3_put_1 24 rfl rfl
theorem dksX3_put_3 : cX3_put.data.toList.drop 72 = dktX3_put_3 := dk_seg dksX3_put_2 24 rfl rfl
theorem dksX3_put_4 : cX3_put.data.toList.drop 95 = dktX3_put_4 := dk_seg dksX3_put_3 23 rfl rfl
theorem dksX3_put_5 : cX3_put.data.toList.drop 118 = dktX3_put_5 := dk_seg dksX3_put_4 23 rfl rfl
theorem dX3_put_0 : decode cX3_put 0 = .ok (.iload_n 1, 1) := dk_27 (dk_at dksX3_put_0 0 rfl rfl)
theorem dX3_put_1 : decode cX3_put 1 = .ok (.invokestatic 266, 3) := dk_184 1 10 (dk_at dksX3_put_0 1 rfl rfl)
theorem dX3_put_4 : decode cX3_put 4 = .ok (.ifCond .eq 12, 3) := dk_153 0 12 (dk_at dksX3_put_0 4 rfl rfl)
theorem dX3_put_7 : decode cX3_put 7 = .ok (.aload_n 0, 1) := dk_42 (dk_at dksX3_put_0 7 rfl rfl)
theorem dX3_put_8 : decode cX3_put 8 = .ok (.iload_n 2, 1) := dk_28 (dk_at dksX3_put_0 8 rfl rfl)
theorem dX3_put_9 : decode cX3_put 9 = .ok (.iload_n 3, 1) := dk_29 (dk_at dksX3_put_0 9 rfl rfl)
theorem dX3_put_10 : decode cX3_put 10 = .ok (.invokevirtual 122, 3) := dk_182 0 122 (dk_at dksX3_put_0 10 rfl rfl)
theorem dX3_put_13 : decode cX3_put 13 = .ok (.ifCond .ne 6, 3) := dk_154 0 6 (dk_at dksX3_put_0 13 rfl rfl)
theorem dX3_put_16 : decode cX3_put 16 = .ok (.bipush (-2), 2) := dk_16 254 (dk_at dksX3_put_0 16 rfl rfl)
theorem dX3_put_18 : decode cX3_put 18 = .ok (.ireturn, 1) := dk_172 (dk_at dksX3_put_0 18 rfl rfl)
theorem dX3_put_19 : decode cX3_put 19 = .ok (.aload_n 0, 1) := dk_42 (dk_at dksX3_put_0 19 rfl rfl)
theorem dX3_put_20 : decode cX3_put 20 = .ok (.getfield 70, 3) := dk_180 0 70 (dk_at dksX3_put_0 20 rfl rfl)
theorem dX3_put_23 : decode cX3_put 23 = .ok (.iload_n 1, 1) := dk_27 (dk_at dksX3_put_0 23 rfl rfl)
theorem dX3_put_24 : decode cX3_put 24 = .ok (.iaload, 1) := dk_46 (dk_at dksX3_put_1 0 rfl rfl)
theorem dX3_put_25 : decode cX3_put 25 = .ok (.bipush 8, 2) := dk_16 8 (dk_at dksX3_put_1 1 rfl rfl)
theorem dX3_put_27 : decode cX3_put 27 = .ok (.if_icmp .ne 6, 3) := dk_160 0 6 (dk_at dksX3_put_1 3 rfl rfl)
theorem dX3_put_30 : decode cX3_put 30 = .ok (.bipush (-4), 2) := dk_16 252 (dk_at dksX3_put_1 6 rfl rfl)
theorem dX3_put_32 : decode cX3_put 32 = .ok (.ireturn, 1) := dk_172 (dk_at dksX3_put_1 8 rfl rfl)
theorem dX3_put_33 : decode cX3_put 33 = .ok (.aload_n 0, 1) := dk_42 (dk_at dksX3_put_1 9 rfl rfl)
theorem dX3_put_34 : decode cX3_put 34 = .ok (.getfield 73, 3) := dk_180 0 73 (dk_at dksX3_put_1 10 rfl rfl)
theorem dX3_put_37 : decode cX3_put 37 = .ok (.iload_n 1, 1) := dk_27 (dk_at dksX3_put_1 13 rfl rfl)
theorem dX3_put_38 : decode cX3_put 38 = .ok (.iaload, 1) := dk_46 (dk_at dksX3_put_1 14 rfl rfl)
theorem dX3_put_39 : decode cX3_put 39 = .ok (.iconst 2, 1) := dk_5 (dk_at dksX3_put_1 15 rfl rfl)
theorem dX3_put_40 : decode cX3_put 40 = .ok (.if_icmp .ge 19, 3) := dk_162 0 19 (dk_at dksX3_put_1 16 rfl rfl)
theorem dX3_put_43 : decode cX3_put 43 = .ok (.aload_n 0, 1) := dk_42 (dk_at dksX3_put_1 19 rfl rfl)
theorem dX3_put_44 : decode cX3_put 44 = .ok (.getfield 73, 3) := dk_180 0 73 (dk_at dksX3_put_1 20 rfl rfl)
theorem dX3_put_47 : decode cX3_put 47 = .ok (.iload_n 1, 1) := dk_27 (dk_at dksX3_put_1 23 rfl rfl)
theorem dX3_put_48 : decode cX3_put 48 = .ok (.iaload, 1) := dk_46 (dk_at dksX3_put_2 0 rfl rfl)
theorem dX3_put_49 : decode cX3_put 49 = .ok (.iload_n 2, 1) := dk_28 (dk_at dksX3_put_2 1 rfl rfl)
theorem dX3_put_50 : decode cX3_put 50 = .ok (.if_icmp .eq 9, 3) := dk_159 0 9 (dk_at dksX3_put_2 2 rfl rfl)
theorem dX3_put_53 : decode cX3_put 53 = .ok (.aload_n 0, 1) := dk_42 (dk_at dksX3_put_2 5 rfl rfl)
theorem dX3_put_54 : decode cX3_put 54 = .ok (.iconst 4, 1) := dk_7 (dk_at dksX3_put_2 6 rfl rfl)
theorem dX3_put_55 : decode cX3_put 55 = .ok (.invokevirtual 91, 3) := dk_182 0 91 (dk_at dksX3_put_2 7 rfl rfl)
theorem dX3_put_58 : decode cX3_put 58 = .ok (.ireturn, 1) := dk_172 (dk_at dksX3_put_2 10 rfl rfl)
theorem dX3_put_59 : decode cX3_put 59 = .ok (.bipush 32, 2) := dk_16 32 (dk_at dksX3_put_2 11 rfl rfl)
theorem dX3_put_61 : decode cX3_put 61 = .ok (.iload_n 1, 1) := dk_27 (dk_at dksX3_put_2 13 rfl rfl)
theorem dX3_put_62 : decode cX3_put 62 = .ok (.imul, 1) := dk_104 (dk_at dksX3_put_2 14 rfl rfl)
theorem dX3_put_63 : decode cX3_put 63 = .ok (.iconst 4, 1) := dk_7 (dk_at dksX3_put_2 15 rfl rfl)
theorem dX3_put_64 : decode cX3_put 64 = .ok (.aload_n 0, 1) := dk_42 (dk_at dksX3_put_2 16 rfl rfl)
theorem dX3_put_65 : decode cX3_put 65 = .ok (.getfield 70, 3) := dk_180 0 70 (dk_at dksX3_put_2 17 rfl rfl)
theorem dX3_put_68 : decode cX3_put 68 = .ok (.iload_n 1, 1) := dk_27 (dk_at dksX3_put_2 20 rfl rfl)
theorem dX3_put_69 : decode cX3_put 69 = .ok (.iaload, 1) := dk_46 (dk_at dksX3_put_2 21 rfl rfl)
theorem dX3_put_70 : decode cX3_put 70 = .ok (.imul, 1) := dk_104 (dk_at dksX3_put_2 22 rfl rfl)
theorem dX3_put_71 : decode cX3_put 71 = .ok (.iadd, 1) := dk_96 (dk_at dksX3_put_2 23 rfl rfl)
theorem dX3_put_72 : decode cX3_put 72 = .ok (.istore 4, 2) := dk_54 4 (dk_at dksX3_put_3 0 rfl rfl)
theorem dX3_put_74 : decode cX3_put 74 = .ok (.aload_n 0, 1) := dk_42 (dk_at dksX3_put_3 2 rfl rfl)
theorem dX3_put_75 : decode cX3_put 75 = .ok (.getfield 67, 3) := dk_180 0 67 (dk_at dksX3_put_3 3 rfl rfl)
theorem dX3_put_78 : decode cX3_put 78 = .ok (.iload 4, 2) := dk_21 4 (dk_at dksX3_put_3 6 rfl rfl)
theorem dX3_put_80 : decode cX3_put 80 = .ok (.iload_n 2, 1) := dk_28 (dk_at dksX3_put_3 8 rfl rfl)
theorem dX3_put_81 : decode cX3_put 81 = .ok (.iastore, 1) := dk_79 (dk_at dksX3_put_3 9 rfl rfl)
theorem dX3_put_82 : decode cX3_put 82 = .ok (.iconst 0, 1) := dk_3 (dk_at dksX3_put_3 10 rfl rfl)
theorem dX3_put_83 : decode cX3_put 83 = .ok (.istore 5, 2) := dk_54 5 (dk_at dksX3_put_3 11 rfl rfl)
theorem dX3_put_85 : decode cX3_put 85 = .ok (.iload 5, 2) := dk_21 5 (dk_at dksX3_put_3 13 rfl rfl)
theorem dX3_put_87 : decode cX3_put 87 = .ok (.iconst 3, 1) := dk_6 (dk_at dksX3_put_3 15 rfl rfl)
theorem dX3_put_88 : decode cX3_put 88 = .ok (.if_icmp .ge 29, 3) := dk_162 0 29 (dk_at dksX3_put_3 16 rfl rfl)
theorem dX3_put_91 : decode cX3_put 91 = .ok (.aload_n 0, 1) := dk_42 (dk_at dksX3_put_3 19 rfl rfl)
theorem dX3_put_92 : decode cX3_put 92 = .ok (.getfield 67, 3) := dk_180 0 67 (dk_at dksX3_put_3 20 rfl rfl)
theorem dX3_put_95 : decode cX3_put 95 = .ok (.iload 4, 2) := dk_21 4 (dk_at dksX3_put_4 0 rfl rfl)
theorem dX3_put_97 : decode cX3_put 97 = .ok (.iconst 1, 1) := dk_4 (dk_at dksX3_put_4 2 rfl rfl)
theorem dX3_put_98 : decode cX3_put 98 = .ok (.iadd, 1) := dk_96 (dk_at dksX3_put_4 3 rfl rfl)
theorem dX3_put_99 : decode cX3_put 99 = .ok (.iload 5, 2) := dk_21 5 (dk_at dksX3_put_4 4 rfl rfl)
theorem dX3_put_101 : decode cX3_put 101 = .ok (.iadd, 1) := dk_96 (dk_at dksX3_put_4 6 rfl rfl)
theorem dX3_put_102 : decode cX3_put 102 = .ok (.aload_n 0, 1) := dk_42 (dk_at dksX3_put_4 7 rfl rfl)
theorem dX3_put_103 : decode cX3_put 103 = .ok (.iload_n 2, 1) := dk_28 (dk_at dksX3_put_4 8 rfl rfl)
theorem dX3_put_104 : decode cX3_put 104 = .ok (.iload_n 3, 1) := dk_29 (dk_at dksX3_put_4 9 rfl rfl)
theorem dX3_put_105 : decode cX3_put 105 = .ok (.iload 5, 2) := dk_21 5 (dk_at dksX3_put_4 10 rfl rfl)
theorem dX3_put_107 : decode cX3_put 107 = .ok (.invokevirtual 126, 3) := dk_182 0 126 (dk_at dksX3_put_4 12 rfl rfl)
theorem dX3_put_110 : decode cX3_put 110 = .ok (.iastore, 1) := dk_79 (dk_at dksX3_put_4 15 rfl rfl)
theorem dX3_put_111 : decode cX3_put 111 = .ok (.iinc 5 1, 3) := dk_132 5 1 (dk_at dksX3_put_4 16 rfl rfl)
theorem dX3_put_114 : decode cX3_put 114 = .ok (.goto (-29), 3) := dk_167 255 227 (dk_at dksX3_put_4 19 rfl rfl)
theorem dX3_put_117 : decode cX3_put 117 = .ok (.aload_n 0, 1) := dk_42 (dk_at dksX3_put_4 22 rfl rfl)
theorem dX3_put_118 : decode cX3_put 118 = .ok (.getfield 70, 3) := dk_180 0 70 (dk_at dksX3_put_5 0 rfl rfl)
theorem dX3_put_121 : decode cX3_put 121 = .ok (.iload_n 1, 1) := dk_27 (dk_at dksX3_put_5 3 rfl rfl)
theorem dX3_put_122 : decode cX3_put 122 = .ok (.dup2, 1) := dk_92 (dk_at dksX3_put_5 4 rfl rfl)
theorem dX3_put_123 : decode cX3_put 123 = .ok (.iaload, 1) := dk_46 (dk_at dksX3_put_5 5 rfl rfl)
theorem dX3_put_124 : decode cX3_put 124 = .ok (.iconst 1, 1) := dk_4 (dk_at dksX3_put_5 6 rfl rfl)
theorem dX3_put_125 : decode cX3_put 125 = .ok (.iadd, 1) := dk_96 (dk_at dksX3_put_5 7 rfl rfl)
theorem dX3_put_126 : decode cX3_put 126 = .ok (.iastore, 1) := dk_79 (dk_at dksX3_put_5 8 rfl rfl)
theorem dX3_put_127 : decode cX3_put 127 = .ok (.aload_n 0, 1) := dk_42 (dk_at dksX3_put_5 9 rfl rfl)
theorem dX3_put_128 : decode cX3_put 128 = .ok (.getfield 70, 3) := dk_180 0 70 (dk_at dksX3_put_5 10 rfl rfl)
theorem dX3_put_131 : decode cX3_put 131 = .ok (.iload_n 1, 1) := dk_27 (dk_at dksX3_put_5 13 rfl rfl)
theorem dX3_put_132 : decode cX3_put 132 = .ok (.iaload, 1) := dk_46 (dk_at dksX3_put_5 14 rfl rfl)
theorem dX3_put_133 : decode cX3_put 133 = .ok (.ireturn, 1) := dk_172 (dk_at dksX3_put_5 15 rfl rfl)
abbrev cX3_isTray : ByteArray := prog_11_method_70_code
def yX3_isTray : MethodName := ⟨RX3, "isTray", "(I)Z"⟩
def dkwX3_isTray_0 : List UInt8 := [26, 133, 9, 20, 0, 83, 184, 0, 76, 172]
abbrev dktX3_isTray_0 : List UInt8 := dkwX3_isTray_0 ++ []
theorem dksX3_isTray_0 : cX3_isTray.data.toList.drop 0 = dktX3_isTray_0 := by decide +kernel
theorem dX3_isTray_0 : decode cX3_isTray 0 = .ok (.iload_n 0, 1) := dk_26 (dk_at dksX3_isTray_0 0 rfl rfl)
theorem dX3_isTray_1 : decode cX3_isTray 1 = .ok (.i2l, 1) := dk_133 (dk_at dksX3_isTray_0 1 rfl rfl)
theorem dX3_isTray_2 : decode cX3_isTray 2 = .ok (.lconst 0, 1) := dk_9 (dk_at dksX3_isTray_0 2 rfl rfl)
theorem dX3_isTray_3 : decode cX3_isTray 3 = .ok (.ldc2_w 83, 3) := dk_20 0 83 (dk_at dksX3_isTray_0 3 rfl rfl)
theorem dX3_isTray_6 : decode cX3_isTray 6 = .ok (.invokestatic 76, 3) := dk_184 0 76 (dk_at dksX3_isTray_0 6 rfl rfl)
theorem dX3_isTray_9 : decode cX3_isTray 9 = .ok (.ireturn, 1) := dk_172 (dk_at dksX3_isTray_0 9 rfl rfl)
abbrev cX3_fork : ByteArray := prog_11_method_72_code
def yX3_fork : MethodName := ⟨RX3, "fork", "(II)I"⟩
def dkwX3_fork_3 : List UInt8 := [42, 180, 0, 73, 27, 46, 79, 42, 180, 0, 70, 28, 46, 172]
abbrev dktX3_fork_3 : List UInt8 := dkwX3_fork_3 ++ []
def dkwX3_fork_2 : List UInt8 := [79, 132, 3, 1, 167, 255, 225, 42, 180, 0, 70, 28, 42, 180, 0, 70, 27, 46, 79, 42, 180, 0, 73, 28]
abbrev dktX3_fork_2 : List UInt8 := dkwX3_fork_2 ++ dktX3_fork_3
def dkwX3_fork_1 : List UInt8 := [162, 0, 31, 42, 180, 0, 67, 16, 32, 28, 104, 29, 96, 42, 180, 0, 67, 16, 32, 27, 104, 29, 96, 46]
abbrev dktX3_fork_1 : List UInt8 := dkwX3_fork_1 ++ dktX3_fork_2
def dkwX3_fork_0 : List UInt8 := [27, 184, 1, 10, 153, 0, 10, 28, 184, 1, 10, 154, 0, 6, 16, 254, 172, 3, 62, 29, 16, 32]
abbrev dktX3_fork_0 : List UInt8 := dkwX3_fork_0 ++ dktX3_fork_1
theorem dksX3_fork_0 : cX3_fork.data.toList.drop 0 = dktX3_fork_0 := by decide +kernel
theorem dksX3_fork_1 : cX3_fork.data.toList.drop 22 = dktX3_fork_1 := dk_seg dksX3_fork_0 22 rfl rfl
theorem dksX3_fork_2 : cX3_fork.data.toList.drop 46 = dktX3_fork_2 := dk_seg dksX3_fork_1 24 rfl rfl
theorem dksX3_fork_3 : cX3_fork.data.toList.drop 70 = dktX3_fork_3 := dk_seg dksX3_fork_2 24 rfl rfl
theorem dX3_fork_0 : decode cX3_fork 0 = .ok (.iload_n 1, 1) := dk_27 (dk_at dksX3_fork_0 0 rfl rfl)
theorem dX3_fork_1 : decode cX3_fork 1 = .ok (.invokestatic 266, 3) := dk_184 1 10 (dk_at dksX3_fork_0 1 rfl rfl)
theorem dX3_fork_4 : decode cX3_fork 4 = .ok (.ifCond .eq 10, 3) := dk_153 0 10 (dk_at dksX3_fork_0 4 rfl rfl)
theorem dX3_fork_7 : decode cX3_fork 7 = .ok (.iload_n 2, 1) := dk_28 (dk_at dksX3_fork_0 7 rfl rfl)
theorem dX3_fork_8 : decode cX3_fork 8 = .ok (.invokestatic 266, 3) := dk_184 1 10 (dk_at dksX3_fork_0 8 rfl rfl)
theorem dX3_fork_11 : decode cX3_fork 11 = .ok (.ifCond .ne 6, 3) := dk_154 0 6 (dk_at dksX3_fork_0 11 rfl rfl)
theorem dX3_fork_14 : decode cX3_fork 14 = .ok (.bipush (-2), 2) := dk_16 254 (dk_at dksX3_fork_0 14 rfl rfl)
theorem dX3_fork_16 : decode cX3_fork 16 = .ok (.ireturn, 1) := dk_172 (dk_at dksX3_fork_0 16 rfl rfl)
theorem dX3_fork_17 : decode cX3_fork 17 = .ok (.iconst 0, 1) := dk_3 (dk_at dksX3_fork_0 17 rfl rfl)
theorem dX3_fork_18 : decode cX3_fork 18 = .ok (.istore_n 3, 1) := dk_62 (dk_at dksX3_fork_0 18 rfl rfl)
theorem dX3_fork_19 : decode cX3_fork 19 = .ok (.iload_n 3, 1) := dk_29 (dk_at dksX3_fork_0 19 rfl rfl)
theorem dX3_fork_20 : decode cX3_fork 20 = .ok (.bipush 32, 2) := dk_16 32 (dk_at dksX3_fork_0 20 rfl rfl)
theorem dX3_fork_22 : decode cX3_fork 22 = .ok (.if_icmp .ge 31, 3) := dk_162 0 31 (dk_at dksX3_fork_1 0 rfl rfl)
theorem dX3_fork_25 : decode cX3_fork 25 = .ok (.aload_n 0, 1) := dk_42 (dk_at dksX3_fork_1 3 rfl rfl)
theorem dX3_fork_26 : decode cX3_fork 26 = .ok (.getfield 67, 3) := dk_180 0 67 (dk_at dksX3_fork_1 4 rfl rfl)
theorem dX3_fork_29 : decode cX3_fork 29 = .ok (.bipush 32, 2) := dk_16 32 (dk_at dksX3_fork_1 7 rfl rfl)
theorem dX3_fork_31 : decode cX3_fork 31 = .ok (.iload_n 2, 1) := dk_28 (dk_at dksX3_fork_1 9 rfl rfl)
theorem dX3_fork_32 : decode cX3_fork 32 = .ok (.imul, 1) := dk_104 (dk_at dksX3_fork_1 10 rfl rfl)
theorem dX3_fork_33 : decode cX3_fork 33 = .ok (.iload_n 3, 1) := dk_29 (dk_at dksX3_fork_1 11 rfl rfl)
theorem dX3_fork_34 : decode cX3_fork 34 = .ok (.iadd, 1) := dk_96 (dk_at dksX3_fork_1 12 rfl rfl)
theorem dX3_fork_35 : decode cX3_fork 35 = .ok (.aload_n 0, 1) := dk_42 (dk_at dksX3_fork_1 13 rfl rfl)
theorem dX3_fork_36 : decode cX3_fork 36 = .ok (.getfield 67, 3) := dk_180 0 67 (dk_at dksX3_fork_1 14 rfl rfl)
theorem dX3_fork_39 : decode cX3_fork 39 = .ok (.bipush 32, 2) := dk_16 32 (dk_at dksX3_fork_1 17 rfl rfl)
theorem dX3_fork_41 : decode cX3_fork 41 = .ok (.iload_n 1, 1) := dk_27 (dk_at dksX3_fork_1 19 rfl rfl)
theorem dX3_fork_42 : decode cX3_fork 42 = .ok (.imul, 1) := dk_104 (dk_at dksX3_fork_1 20 rfl rfl)
theorem dX3_fork_43 : decode cX3_fork 43 = .ok (.iload_n 3, 1) := dk_29 (dk_at dksX3_fork_1 21 rfl rfl)
theorem dX3_fork_44 : decode cX3_fork 44 = .ok (.iadd, 1) := dk_96 (dk_at dksX3_fork_1 22 rfl rfl)
theorem dX3_fork_45 : decode cX3_fork 45 = .ok (.iaload, 1) := dk_46 (dk_at dksX3_fork_1 23 rfl rfl)
theorem dX3_fork_46 : decode cX3_fork 46 = .ok (.iastore, 1) := dk_79 (dk_at dksX3_fork_2 0 rfl rfl)
theorem dX3_fork_47 : decode cX3_fork 47 = .ok (.iinc 3 1, 3) := dk_132 3 1 (dk_at dksX3_fork_2 1 rfl rfl)
theorem dX3_fork_50 : decode cX3_fork 50 = .ok (.goto (-31), 3) := dk_167 255 225 (dk_at dksX3_fork_2 4 rfl rfl)
theorem dX3_fork_53 : decode cX3_fork 53 = .ok (.aload_n 0, 1) := dk_42 (dk_at dksX3_fork_2 7 rfl rfl)
theorem dX3_fork_54 : decode cX3_fork 54 = .ok (.getfield 70, 3) := dk_180 0 70 (dk_at dksX3_fork_2 8 rfl rfl)
theorem dX3_fork_57 : decode cX3_fork 57 = .ok (.iload_n 2, 1) := dk_28 (dk_at dksX3_fork_2 11 rfl rfl)
theorem dX3_fork_58 : decode cX3_fork 58 = .ok (.aload_n 0, 1) := dk_42 (dk_at dksX3_fork_2 12 rfl rfl)
theorem dX3_fork_59 : decode cX3_fork 59 = .ok (.getfield 70, 3) := dk_180 0 70 (dk_at dksX3_fork_2 13 rfl rfl)
theorem dX3_fork_62 : decode cX3_fork 62 = .ok (.iload_n 1, 1) := dk_27 (dk_at dksX3_fork_2 16 rfl rfl)
theorem dX3_fork_63 : decode cX3_fork 63 = .ok (.iaload, 1) := dk_46 (dk_at dksX3_fork_2 17 rfl rfl)
theorem dX3_fork_64 : decode cX3_fork 64 = .ok (.iastore, 1) := dk_79 (dk_at dksX3_fork_2 18 rfl rfl)
theorem dX3_fork_65 : decode cX3_fork 65 = .ok (.aload_n 0, 1) := dk_42 (dk_at dksX3_fork_2 19 rfl rfl)
theorem dX3_fork_66 : decode cX3_fork 66 = .ok (.getfield 73, 3) := dk_180 0 73 (dk_at dksX3_fork_2 20 rfl rfl)
theorem dX3_fork_69 : decode cX3_fork 69 = .ok (.iload_n 2, 1) := dk_28 (dk_at dksX3_fork_2 23 rfl rfl)
theorem dX3_fork_70 : decode cX3_fork 70 = .ok (.aload_n 0, 1) := dk_42 (dk_at dksX3_fork_3 0 rfl rfl)
theorem dX3_fork_71 : decode cX3_fork 71 = .ok (.getfield 73, 3) := dk_180 0 73 (dk_at dksX3_fork_3 1 rfl rfl)
theorem dX3_fork_74 : decode cX3_fork 74 = .ok (.iload_n 1, 1) := dk_27 (dk_at dksX3_fork_3 4 rfl rfl)
theorem dX3_fork_75 : decode cX3_fork 75 = .ok (.iaload, 1) := dk_46 (dk_at dksX3_fork_3 5 rfl rfl)
theorem dX3_fork_76 : decode cX3_fork 76 = .ok (.iastore, 1) := dk_79 (dk_at dksX3_fork_3 6 rfl rfl)
theorem dX3_fork_77 : decode cX3_fork 77 = .ok (.aload_n 0, 1) := dk_42 (dk_at dksX3_fork_3 7 rfl rfl)
theorem dX3_fork_78 : decode cX3_fork 78 = .ok (.getfield 70, 3) := dk_180 0 70 (dk_at dksX3_fork_3 8 rfl rfl)
theorem dX3_fork_81 : decode cX3_fork 81 = .ok (.iload_n 2, 1) := dk_28 (dk_at dksX3_fork_3 11 rfl rfl)
theorem dX3_fork_82 : decode cX3_fork 82 = .ok (.iaload, 1) := dk_46 (dk_at dksX3_fork_3 12 rfl rfl)
theorem dX3_fork_83 : decode cX3_fork 83 = .ok (.ireturn, 1) := dk_172 (dk_at dksX3_fork_3 13 rfl rfl)
abbrev cX3_take : ByteArray := prog_11_method_73_code
def yX3_take : MethodName := ⟨RX3, "take", "(I)I"⟩
def dkwX3_take_1 : List UInt8 := [180, 0, 70, 27, 92, 46, 4, 100, 79, 42, 180, 0, 70, 27, 46, 172]
abbrev dktX3_take_1 : List UInt8 := dkwX3_take_1 ++ []
def dkwX3_take_0 : List UInt8 := [27, 184, 1, 10, 154, 0, 6, 16, 254, 172, 42, 180, 0, 70, 27, 46, 154, 0, 6, 16, 253, 172, 42]
abbrev dktX3_take_0 : List UInt8 := dkwX3_take_0 ++ dktX3_take_1
theorem dksX3_take_0 : cX3_take.data.toList.drop 0 = dktX3_take_0 := by decide +kernel
theorem dksX3_take_1 : cX3_take.data.toList.drop 23 = dktX3_take_1 := dk_seg dksX3_take_0 23 rfl rfl
theorem dX3_take_0 : decode cX3_take 0 = .ok (.iload_n 1, 1) := dk_27 (dk_at dksX3_take_0 0 rfl rfl)
theorem dX3_take_1 : decode cX3_take 1 = .ok (.invokestatic 266, 3) := dk_184 1 10 (dk_at dksX3_take_0 1 rfl rfl)
theorem dX3_take_4 : decode cX3_take 4 = .ok (.ifCond .ne 6, 3) := dk_154 0 6 (dk_at dksX3_take_0 4 rfl rfl)
theorem dX3_take_7 : decode cX3_take 7 = .ok (.bipush (-2), 2) := dk_16 254 (dk_at dksX3_take_0 7 rfl rfl)
theorem dX3_take_9 : decode cX3_take 9 = .ok (.ireturn, 1) := dk_172 (dk_at dksX3_take_0 9 rfl rfl)
theorem dX3_take_10 : decode cX3_take 10 = .ok (.aload_n 0, 1) := dk_42 (dk_at dksX3_take_0 10 rfl rfl)
theorem dX3_take_11 : decode cX3_take 11 = .ok (.getfield 70, 3) := dk_180 0 70 (dk_at dksX3_take_0 11 rfl rfl)
theorem dX3_take_14 : decode cX3_take 14 = .ok (.iload_n 1, 1) := dk_27 (dk_at dksX3_take_0 14 rfl rfl)
theorem dX3_take_15 : decode cX3_take 15 = .ok (.iaload, 1) := dk_46 (dk_at dksX3_take_0 15 rfl rfl)
theorem dX3_take_16 : decode cX3_take 16 = .ok (.ifCond .ne 6, 3) := dk_154 0 6 (dk_at dksX3_take_0 16 rfl rfl)
theorem dX3_take_19 : decode cX3_take 19 = .ok (.bipush (-3), 2) := dk_16 253 (dk_at dksX3_take_0 19 rfl rfl)
theorem dX3_take_21 : decode cX3_take 21 = .ok (.ireturn, 1) := dk_172 (dk_at dksX3_take_0 21 rfl rfl)
theorem dX3_take_22 : decode cX3_take 22 = .ok (.aload_n 0, 1) := dk_42 (dk_at dksX3_take_0 22 rfl rfl)
theorem dX3_take_23 : decode cX3_take 23 = .ok (.getfield 70, 3) := dk_180 0 70 (dk_at dksX3_take_1 0 rfl rfl)
theorem dX3_take_26 : decode cX3_take 26 = .ok (.iload_n 1, 1) := dk_27 (dk_at dksX3_take_1 3 rfl rfl)
theorem dX3_take_27 : decode cX3_take 27 = .ok (.dup2, 1) := dk_92 (dk_at dksX3_take_1 4 rfl rfl)
theorem dX3_take_28 : decode cX3_take 28 = .ok (.iaload, 1) := dk_46 (dk_at dksX3_take_1 5 rfl rfl)
theorem dX3_take_29 : decode cX3_take 29 = .ok (.iconst 1, 1) := dk_4 (dk_at dksX3_take_1 6 rfl rfl)
theorem dX3_take_30 : decode cX3_take 30 = .ok (.isub, 1) := dk_100 (dk_at dksX3_take_1 7 rfl rfl)
theorem dX3_take_31 : decode cX3_take 31 = .ok (.iastore, 1) := dk_79 (dk_at dksX3_take_1 8 rfl rfl)
theorem dX3_take_32 : decode cX3_take 32 = .ok (.aload_n 0, 1) := dk_42 (dk_at dksX3_take_1 9 rfl rfl)
theorem dX3_take_33 : decode cX3_take 33 = .ok (.getfield 70, 3) := dk_180 0 70 (dk_at dksX3_take_1 10 rfl rfl)
theorem dX3_take_36 : decode cX3_take 36 = .ok (.iload_n 1, 1) := dk_27 (dk_at dksX3_take_1 13 rfl rfl)
theorem dX3_take_37 : decode cX3_take 37 = .ok (.iaload, 1) := dk_46 (dk_at dksX3_take_1 14 rfl rfl)
theorem dX3_take_38 : decode cX3_take 38 = .ok (.ireturn, 1) := dk_172 (dk_at dksX3_take_1 15 rfl rfl)
abbrev cX3_thing : ByteArray := prog_11_method_75_code
def yX3_thing : MethodName := ⟨RX3, "thing", "(III)I"⟩
def dkwX3_thing_1 : List UInt8 := [180, 0, 67, 16, 32, 27, 104, 7, 28, 104, 96, 29, 96, 46, 167, 0, 5, 18, 103, 172]
abbrev dktX3_thing_1 : List UInt8 := dkwX3_thing_1 ++ []
def dkwX3_thing_0 : List UInt8 := [42, 27, 28, 182, 1, 13, 153, 0, 33, 29, 133, 9, 20, 0, 83, 184, 0, 76, 153, 0, 21, 42]
abbrev dktX3_thing_0 : List UInt8 := dkwX3_thing_0 ++ dktX3_thing_1
theorem dksX3_thing_0 : cX3_thing.data.toList.drop 0 = dktX3_thing_0 := by decide +kernel
theorem dksX3_thing_1 : cX3_thing.data.toList.drop 22 = dktX3_thing_1 := dk_seg dksX3_thing_0 22 rfl rfl
theorem dX3_thing_0 : decode cX3_thing 0 = .ok (.aload_n 0, 1) := dk_42 (dk_at dksX3_thing_0 0 rfl rfl)
theorem dX3_thing_1 : decode cX3_thing 1 = .ok (.iload_n 1, 1) := dk_27 (dk_at dksX3_thing_0 1 rfl rfl)
theorem dX3_thing_2 : decode cX3_thing 2 = .ok (.iload_n 2, 1) := dk_28 (dk_at dksX3_thing_0 2 rfl rfl)
theorem dX3_thing_3 : decode cX3_thing 3 = .ok (.invokevirtual 269, 3) := dk_182 1 13 (dk_at dksX3_thing_0 3 rfl rfl)
theorem dX3_thing_6 : decode cX3_thing 6 = .ok (.ifCond .eq 33, 3) := dk_153 0 33 (dk_at dksX3_thing_0 6 rfl rfl)
theorem dX3_thing_9 : decode cX3_thing 9 = .ok (.iload_n 3, 1) := dk_29 (dk_at dksX3_thing_0 9 rfl rfl)
theorem dX3_thing_10 : decode cX3_thing 10 = .ok (.i2l, 1) := dk_133 (dk_at dksX3_thing_0 10 rfl rfl)
theorem dX3_thing_11 : decode cX3_thing 11 = .ok (.lconst 0, 1) := dk_9 (dk_at dksX3_thing_0 11 rfl rfl)
theorem dX3_thing_12 : decode cX3_thing 12 = .ok (.ldc2_w 83, 3) := dk_20 0 83 (dk_at dksX3_thing_0 12 rfl rfl)
theorem dX3_thing_15 : decode cX3_thing 15 = .ok (.invokestatic 76, 3) := dk_184 0 76 (dk_at dksX3_thing_0 15 rfl rfl)
theorem dX3_thing_18 : decode cX3_thing 18 = .ok (.ifCond .eq 21, 3) := dk_153 0 21 (dk_at dksX3_thing_0 18 rfl rfl)
theorem dX3_thing_21 : decode cX3_thing 21 = .ok (.aload_n 0, 1) := dk_42 (dk_at dksX3_thing_0 21 rfl rfl)
theorem dX3_thing_22 : decode cX3_thing 22 = .ok (.getfield 67, 3) := dk_180 0 67 (dk_at dksX3_thing_1 0 rfl rfl)
theorem dX3_thing_25 : decode cX3_thing 25 = .ok (.bipush 32, 2) := dk_16 32 (dk_at dksX3_thing_1 3 rfl rfl)
theorem dX3_thing_27 : decode cX3_thing 27 = .ok (.iload_n 1, 1) := dk_27 (dk_at dksX3_thing_1 5 rfl rfl)
theorem dX3_thing_28 : decode cX3_thing 28 = .ok (.imul, 1) := dk_104 (dk_at dksX3_thing_1 6 rfl rfl)
theorem dX3_thing_29 : decode cX3_thing 29 = .ok (.iconst 4, 1) := dk_7 (dk_at dksX3_thing_1 7 rfl rfl)
theorem dX3_thing_30 : decode cX3_thing 30 = .ok (.iload_n 2, 1) := dk_28 (dk_at dksX3_thing_1 8 rfl rfl)
theorem dX3_thing_31 : decode cX3_thing 31 = .ok (.imul, 1) := dk_104 (dk_at dksX3_thing_1 9 rfl rfl)
theorem dX3_thing_32 : decode cX3_thing 32 = .ok (.iadd, 1) := dk_96 (dk_at dksX3_thing_1 10 rfl rfl)
theorem dX3_thing_33 : decode cX3_thing 33 = .ok (.iload_n 3, 1) := dk_29 (dk_at dksX3_thing_1 11 rfl rfl)
theorem dX3_thing_34 : decode cX3_thing 34 = .ok (.iadd, 1) := dk_96 (dk_at dksX3_thing_1 12 rfl rfl)
theorem dX3_thing_35 : decode cX3_thing 35 = .ok (.iaload, 1) := dk_46 (dk_at dksX3_thing_1 13 rfl rfl)
theorem dX3_thing_36 : decode cX3_thing 36 = .ok (.goto 5, 3) := dk_167 0 5 (dk_at dksX3_thing_1 14 rfl rfl)
theorem dX3_thing_39 : decode cX3_thing 39 = .ok (.ldc 103, 2) := dk_18 103 (dk_at dksX3_thing_1 17 rfl rfl)
theorem dX3_thing_41 : decode cX3_thing 41 = .ok (.ireturn, 1) := dk_172 (dk_at dksX3_thing_1 19 rfl rfl)
abbrev cX3_isThing : ByteArray := prog_11_method_74_code
def yX3_isThing : MethodName := ⟨RX3, "isThing", "(II)Z"⟩
def dkwX3_isThing_1 : List UInt8 := [153, 0, 7, 4, 167, 0, 4, 3, 172]
abbrev dktX3_isThing_1 : List UInt8 := dkwX3_isThing_1 ++ []
def dkwX3_isThing_0 : List UInt8 := [27, 184, 1, 10, 153, 0, 25, 28, 133, 9, 42, 180, 0, 70, 27, 46, 4, 100, 133, 184, 0, 76]
abbrev dktX3_isThing_0 : List UInt8 := dkwX3_isThing_0 ++ dktX3_isThing_1
theorem dksX3_isThing_0 : cX3_isThing.data.toList.drop 0 = dktX3_isThing_0 := by decide +kernel
theorem dksX3_isThing_1 : cX3_isThing.data.toList.drop 22 = dktX3_isThing_1 := dk_seg dksX3_isThing_0 22 rfl rfl
theorem dX3_isThing_0 : decode cX3_isThing 0 = .ok (.iload_n 1, 1) := dk_27 (dk_at dksX3_isThing_0 0 rfl rfl)
theorem dX3_isThing_1 : decode cX3_isThing 1 = .ok (.invokestatic 266, 3) := dk_184 1 10 (dk_at dksX3_isThing_0 1 rfl rfl)
theorem dX3_isThing_4 : decode cX3_isThing 4 = .ok (.ifCond .eq 25, 3) := dk_153 0 25 (dk_at dksX3_isThing_0 4 rfl rfl)
theorem dX3_isThing_7 : decode cX3_isThing 7 = .ok (.iload_n 2, 1) := dk_28 (dk_at dksX3_isThing_0 7 rfl rfl)
theorem dX3_isThing_8 : decode cX3_isThing 8 = .ok (.i2l, 1) := dk_133 (dk_at dksX3_isThing_0 8 rfl rfl)
theorem dX3_isThing_9 : decode cX3_isThing 9 = .ok (.lconst 0, 1) := dk_9 (dk_at dksX3_isThing_0 9 rfl rfl)
theorem dX3_isThing_10 : decode cX3_isThing 10 = .ok (.aload_n 0, 1) := dk_42 (dk_at dksX3_isThing_0 10 rfl rfl)
theorem dX3_isThing_11 : decode cX3_isThing 11 = .ok (.getfield 70, 3) := dk_180 0 70 (dk_at dksX3_isThing_0 11 rfl rfl)
theorem dX3_isThing_14 : decode cX3_isThing 14 = .ok (.iload_n 1, 1) := dk_27 (dk_at dksX3_isThing_0 14 rfl rfl)
theorem dX3_isThing_15 : decode cX3_isThing 15 = .ok (.iaload, 1) := dk_46 (dk_at dksX3_isThing_0 15 rfl rfl)
theorem dX3_isThing_16 : decode cX3_isThing 16 = .ok (.iconst 1, 1) := dk_4 (dk_at dksX3_isThing_0 16 rfl rfl)
theorem dX3_isThing_17 : decode cX3_isThing 17 = .ok (.isub, 1) := dk_100 (dk_at dksX3_isThing_0 17 rfl rfl)
theorem dX3_isThing_18 : decode cX3_isThing 18 = .ok (.i2l, 1) := dk_133 (dk_at dksX3_isThing_0 18 rfl rfl)
theorem dX3_isThing_19 : decode cX3_isThing 19 = .ok (.invokestatic 76, 3) := dk_184 0 76 (dk_at dksX3_isThing_0 19 rfl rfl)
theorem dX3_isThing_22 : decode cX3_isThing 22 = .ok (.ifCond .eq 7, 3) := dk_153 0 7 (dk_at dksX3_isThing_1 0 rfl rfl)
theorem dX3_isThing_25 : decode cX3_isThing 25 = .ok (.iconst 1, 1) := dk_4 (dk_at dksX3_isThing_1 3 rfl rfl)
theorem dX3_isThing_26 : decode cX3_isThing 26 = .ok (.goto 4, 3) := dk_167 0 4 (dk_at dksX3_isThing_1 4 rfl rfl)
theorem dX3_isThing_29 : decode cX3_isThing 29 = .ok (.iconst 0, 1) := dk_3 (dk_at dksX3_isThing_1 7 rfl rfl)
theorem dX3_isThing_30 : decode cX3_isThing 30 = .ok (.ireturn, 1) := dk_172 (dk_at dksX3_isThing_1 8 rfl rfl)
abbrev cX3_share : ByteArray := prog_11_method_79_code
def yX3_share : MethodName := ⟨RX3, "share", "(III)I"⟩
def dkwX3_share_0 : List UInt8 := [42, 27, 28, 29, 182, 1, 26, 172]
abbrev dktX3_share_0 : List UInt8 := dkwX3_share_0 ++ []
theorem dksX3_share_0 : cX3_share.data.toList.drop 0 = dktX3_share_0 := by decide +kernel
theorem dX3_share_0 : decode cX3_share 0 = .ok (.aload_n 0, 1) := dk_42 (dk_at dksX3_share_0 0 rfl rfl)
theorem dX3_share_1 : decode cX3_share 1 = .ok (.iload_n 1, 1) := dk_27 (dk_at dksX3_share_0 1 rfl rfl)
theorem dX3_share_2 : decode cX3_share 2 = .ok (.iload_n 2, 1) := dk_28 (dk_at dksX3_share_0 2 rfl rfl)
theorem dX3_share_3 : decode cX3_share 3 = .ok (.iload_n 3, 1) := dk_29 (dk_at dksX3_share_0 3 rfl rfl)
theorem dX3_share_4 : decode cX3_share 4 = .ok (.invokevirtual 282, 3) := dk_182 1 26 (dk_at dksX3_share_0 4 rfl rfl)
theorem dX3_share_7 : decode cX3_share 7 = .ok (.ireturn, 1) := dk_172 (dk_at dksX3_share_0 7 rfl rfl)
abbrev cX3_shareBy : ByteArray := prog_11_method_78_code
def yX3_shareBy : MethodName := ⟨RX3, "shareBy", "(III)I"⟩
def dkwX3_shareBy_1 : List UInt8 := [182, 1, 20, 42, 27, 28, 28, 182, 1, 20, 184, 1, 23, 167, 0, 5, 18, 103, 172]
abbrev dktX3_shareBy_1 : List UInt8 := dkwX3_shareBy_1 ++ []
def dkwX3_shareBy_0 : List UInt8 := [42, 27, 28, 182, 1, 13, 153, 0, 32, 42, 27, 29, 182, 1, 13, 153, 0, 23, 42, 27, 28, 29]
abbrev dktX3_shareBy_0 : List UInt8 := dkwX3_shareBy_0 ++ dktX3_shareBy_1
theorem dksX3_shareBy_0 : cX3_shareBy.data.toList.drop 0 = dktX3_shareBy_0 := by decide +kernel
theorem dksX3_shareBy_1 : cX3_shareBy.data.toList.drop 22 = dktX3_shareBy_1 := dk_seg dksX3_shareBy_0 22 rfl rfl
theorem dX3_shareBy_0 : decode cX3_shareBy 0 = .ok (.aload_n 0, 1) := dk_42 (dk_at dksX3_shareBy_0 0 rfl rfl)
theorem dX3_shareBy_1 : decode cX3_shareBy 1 = .ok (.iload_n 1, 1) := dk_27 (dk_at dksX3_shareBy_0 1 rfl rfl)
theorem dX3_shareBy_2 : decode cX3_shareBy 2 = .ok (.iload_n 2, 1) := dk_28 (dk_at dksX3_shareBy_0 2 rfl rfl)
theorem dX3_shareBy_3 : decode cX3_shareBy 3 = .ok (.invokevirtual 269, 3) := dk_182 1 13 (dk_at dksX3_shareBy_0 3 rfl rfl)
theorem dX3_shareBy_6 : decode cX3_shareBy 6 = .ok (.ifCond .eq 32, 3) := dk_153 0 32 (dk_at dksX3_shareBy_0 6 rfl rfl)
theorem dX3_shareBy_9 : decode cX3_shareBy 9 = .ok (.aload_n 0, 1) := dk_42 (dk_at dksX3_shareBy_0 9 rfl rfl)
theorem dX3_shareBy_10 : decode cX3_shareBy 10 = .ok (.iload_n 1, 1) := dk_27 (dk_at dksX3_shareBy_0 10 rfl rfl)
theorem dX3_shareBy_11 : decode cX3_shareBy 11 = .ok (.iload_n 3, 1) := dk_29 (dk_at dksX3_shareBy_0 11 rfl rfl)
theorem dX3_shareBy_12 : decode cX3_shareBy 12 = .ok (.invokevirtual 269, 3) := dk_182 1 13 (dk_at dksX3_shareBy_0 12 rfl rfl)
theorem dX3_shareBy_15 : decode cX3_shareBy 15 = .ok (.ifCond .eq 23, 3) := dk_153 0 23 (dk_at dksX3_shareBy_0 15 rfl rfl)
theorem dX3_shareBy_18 : decode cX3_shareBy 18 = .ok (.aload_n 0, 1) := dk_42 (dk_at dksX3_shareBy_0 18 rfl rfl)
theorem dX3_shareBy_19 : decode cX3_shareBy 19 = .ok (.iload_n 1, 1) := dk_27 (dk_at dksX3_shareBy_0 19 rfl rfl)
theorem dX3_shareBy_20 : decode cX3_shareBy 20 = .ok (.iload_n 2, 1) := dk_28 (dk_at dksX3_shareBy_0 20 rfl rfl)
theorem dX3_shareBy_21 : decode cX3_shareBy 21 = .ok (.iload_n 3, 1) := dk_29 (dk_at dksX3_shareBy_0 21 rfl rfl)
theorem dX3_shareBy_22 : decode cX3_shareBy 22 = .ok (.invokevirtual 276, 3) := dk_182 1 20 (dk_at dksX3_shareBy_1 0 rfl rfl)
theorem dX3_shareBy_25 : decode cX3_shareBy 25 = .ok (.aload_n 0, 1) := dk_42 (dk_at dksX3_shareBy_1 3 rfl rfl)
theorem dX3_shareBy_26 : decode cX3_shareBy 26 = .ok (.iload_n 1, 1) := dk_27 (dk_at dksX3_shareBy_1 4 rfl rfl)
theorem dX3_shareBy_27 : decode cX3_shareBy 27 = .ok (.iload_n 2, 1) := dk_28 (dk_at dksX3_shareBy_1 5 rfl rfl)
theorem dX3_shareBy_28 : decode cX3_shareBy 28 = .ok (.iload_n 2, 1) := dk_28 (dk_at dksX3_shareBy_1 6 rfl rfl)
theorem dX3_shareBy_29 : decode cX3_shareBy 29 = .ok (.invokevirtual 276, 3) := dk_182 1 20 (dk_at dksX3_shareBy_1 7 rfl rfl)
theorem dX3_shareBy_32 : decode cX3_shareBy 32 = .ok (.invokestatic 279, 3) := dk_184 1 23 (dk_at dksX3_shareBy_1 10 rfl rfl)
theorem dX3_shareBy_35 : decode cX3_shareBy 35 = .ok (.goto 5, 3) := dk_167 0 5 (dk_at dksX3_shareBy_1 13 rfl rfl)
theorem dX3_shareBy_38 : decode cX3_shareBy 38 = .ok (.ldc 103, 2) := dk_18 103 (dk_at dksX3_shareBy_1 16 rfl rfl)
theorem dX3_shareBy_40 : decode cX3_shareBy 40 = .ok (.ireturn, 1) := dk_172 (dk_at dksX3_shareBy_1 18 rfl rfl)
abbrev cX3_product : ByteArray := prog_11_method_76_code
def yX3_product : MethodName := ⟨RX3, "product", "(III)I"⟩
def dkwX3_product_2 : List UInt8 := [54, 4, 132, 5, 1, 167, 255, 209, 21, 4, 172]
abbrev dktX3_product_2 : List UInt8 := dkwX3_product_2 ++ []
def dkwX3_product_1 : List UInt8 := [104, 96, 21, 5, 96, 46, 42, 180, 0, 67, 16, 32, 27, 104, 7, 29, 104, 96, 21, 5, 96, 46, 104, 96]
abbrev dktX3_product_1 : List UInt8 := dkwX3_product_1 ++ dktX3_product_2
def dkwX3_product_0 : List UInt8 := [3, 54, 4, 4, 54, 5, 21, 5, 7, 162, 0, 47, 21, 4, 42, 180, 0, 67, 16, 32, 27, 104, 7, 28]
abbrev dktX3_product_0 : List UInt8 := dkwX3_product_0 ++ dktX3_product_1
theorem dksX3_product_0 : cX3_product.data.toList.drop 0 = dktX3_product_0 := by decide +kernel
theorem dksX3_product_1 : cX3_product.data.toList.drop 24 = dktX3_product_1 := dk_seg dksX3_product_0 24 rfl rfl
theorem dksX3_product_2 : cX3_product.data.toList.drop 48 = dktX3_product_2 := dk_seg dksX3_product_1 24 rfl rfl
theorem dX3_product_0 : decode cX3_product 0 = .ok (.iconst 0, 1) := dk_3 (dk_at dksX3_product_0 0 rfl rfl)
theorem dX3_product_1 : decode cX3_product 1 = .ok (.istore 4, 2) := dk_54 4 (dk_at dksX3_product_0 1 rfl rfl)
theorem dX3_product_3 : decode cX3_product 3 = .ok (.iconst 1, 1) := dk_4 (dk_at dksX3_product_0 3 rfl rfl)
theorem dX3_product_4 : decode cX3_product 4 = .ok (.istore 5, 2) := dk_54 5 (dk_at dksX3_product_0 4 rfl rfl)
theorem dX3_product_6 : decode cX3_product 6 = .ok (.iload 5, 2) := dk_21 5 (dk_at dksX3_product_0 6 rfl rfl)
theorem dX3_product_8 : decode cX3_product 8 = .ok (.iconst 4, 1) := dk_7 (dk_at dksX3_product_0 8 rfl rfl)
theorem dX3_product_9 : decode cX3_product 9 = .ok (.if_icmp .ge 47, 3) := dk_162 0 47 (dk_at dksX3_product_0 9 rfl rfl)
theorem dX3_product_12 : decode cX3_product 12 = .ok (.iload 4, 2) := dk_21 4 (dk_at dksX3_product_0 12 rfl rfl)
theorem dX3_product_14 : decode cX3_product 14 = .ok (.aload_n 0, 1) := dk_42 (dk_at dksX3_product_0 14 rfl rfl)
theorem dX3_product_15 : decode cX3_product 15 = .ok (.getfield 67, 3) := dk_180 0 67 (dk_at dksX3_product_0 15 rfl rfl)
theorem dX3_product_18 : decode cX3_product 18 = .ok (.bipush 32, 2) := dk_16 32 (dk_at dksX3_product_0 18 rfl rfl)
theorem dX3_product_20 : decode cX3_product 20 = .ok (.iload_n 1, 1) := dk_27 (dk_at dksX3_product_0 20 rfl rfl)
theorem dX3_product_21 : decode cX3_product 21 = .ok (.imul, 1) := dk_104 (dk_at dksX3_product_0 21 rfl rfl)
theorem dX3_product_22 : decode cX3_product 22 = .ok (.iconst 4, 1) := dk_7 (dk_at dksX3_product_0 22 rfl rfl)
theorem dX3_product_23 : decode cX3_product 23 = .ok (.iload_n 2, 1) := dk_28 (dk_at dksX3_product_0 23 rfl rfl)
theorem dX3_product_24 : decode cX3_product 24 = .ok (.imul, 1) := dk_104 (dk_at dksX3_product_1 0 rfl rfl)
theorem dX3_product_25 : decode cX3_product 25 = .ok (.iadd, 1) := dk_96 (dk_at dksX3_product_1 1 rfl rfl)
theorem dX3_product_26 : decode cX3_product 26 = .ok (.iload 5, 2) := dk_21 5 (dk_at dksX3_product_1 2 rfl rfl)
theorem dX3_product_28 : decode cX3_product 28 = .ok (.iadd, 1) := dk_96 (dk_at dksX3_product_1 4 rfl rfl)
theorem dX3_product_29 : decode cX3_product 29 = .ok (.iaload, 1) := dk_46 (dk_at dksX3_product_1 5 rfl rfl)
theorem dX3_product_30 : decode cX3_product 30 = .ok (.aload_n 0, 1) := dk_42 (dk_at dksX3_product_1 6 rfl rfl)
theorem dX3_product_31 : decode cX3_product 31 = .ok (.getfield 67, 3) := dk_180 0 67 (dk_at dksX3_product_1 7 rfl rfl)
theorem dX3_product_34 : decode cX3_product 34 = .ok (.bipush 32, 2) := dk_16 32 (dk_at dksX3_product_1 10 rfl rfl)
theorem dX3_product_36 : decode cX3_product 36 = .ok (.iload_n 1, 1) := dk_27 (dk_at dksX3_product_1 12 rfl rfl)
theorem dX3_product_37 : decode cX3_product 37 = .ok (.imul, 1) := dk_104 (dk_at dksX3_product_1 13 rfl rfl)
theorem dX3_product_38 : decode cX3_product 38 = .ok (.iconst 4, 1) := dk_7 (dk_at dksX3_product_1 14 rfl rfl)
theorem dX3_product_39 : decode cX3_product 39 = .ok (.iload_n 3, 1) := dk_29 (dk_at dksX3_product_1 15 rfl rfl)
theorem dX3_product_40 : decode cX3_product 40 = .ok (.imul, 1) := dk_104 (dk_at dksX3_product_1 16 rfl rfl)
theorem dX3_product_41 : decode cX3_product 41 = .ok (.iadd, 1) := dk_96 (dk_at dksX3_product_1 17 rfl rfl)
theorem dX3_product_42 : decode cX3_product 42 = .ok (.iload 5, 2) := dk_21 5 (dk_at dksX3_product_1 18 rfl rfl)
theorem dX3_product_44 : decode cX3_product 44 = .ok (.iadd, 1) := dk_96 (dk_at dksX3_product_1 20 rfl rfl)
theorem dX3_product_45 : decode cX3_product 45 = .ok (.iaload, 1) := dk_46 (dk_at dksX3_product_1 21 rfl rfl)
theorem dX3_product_46 : decode cX3_product 46 = .ok (.imul, 1) := dk_104 (dk_at dksX3_product_1 22 rfl rfl)
theorem dX3_product_47 : decode cX3_product 47 = .ok (.iadd, 1) := dk_96 (dk_at dksX3_product_1 23 rfl rfl)
theorem dX3_product_48 : decode cX3_product 48 = .ok (.istore 4, 2) := dk_54 4 (dk_at dksX3_product_2 0 rfl rfl)
theorem dX3_product_50 : decode cX3_product 50 = .ok (.iinc 5 1, 3) := dk_132 5 1 (dk_at dksX3_product_2 2 rfl rfl)
theorem dX3_product_53 : decode cX3_product 53 = .ok (.goto (-47), 3) := dk_167 255 209 (dk_at dksX3_product_2 5 rfl rfl)
theorem dX3_product_56 : decode cX3_product 56 = .ok (.iload 4, 2) := dk_21 4 (dk_at dksX3_product_2 8 rfl rfl)
theorem dX3_product_58 : decode cX3_product 58 = .ok (.ireturn, 1) := dk_172 (dk_at dksX3_product_2 10 rfl rfl)
abbrev cX3_quotient : ByteArray := prog_11_method_77_code
def yX3_quotient : MethodName := ⟨RX3, "quotient", "(II)I"⟩
def dkwX3_quotient_7 : List UInt8 := [167, 0, 5, 21, 12, 172]
abbrev dktX3_quotient_7 : List UInt8 := dkwX3_quotient_7 ++ []
def dkwX3_quotient_6 : List UInt8 := [16, 23, 120, 133, 22, 7, 97, 20, 1, 16, 101, 136, 54, 12, 26, 156, 0, 11, 21, 12, 18, 103, 128]
abbrev dktX3_quotient_6 : List UInt8 := dkwX3_quotient_6 ++ dktX3_quotient_7
def dkwX3_quotient_5 : List UInt8 := [154, 0, 7, 10, 167, 0, 4, 9, 97, 55, 7, 16, 23, 21, 6, 100, 16, 127, 96, 54, 11, 21, 11]
abbrev dktX3_quotient_5 : List UInt8 := dkwX3_quotient_5 ++ dktX3_quotient_6
def dkwX3_quotient_4 : List UInt8 := [22, 9, 22, 4, 148, 157, 0, 22, 22, 9, 22, 4, 148, 154, 0, 18, 22, 7, 20, 0, 89, 113, 10, 148]
abbrev dktX3_quotient_4 : List UInt8 := dkwX3_quotient_4 ++ dktX3_quotient_5
def dkwX3_quotient_3 : List UInt8 := [132, 6, 255, 167, 255, 236, 32, 22, 4, 109, 55, 7, 20, 0, 89, 32, 22, 4, 113, 105, 55, 9, 22, 7]
abbrev dktX3_quotient_3 : List UInt8 := dkwX3_quotient_3 ++ dktX3_quotient_4
def dkwX3_quotient_2 : List UInt8 := [132, 6, 1, 167, 255, 238, 32, 22, 4, 109, 20, 1, 18, 148, 155, 0, 15, 22, 4, 4, 121, 55, 4]
abbrev dktX3_quotient_2 : List UInt8 := dkwX3_quotient_2 ++ dktX3_quotient_3
def dkwX3_quotient_1 : List UInt8 := [16, 23, 54, 6, 32, 16, 23, 121, 65, 32, 22, 4, 109, 20, 1, 16, 148, 156, 0, 13, 32, 4, 121, 65]
abbrev dktX3_quotient_1 : List UInt8 := dkwX3_quotient_1 ++ dktX3_quotient_2
def dkwX3_quotient_0 : List UInt8 := [26, 154, 0, 5, 3, 172, 26, 156, 0, 9, 26, 116, 133, 167, 0, 5, 26, 133, 65, 27, 133, 55, 4]
abbrev dktX3_quotient_0 : List UInt8 := dkwX3_quotient_0 ++ dktX3_quotient_1
theorem dksX3_quotient_0 : cX3_quotient.data.toList.drop 0 = dktX3_quotient_0 := by decide +kernel
theorem dksX3_quotient_1 : cX3_quotient.data.toList.drop 23 = dktX3_quotient_1 := dk_seg dksX3_quotient_0 23 rfl rfl
theorem dksX3_quotient_2 : cX3_quotient.data.toList.drop 47 = dktX3_quotient_2 := dk_seg dksX3_quotient_1 24 rfl rfl
theorem dksX3_quotient_3 : cX3_quotient.data.toList.drop 70 = dktX3_quotient_3 := dk_seg dksX3_quotient_2 23 rfl rfl
theorem dksX3_quotient_4 : cX3_quotient.data.toList.drop 94 = dktX3_quotient_4 := dk_seg dksX3_quotient_3 24 rfl rfl
theorem dksX3_quotient_5 : cX3_quotient.data.toList.drop 118 = dktX3_quotient_5 := dk_seg dksX3_quotient_4 24 rfl rfl
theorem dksX3_quotient_6 : cX3_quotient.data.toList.drop 141 = dktX3_quotient_6 := dk_seg dksX3_quotient_5 23 rfl rfl
theorem dksX3_quotient_7 : cX3_quotient.data.toList.drop 164 = dktX3_quotient_7 := dk_seg dksX3_quotient_6 23 rfl rfl
theorem dX3_quotient_0 : decode cX3_quotient 0 = .ok (.iload_n 0, 1) := dk_26 (dk_at dksX3_quotient_0 0 rfl rfl)
theorem dX3_quotient_1 : decode cX3_quotient 1 = .ok (.ifCond .ne 5, 3) := dk_154 0 5 (dk_at dksX3_quotient_0 1 rfl rfl)
theorem dX3_quotient_4 : decode cX3_quotient 4 = .ok (.iconst 0, 1) := dk_3 (dk_at dksX3_quotient_0 4 rfl rfl)
theorem dX3_quotient_5 : decode cX3_quotient 5 = .ok (.ireturn, 1) := dk_172 (dk_at dksX3_quotient_0 5 rfl rfl)
theorem dX3_quotient_6 : decode cX3_quotient 6 = .ok (.iload_n 0, 1) := dk_26 (dk_at dksX3_quotient_0 6 rfl rfl)
theorem dX3_quotient_7 : decode cX3_quotient 7 = .ok (.ifCond .ge 9, 3) := dk_156 0 9 (dk_at dksX3_quotient_0 7 rfl rfl)
theorem dX3_quotient_10 : decode cX3_quotient 10 = .ok (.iload_n 0, 1) := dk_26 (dk_at dksX3_quotient_0 10 rfl rfl)
theorem dX3_quotient_11 : decode cX3_quotient 11 = .ok (.ineg, 1) := dk_116 (dk_at dksX3_quotient_0 11 rfl rfl)
theorem dX3_quotient_12 : decode cX3_quotient 12 = .ok (.i2l, 1) := dk_133 (dk_at dksX3_quotient_0 12 rfl rfl)
theorem dX3_quotient_13 : decode cX3_quotient 13 = .ok (.goto 5, 3) := dk_167 0 5 (dk_at dksX3_quotient_0 13 rfl rfl)
theorem dX3_quotient_16 : decode cX3_quotient 16 = .ok (.iload_n 0, 1) := dk_26 (dk_at dksX3_quotient_0 16 rfl rfl)
theorem dX3_quotient_17 : decode cX3_quotient 17 = .ok (.i2l, 1) := dk_133 (dk_at dksX3_quotient_0 17 rfl rfl)
theorem dX3_quotient_18 : decode cX3_quotient 18 = .ok (.lstore_n 2, 1) := dk_65 (dk_at dksX3_quotient_0 18 rfl rfl)
theorem dX3_quotient_19 : decode cX3_quotient 19 = .ok (.iload_n 1, 1) := dk_27 (dk_at dksX3_quotient_0 19 rfl rfl)
theorem dX3_quotient_20 : decode cX3_quotient 20 = .ok (.i2l, 1) := dk_133 (dk_at dksX3_quotient_0 20 rfl rfl)
theorem dX3_quotient_21 : decode cX3_quotient 21 = .ok (.lstore 4, 2) := dk_55 4 (dk_at dksX3_quotient_0 21 rfl rfl)
theorem dX3_quotient_23 : decode cX3_quotient 23 = .ok (.bipush 23, 2) := dk_16 23 (dk_at dksX3_quotient_1 0 rfl rfl)
theorem dX3_quotient_25 : decode cX3_quotient 25 = .ok (.istore 6, 2) := dk_54 6 (dk_at dksX3_quotient_1 2 rfl rfl)
theorem dX3_quotient_27 : decode cX3_quotient 27 = .ok (.lload_n 2, 1) := dk_32 (dk_at dksX3_quotient_1 4 rfl rfl)
theorem dX3_quotient_28 : decode cX3_quotient 28 = .ok (.bipush 23, 2) := dk_16 23 (dk_at dksX3_quotient_1 5 rfl rfl)
theorem dX3_quotient_30 : decode cX3_quotient 30 = .ok (.lshl, 1) := dk_121 (dk_at dksX3_quotient_1 7 rfl rfl)
theorem dX3_quotient_31 : decode cX3_quotient 31 = .ok (.lstore_n 2, 1) := dk_65 (dk_at dksX3_quotient_1 8 rfl rfl)
theorem dX3_quotient_32 : decode cX3_quotient 32 = .ok (.lload_n 2, 1) := dk_32 (dk_at dksX3_quotient_1 9 rfl rfl)
theorem dX3_quotient_33 : decode cX3_quotient 33 = .ok (.lload 4, 2) := dk_22 4 (dk_at dksX3_quotient_1 10 rfl rfl)
theorem dX3_quotient_35 : decode cX3_quotient 35 = .ok (.ldiv, 1) := dk_109 (dk_at dksX3_quotient_1 12 rfl rfl)
theorem dX3_quotient_36 : decode cX3_quotient 36 = .ok (.ldc2_w 272, 3) := dk_20 1 16 (dk_at dksX3_quotient_1 13 rfl rfl)
theorem dX3_quotient_39 : decode cX3_quotient 39 = .ok (.lcmp, 1) := dk_148 (dk_at dksX3_quotient_1 16 rfl rfl)
theorem dX3_quotient_40 : decode cX3_quotient 40 = .ok (.ifCond .ge 13, 3) := dk_156 0 13 (dk_at dksX3_quotient_1 17 rfl rfl)
theorem dX3_quotient_43 : decode cX3_quotient 43 = .ok (.lload_n 2, 1) := dk_32 (dk_at dksX3_quotient_1 20 rfl rfl)
theorem dX3_quotient_44 : decode cX3_quotient 44 = .ok (.iconst 1, 1) := dk_4 (dk_at dksX3_quotient_1 21 rfl rfl)
theorem dX3_quotient_45 : decode cX3_quotient 45 = .ok (.lshl, 1) := dk_121 (dk_at dksX3_quotient_1 22 rfl rfl)
theorem dX3_quotient_46 : decode cX3_quotient 46 = .ok (.lstore_n 2, 1) := dk_65 (dk_at dksX3_quotient_1 23 rfl rfl)
theorem dX3_quotient_47 : decode cX3_quotient 47 = .ok (.iinc 6 1, 3) := dk_132 6 1 (dk_at dksX3_quotient_2 0 rfl rfl)
theorem dX3_quotient_50 : decode cX3_quotient 50 = .ok (.goto (-18), 3) := dk_167 255 238 (dk_at dksX3_quotient_2 3 rfl rfl)
theorem dX3_quotient_53 : decode cX3_quotient 53 = .ok (.lload_n 2, 1) := dk_32 (dk_at dksX3_quotient_2 6 rfl rfl)
theorem dX3_quotient_54 : decode cX3_quotient 54 = .ok (.lload 4, 2) := dk_22 4 (dk_at dksX3_quotient_2 7 rfl rfl)
theorem dX3_quotient_56 : decode cX3_quotient 56 = .ok (.ldiv, 1) := dk_109 (dk_at dksX3_quotient_2 9 rfl rfl)
theorem dX3_quotient_57 : decode cX3_quotient 57 = .ok (.ldc2_w 274, 3) := dk_20 1 18 (dk_at dksX3_quotient_2 10 rfl rfl)
theorem dX3_quotient_60 : decode cX3_quotient 60 = .ok (.lcmp, 1) := dk_148 (dk_at dksX3_quotient_2 13 rfl rfl)
theorem dX3_quotient_61 : decode cX3_quotient 61 = .ok (.ifCond .lt 15, 3) := dk_155 0 15 (dk_at dksX3_quotient_2 14 rfl rfl)
theorem dX3_quotient_64 : decode cX3_quotient 64 = .ok (.lload 4, 2) := dk_22 4 (dk_at dksX3_quotient_2 17 rfl rfl)
theorem dX3_quotient_66 : decode cX3_quotient 66 = .ok (.iconst 1, 1) := dk_4 (dk_at dksX3_quotient_2 19 rfl rfl)
theorem dX3_quotient_67 : decode cX3_quotient 67 = .ok (.lshl, 1) := dk_121 (dk_at dksX3_quotient_2 20 rfl rfl)
theorem dX3_quotient_68 : decode cX3_quotient 68 = .ok (.lstore 4, 2) := dk_55 4 (dk_at dksX3_quotient_2 21 rfl rfl)
theorem dX3_quotient_70 : decode cX3_quotient 70 = .ok (.iinc 6 (-1), 3) := dk_132 6 255 (dk_at dksX3_quotient_3 0 rfl rfl)
theorem dX3_quotient_73 : decode cX3_quotient 73 = .ok (.goto (-20), 3) := dk_167 255 236 (dk_at dksX3_quotient_3 3 rfl rfl)
theorem dX3_quotient_76 : decode cX3_quotient 76 = .ok (.lload_n 2, 1) := dk_32 (dk_at dksX3_quotient_3 6 rfl rfl)
theorem dX3_quotient_77 : decode cX3_quotient 77 = .ok (.lload 4, 2) := dk_22 4 (dk_at dksX3_quotient_3 7 rfl rfl)
theorem dX3_quotient_79 : decode cX3_quotient 79 = .ok (.ldiv, 1) := dk_109 (dk_at dksX3_quotient_3 9 rfl rfl)
theorem dX3_quotient_80 : decode cX3_quotient 80 = .ok (.lstore 7, 2) := dk_55 7 (dk_at dksX3_quotient_3 10 rfl rfl)
theorem dX3_quotient_82 : decode cX3_quotient 82 = .ok (.ldc2_w 89, 3) := dk_20 0 89 (dk_at dksX3_quotient_3 12 rfl rfl)
theorem dX3_quotient_85 : decode cX3_quotient 85 = .ok (.lload_n 2, 1) := dk_32 (dk_at dksX3_quotient_3 15 rfl rfl)
theorem dX3_quotient_86 : decode cX3_quotient 86 = .ok (.lload 4, 2) := dk_22 4 (dk_at dksX3_quotient_3 16 rfl rfl)
theorem dX3_quotient_88 : decode cX3_quotient 88 = .ok (.lrem, 1) := dk_113 (dk_at dksX3_quotient_3 18 rfl rfl)
theorem dX3_quotient_89 : decode cX3_quotient 89 = .ok (.lmul, 1) := dk_105 (dk_at dksX3_quotient_3 19 rfl rfl)
theorem dX3_quotient_90 : decode cX3_quotient 90 = .ok (.lstore 9, 2) := dk_55 9 (dk_at dksX3_quotient_3 20 rfl rfl)
theorem dX3_quotient_92 : decode cX3_quotient 92 = .ok (.lload 7, 2) := dk_22 7 (dk_at dksX3_quotient_3 22 rfl rfl)
theorem dX3_quotient_94 : decode cX3_quotient 94 = .ok (.lload 9, 2) := dk_22 9 (dk_at dksX3_quotient_4 0 rfl rfl)
theorem dX3_quotient_96 : decode cX3_quotient 96 = .ok (.lload 4, 2) := dk_22 4 (dk_at dksX3_quotient_4 2 rfl rfl)
theorem dX3_quotient_98 : decode cX3_quotient 98 = .ok (.lcmp, 1) := dk_148 (dk_at dksX3_quotient_4 4 rfl rfl)
theorem dX3_quotient_99 : decode cX3_quotient 99 = .ok (.ifCond .gt 22, 3) := dk_157 0 22 (dk_at dksX3_quotient_4 5 rfl rfl)
theorem dX3_quotient_102 : decode cX3_quotient 102 = .ok (.lload 9, 2) := dk_22 9 (dk_at dksX3_quotient_4 8 rfl rfl)
theorem dX3_quotient_104 : decode cX3_quotient 104 = .ok (.lload 4, 2) := dk_22 4 (dk_at dksX3_quotient_4 10 rfl rfl)
theorem dX3_quotient_106 : decode cX3_quotient 106 = .ok (.lcmp, 1) := dk_148 (dk_at dksX3_quotient_4 12 rfl rfl)
theorem dX3_quotient_107 : decode cX3_quotient 107 = .ok (.ifCond .ne 18, 3) := dk_154 0 18 (dk_at dksX3_quotient_4 13 rfl rfl)
theorem dX3_quotient_110 : decode cX3_quotient 110 = .ok (.lload 7, 2) := dk_22 7 (dk_at dksX3_quotient_4 16 rfl rfl)
theorem dX3_quotient_112 : decode cX3_quotient 112 = .ok (.ldc2_w 89, 3) := dk_20 0 89 (dk_at dksX3_quotient_4 18 rfl rfl)
theorem dX3_quotient_115 : decode cX3_quotient 115 = .ok (.lrem, 1) := dk_113 (dk_at dksX3_quotient_4 21 rfl rfl)
theorem dX3_quotient_116 : decode cX3_quotient 116 = .ok (.lconst 1, 1) := dk_10 (dk_at dksX3_quotient_4 22 rfl rfl)
theorem dX3_quotient_117 : decode cX3_quotient 117 = .ok (.lcmp, 1) := dk_148 (dk_at dksX3_quotient_4 23 rfl rfl)
theorem dX3_quotient_118 : decode cX3_quotient 118 = .ok (.ifCond .ne 7, 3) := dk_154 0 7 (dk_at dksX3_quotient_5 0 rfl rfl)
theorem dX3_quotient_121 : decode cX3_quotient 121 = .ok (.lconst 1, 1) := dk_10 (dk_at dksX3_quotient_5 3 rfl rfl)
theorem dX3_quotient_122 : decode cX3_quotient 122 = .ok (.goto 4, 3) := dk_167 0 4 (dk_at dksX3_quotient_5 4 rfl rfl)
theorem dX3_quotient_125 : decode cX3_quotient 125 = .ok (.lconst 0, 1) := dk_9 (dk_at dksX3_quotient_5 7 rfl rfl)
theorem dX3_quotient_126 : decode cX3_quotient 126 = .ok (.ladd, 1) := dk_97 (dk_at dksX3_quotient_5 8 rfl rfl)
theorem dX3_quotient_127 : decode cX3_quotient 127 = .ok (.lstore 7, 2) := dk_55 7 (dk_at dksX3_quotient_5 9 rfl rfl)
theorem dX3_quotient_129 : decode cX3_quotient 129 = .ok (.bipush 23, 2) := dk_16 23 (dk_at dksX3_quotient_5 11 rfl rfl)
theorem dX3_quotient_131 : decode cX3_quotient 131 = .ok (.iload 6, 2) := dk_21 6 (dk_at dksX3_quotient_5 13 rfl rfl)
theorem dX3_quotient_133 : decode cX3_quotient 133 = .ok (.isub, 1) := dk_100 (dk_at dksX3_quotient_5 15 rfl rfl)
theorem dX3_quotient_134 : decode cX3_quotient 134 = .ok (.bipush 127, 2) := dk_16 127 (dk_at dksX3_quotient_5 16 rfl rfl)
theorem dX3_quotient_136 : decode cX3_quotient 136 = .ok (.iadd, 1) := dk_96 (dk_at dksX3_quotient_5 18 rfl rfl)
theorem dX3_quotient_137 : decode cX3_quotient 137 = .ok (.istore 11, 2) := dk_54 11 (dk_at dksX3_quotient_5 19 rfl rfl)
theorem dX3_quotient_139 : decode cX3_quotient 139 = .ok (.iload 11, 2) := dk_21 11 (dk_at dksX3_quotient_5 21 rfl rfl)
theorem dX3_quotient_141 : decode cX3_quotient 141 = .ok (.bipush 23, 2) := dk_16 23 (dk_at dksX3_quotient_6 0 rfl rfl)
theorem dX3_quotient_143 : decode cX3_quotient 143 = .ok (.ishl, 1) := dk_120 (dk_at dksX3_quotient_6 2 rfl rfl)
theorem dX3_quotient_144 : decode cX3_quotient 144 = .ok (.i2l, 1) := dk_133 (dk_at dksX3_quotient_6 3 rfl rfl)
theorem dX3_quotient_145 : decode cX3_quotient 145 = .ok (.lload 7, 2) := dk_22 7 (dk_at dksX3_quotient_6 4 rfl rfl)
theorem dX3_quotient_147 : decode cX3_quotient 147 = .ok (.ladd, 1) := dk_97 (dk_at dksX3_quotient_6 6 rfl rfl)
theorem dX3_quotient_148 : decode cX3_quotient 148 = .ok (.ldc2_w 272, 3) := dk_20 1 16 (dk_at dksX3_quotient_6 7 rfl rfl)
theorem dX3_quotient_151 : decode cX3_quotient 151 = .ok (.lsub, 1) := dk_101 (dk_at dksX3_quotient_6 10 rfl rfl)
theorem dX3_quotient_152 : decode cX3_quotient 152 = .ok (.l2i, 1) := dk_136 (dk_at dksX3_quotient_6 11 rfl rfl)
theorem dX3_quotient_153 : decode cX3_quotient 153 = .ok (.istore 12, 2) := dk_54 12 (dk_at dksX3_quotient_6 12 rfl rfl)
theorem dX3_quotient_155 : decode cX3_quotient 155 = .ok (.iload_n 0, 1) := dk_26 (dk_at dksX3_quotient_6 14 rfl rfl)
theorem dX3_quotient_156 : decode cX3_quotient 156 = .ok (.ifCond .ge 11, 3) := dk_156 0 11 (dk_at dksX3_quotient_6 15 rfl rfl)
theorem dX3_quotient_159 : decode cX3_quotient 159 = .ok (.iload 12, 2) := dk_21 12 (dk_at dksX3_quotient_6 18 rfl rfl)
theorem dX3_quotient_161 : decode cX3_quotient 161 = .ok (.ldc 103, 2) := dk_18 103 (dk_at dksX3_quotient_6 20 rfl rfl)
theorem dX3_quotient_163 : decode cX3_quotient 163 = .ok (.ior, 1) := dk_128 (dk_at dksX3_quotient_6 22 rfl rfl)
theorem dX3_quotient_164 : decode cX3_quotient 164 = .ok (.goto 5, 3) := dk_167 0 5 (dk_at dksX3_quotient_7 0 rfl rfl)
theorem dX3_quotient_167 : decode cX3_quotient 167 = .ok (.iload 12, 2) := dk_21 12 (dk_at dksX3_quotient_7 3 rfl rfl)
theorem dX3_quotient_169 : decode cX3_quotient 169 = .ok (.ireturn, 1) := dk_172 (dk_at dksX3_quotient_7 5 rfl rfl)
abbrev cX3_write : ByteArray := prog_11_method_80_code
def yX3_write : MethodName := ⟨RX3, "write", "(I)I"⟩
def dkwX3_write_3 : List UInt8 := [29, 46, 184, 0, 99, 79, 132, 3, 1, 167, 255, 222, 28, 172]
abbrev dktX3_write_3 : List UInt8 := dkwX3_write_3 ++ []
def dkwX3_write_2 : List UInt8 := [28, 162, 0, 35, 42, 180, 0, 16, 16, 60, 27, 104, 29, 96, 42, 180, 0, 7, 27, 46, 42, 180, 0, 61]
abbrev dktX3_write_2 : List UInt8 := dkwX3_write_2 ++ dktX3_write_3
def dkwX3_write_1 : List UInt8 := [172, 42, 182, 0, 241, 42, 180, 0, 13, 27, 46, 42, 180, 0, 25, 4, 46, 184, 0, 143, 61, 3, 62, 29]
abbrev dktX3_write_1 : List UInt8 := dkwX3_write_1 ++ dktX3_write_2
def dkwX3_write_0 : List UInt8 := [27, 184, 0, 85, 154, 0, 6, 16, 254, 172, 42, 180, 0, 7, 27, 46, 156, 0, 9, 42, 4, 182, 0, 91]
abbrev dktX3_write_0 : List UInt8 := dkwX3_write_0 ++ dktX3_write_1
theorem dksX3_write_0 : cX3_write.data.toList.drop 0 = dktX3_write_0 := by decide +kernel
theorem dksX3_write_1 : cX3_write.data.toList.drop 24 = dktX3_write_1 := dk_seg dksX3_write_0 24 rfl rfl
theorem dksX3_write_2 : cX3_write.data.toList.drop 48 = dktX3_write_2 := dk_seg dksX3_write_1 24 rfl rfl
theorem dksX3_write_3 : cX3_write.data.toList.drop 72 = dktX3_write_3 := dk_seg dksX3_write_2 24 rfl rfl
theorem dX3_write_0 : decode cX3_write 0 = .ok (.iload_n 1, 1) := dk_27 (dk_at dksX3_write_0 0 rfl rfl)
theorem dX3_write_1 : decode cX3_write 1 = .ok (.invokestatic 85, 3) := dk_184 0 85 (dk_at dksX3_write_0 1 rfl rfl)
theorem dX3_write_4 : decode cX3_write 4 = .ok (.ifCond .ne 6, 3) := dk_154 0 6 (dk_at dksX3_write_0 4 rfl rfl)
theorem dX3_write_7 : decode cX3_write 7 = .ok (.bipush (-2), 2) := dk_16 254 (dk_at dksX3_write_0 7 rfl rfl)
theorem dX3_write_9 : decode cX3_write 9 = .ok (.ireturn, 1) := dk_172 (dk_at dksX3_write_0 9 rfl rfl)
theorem dX3_write_10 : decode cX3_write 10 = .ok (.aload_n 0, 1) := dk_42 (dk_at dksX3_write_0 10 rfl rfl)
theorem dX3_write_11 : decode cX3_write 11 = .ok (.getfield 7, 3) := dk_180 0 7 (dk_at dksX3_write_0 11 rfl rfl)
theorem dX3_write_14 : decode cX3_write 14 = .ok (.iload_n 1, 1) := dk_27 (dk_at dksX3_write_0 14 rfl rfl)
theorem dX3_write_15 : decode cX3_write 15 = .ok (.iaload, 1) := dk_46 (dk_at dksX3_write_0 15 rfl rfl)
theorem dX3_write_16 : decode cX3_write 16 = .ok (.ifCond .ge 9, 3) := dk_156 0 9 (dk_at dksX3_write_0 16 rfl rfl)
theorem dX3_write_19 : decode cX3_write 19 = .ok (.aload_n 0, 1) := dk_42 (dk_at dksX3_write_0 19 rfl rfl)
theorem dX3_write_20 : decode cX3_write 20 = .ok (.iconst 1, 1) := dk_4 (dk_at dksX3_write_0 20 rfl rfl)
theorem dX3_write_21 : decode cX3_write 21 = .ok (.invokevirtual 91, 3) := dk_182 0 91 (dk_at dksX3_write_0 21 rfl rfl)
theorem dX3_write_24 : decode cX3_write 24 = .ok (.ireturn, 1) := dk_172 (dk_at dksX3_write_1 0 rfl rfl)
theorem dX3_write_25 : decode cX3_write 25 = .ok (.aload_n 0, 1) := dk_42 (dk_at dksX3_write_1 1 rfl rfl)
theorem dX3_write_26 : decode cX3_write 26 = .ok (.invokevirtual 241, 3) := dk_182 0 241 (dk_at dksX3_write_1 2 rfl rfl)
theorem dX3_write_29 : decode cX3_write 29 = .ok (.aload_n 0, 1) := dk_42 (dk_at dksX3_write_1 5 rfl rfl)
theorem dX3_write_30 : decode cX3_write 30 = .ok (.getfield 13, 3) := dk_180 0 13 (dk_at dksX3_write_1 6 rfl rfl)
theorem dX3_write_33 : decode cX3_write 33 = .ok (.iload_n 1, 1) := dk_27 (dk_at dksX3_write_1 9 rfl rfl)
theorem dX3_write_34 : decode cX3_write 34 = .ok (.iaload, 1) := dk_46 (dk_at dksX3_write_1 10 rfl rfl)
theorem dX3_write_35 : decode cX3_write 35 = .ok (.aload_n 0, 1) := dk_42 (dk_at dksX3_write_1 11 rfl rfl)
theorem dX3_write_36 : decode cX3_write 36 = .ok (.getfield 25, 3) := dk_180 0 25 (dk_at dksX3_write_1 12 rfl rfl)
theorem dX3_write_39 : decode cX3_write 39 = .ok (.iconst 1, 1) := dk_4 (dk_at dksX3_write_1 15 rfl rfl)
theorem dX3_write_40 : decode cX3_write 40 = .ok (.iaload, 1) := dk_46 (dk_at dksX3_write_1 16 rfl rfl)
theorem dX3_write_41 : decode cX3_write 41 = .ok (.invokestatic 143, 3) := dk_184 0 143 (dk_at dksX3_write_1 17 rfl rfl)
theorem dX3_write_44 : decode cX3_write 44 = .ok (.istore_n 2, 1) := dk_61 (dk_at dksX3_write_1 20 rfl rfl)
theorem dX3_write_45 : decode cX3_write 45 = .ok (.iconst 0, 1) := dk_3 (dk_at dksX3_write_1 21 rfl rfl)
theorem dX3_write_46 : decode cX3_write 46 = .ok (.istore_n 3, 1) := dk_62 (dk_at dksX3_write_1 22 rfl rfl)
theorem dX3_write_47 : decode cX3_write 47 = .ok (.iload_n 3, 1) := dk_29 (dk_at dksX3_write_1 23 rfl rfl)
theorem dX3_write_48 : decode cX3_write 48 = .ok (.iload_n 2, 1) := dk_28 (dk_at dksX3_write_2 0 rfl rfl)
theorem dX3_write_49 : decode cX3_write 49 = .ok (.if_icmp .ge 35, 3) := dk_162 0 35 (dk_at dksX3_write_2 1 rfl rfl)
theorem dX3_write_52 : decode cX3_write 52 = .ok (.aload_n 0, 1) := dk_42 (dk_at dksX3_write_2 4 rfl rfl)
theorem dX3_write_53 : decode cX3_write 53 = .ok (.getfield 16, 3) := dk_180 0 16 (dk_at dksX3_write_2 5 rfl rfl)
theorem dX3_write_56 : decode cX3_write 56 = .ok (.bipush 60, 2) := dk_16 60 (dk_at dksX3_write_2 8 rfl rfl)
theorem dX3_write_58 : decode cX3_write 58 = .ok (.iload_n 1, 1) := dk_27 (dk_at dksX3_write_2 10 rfl rfl)
theorem dX3_write_59 : decode cX3_write 59 = .ok (.imul, 1) := dk_104 (dk_at dksX3_write_2 11 rfl rfl)
theorem dX3_write_60 : decode cX3_write 60 = .ok (.iload_n 3, 1) := dk_29 (dk_at dksX3_write_2 12 rfl rfl)
theorem dX3_write_61 : decode cX3_write 61 = .ok (.iadd, 1) := dk_96 (dk_at dksX3_write_2 13 rfl rfl)
theorem dX3_write_62 : decode cX3_write 62 = .ok (.aload_n 0, 1) := dk_42 (dk_at dksX3_write_2 14 rfl rfl)
theorem dX3_write_63 : decode cX3_write 63 = .ok (.getfield 7, 3) := dk_180 0 7 (dk_at dksX3_write_2 15 rfl rfl)
theorem dX3_write_66 : decode cX3_write 66 = .ok (.iload_n 1, 1) := dk_27 (dk_at dksX3_write_2 18 rfl rfl)
theorem dX3_write_67 : decode cX3_write 67 = .ok (.iaload, 1) := dk_46 (dk_at dksX3_write_2 19 rfl rfl)
theorem dX3_write_68 : decode cX3_write 68 = .ok (.aload_n 0, 1) := dk_42 (dk_at dksX3_write_2 20 rfl rfl)
theorem dX3_write_69 : decode cX3_write 69 = .ok (.getfield 61, 3) := dk_180 0 61 (dk_at dksX3_write_2 21 rfl rfl)
theorem dX3_write_72 : decode cX3_write 72 = .ok (.iload_n 3, 1) := dk_29 (dk_at dksX3_write_3 0 rfl rfl)
theorem dX3_write_73 : decode cX3_write 73 = .ok (.iaload, 1) := dk_46 (dk_at dksX3_write_3 1 rfl rfl)
theorem dX3_write_74 : decode cX3_write 74 = .ok (.invokestatic 99, 3) := dk_184 0 99 (dk_at dksX3_write_3 2 rfl rfl)
theorem dX3_write_77 : decode cX3_write 77 = .ok (.iastore, 1) := dk_79 (dk_at dksX3_write_3 5 rfl rfl)
theorem dX3_write_78 : decode cX3_write 78 = .ok (.iinc 3 1, 3) := dk_132 3 1 (dk_at dksX3_write_3 6 rfl rfl)
theorem dX3_write_81 : decode cX3_write 81 = .ok (.goto (-34), 3) := dk_167 255 222 (dk_at dksX3_write_3 9 rfl rfl)
theorem dX3_write_84 : decode cX3_write 84 = .ok (.iload_n 2, 1) := dk_28 (dk_at dksX3_write_3 12 rfl rfl)
theorem dX3_write_85 : decode cX3_write 85 = .ok (.ireturn, 1) := dk_172 (dk_at dksX3_write_3 13 rfl rfl)
abbrev cX3_count : ByteArray := prog_11_method_83_code
def yX3_count : MethodName := ⟨RX3, "count", "(I)I"⟩
def dkwX3_count_4 : List UInt8 := [42, 180, 0, 80, 172, 16, 254, 172]
abbrev dktX3_count_4 : List UInt8 := dkwX3_count_4 ++ []
def dkwX3_count_3 : List UInt8 := [6, 42, 180, 0, 175, 104, 172, 42, 180, 0, 28, 4, 46, 172, 42, 182, 1, 32, 172, 42, 182, 1, 35, 172]
abbrev dktX3_count_3 : List UInt8 := dkwX3_count_3 ++ dktX3_count_4
def dkwX3_count_2 : List UInt8 := [42, 180, 0, 25, 3, 46, 172, 42, 180, 0, 25, 4, 46, 172, 42, 180, 0, 192, 172, 42, 180, 0, 220, 172]
abbrev dktX3_count_2 : List UInt8 := dkwX3_count_2 ++ dktX3_count_3
def dkwX3_count_1 : List UInt8 := [170, 0, 0, 0, 0, 0, 104, 0, 0, 0, 0, 0, 0, 0, 8, 0, 0, 0, 51, 0, 0, 0, 58, 0, 0, 0, 65, 0, 0, 0, 70, 0, 0, 0, 75, 0, 0, 0, 82, 0, 0, 0, 89, 0, 0, 0, 94, 0, 0, 0, 99]
abbrev dktX3_count_1 : List UInt8 := dkwX3_count_1 ++ dktX3_count_2
def dkwX3_count_0 : List UInt8 := [42, 182, 0, 241, 27]
abbrev dktX3_count_0 : List UInt8 := dkwX3_count_0 ++ dktX3_count_1
theorem dksX3_count_0 : cX3_count.data.toList.drop 0 = dktX3_count_0 := by decide +kernel
theorem dksX3_count_1 : cX3_count.data.toList.drop 5 = dktX3_count_1 := dk_seg dksX3_count_0 5 rfl rfl
theorem dksX3_count_2 : cX3_count.data.toList.drop 56 = dktX3_count_2 := dk_seg dksX3_count_1 51 rfl rfl
theorem dksX3_count_3 : cX3_count.data.toList.drop 80 = dktX3_count_3 := dk_seg dksX3_count_2 24 rfl rfl
theorem dksX3_count_4 : cX3_count.data.toList.drop 104 = dktX3_count_4 := dk_seg dksX3_count_3 24 rfl rfl
theorem dX3_count_0 : decode cX3_count 0 = .ok (.aload_n 0, 1) := dk_42 (dk_at dksX3_count_0 0 rfl rfl)
theorem dX3_count_1 : decode cX3_count 1 = .ok (.invokevirtual 241, 3) := dk_182 0 241 (dk_at dksX3_count_0 1 rfl rfl)
theorem dX3_count_4 : decode cX3_count 4 = .ok (.iload_n 1, 1) := dk_27 (dk_at dksX3_count_0 4 rfl rfl)
theorem dX3_count_5 : decode cX3_count 5 = .ok (.tableswitch 104 0 8 #[51, 58, 65, 70, 75, 82, 89, 94, 99], 51) := by decide +kernel
theorem dX3_count_56 : decode cX3_count 56 = .ok (.aload_n 0, 1) := dk_42 (dk_at dksX3_count_2 0 rfl rfl)
theorem dX3_count_57 : decode cX3_count 57 = .ok (.getfield 25, 3) := dk_180 0 25 (dk_at dksX3_count_2 1 rfl rfl)
theorem dX3_count_60 : decode cX3_count 60 = .ok (.iconst 0, 1) := dk_3 (dk_at dksX3_count_2 4 rfl rfl)
theorem dX3_count_61 : decode cX3_count 61 = .ok (.iaload, 1) := dk_46 (dk_at dksX3_count_2 5 rfl rfl)
theorem dX3_count_62 : decode cX3_count 62 = .ok (.ireturn, 1) := dk_172 (dk_at dksX3_count_2 6 rfl rfl)
theorem dX3_count_63 : decode cX3_count 63 = .ok (.aload_n 0, 1) := dk_42 (dk_at dksX3_count_2 7 rfl rfl)
theorem dX3_count_64 : decode cX3_count 64 = .ok (.getfield 25, 3) := dk_180 0 25 (dk_at dksX3_count_2 8 rfl rfl)
theorem dX3_count_67 : decode cX3_count 67 = .ok (.iconst 1, 1) := dk_4 (dk_at dksX3_count_2 11 rfl rfl)
theorem dX3_count_68 : decode cX3_count 68 = .ok (.iaload, 1) := dk_46 (dk_at dksX3_count_2 12 rfl rfl)
theorem dX3_count_69 : decode cX3_count 69 = .ok (.ireturn, 1) := dk_172 (dk_at dksX3_count_2 13 rfl rfl)
theorem dX3_count_70 : decode cX3_count 70 = .ok (.aload_n 0, 1) := dk_42 (dk_at dksX3_count_2 14 rfl rfl)
theorem dX3_count_71 : decode cX3_count 71 = .ok (.getfield 192, 3) := dk_180 0 192 (dk_at dksX3_count_2 15 rfl rfl)
theorem dX3_count_74 : decode cX3_count 74 = .ok (.ireturn, 1) := dk_172 (dk_at dksX3_count_2 18 rfl rfl)
theorem dX3_count_75 : decode cX3_count 75 = .ok (.aload_n 0, 1) := dk_42 (dk_at dksX3_count_2 19 rfl rfl)
theorem dX3_count_76 : decode cX3_count 76 = .ok (.getfield 220, 3) := dk_180 0 220 (dk_at dksX3_count_2 20 rfl rfl)
theorem dX3_count_79 : decode cX3_count 79 = .ok (.ireturn, 1) := dk_172 (dk_at dksX3_count_2 23 rfl rfl)
theorem dX3_count_80 : decode cX3_count 80 = .ok (.iconst 3, 1) := dk_6 (dk_at dksX3_count_3 0 rfl rfl)
theorem dX3_count_81 : decode cX3_count 81 = .ok (.aload_n 0, 1) := dk_42 (dk_at dksX3_count_3 1 rfl rfl)
theorem dX3_count_82 : decode cX3_count 82 = .ok (.getfield 175, 3) := dk_180 0 175 (dk_at dksX3_count_3 2 rfl rfl)
theorem dX3_count_85 : decode cX3_count 85 = .ok (.imul, 1) := dk_104 (dk_at dksX3_count_3 5 rfl rfl)
theorem dX3_count_86 : decode cX3_count 86 = .ok (.ireturn, 1) := dk_172 (dk_at dksX3_count_3 6 rfl rfl)
theorem dX3_count_87 : decode cX3_count 87 = .ok (.aload_n 0, 1) := dk_42 (dk_at dksX3_count_3 7 rfl rfl)
theorem dX3_count_88 : decode cX3_count 88 = .ok (.getfield 28, 3) := dk_180 0 28 (dk_at dksX3_count_3 8 rfl rfl)
theorem dX3_count_91 : decode cX3_count 91 = .ok (.iconst 1, 1) := dk_4 (dk_at dksX3_count_3 11 rfl rfl)
theorem dX3_count_92 : decode cX3_count 92 = .ok (.iaload, 1) := dk_46 (dk_at dksX3_count_3 12 rfl rfl)
theorem dX3_count_93 : decode cX3_count 93 = .ok (.ireturn, 1) := dk_172 (dk_at dksX3_count_3 13 rfl rfl)
theorem dX3_count_94 : decode cX3_count 94 = .ok (.aload_n 0, 1) := dk_42 (dk_at dksX3_count_3 14 rfl rfl)
theorem dX3_count_95 : decode cX3_count 95 = .ok (.invokevirtual 288, 3) := dk_182 1 32 (dk_at dksX3_count_3 15 rfl rfl)
theorem dX3_count_98 : decode cX3_count 98 = .ok (.ireturn, 1) := dk_172 (dk_at dksX3_count_3 18 rfl rfl)
theorem dX3_count_99 : decode cX3_count 99 = .ok (.aload_n 0, 1) := dk_42 (dk_at dksX3_count_3 19 rfl rfl)
theorem dX3_count_100 : decode cX3_count 100 = .ok (.invokevirtual 291, 3) := dk_182 1 35 (dk_at dksX3_count_3 20 rfl rfl)
theorem dX3_count_103 : decode cX3_count 103 = .ok (.ireturn, 1) := dk_172 (dk_at dksX3_count_3 23 rfl rfl)
theorem dX3_count_104 : decode cX3_count 104 = .ok (.aload_n 0, 1) := dk_42 (dk_at dksX3_count_4 0 rfl rfl)
theorem dX3_count_105 : decode cX3_count 105 = .ok (.getfield 80, 3) := dk_180 0 80 (dk_at dksX3_count_4 1 rfl rfl)
theorem dX3_count_108 : decode cX3_count 108 = .ok (.ireturn, 1) := dk_172 (dk_at dksX3_count_4 4 rfl rfl)
theorem dX3_count_109 : decode cX3_count 109 = .ok (.bipush (-2), 2) := dk_16 254 (dk_at dksX3_count_4 5 rfl rfl)
theorem dX3_count_111 : decode cX3_count 111 = .ok (.ireturn, 1) := dk_172 (dk_at dksX3_count_4 7 rfl rfl)
abbrev cX3_manyThings : ByteArray := prog_11_method_81_code
def yX3_manyThings : MethodName := ⟨RX3, "manyThings", "()I"⟩
def dkwX3_manyThings_1 : List UInt8 := [6, 46, 96, 172]
abbrev dktX3_manyThings_1 : List UInt8 := dkwX3_manyThings_1 ++ []
def dkwX3_manyThings_0 : List UInt8 := [42, 180, 0, 70, 3, 46, 42, 180, 0, 70, 4, 46, 96, 42, 180, 0, 70, 5, 46, 96, 42, 180, 0, 70]
abbrev dktX3_manyThings_0 : List UInt8 := dkwX3_manyThings_0 ++ dktX3_manyThings_1
theorem dksX3_manyThings_0 : cX3_manyThings.data.toList.drop 0 = dktX3_manyThings_0 := by decide +kernel
theorem dksX3_manyThings_1 : cX3_manyThings.data.toList.drop 24 = dktX3_manyThings_1 := dk_seg dksX3_manyThings_0 24 rfl rfl
theorem dX3_manyThings_0 : decode cX3_manyThings 0 = .ok (.aload_n 0, 1) := dk_42 (dk_at dksX3_manyThings_0 0 rfl rfl)
theorem dX3_manyThings_1 : decode cX3_manyThings 1 = .ok (.getfield 70, 3) := dk_180 0 70 (dk_at dksX3_manyThings_0 1 rfl rfl)
theorem dX3_manyThings_4 : decode cX3_manyThings 4 = .ok (.iconst 0, 1) := dk_3 (dk_at dksX3_manyThings_0 4 rfl rfl)
theorem dX3_manyThings_5 : decode cX3_manyThings 5 = .ok (.iaload, 1) := dk_46 (dk_at dksX3_manyThings_0 5 rfl rfl)
theorem dX3_manyThings_6 : decode cX3_manyThings 6 = .ok (.aload_n 0, 1) := dk_42 (dk_at dksX3_manyThings_0 6 rfl rfl)
theorem dX3_manyThings_7 : decode cX3_manyThings 7 = .ok (.getfield 70, 3) := dk_180 0 70 (dk_at dksX3_manyThings_0 7 rfl rfl)
theorem dX3_manyThings_10 : decode cX3_manyThings 10 = .ok (.iconst 1, 1) := dk_4 (dk_at dksX3_manyThings_0 10 rfl rfl)
theorem dX3_manyThings_11 : decode cX3_manyThings 11 = .ok (.iaload, 1) := dk_46 (dk_at dksX3_manyThings_0 11 rfl rfl)
theorem dX3_manyThings_12 : decode cX3_manyThings 12 = .ok (.iadd, 1) := dk_96 (dk_at dksX3_manyThings_0 12 rfl rfl)
theorem dX3_manyThings_13 : decode cX3_manyThings 13 = .ok (.aload_n 0, 1) := dk_42 (dk_at dksX3_manyThings_0 13 rfl rfl)
theorem dX3_manyThings_14 : decode cX3_manyThings 14 = .ok (.getfield 70, 3) := dk_180 0 70 (dk_at dksX3_manyThings_0 14 rfl rfl)
theorem dX3_manyThings_17 : decode cX3_manyThings 17 = .ok (.iconst 2, 1) := dk_5 (dk_at dksX3_manyThings_0 17 rfl rfl)
theorem dX3_manyThings_18 : decode cX3_manyThings 18 = .ok (.iaload, 1) := dk_46 (dk_at dksX3_manyThings_0 18 rfl rfl)
theorem dX3_manyThings_19 : decode cX3_manyThings 19 = .ok (.iadd, 1) := dk_96 (dk_at dksX3_manyThings_0 19 rfl rfl)
theorem dX3_manyThings_20 : decode cX3_manyThings 20 = .ok (.aload_n 0, 1) := dk_42 (dk_at dksX3_manyThings_0 20 rfl rfl)
theorem dX3_manyThings_21 : decode cX3_manyThings 21 = .ok (.getfield 70, 3) := dk_180 0 70 (dk_at dksX3_manyThings_0 21 rfl rfl)
theorem dX3_manyThings_24 : decode cX3_manyThings 24 = .ok (.iconst 3, 1) := dk_6 (dk_at dksX3_manyThings_1 0 rfl rfl)
theorem dX3_manyThings_25 : decode cX3_manyThings 25 = .ok (.iaload, 1) := dk_46 (dk_at dksX3_manyThings_1 1 rfl rfl)
theorem dX3_manyThings_26 : decode cX3_manyThings 26 = .ok (.iadd, 1) := dk_96 (dk_at dksX3_manyThings_1 2 rfl rfl)
theorem dX3_manyThings_27 : decode cX3_manyThings 27 = .ok (.ireturn, 1) := dk_172 (dk_at dksX3_manyThings_1 3 rfl rfl)
abbrev cX3_manyWrong : ByteArray := prog_11_method_82_code
def yX3_manyWrong : MethodName := ⟨RX3, "manyWrong", "()I"⟩
def dkwX3_manyWrong_1 : List UInt8 := [167, 0, 4, 3, 96, 60, 132, 2, 1, 167, 255, 228, 27, 172]
abbrev dktX3_manyWrong_1 : List UInt8 := dkwX3_manyWrong_1 ++ []
def dkwX3_manyWrong_0 : List UInt8 := [3, 60, 3, 61, 28, 16, 8, 162, 0, 28, 27, 42, 182, 1, 0, 28, 184, 1, 29, 153, 0, 7, 4]
abbrev dktX3_manyWrong_0 : List UInt8 := dkwX3_manyWrong_0 ++ dktX3_manyWrong_1
theorem dksX3_manyWrong_0 : cX3_manyWrong.data.toList.drop 0 = dktX3_manyWrong_0 := by decide +kernel
theorem dksX3_manyWrong_1 : cX3_manyWrong.data.toList.drop 23 = dktX3_manyWrong_1 := dk_seg dksX3_manyWrong_0 23 rfl rfl
theorem dX3_manyWrong_0 : decode cX3_manyWrong 0 = .ok (.iconst 0, 1) := dk_3 (dk_at dksX3_manyWrong_0 0 rfl rfl)
theorem dX3_manyWrong_1 : decode cX3_manyWrong 1 = .ok (.istore_n 1, 1) := dk_60 (dk_at dksX3_manyWrong_0 1 rfl rfl)
theorem dX3_manyWrong_2 : decode cX3_manyWrong 2 = .ok (.iconst 0, 1) := dk_3 (dk_at dksX3_manyWrong_0 2 rfl rfl)
theorem dX3_manyWrong_3 : decode cX3_manyWrong 3 = .ok (.istore_n 2, 1) := dk_61 (dk_at dksX3_manyWrong_0 3 rfl rfl)
theorem dX3_manyWrong_4 : decode cX3_manyWrong 4 = .ok (.iload_n 2, 1) := dk_28 (dk_at dksX3_manyWrong_0 4 rfl rfl)
theorem dX3_manyWrong_5 : decode cX3_manyWrong 5 = .ok (.bipush 8, 2) := dk_16 8 (dk_at dksX3_manyWrong_0 5 rfl rfl)
theorem dX3_manyWrong_7 : decode cX3_manyWrong 7 = .ok (.if_icmp .ge 28, 3) := dk_162 0 28 (dk_at dksX3_manyWrong_0 7 rfl rfl)
theorem dX3_manyWrong_10 : decode cX3_manyWrong 10 = .ok (.iload_n 1, 1) := dk_27 (dk_at dksX3_manyWrong_0 10 rfl rfl)
theorem dX3_manyWrong_11 : decode cX3_manyWrong 11 = .ok (.aload_n 0, 1) := dk_42 (dk_at dksX3_manyWrong_0 11 rfl rfl)
theorem dX3_manyWrong_12 : decode cX3_manyWrong 12 = .ok (.invokevirtual 256, 3) := dk_182 1 0 (dk_at dksX3_manyWrong_0 12 rfl rfl)
theorem dX3_manyWrong_15 : decode cX3_manyWrong 15 = .ok (.iload_n 2, 1) := dk_28 (dk_at dksX3_manyWrong_0 15 rfl rfl)
theorem dX3_manyWrong_16 : decode cX3_manyWrong 16 = .ok (.invokestatic 285, 3) := dk_184 1 29 (dk_at dksX3_manyWrong_0 16 rfl rfl)
theorem dX3_manyWrong_19 : decode cX3_manyWrong 19 = .ok (.ifCond .eq 7, 3) := dk_153 0 7 (dk_at dksX3_manyWrong_0 19 rfl rfl)
theorem dX3_manyWrong_22 : decode cX3_manyWrong 22 = .ok (.iconst 1, 1) := dk_4 (dk_at dksX3_manyWrong_0 22 rfl rfl)
theorem dX3_manyWrong_23 : decode cX3_manyWrong 23 = .ok (.goto 4, 3) := dk_167 0 4 (dk_at dksX3_manyWrong_1 0 rfl rfl)
theorem dX3_manyWrong_26 : decode cX3_manyWrong 26 = .ok (.iconst 0, 1) := dk_3 (dk_at dksX3_manyWrong_1 3 rfl rfl)
theorem dX3_manyWrong_27 : decode cX3_manyWrong 27 = .ok (.iadd, 1) := dk_96 (dk_at dksX3_manyWrong_1 4 rfl rfl)
theorem dX3_manyWrong_28 : decode cX3_manyWrong 28 = .ok (.istore_n 1, 1) := dk_60 (dk_at dksX3_manyWrong_1 5 rfl rfl)
theorem dX3_manyWrong_29 : decode cX3_manyWrong 29 = .ok (.iinc 2 1, 3) := dk_132 2 1 (dk_at dksX3_manyWrong_1 6 rfl rfl)
theorem dX3_manyWrong_32 : decode cX3_manyWrong 32 = .ok (.goto (-28), 3) := dk_167 255 228 (dk_at dksX3_manyWrong_1 9 rfl rfl)
theorem dX3_manyWrong_35 : decode cX3_manyWrong 35 = .ok (.iload_n 1, 1) := dk_27 (dk_at dksX3_manyWrong_1 12 rfl rfl)
theorem dX3_manyWrong_36 : decode cX3_manyWrong 36 = .ok (.ireturn, 1) := dk_172 (dk_at dksX3_manyWrong_1 13 rfl rfl)
abbrev cX3_isIn : ByteArray := prog_11_method_5_code
def yX3_isIn : MethodName := ⟨RX3, "isIn", "(II)Z"⟩
def dkwX3_isIn_0 : List UInt8 := [26, 27, 122, 4, 126, 4, 160, 0, 7, 4, 167, 0, 4, 3, 172]
abbrev dktX3_isIn_0 : List UInt8 := dkwX3_isIn_0 ++ []
theorem dksX3_isIn_0 : cX3_isIn.data.toList.drop 0 = dktX3_isIn_0 := by decide +kernel
theorem dX3_isIn_0 : decode cX3_isIn 0 = .ok (.iload_n 0, 1) := dk_26 (dk_at dksX3_isIn_0 0 rfl rfl)
theorem dX3_isIn_1 : decode cX3_isIn 1 = .ok (.iload_n 1, 1) := dk_27 (dk_at dksX3_isIn_0 1 rfl rfl)
theorem dX3_isIn_2 : decode cX3_isIn 2 = .ok (.ishr, 1) := dk_122 (dk_at dksX3_isIn_0 2 rfl rfl)
theorem dX3_isIn_3 : decode cX3_isIn 3 = .ok (.iconst 1, 1) := dk_4 (dk_at dksX3_isIn_0 3 rfl rfl)
theorem dX3_isIn_4 : decode cX3_isIn 4 = .ok (.iand, 1) := dk_126 (dk_at dksX3_isIn_0 4 rfl rfl)
theorem dX3_isIn_5 : decode cX3_isIn 5 = .ok (.iconst 1, 1) := dk_4 (dk_at dksX3_isIn_0 5 rfl rfl)
theorem dX3_isIn_6 : decode cX3_isIn 6 = .ok (.if_icmp .ne 7, 3) := dk_160 0 7 (dk_at dksX3_isIn_0 6 rfl rfl)
theorem dX3_isIn_9 : decode cX3_isIn 9 = .ok (.iconst 1, 1) := dk_4 (dk_at dksX3_isIn_0 9 rfl rfl)
theorem dX3_isIn_10 : decode cX3_isIn 10 = .ok (.goto 4, 3) := dk_167 0 4 (dk_at dksX3_isIn_0 10 rfl rfl)
theorem dX3_isIn_13 : decode cX3_isIn 13 = .ok (.iconst 0, 1) := dk_3 (dk_at dksX3_isIn_0 13 rfl rfl)
theorem dX3_isIn_14 : decode cX3_isIn 14 = .ok (.ireturn, 1) := dk_172 (dk_at dksX3_isIn_0 14 rfl rfl)
abbrev cX3_digest : ByteArray := prog_11_method_85_code
def yX3_digest : MethodName := ⟨RX3, "digest", "()J"⟩
def dkwX3_digest_9 : List UInt8 := [132, 4, 1, 167, 255, 199, 132, 3, 1, 167, 255, 185, 31, 173]
abbrev dktX3_digest_9 : List UInt8 := dkwX3_digest_9 ++ []
def dkwX3_digest_8 : List UInt8 := [64, 132, 5, 1, 167, 255, 230, 20, 1, 38, 31, 105, 42, 29, 3, 21, 4, 182, 1, 26, 133, 97, 64]
abbrev dktX3_digest_8 : List UInt8 := dkwX3_digest_8 ++ dktX3_digest_9
def dkwX3_digest_7 : List UInt8 := [54, 5, 21, 5, 7, 162, 0, 26, 20, 1, 38, 31, 105, 42, 29, 21, 4, 21, 5, 182, 1, 52, 133, 97]
abbrev dktX3_digest_7 : List UInt8 := dkwX3_digest_7 ++ dktX3_digest_8
def dkwX3_digest_6 : List UInt8 := [132, 3, 1, 167, 255, 235, 3, 62, 29, 7, 162, 0, 72, 3, 54, 4, 21, 4, 7, 162, 0, 57, 3]
abbrev dktX3_digest_6 : List UInt8 := dkwX3_digest_6 ++ dktX3_digest_7
def dkwX3_digest_5 : List UInt8 := [167, 255, 235, 3, 62, 29, 5, 162, 0, 22, 20, 1, 38, 31, 105, 42, 29, 182, 1, 7, 133, 97, 64]
abbrev dktX3_digest_5 : List UInt8 := dkwX3_digest_5 ++ dktX3_digest_6
def dkwX3_digest_4 : List UInt8 := [62, 29, 5, 162, 0, 22, 20, 1, 38, 31, 105, 42, 29, 182, 1, 4, 133, 97, 64, 132, 3, 1]
abbrev dktX3_digest_4 : List UInt8 := dkwX3_digest_4 ++ dktX3_digest_5
def dkwX3_digest_3 : List UInt8 := [153, 0, 7, 4, 167, 0, 4, 3, 133, 97, 64, 20, 1, 38, 31, 105, 42, 182, 1, 0, 133, 97, 64, 3]
abbrev dktX3_digest_3 : List UInt8 := dkwX3_digest_3 ++ dktX3_digest_4
def dkwX3_digest_2 : List UInt8 := [133, 97, 64, 132, 3, 1, 167, 255, 235, 42, 31, 182, 1, 48, 64, 20, 1, 38, 31, 105, 42, 180, 0, 203]
abbrev dktX3_digest_2 : List UInt8 := dkwX3_digest_2 ++ dktX3_digest_3
def dkwX3_digest_1 : List UInt8 := [64, 132, 3, 1, 167, 255, 234, 3, 62, 29, 7, 162, 0, 22, 20, 1, 38, 31, 105, 42, 29, 182, 0, 244]
abbrev dktX3_digest_1 : List UInt8 := dkwX3_digest_1 ++ dktX3_digest_2
def dkwX3_digest_0 : List UInt8 := [20, 1, 43, 64, 3, 62, 29, 16, 8, 162, 0, 22, 20, 1, 38, 31, 105, 42, 29, 182, 1, 45, 133, 97]
abbrev dktX3_digest_0 : List UInt8 := dkwX3_digest_0 ++ dktX3_digest_1
theorem dksX3_digest_0 : cX3_digest.data.toList.drop 0 = dktX3_digest_0 := by decide +kernel
theorem dksX3_digest_1 : cX3_digest.data.toList.drop 24 = dktX3_digest_1 := dk_seg dksX3_digest_0 24 rfl rfl
theorem dksX3_digest_2 : cX3_digest.data.toList.drop 48 = dktX3_digest_2 := dk_seg dksX3_digest_1 24 rfl rfl
theorem dksX3_digest_3 : cX3_digest.data.toList.drop 72 = dktX3_digest_3 := dk_seg dksX3_digest_2 24 rfl rfl
theorem dksX3_digest_4 : cX3_digest.data.toList.drop 96 = dktX3_digest_4 := dk_seg dksX3_digest_3 24 rfl rfl
theorem dksX3_digest_5 : cX3_digest.data.toList.drop 118 = dktX3_digest_5 := dk_seg dksX3_digest_4 22 rfl rfl
theorem dksX3_digest_6 : cX3_digest.data.toList.drop 141 = dktX3_digest_6 := dk_seg dksX3_digest_5 23 rfl rfl
theorem dksX3_digest_7 : cX3_digest.data.toList.drop 164 = dktX3_digest_7 := dk_seg dksX3_digest_6 23 rfl rfl
theorem dksX3_digest_8 : cX3_digest.data.toList.drop 188 = dktX3_digest_8 := dk_seg dksX3_digest_7 24 rfl rfl
theorem dksX3_digest_9 : cX3_digest.data.toList.drop 211 = dktX3_digest_9 := dk_seg dksX3_digest_8 23 rfl rfl
theorem dX3_digest_0 : decode cX3_digest 0 = .ok (.ldc2_w 299, 3) := dk_20 1 43 (dk_at dksX3_digest_0 0 rfl rfl)
theorem dX3_digest_3 : decode cX3_digest 3 = .ok (.lstore_n 1, 1) := dk_64 (dk_at dksX3_digest_0 3 rfl rfl)
theorem dX3_digest_4 : decode cX3_digest 4 = .ok (.iconst 0, 1) := dk_3 (dk_at dksX3_digest_0 4 rfl rfl)
theorem dX3_digest_5 : decode cX3_digest 5 = .ok (.istore_n 3, 1) := dk_62 (dk_at dksX3_digest_0 5 rfl rfl)
theorem dX3_digest_6 : decode cX3_digest 6 = .ok (.iload_n 3, 1) := dk_29 (dk_at dksX3_digest_0 6 rfl rfl)
theorem dX3_digest_7 : decode cX3_digest 7 = .ok (.bipush 8, 2) := dk_16 8 (dk_at dksX3_digest_0 7 rfl rfl)
theorem dX3_digest_9 : decode cX3_digest 9 = .ok (.if_icmp .ge 22, 3) := dk_162 0 22 (dk_at dksX3_digest_0 9 rfl rfl)
theorem dX3_digest_12 : decode cX3_digest 12 = .ok (.ldc2_w 294, 3) := dk_20 1 38 (dk_at dksX3_digest_0 12 rfl rfl)
theorem dX3_digest_15 : decode cX3_digest 15 = .ok (.lload_n 1, 1) := dk_31 (dk_at dksX3_digest_0 15 rfl rfl)
theorem dX3_digest_16 : decode cX3_digest 16 = .ok (.lmul, 1) := dk_105 (dk_at dksX3_digest_0 16 rfl rfl)
theorem dX3_digest_17 : decode cX3_digest 17 = .ok (.aload_n 0, 1) := dk_42 (dk_at dksX3_digest_0 17 rfl rfl)
theorem dX3_digest_18 : decode cX3_digest 18 = .ok (.iload_n 3, 1) := dk_29 (dk_at dksX3_digest_0 18 rfl rfl)
theorem dX3_digest_19 : decode cX3_digest 19 = .ok (.invokevirtual 301, 3) := dk_182 1 45 (dk_at dksX3_digest_0 19 rfl rfl)
theorem dX3_digest_22 : decode cX3_digest 22 = .ok (.i2l, 1) := dk_133 (dk_at dksX3_digest_0 22 rfl rfl)
theorem dX3_digest_23 : decode cX3_digest 23 = .ok (.ladd, 1) := dk_97 (dk_at dksX3_digest_0 23 rfl rfl)
theorem dX3_digest_24 : decode cX3_digest 24 = .ok (.lstore_n 1, 1) := dk_64 (dk_at dksX3_digest_1 0 rfl rfl)
theorem dX3_digest_25 : decode cX3_digest 25 = .ok (.iinc 3 1, 3) := dk_132 3 1 (dk_at dksX3_digest_1 1 rfl rfl)
theorem dX3_digest_28 : decode cX3_digest 28 = .ok (.goto (-22), 3) := dk_167 255 234 (dk_at dksX3_digest_1 4 rfl rfl)
theorem dX3_digest_31 : decode cX3_digest 31 = .ok (.iconst 0, 1) := dk_3 (dk_at dksX3_digest_1 7 rfl rfl)
theorem dX3_digest_32 : decode cX3_digest 32 = .ok (.istore_n 3, 1) := dk_62 (dk_at dksX3_digest_1 8 rfl rfl)
theorem dX3_digest_33 : decode cX3_digest 33 = .ok (.iload_n 3, 1) := dk_29 (dk_at dksX3_digest_1 9 rfl rfl)
theorem dX3_digest_34 : decode cX3_digest 34 = .ok (.iconst 4, 1) := dk_7 (dk_at dksX3_digest_1 10 rfl rfl)
theorem dX3_digest_35 : decode cX3_digest 35 = .ok (.if_icmp .ge 22, 3) := dk_162 0 22 (dk_at dksX3_digest_1 11 rfl rfl)
theorem dX3_digest_38 : decode cX3_digest 38 = .ok (.ldc2_w 294, 3) := dk_20 1 38 (dk_at dksX3_digest_1 14 rfl rfl)
theorem dX3_digest_41 : decode cX3_digest 41 = .ok (.lload_n 1, 1) := dk_31 (dk_at dksX3_digest_1 17 rfl rfl)
theorem dX3_digest_42 : decode cX3_digest 42 = .ok (.lmul, 1) := dk_105 (dk_at dksX3_digest_1 18 rfl rfl)
theorem dX3_digest_43 : decode cX3_digest 43 = .ok (.aload_n 0, 1) := dk_42 (dk_at dksX3_digest_1 19 rfl rfl)
theorem dX3_digest_44 : decode cX3_digest 44 = .ok (.iload_n 3, 1) := dk_29 (dk_at dksX3_digest_1 20 rfl rfl)
theorem dX3_digest_45 : decode cX3_digest 45 = .ok (.invokevirtual 244, 3) := dk_182 0 244 (dk_at dksX3_digest_1 21 rfl rfl)
theorem dX3_digest_48 : decode cX3_digest 48 = .ok (.i2l, 1) := dk_133 (dk_at dksX3_digest_2 0 rfl rfl)
theorem dX3_digest_49 : decode cX3_digest 49 = .ok (.ladd, 1) := dk_97 (dk_at dksX3_digest_2 1 rfl rfl)
theorem dX3_digest_50 : decode cX3_digest 50 = .ok (.lstore_n 1, 1) := dk_64 (dk_at dksX3_digest_2 2 rfl rfl)
theorem dX3_digest_51 : decode cX3_digest 51 = .ok (.iinc 3 1, 3) := dk_132 3 1 (dk_at dksX3_digest_2 3 rfl rfl)
theorem dX3_digest_54 : decode cX3_digest 54 = .ok (.goto (-21), 3) := dk_167 255 235 (dk_at dksX3_digest_2 6 rfl rfl)
theorem dX3_digest_57 : decode cX3_digest 57 = .ok (.aload_n 0, 1) := dk_42 (dk_at dksX3_digest_2 9 rfl rfl)
theorem dX3_digest_58 : decode cX3_digest 58 = .ok (.lload_n 1, 1) := dk_31 (dk_at dksX3_digest_2 10 rfl rfl)
theorem dX3_digest_59 : decode cX3_digest 59 = .ok (.invokevirtual 304, 3) := dk_182 1 48 (dk_at dksX3_digest_2 11 rfl rfl)
theorem dX3_digest_62 : decode cX3_digest 62 = .ok (.lstore_n 1, 1) := dk_64 (dk_at dksX3_digest_2 14 rfl rfl)
theorem dX3_digest_63 : decode cX3_digest 63 = .ok (.ldc2_w 294, 3) := dk_20 1 38 (dk_at dksX3_digest_2 15 rfl rfl)
theorem dX3_digest_66 : decode cX3_digest 66 = .ok (.lload_n 1, 1) := dk_31 (dk_at dksX3_digest_2 18 rfl rfl)
theorem dX3_digest_67 : decode cX3_digest 67 = .ok (.lmul, 1) := dk_105 (dk_at dksX3_digest_2 19 rfl rfl)
theorem dX3_digest_68 : decode cX3_digest 68 = .ok (.aload_n 0, 1) := dk_42 (dk_at dksX3_digest_2 20 rfl rfl)
theorem dX3_digest_69 : decode cX3_digest 69 = .ok (.getfield 203, 3) := dk_180 0 203 (dk_at dksX3_digest_2 21 rfl rfl)
theorem dX3_digest_72 : decode cX3_digest 72 = .ok (.ifCond .eq 7, 3) := dk_153 0 7 (dk_at dksX3_digest_3 0 rfl rfl)
theorem dX3_digest_75 : decode cX3_digest 75 = .ok (.iconst 1, 1) := dk_4 (dk_at dksX3_digest_3 3 rfl rfl)
theorem dX3_digest_76 : decode cX3_digest 76 = .ok (.goto 4, 3) := dk_167 0 4 (dk_at dksX3_digest_3 4 rfl rfl)
theorem dX3_digest_79 : decode cX3_digest 79 = .ok (.iconst 0, 1) := dk_3 (dk_at dksX3_digest_3 7 rfl rfl)
theorem dX3_digest_80 : decode cX3_digest 80 = .ok (.i2l, 1) := dk_133 (dk_at dksX3_digest_3 8 rfl rfl)
theorem dX3_digest_81 : decode cX3_digest 81 = .ok (.ladd, 1) := dk_97 (dk_at dksX3_digest_3 9 rfl rfl)
theorem dX3_digest_82 : decode cX3_digest 82 = .ok (.lstore_n 1, 1) := dk_64 (dk_at dksX3_digest_3 10 rfl rfl)
theorem dX3_digest_83 : decode cX3_digest 83 = .ok (.ldc2_w 294, 3) := dk_20 1 38 (dk_at dksX3_digest_3 11 rfl rfl)
theorem dX3_digest_86 : decode cX3_digest 86 = .ok (.lload_n 1, 1) := dk_31 (dk_at dksX3_digest_3 14 rfl rfl)
theorem dX3_digest_87 : decode cX3_digest 87 = .ok (.lmul, 1) := dk_105 (dk_at dksX3_digest_3 15 rfl rfl)
theorem dX3_digest_88 : decode cX3_digest 88 = .ok (.aload_n 0, 1) := dk_42 (dk_at dksX3_digest_3 16 rfl rfl)
theorem dX3_digest_89 : decode cX3_digest 89 = .ok (.invokevirtual 256, 3) := dk_182 1 0 (dk_at dksX3_digest_3 17 rfl rfl)
theorem dX3_digest_92 : decode cX3_digest 92 = .ok (.i2l, 1) := dk_133 (dk_at dksX3_digest_3 20 rfl rfl)
theorem dX3_digest_93 : decode cX3_digest 93 = .ok (.ladd, 1) := dk_97 (dk_at dksX3_digest_3 21 rfl rfl)
theorem dX3_digest_94 : decode cX3_digest 94 = .ok (.lstore_n 1, 1) := dk_64 (dk_at dksX3_digest_3 22 rfl rfl)
theorem dX3_digest_95 : decode cX3_digest 95 = .ok (.iconst 0, 1) := dk_3 (dk_at dksX3_digest_3 23 rfl rfl)
theorem dX3_digest_96 : decode cX3_digest 96 = .ok (.istore_n 3, 1) := dk_62 (dk_at dksX3_digest_4 0 rfl rfl)
theorem dX3_digest_97 : decode cX3_digest 97 = .ok (.iload_n 3, 1) := dk_29 (dk_at dksX3_digest_4 1 rfl rfl)
theorem dX3_digest_98 : decode cX3_digest 98 = .ok (.iconst 2, 1) := dk_5 (dk_at dksX3_digest_4 2 rfl rfl)
theorem dX3_digest_99 : decode cX3_digest 99 = .ok (.if_icmp .ge 22, 3) := dk_162 0 22 (dk_at dksX3_digest_4 3 rfl rfl)
theorem dX3_digest_102 : decode cX3_digest 102 = .ok (.ldc2_w 294, 3) := dk_20 1 38 (dk_at dksX3_digest_4 6 rfl rfl)
theorem dX3_digest_105 : decode cX3_digest 105 = .ok (.lload_n 1, 1) := dk_31 (dk_at dksX3_digest_4 9 rfl rfl)
theorem dX3_digest_106 : decode cX3_digest 106 = .ok (.lmul, 1) := dk_105 (dk_at dksX3_digest_4 10 rfl rfl)
theorem dX3_digest_107 : decode cX3_digest 107 = .ok (.aload_n 0, 1) := dk_42 (dk_at dksX3_digest_4 11 rfl rfl)
theorem dX3_digest_108 : decode cX3_digest 108 = .ok (.iload_n 3, 1) := dk_29 (dk_at dksX3_digest_4 12 rfl rfl)
theorem dX3_digest_109 : decode cX3_digest 109 = .ok (.invokevirtual 260, 3) := dk_182 1 4 (dk_at dksX3_digest_4 13 rfl rfl)
theorem dX3_digest_112 : decode cX3_digest 112 = .ok (.i2l, 1) := dk_133 (dk_at dksX3_digest_4 16 rfl rfl)
theorem dX3_digest_113 : decode cX3_digest 113 = .ok (.ladd, 1) := dk_97 (dk_at dksX3_digest_4 17 rfl rfl)
theorem dX3_digest_114 : decode cX3_digest 114 = .ok (.lstore_n 1, 1) := dk_64 (dk_at dksX3_digest_4 18 rfl rfl)
theorem dX3_digest_115 : decode cX3_digest 115 = .ok (.iinc 3 1, 3) := dk_132 3 1 (dk_at dksX3_digest_4 19 rfl rfl)
theorem dX3_digest_118 : decode cX3_digest 118 = .ok (.goto (-21), 3) := dk_167 255 235 (dk_at dksX3_digest_5 0 rfl rfl)
theorem dX3_digest_121 : decode cX3_digest 121 = .ok (.iconst 0, 1) := dk_3 (dk_at dksX3_digest_5 3 rfl rfl)
theorem dX3_digest_122 : decode cX3_digest 122 = .ok (.istore_n 3, 1) := dk_62 (dk_at dksX3_digest_5 4 rfl rfl)
theorem dX3_digest_123 : decode cX3_digest 123 = .ok (.iload_n 3, 1) := dk_29 (dk_at dksX3_digest_5 5 rfl rfl)
theorem dX3_digest_124 : decode cX3_digest 124 = .ok (.iconst 2, 1) := dk_5 (dk_at dksX3_digest_5 6 rfl rfl)
theorem dX3_digest_125 : decode cX3_digest 125 = .ok (.if_icmp .ge 22, 3) := dk_162 0 22 (dk_at dksX3_digest_5 7 rfl rfl)
theorem dX3_digest_128 : decode cX3_digest 128 = .ok (.ldc2_w 294, 3) := dk_20 1 38 (dk_at dksX3_digest_5 10 rfl rfl)
theorem dX3_digest_131 : decode cX3_digest 131 = .ok (.lload_n 1, 1) := dk_31 (dk_at dksX3_digest_5 13 rfl rfl)
theorem dX3_digest_132 : decode cX3_digest 132 = .ok (.lmul, 1) := dk_105 (dk_at dksX3_digest_5 14 rfl rfl)
theorem dX3_digest_133 : decode cX3_digest 133 = .ok (.aload_n 0, 1) := dk_42 (dk_at dksX3_digest_5 15 rfl rfl)
theorem dX3_digest_134 : decode cX3_digest 134 = .ok (.iload_n 3, 1) := dk_29 (dk_at dksX3_digest_5 16 rfl rfl)
theorem dX3_digest_135 : decode cX3_digest 135 = .ok (.invokevirtual 263, 3) := dk_182 1 7 (dk_at dksX3_digest_5 17 rfl rfl)
theorem dX3_digest_138 : decode cX3_digest 138 = .ok (.i2l, 1) := dk_133 (dk_at dksX3_digest_5 20 rfl rfl)
theorem dX3_digest_139 : decode cX3_digest 139 = .ok (.ladd, 1) := dk_97 (dk_at dksX3_digest_5 21 rfl rfl)
theorem dX3_digest_140 : decode cX3_digest 140 = .ok (.lstore_n 1, 1) := dk_64 (dk_at dksX3_digest_5 22 rfl rfl)
theorem dX3_digest_141 : decode cX3_digest 141 = .ok (.iinc 3 1, 3) := dk_132 3 1 (dk_at dksX3_digest_6 0 rfl rfl)
theorem dX3_digest_144 : decode cX3_digest 144 = .ok (.goto (-21), 3) := dk_167 255 235 (dk_at dksX3_digest_6 3 rfl rfl)
theorem dX3_digest_147 : decode cX3_digest 147 = .ok (.iconst 0, 1) := dk_3 (dk_at dksX3_digest_6 6 rfl rfl)
theorem dX3_digest_148 : decode cX3_digest 148 = .ok (.istore_n 3, 1) := dk_62 (dk_at dksX3_digest_6 7 rfl rfl)
theorem dX3_digest_149 : decode cX3_digest 149 = .ok (.iload_n 3, 1) := dk_29 (dk_at dksX3_digest_6 8 rfl rfl)
theorem dX3_digest_150 : decode cX3_digest 150 = .ok (.iconst 4, 1) := dk_7 (dk_at dksX3_digest_6 9 rfl rfl)
theorem dX3_digest_151 : decode cX3_digest 151 = .ok (.if_icmp .ge 72, 3) := dk_162 0 72 (dk_at dksX3_digest_6 10 rfl rfl)
theorem dX3_digest_154 : decode cX3_digest 154 = .ok (.iconst 0, 1) := dk_3 (dk_at dksX3_digest_6 13 rfl rfl)
theorem dX3_digest_155 : decode cX3_digest 155 = .ok (.istore 4, 2) := dk_54 4 (dk_at dksX3_digest_6 14 rfl rfl)
theorem dX3_digest_157 : decode cX3_digest 157 = .ok (.iload 4, 2) := dk_21 4 (dk_at dksX3_digest_6 16 rfl rfl)
theorem dX3_digest_159 : decode cX3_digest 159 = .ok (.iconst 4, 1) := dk_7 (dk_at dksX3_digest_6 18 rfl rfl)
theorem dX3_digest_160 : decode cX3_digest 160 = .ok (.if_icmp .ge 57, 3) := dk_162 0 57 (dk_at dksX3_digest_6 19 rfl rfl)
theorem dX3_digest_163 : decode cX3_digest 163 = .ok (.iconst 0, 1) := dk_3 (dk_at dksX3_digest_6 22 rfl rfl)
theorem dX3_digest_164 : decode cX3_digest 164 = .ok (.istore 5, 2) := dk_54 5 (dk_at dksX3_digest_7 0 rfl rfl)
theorem dX3_digest_166 : decode cX3_digest 166 = .ok (.iload 5, 2) := dk_21 5 (dk_at dksX3_digest_7 2 rfl rfl)
theorem dX3_digest_168 : decode cX3_digest 168 = .ok (.iconst 4, 1) := dk_7 (dk_at dksX3_digest_7 4 rfl rfl)
theorem dX3_digest_169 : decode cX3_digest 169 = .ok (.if_icmp .ge 26, 3) := dk_162 0 26 (dk_at dksX3_digest_7 5 rfl rfl)
theorem dX3_digest_172 : decode cX3_digest 172 = .ok (.ldc2_w 294, 3) := dk_20 1 38 (dk_at dksX3_digest_7 8 rfl rfl)
theorem dX3_digest_175 : decode cX3_digest 175 = .ok (.lload_n 1, 1) := dk_31 (dk_at dksX3_digest_7 11 rfl rfl)
theorem dX3_digest_176 : decode cX3_digest 176 = .ok (.lmul, 1) := dk_105 (dk_at dksX3_digest_7 12 rfl rfl)
theorem dX3_digest_177 : decode cX3_digest 177 = .ok (.aload_n 0, 1) := dk_42 (dk_at dksX3_digest_7 13 rfl rfl)
theorem dX3_digest_178 : decode cX3_digest 178 = .ok (.iload_n 3, 1) := dk_29 (dk_at dksX3_digest_7 14 rfl rfl)
theorem dX3_digest_179 : decode cX3_digest 179 = .ok (.iload 4, 2) := dk_21 4 (dk_at dksX3_digest_7 15 rfl rfl)
theorem dX3_digest_181 : decode cX3_digest 181 = .ok (.iload 5, 2) := dk_21 5 (dk_at dksX3_digest_7 17 rfl rfl)
theorem dX3_digest_183 : decode cX3_digest 183 = .ok (.invokevirtual 308, 3) := dk_182 1 52 (dk_at dksX3_digest_7 19 rfl rfl)
theorem dX3_digest_186 : decode cX3_digest 186 = .ok (.i2l, 1) := dk_133 (dk_at dksX3_digest_7 22 rfl rfl)
theorem dX3_digest_187 : decode cX3_digest 187 = .ok (.ladd, 1) := dk_97 (dk_at dksX3_digest_7 23 rfl rfl)
theorem dX3_digest_188 : decode cX3_digest 188 = .ok (.lstore_n 1, 1) := dk_64 (dk_at dksX3_digest_8 0 rfl rfl)
theorem dX3_digest_189 : decode cX3_digest 189 = .ok (.iinc 5 1, 3) := dk_132 5 1 (dk_at dksX3_digest_8 1 rfl rfl)
theorem dX3_digest_192 : decode cX3_digest 192 = .ok (.goto (-26), 3) := dk_167 255 230 (dk_at dksX3_digest_8 4 rfl rfl)
theorem dX3_digest_195 : decode cX3_digest 195 = .ok (.ldc2_w 294, 3) := dk_20 1 38 (dk_at dksX3_digest_8 7 rfl rfl)
theorem dX3_digest_198 : decode cX3_digest 198 = .ok (.lload_n 1, 1) := dk_31 (dk_at dksX3_digest_8 10 rfl rfl)
theorem dX3_digest_199 : decode cX3_digest 199 = .ok (.lmul, 1) := dk_105 (dk_at dksX3_digest_8 11 rfl rfl)
theorem dX3_digest_200 : decode cX3_digest 200 = .ok (.aload_n 0, 1) := dk_42 (dk_at dksX3_digest_8 12 rfl rfl)
theorem dX3_digest_201 : decode cX3_digest 201 = .ok (.iload_n 3, 1) := dk_29 (dk_at dksX3_digest_8 13 rfl rfl)
theorem dX3_digest_202 : decode cX3_digest 202 = .ok (.iconst 0, 1) := dk_3 (dk_at dksX3_digest_8 14 rfl rfl)
theorem dX3_digest_203 : decode cX3_digest 203 = .ok (.iload 4, 2) := dk_21 4 (dk_at dksX3_digest_8 15 rfl rfl)
theorem dX3_digest_205 : decode cX3_digest 205 = .ok (.invokevirtual 282, 3) := dk_182 1 26 (dk_at dksX3_digest_8 17 rfl rfl)
theorem dX3_digest_208 : decode cX3_digest 208 = .ok (.i2l, 1) := dk_133 (dk_at dksX3_digest_8 20 rfl rfl)
theorem dX3_digest_209 : decode cX3_digest 209 = .ok (.ladd, 1) := dk_97 (dk_at dksX3_digest_8 21 rfl rfl)
theorem dX3_digest_210 : decode cX3_digest 210 = .ok (.lstore_n 1, 1) := dk_64 (dk_at dksX3_digest_8 22 rfl rfl)
theorem dX3_digest_211 : decode cX3_digest 211 = .ok (.iinc 4 1, 3) := dk_132 4 1 (dk_at dksX3_digest_9 0 rfl rfl)
theorem dX3_digest_214 : decode cX3_digest 214 = .ok (.goto (-57), 3) := dk_167 255 199 (dk_at dksX3_digest_9 3 rfl rfl)
theorem dX3_digest_217 : decode cX3_digest 217 = .ok (.iinc 3 1, 3) := dk_132 3 1 (dk_at dksX3_digest_9 6 rfl rfl)
theorem dX3_digest_220 : decode cX3_digest 220 = .ok (.goto (-71), 3) := dk_167 255 185 (dk_at dksX3_digest_9 9 rfl rfl)
theorem dX3_digest_223 : decode cX3_digest 223 = .ok (.lload_n 1, 1) := dk_31 (dk_at dksX3_digest_9 12 rfl rfl)
theorem dX3_digest_224 : decode cX3_digest 224 = .ok (.lreturn, 1) := dk_173 (dk_at dksX3_digest_9 13 rfl rfl)
abbrev cX3_tellsSky : ByteArray := prog_11_method_84_code
def yX3_tellsSky : MethodName := ⟨RX3, "tellsSky", "(J)J"⟩
def dkwX3_tellsSky_9 : List UInt8 := [132, 5, 1, 167, 255, 177, 33, 173]
abbrev dktX3_tellsSky_9 : List UInt8 := dkwX3_tellsSky_9 ++ []
def dkwX3_tellsSky_8 : List UInt8 := [33, 105, 42, 3, 3, 4, 21, 5, 21, 6, 182, 1, 40, 133, 97, 66, 132, 6, 1, 167, 255, 228]
abbrev dktX3_tellsSky_8 : List UInt8 := dkwX3_tellsSky_8 ++ dktX3_tellsSky_9
def dkwX3_tellsSky_7 : List UInt8 := [182, 0, 250, 133, 97, 66, 132, 6, 1, 167, 255, 231, 3, 54, 6, 21, 6, 6, 162, 0, 28, 20, 1, 38]
abbrev dktX3_tellsSky_7 : List UInt8 := dkwX3_tellsSky_7 ++ dktX3_tellsSky_8
def dkwX3_tellsSky_6 : List UInt8 := [162, 0, 74, 3, 54, 6, 21, 6, 6, 162, 0, 25, 20, 1, 38, 33, 105, 42, 21, 5, 21, 6]
abbrev dktX3_tellsSky_6 : List UInt8 := dkwX3_tellsSky_6 ++ dktX3_tellsSky_7
def dkwX3_tellsSky_5 : List UInt8 := [132, 6, 1, 167, 255, 221, 132, 5, 1, 167, 255, 139, 3, 54, 5, 21, 5, 42, 180, 0, 25, 3, 46]
abbrev dktX3_tellsSky_5 : List UInt8 := dkwX3_tellsSky_5 ++ dktX3_tellsSky_6
def dkwX3_tellsSky_4 : List UInt8 := [162, 0, 30, 20, 1, 38, 33, 105, 42, 180, 0, 35, 16, 12, 21, 5, 104, 21, 6, 96, 46, 133, 97, 66]
abbrev dktX3_tellsSky_4 : List UInt8 := dkwX3_tellsSky_4 ++ dktX3_tellsSky_5
def dkwX3_tellsSky_3 : List UInt8 := [182, 0, 253, 133, 97, 66, 132, 6, 1, 167, 255, 231, 3, 54, 6, 21, 6, 42, 180, 0, 25, 3, 46]
abbrev dktX3_tellsSky_3 : List UInt8 := dkwX3_tellsSky_3 ++ dktX3_tellsSky_4
def dkwX3_tellsSky_2 : List UInt8 := [167, 255, 231, 3, 54, 6, 21, 6, 5, 162, 0, 25, 20, 1, 38, 33, 105, 42, 21, 5, 21, 6]
abbrev dktX3_tellsSky_2 : List UInt8 := dkwX3_tellsSky_2 ++ dktX3_tellsSky_3
def dkwX3_tellsSky_1 : List UInt8 := [162, 0, 25, 20, 1, 38, 33, 105, 42, 21, 5, 21, 6, 182, 0, 247, 133, 97, 66, 132, 6, 1]
abbrev dktX3_tellsSky_1 : List UInt8 := dkwX3_tellsSky_1 ++ dktX3_tellsSky_2
def dkwX3_tellsSky_0 : List UInt8 := [31, 66, 3, 54, 5, 21, 5, 42, 180, 0, 25, 4, 46, 162, 0, 112, 3, 54, 6, 21, 6, 5]
abbrev dktX3_tellsSky_0 : List UInt8 := dkwX3_tellsSky_0 ++ dktX3_tellsSky_1
theorem dksX3_tellsSky_0 : cX3_tellsSky.data.toList.drop 0 = dktX3_tellsSky_0 := by decide +kernel
theorem dksX3_tellsSky_1 : cX3_tellsSky.data.toList.drop 22 = dktX3_tellsSky_1 := dk_seg dksX3_tellsSky_0 22 rfl rfl
theorem dksX3_tellsSky_2 : cX3_tellsSky.data.toList.drop 44 = dktX3_tellsSky_2 := dk_seg dksX3_tellsSky_1 22 rfl rfl
theorem dksX3_tellsSky_3 : cX3_tellsSky.data.toList.drop 66 = dktX3_tellsSky_3 := dk_seg dksX3_tellsSky_2 22 rfl rfl
theorem dksX3_tellsSky_4 : cX3_tellsSky.data.toList.drop 89 = dktX3_tellsSky_4 := dk_seg dksX3_tellsSky_3 23 rfl rfl
theorem dksX3_tellsSky_5 : cX3_tellsSky.data.toList.drop 113 = dktX3_tellsSky_5 := dk_seg dksX3_tellsSky_4 24 rfl rfl
theorem dksX3_tellsSky_6 : cX3_tellsSky.data.toList.drop 136 = dktX3_tellsSky_6 := dk_seg dksX3_tellsSky_5 23 rfl rfl
theorem dksX3_tellsSky_7 : cX3_tellsSky.data.toList.drop 158 = dktX3_tellsSky_7 := dk_seg dksX3_tellsSky_6 22 rfl rfl
theorem dksX3_tellsSky_8 : cX3_tellsSky.data.toList.drop 182 = dktX3_tellsSky_8 := dk_seg dksX3_tellsSky_7 24 rfl rfl
theorem dksX3_tellsSky_9 : cX3_tellsSky.data.toList.drop 204 = dktX3_tellsSky_9 := dk_seg dksX3_tellsSky_8 22 rfl rfl
theorem dX3_tellsSky_0 : decode cX3_tellsSky 0 = .ok (.lload_n 1, 1) := dk_31 (dk_at dksX3_tellsSky_0 0 rfl rfl)
theorem dX3_tellsSky_1 : decode cX3_tellsSky 1 = .ok (.lstore_n 3, 1) := dk_66 (dk_at dksX3_tellsSky_0 1 rfl rfl)
theorem dX3_tellsSky_2 : decode cX3_tellsSky 2 = .ok (.iconst 0, 1) := dk_3 (dk_at dksX3_tellsSky_0 2 rfl rfl)
theorem dX3_tellsSky_3 : decode cX3_tellsSky 3 = .ok (.istore 5, 2) := dk_54 5 (dk_at dksX3_tellsSky_0 3 rfl rfl)
theorem dX3_tellsSky_5 : decode cX3_tellsSky 5 = .ok (.iload 5, 2) := dk_21 5 (dk_at dksX3_tellsSky_0 5 rfl rfl)
theorem dX3_tellsSky_7 : decode cX3_tellsSky 7 = .ok (.aload_n 0, 1) := dk_42 (dk_at dksX3_tellsSky_0 7 rfl rfl)
theorem dX3_tellsSky_8 : decode cX3_tellsSky 8 = .ok (.getfield 25, 3) := dk_180 0 25 (dk_at dksX3_tellsSky_0 8 rfl rfl)
theorem dX3_tellsSky_11 : decode cX3_tellsSky 11 = .ok (.iconst 1, 1) := dk_4 (dk_at dksX3_tellsSky_0 11 rfl rfl)
theorem dX3_tellsSky_12 : decode cX3_tellsSky 12 = .ok (.iaload, 1) := dk_46 (dk_at dksX3_tellsSky_0 12 rfl rfl)
theorem dX3_tellsSky_13 : decode cX3_tellsSky 13 = .ok (.if_icmp .ge 112, 3) := dk_162 0 112 (dk_at dksX3_tellsSky_0 13 rfl rfl)
theorem dX3_tellsSky_16 : decode cX3_tellsSky 16 = .ok (.iconst 0, 1) := dk_3 (dk_at dksX3_tellsSky_0 16 rfl rfl)
theorem dX3_tellsSky_17 : decode cX3_tellsSky 17 = .ok (.istore 6, 2) := dk_54 6 (dk_at dksX3_tellsSky_0 17 rfl rfl)
theorem dX3_tellsSky_19 : decode cX3_tellsSky 19 = .ok (.iload 6, 2) := dk_21 6 (dk_at dksX3_tellsSky_0 19 rfl rfl)
theorem dX3_tellsSky_21 : decode cX3_tellsSky 21 = .ok (.iconst 2, 1) := dk_5 (dk_at dksX3_tellsSky_0 21 rfl rfl)
theorem dX3_tellsSky_22 : decode cX3_tellsSky 22 = .ok (.if_icmp .ge 25, 3) := dk_162 0 25 (dk_at dksX3_tellsSky_1 0 rfl rfl)
theorem dX3_tellsSky_25 : decode cX3_tellsSky 25 = .ok (.ldc2_w 294, 3) := dk_20 1 38 (dk_at dksX3_tellsSky_1 3 rfl rfl)
theorem dX3_tellsSky_28 : decode cX3_tellsSky 28 = .ok (.lload_n 3, 1) := dk_33 (dk_at dksX3_tellsSky_1 6 rfl rfl)
theorem dX3_tellsSky_29 : decode cX3_tellsSky 29 = .ok (.lmul, 1) := dk_105 (dk_at dksX3_tellsSky_1 7 rfl rfl)
theorem dX3_tellsSky_30 : decode cX3_tellsSky 30 = .ok (.aload_n 0, 1) := dk_42 (dk_at dksX3_tellsSky_1 8 rfl rfl)
theorem dX3_tellsSky_31 : decode cX3_tellsSky 31 = .ok (.iload 5, 2) := dk_21 5 (dk_at dksX3_tellsSky_1 9 rfl rfl)
theorem dX3_tellsSky_33 : decode cX3_tellsSky 33 = .ok (.iload 6, 2) := dk_21 6 (dk_at dksX3_tellsSky_1 11 rfl rfl)
theorem dX3_tellsSky_35 : decode cX3_tellsSky 35 = .ok (.invokevirtual 247, 3) := dk_182 0 247 (dk_at dksX3_tellsSky_1 13 rfl rfl)
theorem dX3_tellsSky_38 : decode cX3_tellsSky 38 = .ok (.i2l, 1) := dk_133 (dk_at dksX3_tellsSky_1 16 rfl rfl)
theorem dX3_tellsSky_39 : decode cX3_tellsSky 39 = .ok (.ladd, 1) := dk_97 (dk_at dksX3_tellsSky_1 17 rfl rfl)
theorem dX3_tellsSky_40 : decode cX3_tellsSky 40 = .ok (.lstore_n 3, 1) := dk_66 (dk_at dksX3_tellsSky_1 18 rfl rfl)
theorem dX3_tellsSky_41 : decode cX3_tellsSky 41 = .ok (.iinc 6 1, 3) := dk_132 6 1 (dk_at dksX3_tellsSky_1 19 rfl rfl)
theorem dX3_tellsSky_44 : decode cX3_tellsSky 44 = .ok (.goto (-25), 3) := dk_167 255 231 (dk_at dksX3_tellsSky_2 0 rfl rfl)
theorem dX3_tellsSky_47 : decode cX3_tellsSky 47 = .ok (.iconst 0, 1) := dk_3 (dk_at dksX3_tellsSky_2 3 rfl rfl)
theorem dX3_tellsSky_48 : decode cX3_tellsSky 48 = .ok (.istore 6, 2) := dk_54 6 (dk_at dksX3_tellsSky_2 4 rfl rfl)
theorem dX3_tellsSky_50 : decode cX3_tellsSky 50 = .ok (.iload 6, 2) := dk_21 6 (dk_at dksX3_tellsSky_2 6 rfl rfl)
theorem dX3_tellsSky_52 : decode cX3_tellsSky 52 = .ok (.iconst 2, 1) := dk_5 (dk_at dksX3_tellsSky_2 8 rfl rfl)
theorem dX3_tellsSky_53 : decode cX3_tellsSky 53 = .ok (.if_icmp .ge 25, 3) := dk_162 0 25 (dk_at dksX3_tellsSky_2 9 rfl rfl)
theorem dX3_tellsSky_56 : decode cX3_tellsSky 56 = .ok (.ldc2_w 294, 3) := dk_20 1 38 (dk_at dksX3_tellsSky_2 12 rfl rfl)
theorem dX3_tellsSky_59 : decode cX3_tellsSky 59 = .ok (.lload_n 3, 1) := dk_33 (dk_at dksX3_tellsSky_2 15 rfl rfl)
theorem dX3_tellsSky_60 : decode cX3_tellsSky 60 = .ok (.lmul, 1) := dk_105 (dk_at dksX3_tellsSky_2 16 rfl rfl)
theorem dX3_tellsSky_61 : decode cX3_tellsSky 61 = .ok (.aload_n 0, 1) := dk_42 (dk_at dksX3_tellsSky_2 17 rfl rfl)
theorem dX3_tellsSky_62 : decode cX3_tellsSky 62 = .ok (.iload 5, 2) := dk_21 5 (dk_at dksX3_tellsSky_2 18 rfl rfl)
theorem dX3_tellsSky_64 : decode cX3_tellsSky 64 = .ok (.iload 6, 2) := dk_21 6 (dk_at dksX3_tellsSky_2 20 rfl rfl)
theorem dX3_tellsSky_66 : decode cX3_tellsSky 66 = .ok (.invokevirtual 253, 3) := dk_182 0 253 (dk_at dksX3_tellsSky_3 0 rfl rfl)
theorem dX3_tellsSky_69 : decode cX3_tellsSky 69 = .ok (.i2l, 1) := dk_133 (dk_at dksX3_tellsSky_3 3 rfl rfl)
theorem dX3_tellsSky_70 : decode cX3_tellsSky 70 = .ok (.ladd, 1) := dk_97 (dk_at dksX3_tellsSky_3 4 rfl rfl)
theorem dX3_tellsSky_71 : decode cX3_tellsSky 71 = .ok (.lstore_n 3, 1) := dk_66 (dk_at dksX3_tellsSky_3 5 rfl rfl)
theorem dX3_tellsSky_72 : decode cX3_tellsSky 72 = .ok (.iinc 6 1, 3) := dk_132 6 1 (dk_at dksX3_tellsSky_3 6 rfl rfl)
theorem dX3_tellsSky_75 : decode cX3_tellsSky 75 = .ok (.goto (-25), 3) := dk_167 255 231 (dk_at dksX3_tellsSky_3 9 rfl rfl)
theorem dX3_tellsSky_78 : decode cX3_tellsSky 78 = .ok (.iconst 0, 1) := dk_3 (dk_at dksX3_tellsSky_3 12 rfl rfl)
theorem dX3_tellsSky_79 : decode cX3_tellsSky 79 = .ok (.istore 6, 2) := dk_54 6 (dk_at dksX3_tellsSky_3 13 rfl rfl)
theorem dX3_tellsSky_81 : decode cX3_tellsSky 81 = .ok (.iload 6, 2) := dk_21 6 (dk_at dksX3_tellsSky_3 15 rfl rfl)
theorem dX3_tellsSky_83 : decode cX3_tellsSky 83 = .ok (.aload_n 0, 1) := dk_42 (dk_at dksX3_tellsSky_3 17 rfl rfl)
theorem dX3_tellsSky_84 : decode cX3_tellsSky 84 = .ok (.getfield 25, 3) := dk_180 0 25 (dk_at dksX3_tellsSky_3 18 rfl rfl)
theorem dX3_tellsSky_87 : decode cX3_tellsSky 87 = .ok (.iconst 0, 1) := dk_3 (dk_at dksX3_tellsSky_3 21 rfl rfl)
theorem dX3_tellsSky_88 : decode cX3_tellsSky 88 = .ok (.iaload, 1) := dk_46 (dk_at dksX3_tellsSky_3 22 rfl rfl)
theorem dX3_tellsSky_89 : decode cX3_tellsSky 89 = .ok (.if_icmp .ge 30, 3) := dk_162 0 30 (dk_at dksX3_tellsSky_4 0 rfl rfl)
theorem dX3_tellsSky_92 : decode cX3_tellsSky 92 = .ok (.ldc2_w 294, 3) := dk_20 1 38 (dk_at dksX3_tellsSky_4 3 rfl rfl)
theorem dX3_tellsSky_95 : decode cX3_tellsSky 95 = .ok (.lload_n 3, 1) := dk_33 (dk_at dksX3_tellsSky_4 6 rfl rfl)
theorem dX3_tellsSky_96 : decode cX3_tellsSky 96 = .ok (.lmul, 1) := dk_105 (dk_at dksX3_tellsSky_4 7 rfl rfl)
theorem dX3_tellsSky_97 : decode cX3_tellsSky 97 = .ok (.aload_n 0, 1) := dk_42 (dk_at dksX3_tellsSky_4 8 rfl rfl)
theorem dX3_tellsSky_98 : decode cX3_tellsSky 98 = .ok (.getfield 35, 3) := dk_180 0 35 (dk_at dksX3_tellsSky_4 9 rfl rfl)
theorem dX3_tellsSky_101 : decode cX3_tellsSky 101 = .ok (.bipush 12, 2) := dk_16 12 (dk_at dksX3_tellsSky_4 12 rfl rfl)
theorem dX3_tellsSky_103 : decode cX3_tellsSky 103 = .ok (.iload 5, 2) := dk_21 5 (dk_at dksX3_tellsSky_4 14 rfl rfl)
theorem dX3_tellsSky_105 : decode cX3_tellsSky 105 = .ok (.imul, 1) := dk_104 (dk_at dksX3_tellsSky_4 16 rfl rfl)
theorem dX3_tellsSky_106 : decode cX3_tellsSky 106 = .ok (.iload 6, 2) := dk_21 6 (dk_at dksX3_tellsSky_4 17 rfl rfl)
theorem dX3_tellsSky_108 : decode cX3_tellsSky 108 = .ok (.iadd, 1) := dk_96 (dk_at dksX3_tellsSky_4 19 rfl rfl)
theorem dX3_tellsSky_109 : decode cX3_tellsSky 109 = .ok (.iaload, 1) := dk_46 (dk_at dksX3_tellsSky_4 20 rfl rfl)
theorem dX3_tellsSky_110 : decode cX3_tellsSky 110 = .ok (.i2l, 1) := dk_133 (dk_at dksX3_tellsSky_4 21 rfl rfl)
theorem dX3_tellsSky_111 : decode cX3_tellsSky 111 = .ok (.ladd, 1) := dk_97 (dk_at dksX3_tellsSky_4 22 rfl rfl)
theorem dX3_tellsSky_112 : decode cX3_tellsSky 112 = .ok (.lstore_n 3, 1) := dk_66 (dk_at dksX3_tellsSky_4 23 rfl rfl)
theorem dX3_tellsSky_113 : decode cX3_tellsSky 113 = .ok (.iinc 6 1, 3) := dk_132 6 1 (dk_at dksX3_tellsSky_5 0 rfl rfl)
theorem dX3_tellsSky_116 : decode cX3_tellsSky 116 = .ok (.goto (-35), 3) := dk_167 255 221 (dk_at dksX3_tellsSky_5 3 rfl rfl)
theorem dX3_tellsSky_119 : decode cX3_tellsSky 119 = .ok (.iinc 5 1, 3) := dk_132 5 1 (dk_at dksX3_tellsSky_5 6 rfl rfl)
theorem dX3_tellsSky_122 : decode cX3_tellsSky 122 = .ok (.goto (-117), 3) := dk_167 255 139 (dk_at dksX3_tellsSky_5 9 rfl rfl)
theorem dX3_tellsSky_125 : decode cX3_tellsSky 125 = .ok (.iconst 0, 1) := dk_3 (dk_at dksX3_tellsSky_5 12 rfl rfl)
theorem dX3_tellsSky_126 : decode cX3_tellsSky 126 = .ok (.istore 5, 2) := dk_54 5 (dk_at dksX3_tellsSky_5 13 rfl rfl)
theorem dX3_tellsSky_128 : decode cX3_tellsSky 128 = .ok (.iload 5, 2) := dk_21 5 (dk_at dksX3_tellsSky_5 15 rfl rfl)
theorem dX3_tellsSky_130 : decode cX3_tellsSky 130 = .ok (.aload_n 0, 1) := dk_42 (dk_at dksX3_tellsSky_5 17 rfl rfl)
theorem dX3_tellsSky_131 : decode cX3_tellsSky 131 = .ok (.getfield 25, 3) := dk_180 0 25 (dk_at dksX3_tellsSky_5 18 rfl rfl)
theorem dX3_tellsSky_134 : decode cX3_tellsSky 134 = .ok (.iconst 0, 1) := dk_3 (dk_at dksX3_tellsSky_5 21 rfl rfl)
theorem dX3_tellsSky_135 : decode cX3_tellsSky 135 = .ok (.iaload, 1) := dk_46 (dk_at dksX3_tellsSky_5 22 rfl rfl)
theorem dX3_tellsSky_136 : decode cX3_tellsSky 136 = .ok (.if_icmp .ge 74, 3) := dk_162 0 74 (dk_at dksX3_tellsSky_6 0 rfl rfl)
theorem dX3_tellsSky_139 : decode cX3_tellsSky 139 = .ok (.iconst 0, 1) := dk_3 (dk_at dksX3_tellsSky_6 3 rfl rfl)
theorem dX3_tellsSky_140 : decode cX3_tellsSky 140 = .ok (.istore 6, 2) := dk_54 6 (dk_at dksX3_tellsSky_6 4 rfl rfl)
theorem dX3_tellsSky_142 : decode cX3_tellsSky 142 = .ok (.iload 6, 2) := dk_21 6 (dk_at dksX3_tellsSky_6 6 rfl rfl)
theorem dX3_tellsSky_144 : decode cX3_tellsSky 144 = .ok (.iconst 3, 1) := dk_6 (dk_at dksX3_tellsSky_6 8 rfl rfl)
theorem dX3_tellsSky_145 : decode cX3_tellsSky 145 = .ok (.if_icmp .ge 25, 3) := dk_162 0 25 (dk_at dksX3_tellsSky_6 9 rfl rfl)
theorem dX3_tellsSky_148 : decode cX3_tellsSky 148 = .ok (.ldc2_w 294, 3) := dk_20 1 38 (dk_at dksX3_tellsSky_6 12 rfl rfl)
theorem dX3_tellsSky_151 : decode cX3_tellsSky 151 = .ok (.lload_n 3, 1) := dk_33 (dk_at dksX3_tellsSky_6 15 rfl rfl)
theorem dX3_tellsSky_152 : decode cX3_tellsSky 152 = .ok (.lmul, 1) := dk_105 (dk_at dksX3_tellsSky_6 16 rfl rfl)
theorem dX3_tellsSky_153 : decode cX3_tellsSky 153 = .ok (.aload_n 0, 1) := dk_42 (dk_at dksX3_tellsSky_6 17 rfl rfl)
theorem dX3_tellsSky_154 : decode cX3_tellsSky 154 = .ok (.iload 5, 2) := dk_21 5 (dk_at dksX3_tellsSky_6 18 rfl rfl)
theorem dX3_tellsSky_156 : decode cX3_tellsSky 156 = .ok (.iload 6, 2) := dk_21 6 (dk_at dksX3_tellsSky_6 20 rfl rfl)
theorem dX3_tellsSky_158 : decode cX3_tellsSky 158 = .ok (.invokevirtual 250, 3) := dk_182 0 250 (dk_at dksX3_tellsSky_7 0 rfl rfl)
theorem dX3_tellsSky_161 : decode cX3_tellsSky 161 = .ok (.i2l, 1) := dk_133 (dk_at dksX3_tellsSky_7 3 rfl rfl)
theorem dX3_tellsSky_162 : decode cX3_tellsSky 162 = .ok (.ladd, 1) := dk_97 (dk_at dksX3_tellsSky_7 4 rfl rfl)
theorem dX3_tellsSky_163 : decode cX3_tellsSky 163 = .ok (.lstore_n 3, 1) := dk_66 (dk_at dksX3_tellsSky_7 5 rfl rfl)
theorem dX3_tellsSky_164 : decode cX3_tellsSky 164 = .ok (.iinc 6 1, 3) := dk_132 6 1 (dk_at dksX3_tellsSky_7 6 rfl rfl)
theorem dX3_tellsSky_167 : decode cX3_tellsSky 167 = .ok (.goto (-25), 3) := dk_167 255 231 (dk_at dksX3_tellsSky_7 9 rfl rfl)
theorem dX3_tellsSky_170 : decode cX3_tellsSky 170 = .ok (.iconst 0, 1) := dk_3 (dk_at dksX3_tellsSky_7 12 rfl rfl)
theorem dX3_tellsSky_171 : decode cX3_tellsSky 171 = .ok (.istore 6, 2) := dk_54 6 (dk_at dksX3_tellsSky_7 13 rfl rfl)
theorem dX3_tellsSky_173 : decode cX3_tellsSky 173 = .ok (.iload 6, 2) := dk_21 6 (dk_at dksX3_tellsSky_7 15 rfl rfl)
theorem dX3_tellsSky_175 : decode cX3_tellsSky 175 = .ok (.iconst 3, 1) := dk_6 (dk_at dksX3_tellsSky_7 17 rfl rfl)
theorem dX3_tellsSky_176 : decode cX3_tellsSky 176 = .ok (.if_icmp .ge 28, 3) := dk_162 0 28 (dk_at dksX3_tellsSky_7 18 rfl rfl)
theorem dX3_tellsSky_179 : decode cX3_tellsSky 179 = .ok (.ldc2_w 294, 3) := dk_20 1 38 (dk_at dksX3_tellsSky_7 21 rfl rfl)
theorem dX3_tellsSky_182 : decode cX3_tellsSky 182 = .ok (.lload_n 3, 1) := dk_33 (dk_at dksX3_tellsSky_8 0 rfl rfl)
theorem dX3_tellsSky_183 : decode cX3_tellsSky 183 = .ok (.lmul, 1) := dk_105 (dk_at dksX3_tellsSky_8 1 rfl rfl)
theorem dX3_tellsSky_184 : decode cX3_tellsSky 184 = .ok (.aload_n 0, 1) := dk_42 (dk_at dksX3_tellsSky_8 2 rfl rfl)
theorem dX3_tellsSky_185 : decode cX3_tellsSky 185 = .ok (.iconst 0, 1) := dk_3 (dk_at dksX3_tellsSky_8 3 rfl rfl)
theorem dX3_tellsSky_186 : decode cX3_tellsSky 186 = .ok (.iconst 0, 1) := dk_3 (dk_at dksX3_tellsSky_8 4 rfl rfl)
theorem dX3_tellsSky_187 : decode cX3_tellsSky 187 = .ok (.iconst 1, 1) := dk_4 (dk_at dksX3_tellsSky_8 5 rfl rfl)
theorem dX3_tellsSky_188 : decode cX3_tellsSky 188 = .ok (.iload 5, 2) := dk_21 5 (dk_at dksX3_tellsSky_8 6 rfl rfl)
theorem dX3_tellsSky_190 : decode cX3_tellsSky 190 = .ok (.iload 6, 2) := dk_21 6 (dk_at dksX3_tellsSky_8 8 rfl rfl)
theorem dX3_tellsSky_192 : decode cX3_tellsSky 192 = .ok (.invokevirtual 296, 3) := dk_182 1 40 (dk_at dksX3_tellsSky_8 10 rfl rfl)
theorem dX3_tellsSky_195 : decode cX3_tellsSky 195 = .ok (.i2l, 1) := dk_133 (dk_at dksX3_tellsSky_8 13 rfl rfl)
theorem dX3_tellsSky_196 : decode cX3_tellsSky 196 = .ok (.ladd, 1) := dk_97 (dk_at dksX3_tellsSky_8 14 rfl rfl)
theorem dX3_tellsSky_197 : decode cX3_tellsSky 197 = .ok (.lstore_n 3, 1) := dk_66 (dk_at dksX3_tellsSky_8 15 rfl rfl)
theorem dX3_tellsSky_198 : decode cX3_tellsSky 198 = .ok (.iinc 6 1, 3) := dk_132 6 1 (dk_at dksX3_tellsSky_8 16 rfl rfl)
theorem dX3_tellsSky_201 : decode cX3_tellsSky 201 = .ok (.goto (-28), 3) := dk_167 255 228 (dk_at dksX3_tellsSky_8 19 rfl rfl)
theorem dX3_tellsSky_204 : decode cX3_tellsSky 204 = .ok (.iinc 5 1, 3) := dk_132 5 1 (dk_at dksX3_tellsSky_9 0 rfl rfl)
theorem dX3_tellsSky_207 : decode cX3_tellsSky 207 = .ok (.goto (-79), 3) := dk_167 255 177 (dk_at dksX3_tellsSky_9 3 rfl rfl)
theorem dX3_tellsSky_210 : decode cX3_tellsSky 210 = .ok (.lload_n 3, 1) := dk_33 (dk_at dksX3_tellsSky_9 6 rfl rfl)
theorem dX3_tellsSky_211 : decode cX3_tellsSky 211 = .ok (.lreturn, 1) := dk_173 (dk_at dksX3_tellsSky_9 7 rfl rfl)
theorem q83 : (Jvm.Cond.initialized "StarTrackerModel") ∈ lw_all := lw_g (lw_at lw_m1 4 rfl) rfl
theorem q882 : (Jvm.Cond.instantiable "StarTrackerModel" (28 : Nat)) ∈ lw_all := lw_g (lw_at lw_m4 83 rfl) rfl
theorem q884 : (Jvm.Cond.instanceMethod ({ cls := "StarTrackerModel", name := "<init>", desc := "()V" } : Jvm.MethodName)) ∈ lw_all := lw_g (lw_at lw_m4 85 rfl) rfl
theorem q885 : (Jvm.Cond.code ({ cls := "StarTrackerModel", name := "<init>", desc := "()V" } : Jvm.MethodName) prog_11_method_1_code (2 : Nat) (Option.none : Option Jvm.ClassFile.FieldType)) ∈ lw_all := lw_g (lw_at lw_m4 86 rfl) rfl
theorem q886 : (Jvm.Cond.methodLink "StarTrackerModel" (1 : Nat) ({ cls := "java/lang/Object", name := "<init>", desc := "()V" } : Jvm.MethodName)) ∈ lw_all := lw_g (lw_at lw_m4 87 rfl) rfl
theorem q887 : (Jvm.Cond.fieldLink "StarTrackerModel" (7 : Nat) "StarTrackerModel" "forms" "[I") ∈ lw_all := lw_g (lw_at lw_m4 88 rfl) rfl
theorem q888 : (Jvm.Cond.fieldLink "StarTrackerModel" (13 : Nat) "StarTrackerModel" "sizes" "[I") ∈ lw_all := lw_g (lw_at lw_m4 89 rfl) rfl
theorem q889 : (Jvm.Cond.fieldLink "StarTrackerModel" (16 : Nat) "StarTrackerModel" "items" "[I") ∈ lw_all := lw_g (lw_at lw_m4 90 rfl) rfl
theorem q890 : (Jvm.Cond.fieldLink "StarTrackerModel" (19 : Nat) "StarTrackerModel" "moved" "[I") ∈ lw_all := lw_g (lw_at lw_m4 91 rfl) rfl
theorem q891 : (Jvm.Cond.fieldLink "StarTrackerModel" (80 : Nat) "StarTrackerModel" "latest" "I") ∈ lw_all := lw_g (lw_at lw_m4 92 rfl) rfl
theorem q892 : (Jvm.Cond.fieldLink "StarTrackerModel" (22 : Nat) "StarTrackerModel" "dir" "[I") ∈ lw_all := lw_g (lw_at lw_m4 93 rfl) rfl
theorem q893 : (Jvm.Cond.fieldLink "StarTrackerModel" (25 : Nat) "StarTrackerModel" "many" "[I") ∈ lw_all := lw_g (lw_at lw_m4 94 rfl) rfl
theorem q894 : (Jvm.Cond.fieldLink "StarTrackerModel" (28 : Nat) "StarTrackerModel" "settings" "[I") ∈ lw_all := lw_g (lw_at lw_m4 95 rfl) rfl
theorem q895 : (Jvm.Cond.fieldLink "StarTrackerModel" (134 : Nat) "StarTrackerModel" "drawn" "I") ∈ lw_all := lw_g (lw_at lw_m4 96 rfl) rfl
theorem q896 : (Jvm.Cond.fieldLink "StarTrackerModel" (31 : Nat) "StarTrackerModel" "gone" "I") ∈ lw_all := lw_g (lw_at lw_m4 97 rfl) rfl
theorem q897 : (Jvm.Cond.fieldLink "StarTrackerModel" (178 : Nat) "StarTrackerModel" "lookedAt" "I") ∈ lw_all := lw_g (lw_at lw_m4 98 rfl) rfl
theorem q898 : (Jvm.Cond.fieldLink "StarTrackerModel" (175 : Nat) "StarTrackerModel" "matches" "I") ∈ lw_all := lw_g (lw_at lw_m4 99 rfl) rfl
theorem q899 : (Jvm.Cond.fieldLink "StarTrackerModel" (35 : Nat) "StarTrackerModel" "votes" "[I") ∈ lw_all := lw_g (lw_at lw_m4 100 rfl) rfl
theorem q900 : (Jvm.Cond.fieldLink "StarTrackerModel" (38 : Nat) "StarTrackerModel" "starOf" "[I") ∈ lw_all := lw_g (lw_at lw_m4 101 rfl) rfl
theorem q901 : (Jvm.Cond.fieldLink "StarTrackerModel" (41 : Nat) "StarTrackerModel" "rankOf" "[I") ∈ lw_all := lw_g (lw_at lw_m4 102 rfl) rfl
theorem q902 : (Jvm.Cond.fieldLink "StarTrackerModel" (44 : Nat) "StarTrackerModel" "used" "[Z") ∈ lw_all := lw_g (lw_at lw_m4 103 rfl) rfl
theorem q903 : (Jvm.Cond.fieldLink "StarTrackerModel" (192 : Nat) "StarTrackerModel" "pairs" "I") ∈ lw_all := lw_g (lw_at lw_m4 104 rfl) rfl
theorem q904 : (Jvm.Cond.fieldLink "StarTrackerModel" (203 : Nat) "StarTrackerModel" "isTurn" "Z") ∈ lw_all := lw_g (lw_at lw_m4 105 rfl) rfl
theorem q905 : (Jvm.Cond.fieldLink "StarTrackerModel" (48 : Nat) "StarTrackerModel" "starArm" "[J") ∈ lw_all := lw_g (lw_at lw_m4 106 rfl) rfl
theorem q906 : (Jvm.Cond.fieldLink "StarTrackerModel" (52 : Nat) "StarTrackerModel" "spotArm" "[J") ∈ lw_all := lw_g (lw_at lw_m4 107 rfl) rfl
theorem q907 : (Jvm.Cond.fieldLink "StarTrackerModel" (55 : Nat) "StarTrackerModel" "self" "[J") ∈ lw_all := lw_g (lw_at lw_m4 108 rfl) rfl
theorem q908 : (Jvm.Cond.fieldLink "StarTrackerModel" (58 : Nat) "StarTrackerModel" "placeOf" "[I") ∈ lw_all := lw_g (lw_at lw_m4 109 rfl) rfl
theorem q909 : (Jvm.Cond.fieldLink "StarTrackerModel" (61 : Nat) "StarTrackerModel" "sure" "[I") ∈ lw_all := lw_g (lw_at lw_m4 110 rfl) rfl
theorem q910 : (Jvm.Cond.fieldLink "StarTrackerModel" (64 : Nat) "StarTrackerModel" "far" "[I") ∈ lw_all := lw_g (lw_at lw_m4 111 rfl) rfl
theorem q911 : (Jvm.Cond.fieldLink "StarTrackerModel" (220 : Nat) "StarTrackerModel" "manySure" "I") ∈ lw_all := lw_g (lw_at lw_m4 112 rfl) rfl
theorem q912 : (Jvm.Cond.fieldLink "StarTrackerModel" (67 : Nat) "StarTrackerModel" "tray" "[I") ∈ lw_all := lw_g (lw_at lw_m4 113 rfl) rfl
theorem q913 : (Jvm.Cond.fieldLink "StarTrackerModel" (70 : Nat) "StarTrackerModel" "trayMany" "[I") ∈ lw_all := lw_g (lw_at lw_m4 114 rfl) rfl
theorem q914 : (Jvm.Cond.fieldLink "StarTrackerModel" (73 : Nat) "StarTrackerModel" "holds" "[I") ∈ lw_all := lw_g (lw_at lw_m4 115 rfl) rfl
theorem q915 : (Jvm.Cond.laysFinal "StarTrackerModel" "StarTrackerModel" "forms" "[I") ∈ lw_all := lw_g (lw_at lw_m4 116 rfl) rfl
theorem q916 : (Jvm.Cond.soleField "StarTrackerModel" "forms") ∈ lw_all := lw_g (lw_at lw_m4 117 rfl) rfl
theorem q917 : (Jvm.Cond.laysFinal "StarTrackerModel" "StarTrackerModel" "sizes" "[I") ∈ lw_all := lw_g (lw_at lw_m4 118 rfl) rfl
theorem q918 : (Jvm.Cond.soleField "StarTrackerModel" "sizes") ∈ lw_all := lw_g (lw_at lw_m4 119 rfl) rfl
theorem q919 : (Jvm.Cond.laysFinal "StarTrackerModel" "StarTrackerModel" "items" "[I") ∈ lw_all := lw_g (lw_at lw_m4 120 rfl) rfl
theorem q920 : (Jvm.Cond.soleField "StarTrackerModel" "items") ∈ lw_all := lw_g (lw_at lw_m4 121 rfl) rfl
theorem q921 : (Jvm.Cond.laysFinal "StarTrackerModel" "StarTrackerModel" "moved" "[I") ∈ lw_all := lw_g (lw_at lw_m4 122 rfl) rfl
theorem q922 : (Jvm.Cond.soleField "StarTrackerModel" "moved") ∈ lw_all := lw_g (lw_at lw_m4 123 rfl) rfl
theorem q923 : (Jvm.Cond.lays "StarTrackerModel" "StarTrackerModel" "latest" "I") ∈ lw_all := lw_g (lw_at lw_m4 124 rfl) rfl
theorem q924 : (Jvm.Cond.soleField "StarTrackerModel" "latest") ∈ lw_all := lw_g (lw_at lw_m4 125 rfl) rfl
theorem q925 : (Jvm.Cond.laysFinal "StarTrackerModel" "StarTrackerModel" "dir" "[I") ∈ lw_all := lw_g (lw_at lw_m4 126 rfl) rfl
theorem q926 : (Jvm.Cond.soleField "StarTrackerModel" "dir") ∈ lw_all := lw_g (lw_at lw_m4 127 rfl) rfl
theorem q927 : (Jvm.Cond.laysFinal "StarTrackerModel" "StarTrackerModel" "many" "[I") ∈ lw_all := lw_g (lw_at lw_m4 128 rfl) rfl
theorem q928 : (Jvm.Cond.soleField "StarTrackerModel" "many") ∈ lw_all := lw_g (lw_at lw_m4 129 rfl) rfl
theorem q929 : (Jvm.Cond.laysFinal "StarTrackerModel" "StarTrackerModel" "settings" "[I") ∈ lw_all := lw_g (lw_at lw_m4 130 rfl) rfl
theorem q930 : (Jvm.Cond.soleField "StarTrackerModel" "settings") ∈ lw_all := lw_g (lw_at lw_m4 131 rfl) rfl
theorem q931 : (Jvm.Cond.lays "StarTrackerModel" "StarTrackerModel" "drawn" "I") ∈ lw_all := lw_g (lw_at lw_m4 132 rfl) rfl
theorem q932 : (Jvm.Cond.soleField "StarTrackerModel" "drawn") ∈ lw_all := lw_g (lw_at lw_m4 133 rfl) rfl
theorem q933 : (Jvm.Cond.lays "StarTrackerModel" "StarTrackerModel" "gone" "I") ∈ lw_all := lw_g (lw_at lw_m4 134 rfl) rfl
theorem q934 : (Jvm.Cond.soleField "StarTrackerModel" "gone") ∈ lw_all := lw_g (lw_at lw_m4 135 rfl) rfl
theorem q935 : (Jvm.Cond.lays "StarTrackerModel" "StarTrackerModel" "lookedAt" "I") ∈ lw_all := lw_g (lw_at lw_m4 136 rfl) rfl
theorem q936 : (Jvm.Cond.soleField "StarTrackerModel" "lookedAt") ∈ lw_all := lw_g (lw_at lw_m4 137 rfl) rfl
theorem q937 : (Jvm.Cond.lays "StarTrackerModel" "StarTrackerModel" "matches" "I") ∈ lw_all := lw_g (lw_at lw_m4 138 rfl) rfl
theorem q938 : (Jvm.Cond.soleField "StarTrackerModel" "matches") ∈ lw_all := lw_g (lw_at lw_m4 139 rfl) rfl
theorem q939 : (Jvm.Cond.laysFinal "StarTrackerModel" "StarTrackerModel" "votes" "[I") ∈ lw_all := lw_g (lw_at lw_m4 140 rfl) rfl
theorem q940 : (Jvm.Cond.soleField "StarTrackerModel" "votes") ∈ lw_all := lw_g (lw_at lw_m4 141 rfl) rfl
theorem q941 : (Jvm.Cond.laysFinal "StarTrackerModel" "StarTrackerModel" "starOf" "[I") ∈ lw_all := lw_g (lw_at lw_m4 142 rfl) rfl
theorem q942 : (Jvm.Cond.soleField "StarTrackerModel" "starOf") ∈ lw_all := lw_g (lw_at lw_m4 143 rfl) rfl
theorem q943 : (Jvm.Cond.laysFinal "StarTrackerModel" "StarTrackerModel" "rankOf" "[I") ∈ lw_all := lw_g (lw_at lw_m4 144 rfl) rfl
theorem q944 : (Jvm.Cond.soleField "StarTrackerModel" "rankOf") ∈ lw_all := lw_g (lw_at lw_m4 145 rfl) rfl
theorem q945 : (Jvm.Cond.laysFinal "StarTrackerModel" "StarTrackerModel" "used" "[Z") ∈ lw_all := lw_g (lw_at lw_m4 146 rfl) rfl
theorem q946 : (Jvm.Cond.soleField "StarTrackerModel" "used") ∈ lw_all := lw_g (lw_at lw_m4 147 rfl) rfl
theorem q947 : (Jvm.Cond.lays "StarTrackerModel" "StarTrackerModel" "pairs" "I") ∈ lw_all := lw_g (lw_at lw_m4 148 rfl) rfl
theorem q948 : (Jvm.Cond.soleField "StarTrackerModel" "pairs") ∈ lw_all := lw_g (lw_at lw_m4 149 rfl) rfl
theorem q949 : (Jvm.Cond.lays "StarTrackerModel" "StarTrackerModel" "isTurn" "Z") ∈ lw_all := lw_g (lw_at lw_m4 150 rfl) rfl
theorem q950 : (Jvm.Cond.soleField "StarTrackerModel" "isTurn") ∈ lw_all := lw_g (lw_at lw_m4 151 rfl) rfl
theorem q951 : (Jvm.Cond.laysFinal "StarTrackerModel" "StarTrackerModel" "starArm" "[J") ∈ lw_all := lw_g (lw_at lw_m4 152 rfl) rfl
theorem q952 : (Jvm.Cond.soleField "StarTrackerModel" "starArm") ∈ lw_all := lw_g (lw_at lw_m4 153 rfl) rfl
theorem q953 : (Jvm.Cond.laysFinal "StarTrackerModel" "StarTrackerModel" "spotArm" "[J") ∈ lw_all := lw_g (lw_at lw_m4 154 rfl) rfl
theorem q954 : (Jvm.Cond.soleField "StarTrackerModel" "spotArm") ∈ lw_all := lw_g (lw_at lw_m4 155 rfl) rfl
theorem q955 : (Jvm.Cond.laysFinal "StarTrackerModel" "StarTrackerModel" "self" "[J") ∈ lw_all := lw_g (lw_at lw_m4 156 rfl) rfl
theorem q956 : (Jvm.Cond.soleField "StarTrackerModel" "self") ∈ lw_all := lw_g (lw_at lw_m4 157 rfl) rfl
theorem q957 : (Jvm.Cond.laysFinal "StarTrackerModel" "StarTrackerModel" "placeOf" "[I") ∈ lw_all := lw_g (lw_at lw_m4 158 rfl) rfl
theorem q958 : (Jvm.Cond.soleField "StarTrackerModel" "placeOf") ∈ lw_all := lw_g (lw_at lw_m4 159 rfl) rfl
theorem q959 : (Jvm.Cond.laysFinal "StarTrackerModel" "StarTrackerModel" "sure" "[I") ∈ lw_all := lw_g (lw_at lw_m4 160 rfl) rfl
theorem q960 : (Jvm.Cond.soleField "StarTrackerModel" "sure") ∈ lw_all := lw_g (lw_at lw_m4 161 rfl) rfl
theorem q961 : (Jvm.Cond.laysFinal "StarTrackerModel" "StarTrackerModel" "far" "[I") ∈ lw_all := lw_g (lw_at lw_m4 162 rfl) rfl
theorem q962 : (Jvm.Cond.soleField "StarTrackerModel" "far") ∈ lw_all := lw_g (lw_at lw_m4 163 rfl) rfl
theorem q963 : (Jvm.Cond.lays "StarTrackerModel" "StarTrackerModel" "manySure" "I") ∈ lw_all := lw_g (lw_at lw_m4 164 rfl) rfl
theorem q964 : (Jvm.Cond.soleField "StarTrackerModel" "manySure") ∈ lw_all := lw_g (lw_at lw_m4 165 rfl) rfl
theorem q965 : (Jvm.Cond.laysFinal "StarTrackerModel" "StarTrackerModel" "tray" "[I") ∈ lw_all := lw_g (lw_at lw_m4 166 rfl) rfl
theorem q966 : (Jvm.Cond.soleField "StarTrackerModel" "tray") ∈ lw_all := lw_g (lw_at lw_m4 167 rfl) rfl
theorem q967 : (Jvm.Cond.laysFinal "StarTrackerModel" "StarTrackerModel" "trayMany" "[I") ∈ lw_all := lw_g (lw_at lw_m4 168 rfl) rfl
theorem q968 : (Jvm.Cond.soleField "StarTrackerModel" "trayMany") ∈ lw_all := lw_g (lw_at lw_m4 169 rfl) rfl
theorem q969 : (Jvm.Cond.laysFinal "StarTrackerModel" "StarTrackerModel" "holds" "[I") ∈ lw_all := lw_g (lw_at lw_m4 170 rfl) rfl
theorem q970 : (Jvm.Cond.soleField "StarTrackerModel" "holds") ∈ lw_all := lw_g (lw_at lw_m4 171 rfl) rfl
theorem q971 : (Jvm.Cond.superclass "StarTrackerModel" "java/lang/Object") ∈ lw_all := lw_g (lw_at lw_m4 172 rfl) rfl
theorem q974 : (Jvm.Cond.instanceMethod ({ cls := "StarTrackerModel", name := "sheet", desc := "(III)I" } : Jvm.MethodName)) ∈ lw_all := lw_g (lw_at lw_m4 175 rfl) rfl
theorem q975 : (Jvm.Cond.selects "StarTrackerModel" ({ cls := "StarTrackerModel", name := "sheet", desc := "(III)I" } : Jvm.MethodName) ({ cls := "StarTrackerModel", name := "sheet", desc := "(III)I" } : Jvm.MethodName)) ∈ lw_all := lw_g (lw_at lw_m4 176 rfl) rfl
theorem q976 : (Jvm.Cond.code ({ cls := "StarTrackerModel", name := "sheet", desc := "(III)I" } : Jvm.MethodName) prog_11_method_10_code (5 : Nat) (Option.some Jvm.ClassFile.FieldType.int)) ∈ lw_all := lw_g (lw_at lw_m4 177 rfl) rfl
theorem q977 : (Jvm.Cond.methodLink "StarTrackerModel" (85 : Nat) ({ cls := "StarTrackerModel", name := "isSheet", desc := "(I)Z" } : Jvm.MethodName)) ∈ lw_all := lw_g (lw_at lw_m4 178 rfl) rfl
theorem q978 : (Jvm.Cond.static ({ cls := "StarTrackerModel", name := "isSheet", desc := "(I)Z" } : Jvm.MethodName)) ∈ lw_all := lw_g (lw_at lw_m4 179 rfl) rfl
theorem q979 : (Jvm.Cond.code ({ cls := "StarTrackerModel", name := "isSheet", desc := "(I)Z" } : Jvm.MethodName) prog_11_method_9_code (1 : Nat) (Option.some Jvm.ClassFile.FieldType.boolean)) ∈ lw_all := lw_g (lw_at lw_m4 180 rfl) rfl
theorem q980 : (Jvm.Cond.constantLong "StarTrackerModel" (83 : Nat) (3 : Int64)) ∈ lw_all := lw_g (lw_at lw_m4 181 rfl) rfl
theorem q981 : (Jvm.Cond.methodLink "StarTrackerModel" (76 : Nat) ({ cls := "StarTrackerModel", name := "in", desc := "(JJJ)Z" } : Jvm.MethodName)) ∈ lw_all := lw_g (lw_at lw_m4 182 rfl) rfl
theorem q982 : (Jvm.Cond.static ({ cls := "StarTrackerModel", name := "in", desc := "(JJJ)Z" } : Jvm.MethodName)) ∈ lw_all := lw_g (lw_at lw_m4 183 rfl) rfl
theorem q983 : (Jvm.Cond.code ({ cls := "StarTrackerModel", name := "in", desc := "(JJJ)Z" } : Jvm.MethodName) prog_11_method_3_code (6 : Nat) (Option.some Jvm.ClassFile.FieldType.boolean)) ∈ lw_all := lw_g (lw_at lw_m4 184 rfl) rfl
theorem q984 : (Jvm.Cond.constantLong "StarTrackerModel" (89 : Nat) (2 : Int64)) ∈ lw_all := lw_g (lw_at lw_m4 185 rfl) rfl
theorem q985 : (Jvm.Cond.methodLink "StarTrackerModel" (91 : Nat) ({ cls := "StarTrackerModel", name := "finds", desc := "(I)I" } : Jvm.MethodName)) ∈ lw_all := lw_g (lw_at lw_m4 186 rfl) rfl
theorem q986 : (Jvm.Cond.privateMethod ({ cls := "StarTrackerModel", name := "finds", desc := "(I)I" } : Jvm.MethodName)) ∈ lw_tbl := lw_at lw_m4 187 rfl
theorem q987 : (Jvm.Cond.instanceMethod ({ cls := "StarTrackerModel", name := "finds", desc := "(I)I" } : Jvm.MethodName)) ∈ lw_all := lw_g (lw_at lw_m4 188 rfl) rfl
theorem q988 : (Jvm.Cond.code ({ cls := "StarTrackerModel", name := "finds", desc := "(I)I" } : Jvm.MethodName) prog_11_method_8_code (2 : Nat) (Option.some Jvm.ClassFile.FieldType.int)) ∈ lw_all := lw_g (lw_at lw_m4 189 rfl) rfl
theorem q990 : (Jvm.Cond.instanceMethod ({ cls := "StarTrackerModel", name := "lose", desc := "(I)I" } : Jvm.MethodName)) ∈ lw_all := lw_g (lw_at lw_m4 191 rfl) rfl
theorem q991 : (Jvm.Cond.selects "StarTrackerModel" ({ cls := "StarTrackerModel", name := "lose", desc := "(I)I" } : Jvm.MethodName) ({ cls := "StarTrackerModel", name := "lose", desc := "(I)I" } : Jvm.MethodName)) ∈ lw_all := lw_g (lw_at lw_m4 192 rfl) rfl
theorem q992 : (Jvm.Cond.code ({ cls := "StarTrackerModel", name := "lose", desc := "(I)I" } : Jvm.MethodName) prog_11_method_11_code (2 : Nat) (Option.some Jvm.ClassFile.FieldType.int)) ∈ lw_all := lw_g (lw_at lw_m4 193 rfl) rfl
theorem q994 : (Jvm.Cond.instanceMethod ({ cls := "StarTrackerModel", name := "lay", desc := "(IIII)I" } : Jvm.MethodName)) ∈ lw_all := lw_g (lw_at lw_m4 195 rfl) rfl
theorem q995 : (Jvm.Cond.selects "StarTrackerModel" ({ cls := "StarTrackerModel", name := "lay", desc := "(IIII)I" } : Jvm.MethodName) ({ cls := "StarTrackerModel", name := "lay", desc := "(IIII)I" } : Jvm.MethodName)) ∈ lw_all := lw_g (lw_at lw_m4 196 rfl) rfl
theorem q996 : (Jvm.Cond.code ({ cls := "StarTrackerModel", name := "lay", desc := "(IIII)I" } : Jvm.MethodName) prog_11_method_14_code (6 : Nat) (Option.some Jvm.ClassFile.FieldType.int)) ∈ lw_all := lw_g (lw_at lw_m4 197 rfl) rfl
theorem q997 : (Jvm.Cond.methodLink "StarTrackerModel" (95 : Nat) ({ cls := "StarTrackerModel", name := "lacks", desc := "(III)I" } : Jvm.MethodName)) ∈ lw_all := lw_g (lw_at lw_m4 198 rfl) rfl
theorem q998 : (Jvm.Cond.privateMethod ({ cls := "StarTrackerModel", name := "lacks", desc := "(III)I" } : Jvm.MethodName)) ∈ lw_tbl := lw_at lw_m4 199 rfl
theorem q999 : (Jvm.Cond.instanceMethod ({ cls := "StarTrackerModel", name := "lacks", desc := "(III)I" } : Jvm.MethodName)) ∈ lw_all := lw_g (lw_at lw_m4 200 rfl) rfl
theorem q1000 : (Jvm.Cond.code ({ cls := "StarTrackerModel", name := "lacks", desc := "(III)I" } : Jvm.MethodName) prog_11_method_12_code (4 : Nat) (Option.some Jvm.ClassFile.FieldType.int)) ∈ lw_all := lw_g (lw_at lw_m4 201 rfl) rfl
theorem q1001 : (Jvm.Cond.methodLink "StarTrackerModel" (99 : Nat) ({ cls := "StarTrackerModel", name := "cut", desc := "(II)I" } : Jvm.MethodName)) ∈ lw_all := lw_g (lw_at lw_m4 202 rfl) rfl
theorem q1002 : (Jvm.Cond.static ({ cls := "StarTrackerModel", name := "cut", desc := "(II)I" } : Jvm.MethodName)) ∈ lw_all := lw_g (lw_at lw_m4 203 rfl) rfl
theorem q1003 : (Jvm.Cond.code ({ cls := "StarTrackerModel", name := "cut", desc := "(II)I" } : Jvm.MethodName) prog_11_method_13_code (2 : Nat) (Option.some Jvm.ClassFile.FieldType.int)) ∈ lw_all := lw_g (lw_at lw_m4 204 rfl) rfl
theorem q1005 : (Jvm.Cond.instanceMethod ({ cls := "StarTrackerModel", name := "get", desc := "(III)I" } : Jvm.MethodName)) ∈ lw_all := lw_g (lw_at lw_m4 206 rfl) rfl
theorem q1006 : (Jvm.Cond.selects "StarTrackerModel" ({ cls := "StarTrackerModel", name := "get", desc := "(III)I" } : Jvm.MethodName) ({ cls := "StarTrackerModel", name := "get", desc := "(III)I" } : Jvm.MethodName)) ∈ lw_all := lw_g (lw_at lw_m4 207 rfl) rfl
theorem q1007 : (Jvm.Cond.code ({ cls := "StarTrackerModel", name := "get", desc := "(III)I" } : Jvm.MethodName) prog_11_method_15_code (4 : Nat) (Option.some Jvm.ClassFile.FieldType.int)) ∈ lw_all := lw_g (lw_at lw_m4 208 rfl) rfl
theorem q1008 : (Jvm.Cond.constant "StarTrackerModel" (103 : Nat) (-2147483648 : Int32)) ∈ lw_all := lw_g (lw_at lw_m4 209 rfl) rfl
theorem q1010 : (Jvm.Cond.instanceMethod ({ cls := "StarTrackerModel", name := "copy", desc := "(IIIII)I" } : Jvm.MethodName)) ∈ lw_all := lw_g (lw_at lw_m4 211 rfl) rfl
theorem q1011 : (Jvm.Cond.selects "StarTrackerModel" ({ cls := "StarTrackerModel", name := "copy", desc := "(IIIII)I" } : Jvm.MethodName) ({ cls := "StarTrackerModel", name := "copy", desc := "(IIIII)I" } : Jvm.MethodName)) ∈ lw_all := lw_g (lw_at lw_m4 212 rfl) rfl
theorem q1012 : (Jvm.Cond.code ({ cls := "StarTrackerModel", name := "copy", desc := "(IIIII)I" } : Jvm.MethodName) prog_11_method_16_code (7 : Nat) (Option.some Jvm.ClassFile.FieldType.int)) ∈ lw_all := lw_g (lw_at lw_m4 213 rfl) rfl
theorem q1014 : (Jvm.Cond.instanceMethod ({ cls := "StarTrackerModel", name := "add", desc := "(IIII)I" } : Jvm.MethodName)) ∈ lw_all := lw_g (lw_at lw_m4 215 rfl) rfl
theorem q1015 : (Jvm.Cond.selects "StarTrackerModel" ({ cls := "StarTrackerModel", name := "add", desc := "(IIII)I" } : Jvm.MethodName) ({ cls := "StarTrackerModel", name := "add", desc := "(IIII)I" } : Jvm.MethodName)) ∈ lw_all := lw_g (lw_at lw_m4 216 rfl) rfl
theorem q1016 : (Jvm.Cond.code ({ cls := "StarTrackerModel", name := "add", desc := "(IIII)I" } : Jvm.MethodName) prog_11_method_20_code (5 : Nat) (Option.some Jvm.ClassFile.FieldType.int)) ∈ lw_all := lw_g (lw_at lw_m4 217 rfl) rfl
theorem q1017 : (Jvm.Cond.methodLink "StarTrackerModel" (108 : Nat) ({ cls := "StarTrackerModel", name := "isTwo", desc := "(I)Z" } : Jvm.MethodName)) ∈ lw_all := lw_g (lw_at lw_m4 218 rfl) rfl
theorem q1018 : (Jvm.Cond.static ({ cls := "StarTrackerModel", name := "isTwo", desc := "(I)Z" } : Jvm.MethodName)) ∈ lw_all := lw_g (lw_at lw_m4 219 rfl) rfl
theorem q1019 : (Jvm.Cond.code ({ cls := "StarTrackerModel", name := "isTwo", desc := "(I)Z" } : Jvm.MethodName) prog_11_method_4_code (1 : Nat) (Option.some Jvm.ClassFile.FieldType.boolean)) ∈ lw_all := lw_g (lw_at lw_m4 220 rfl) rfl
theorem q1020 : (Jvm.Cond.methodLink "StarTrackerModel" (111 : Nat) ({ cls := "StarTrackerModel", name := "isDirection", desc := "(III)Z" } : Jvm.MethodName)) ∈ lw_all := lw_g (lw_at lw_m4 221 rfl) rfl
theorem q1021 : (Jvm.Cond.static ({ cls := "StarTrackerModel", name := "isDirection", desc := "(III)Z" } : Jvm.MethodName)) ∈ lw_all := lw_g (lw_at lw_m4 222 rfl) rfl
theorem q1022 : (Jvm.Cond.code ({ cls := "StarTrackerModel", name := "isDirection", desc := "(III)Z" } : Jvm.MethodName) prog_11_method_17_code (3 : Nat) (Option.some Jvm.ClassFile.FieldType.boolean)) ∈ lw_all := lw_g (lw_at lw_m4 223 rfl) rfl
theorem q1023 : (Jvm.Cond.constantLong "StarTrackerModel" (104 : Nat) (-100 : Int64)) ∈ lw_all := lw_g (lw_at lw_m4 224 rfl) rfl
theorem q1024 : (Jvm.Cond.constantLong "StarTrackerModel" (106 : Nat) (100 : Int64)) ∈ lw_all := lw_g (lw_at lw_m4 225 rfl) rfl
theorem q1025 : (Jvm.Cond.methodLink "StarTrackerModel" (115 : Nat) ({ cls := "StarTrackerModel", name := "most", desc := "(I)I" } : Jvm.MethodName)) ∈ lw_all := lw_g (lw_at lw_m4 226 rfl) rfl
theorem q1026 : (Jvm.Cond.static ({ cls := "StarTrackerModel", name := "most", desc := "(I)I" } : Jvm.MethodName)) ∈ lw_all := lw_g (lw_at lw_m4 227 rfl) rfl
theorem q1027 : (Jvm.Cond.code ({ cls := "StarTrackerModel", name := "most", desc := "(I)I" } : Jvm.MethodName) prog_11_method_18_code (1 : Nat) (Option.some Jvm.ClassFile.FieldType.int)) ∈ lw_all := lw_g (lw_at lw_m4 228 rfl) rfl
theorem q1028 : (Jvm.Cond.methodLink "StarTrackerModel" (118 : Nat) ({ cls := "StarTrackerModel", name := "lays", desc := "(IIIII)V" } : Jvm.MethodName)) ∈ lw_all := lw_g (lw_at lw_m4 229 rfl) rfl
theorem q1029 : (Jvm.Cond.privateMethod ({ cls := "StarTrackerModel", name := "lays", desc := "(IIIII)V" } : Jvm.MethodName)) ∈ lw_tbl := lw_at lw_m4 230 rfl
theorem q1030 : (Jvm.Cond.instanceMethod ({ cls := "StarTrackerModel", name := "lays", desc := "(IIIII)V" } : Jvm.MethodName)) ∈ lw_all := lw_g (lw_at lw_m4 231 rfl) rfl
theorem q1031 : (Jvm.Cond.code ({ cls := "StarTrackerModel", name := "lays", desc := "(IIIII)V" } : Jvm.MethodName) prog_11_method_19_code (6 : Nat) (Option.none : Option Jvm.ClassFile.FieldType)) ∈ lw_all := lw_g (lw_at lw_m4 232 rfl) rfl
theorem q1033 : (Jvm.Cond.instanceMethod ({ cls := "StarTrackerModel", name := "back", desc := "(I)I" } : Jvm.MethodName)) ∈ lw_all := lw_g (lw_at lw_m4 234 rfl) rfl
theorem q1034 : (Jvm.Cond.selects "StarTrackerModel" ({ cls := "StarTrackerModel", name := "back", desc := "(I)I" } : Jvm.MethodName) ({ cls := "StarTrackerModel", name := "back", desc := "(I)I" } : Jvm.MethodName)) ∈ lw_all := lw_g (lw_at lw_m4 235 rfl) rfl
theorem q1035 : (Jvm.Cond.code ({ cls := "StarTrackerModel", name := "back", desc := "(I)I" } : Jvm.MethodName) prog_11_method_21_code (2 : Nat) (Option.some Jvm.ClassFile.FieldType.int)) ∈ lw_all := lw_g (lw_at lw_m4 236 rfl) rfl
theorem q1037 : (Jvm.Cond.instanceMethod ({ cls := "StarTrackerModel", name := "at", desc := "(III)I" } : Jvm.MethodName)) ∈ lw_all := lw_g (lw_at lw_m4 238 rfl) rfl
theorem q1038 : (Jvm.Cond.selects "StarTrackerModel" ({ cls := "StarTrackerModel", name := "at", desc := "(III)I" } : Jvm.MethodName) ({ cls := "StarTrackerModel", name := "at", desc := "(III)I" } : Jvm.MethodName)) ∈ lw_all := lw_g (lw_at lw_m4 239 rfl) rfl
theorem q1039 : (Jvm.Cond.code ({ cls := "StarTrackerModel", name := "at", desc := "(III)I" } : Jvm.MethodName) prog_11_method_24_code (4 : Nat) (Option.some Jvm.ClassFile.FieldType.int)) ∈ lw_all := lw_g (lw_at lw_m5 0 rfl) rfl
theorem q1040 : (Jvm.Cond.methodLink "StarTrackerModel" (122 : Nat) ({ cls := "StarTrackerModel", name := "isThere", desc := "(II)Z" } : Jvm.MethodName)) ∈ lw_all := lw_g (lw_at lw_m5 1 rfl) rfl
theorem q1041 : (Jvm.Cond.privateMethod ({ cls := "StarTrackerModel", name := "isThere", desc := "(II)Z" } : Jvm.MethodName)) ∈ lw_tbl := lw_at lw_m5 2 rfl
theorem q1042 : (Jvm.Cond.instanceMethod ({ cls := "StarTrackerModel", name := "isThere", desc := "(II)Z" } : Jvm.MethodName)) ∈ lw_all := lw_g (lw_at lw_m5 3 rfl) rfl
theorem q1043 : (Jvm.Cond.code ({ cls := "StarTrackerModel", name := "isThere", desc := "(II)Z" } : Jvm.MethodName) prog_11_method_22_code (3 : Nat) (Option.some Jvm.ClassFile.FieldType.boolean)) ∈ lw_all := lw_g (lw_at lw_m5 4 rfl) rfl
theorem q1044 : (Jvm.Cond.methodLink "StarTrackerModel" (126 : Nat) ({ cls := "StarTrackerModel", name := "of", desc := "(III)I" } : Jvm.MethodName)) ∈ lw_all := lw_g (lw_at lw_m5 5 rfl) rfl
theorem q1045 : (Jvm.Cond.privateMethod ({ cls := "StarTrackerModel", name := "of", desc := "(III)I" } : Jvm.MethodName)) ∈ lw_tbl := lw_at lw_m5 6 rfl
theorem q1046 : (Jvm.Cond.instanceMethod ({ cls := "StarTrackerModel", name := "of", desc := "(III)I" } : Jvm.MethodName)) ∈ lw_all := lw_g (lw_at lw_m5 7 rfl) rfl
theorem q1047 : (Jvm.Cond.code ({ cls := "StarTrackerModel", name := "of", desc := "(III)I" } : Jvm.MethodName) prog_11_method_23_code (4 : Nat) (Option.some Jvm.ClassFile.FieldType.int)) ∈ lw_all := lw_g (lw_at lw_m5 8 rfl) rfl
theorem q1049 : (Jvm.Cond.instanceMethod ({ cls := "StarTrackerModel", name := "read", desc := "(II)I" } : Jvm.MethodName)) ∈ lw_all := lw_g (lw_at lw_m5 10 rfl) rfl
theorem q1050 : (Jvm.Cond.selects "StarTrackerModel" ({ cls := "StarTrackerModel", name := "read", desc := "(II)I" } : Jvm.MethodName) ({ cls := "StarTrackerModel", name := "read", desc := "(II)I" } : Jvm.MethodName)) ∈ lw_all := lw_g (lw_at lw_m5 11 rfl) rfl
theorem q1051 : (Jvm.Cond.code ({ cls := "StarTrackerModel", name := "read", desc := "(II)I" } : Jvm.MethodName) prog_11_method_25_code (6 : Nat) (Option.some Jvm.ClassFile.FieldType.int)) ∈ lw_all := lw_g (lw_at lw_m5 12 rfl) rfl
theorem q1052 : (Jvm.Cond.methodLink "StarTrackerModel" (129 : Nat) ({ cls := "StarTrackerModel", name := "add", desc := "(IIII)I" } : Jvm.MethodName)) ∈ lw_all := lw_g (lw_at lw_m5 13 rfl) rfl
theorem q1054 : (Jvm.Cond.instanceMethod ({ cls := "StarTrackerModel", name := "see", desc := "(IIIIII)I" } : Jvm.MethodName)) ∈ lw_all := lw_g (lw_at lw_m5 15 rfl) rfl
theorem q1055 : (Jvm.Cond.selects "StarTrackerModel" ({ cls := "StarTrackerModel", name := "see", desc := "(IIIIII)I" } : Jvm.MethodName) ({ cls := "StarTrackerModel", name := "see", desc := "(IIIIII)I" } : Jvm.MethodName)) ∈ lw_all := lw_g (lw_at lw_m5 16 rfl) rfl
theorem q1056 : (Jvm.Cond.code ({ cls := "StarTrackerModel", name := "see", desc := "(IIIIII)I" } : Jvm.MethodName) prog_11_method_29_code (8 : Nat) (Option.some Jvm.ClassFile.FieldType.int)) ∈ lw_all := lw_g (lw_at lw_m5 17 rfl) rfl
theorem q1057 : (Jvm.Cond.methodLink "StarTrackerModel" (143 : Nat) ({ cls := "StarTrackerModel", name := "lesser", desc := "(II)I" } : Jvm.MethodName)) ∈ lw_all := lw_g (lw_at lw_m5 18 rfl) rfl
theorem q1058 : (Jvm.Cond.static ({ cls := "StarTrackerModel", name := "lesser", desc := "(II)I" } : Jvm.MethodName)) ∈ lw_all := lw_g (lw_at lw_m5 19 rfl) rfl
theorem q1059 : (Jvm.Cond.code ({ cls := "StarTrackerModel", name := "lesser", desc := "(II)I" } : Jvm.MethodName) prog_11_method_6_code (2 : Nat) (Option.some Jvm.ClassFile.FieldType.int)) ∈ lw_all := lw_g (lw_at lw_m5 20 rfl) rfl
theorem q1060 : (Jvm.Cond.methodLink "StarTrackerModel" (149 : Nat) ({ cls := "StarTrackerModel", name := "sees", desc := "(IIIII)V" } : Jvm.MethodName)) ∈ lw_all := lw_g (lw_at lw_m5 21 rfl) rfl
theorem q1061 : (Jvm.Cond.privateMethod ({ cls := "StarTrackerModel", name := "sees", desc := "(IIIII)V" } : Jvm.MethodName)) ∈ lw_tbl := lw_at lw_m5 22 rfl
theorem q1062 : (Jvm.Cond.instanceMethod ({ cls := "StarTrackerModel", name := "sees", desc := "(IIIII)V" } : Jvm.MethodName)) ∈ lw_all := lw_g (lw_at lw_m5 23 rfl) rfl
theorem q1063 : (Jvm.Cond.code ({ cls := "StarTrackerModel", name := "sees", desc := "(IIIII)V" } : Jvm.MethodName) prog_11_method_28_code (11 : Nat) (Option.none : Option Jvm.ClassFile.FieldType)) ∈ lw_all := lw_g (lw_at lw_m5 24 rfl) rfl
theorem q1064 : (Jvm.Cond.methodLink "StarTrackerModel" (146 : Nat) ({ cls := "StarTrackerModel", name := "noisy", desc := "(II)I" } : Jvm.MethodName)) ∈ lw_all := lw_g (lw_at lw_m5 25 rfl) rfl
theorem q1065 : (Jvm.Cond.privateMethod ({ cls := "StarTrackerModel", name := "noisy", desc := "(II)I" } : Jvm.MethodName)) ∈ lw_tbl := lw_at lw_m5 26 rfl
theorem q1066 : (Jvm.Cond.instanceMethod ({ cls := "StarTrackerModel", name := "noisy", desc := "(II)I" } : Jvm.MethodName)) ∈ lw_all := lw_g (lw_at lw_m5 27 rfl) rfl
theorem q1067 : (Jvm.Cond.code ({ cls := "StarTrackerModel", name := "noisy", desc := "(II)I" } : Jvm.MethodName) prog_11_method_27_code (4 : Nat) (Option.some Jvm.ClassFile.FieldType.int)) ∈ lw_all := lw_g (lw_at lw_m5 28 rfl) rfl
theorem q1068 : (Jvm.Cond.methodLink "StarTrackerModel" (137 : Nat) ({ cls := "StarTrackerModel", name := "lot", desc := "(I)I" } : Jvm.MethodName)) ∈ lw_all := lw_g (lw_at lw_m5 29 rfl) rfl
theorem q1069 : (Jvm.Cond.privateMethod ({ cls := "StarTrackerModel", name := "lot", desc := "(I)I" } : Jvm.MethodName)) ∈ lw_tbl := lw_at lw_m5 30 rfl
theorem q1070 : (Jvm.Cond.instanceMethod ({ cls := "StarTrackerModel", name := "lot", desc := "(I)I" } : Jvm.MethodName)) ∈ lw_all := lw_g (lw_at lw_m5 31 rfl) rfl
theorem q1071 : (Jvm.Cond.code ({ cls := "StarTrackerModel", name := "lot", desc := "(I)I" } : Jvm.MethodName) prog_11_method_26_code (2 : Nat) (Option.some Jvm.ClassFile.FieldType.int)) ∈ lw_all := lw_g (lw_at lw_m5 32 rfl) rfl
theorem q1072 : (Jvm.Cond.constant "StarTrackerModel" (133 : Nat) (1103515245 : Int32)) ∈ lw_all := lw_g (lw_at lw_m5 33 rfl) rfl
theorem q1073 : (Jvm.Cond.methodLink "StarTrackerModel" (140 : Nat) ({ cls := "StarTrackerModel", name := "greater", desc := "(II)I" } : Jvm.MethodName)) ∈ lw_all := lw_g (lw_at lw_m5 34 rfl) rfl
theorem q1074 : (Jvm.Cond.static ({ cls := "StarTrackerModel", name := "greater", desc := "(II)I" } : Jvm.MethodName)) ∈ lw_all := lw_g (lw_at lw_m5 35 rfl) rfl
theorem q1075 : (Jvm.Cond.code ({ cls := "StarTrackerModel", name := "greater", desc := "(II)I" } : Jvm.MethodName) prog_11_method_7_code (2 : Nat) (Option.some Jvm.ClassFile.FieldType.int)) ∈ lw_all := lw_g (lw_at lw_m5 36 rfl) rfl
theorem q1077 : (Jvm.Cond.instanceMethod ({ cls := "StarTrackerModel", name := "set", desc := "(II)I" } : Jvm.MethodName)) ∈ lw_all := lw_g (lw_at lw_m5 38 rfl) rfl
theorem q1078 : (Jvm.Cond.selects "StarTrackerModel" ({ cls := "StarTrackerModel", name := "set", desc := "(II)I" } : Jvm.MethodName) ({ cls := "StarTrackerModel", name := "set", desc := "(II)I" } : Jvm.MethodName)) ∈ lw_all := lw_g (lw_at lw_m5 39 rfl) rfl
theorem q1079 : (Jvm.Cond.code ({ cls := "StarTrackerModel", name := "set", desc := "(II)I" } : Jvm.MethodName) prog_11_method_30_code (5 : Nat) (Option.some Jvm.ClassFile.FieldType.int)) ∈ lw_all := lw_g (lw_at lw_m5 40 rfl) rfl
theorem q1080 : (Jvm.Cond.constantLong "StarTrackerModel" (152 : Nat) (9999 : Int64)) ∈ lw_all := lw_g (lw_at lw_m5 41 rfl) rfl
theorem q1081 : (Jvm.Cond.constantLong "StarTrackerModel" (154 : Nat) (99 : Int64)) ∈ lw_all := lw_g (lw_at lw_m5 42 rfl) rfl
theorem q1082 : (Jvm.Cond.constantLong "StarTrackerModel" (156 : Nat) (300 : Int64)) ∈ lw_all := lw_g (lw_at lw_m5 43 rfl) rfl
theorem q1084 : (Jvm.Cond.instanceMethod ({ cls := "StarTrackerModel", name := "side", desc := "(III)I" } : Jvm.MethodName)) ∈ lw_all := lw_g (lw_at lw_m5 45 rfl) rfl
theorem q1085 : (Jvm.Cond.selects "StarTrackerModel" ({ cls := "StarTrackerModel", name := "side", desc := "(III)I" } : Jvm.MethodName) ({ cls := "StarTrackerModel", name := "side", desc := "(III)I" } : Jvm.MethodName)) ∈ lw_all := lw_g (lw_at lw_m5 46 rfl) rfl
theorem q1086 : (Jvm.Cond.code ({ cls := "StarTrackerModel", name := "side", desc := "(III)I" } : Jvm.MethodName) prog_11_method_32_code (4 : Nat) (Option.some Jvm.ClassFile.FieldType.int)) ∈ lw_all := lw_g (lw_at lw_m5 47 rfl) rfl
theorem q1087 : (Jvm.Cond.methodLink "StarTrackerModel" (158 : Nat) ({ cls := "StarTrackerModel", name := "sideOf", desc := "(III)I" } : Jvm.MethodName)) ∈ lw_all := lw_g (lw_at lw_m5 48 rfl) rfl
theorem q1088 : (Jvm.Cond.privateMethod ({ cls := "StarTrackerModel", name := "sideOf", desc := "(III)I" } : Jvm.MethodName)) ∈ lw_tbl := lw_at lw_m5 49 rfl
theorem q1089 : (Jvm.Cond.instanceMethod ({ cls := "StarTrackerModel", name := "sideOf", desc := "(III)I" } : Jvm.MethodName)) ∈ lw_all := lw_g (lw_at lw_m5 50 rfl) rfl
theorem q1090 : (Jvm.Cond.code ({ cls := "StarTrackerModel", name := "sideOf", desc := "(III)I" } : Jvm.MethodName) prog_11_method_31_code (7 : Nat) (Option.some Jvm.ClassFile.FieldType.int)) ∈ lw_all := lw_g (lw_at lw_m5 51 rfl) rfl
theorem q1092 : (Jvm.Cond.instanceMethod ({ cls := "StarTrackerModel", name := "key", desc := "(IIIII)I" } : Jvm.MethodName)) ∈ lw_all := lw_g (lw_at lw_m5 53 rfl) rfl
theorem q1093 : (Jvm.Cond.selects "StarTrackerModel" ({ cls := "StarTrackerModel", name := "key", desc := "(IIIII)I" } : Jvm.MethodName) ({ cls := "StarTrackerModel", name := "key", desc := "(IIIII)I" } : Jvm.MethodName)) ∈ lw_all := lw_g (lw_at lw_m5 54 rfl) rfl
theorem q1094 : (Jvm.Cond.code ({ cls := "StarTrackerModel", name := "key", desc := "(IIIII)I" } : Jvm.MethodName) prog_11_method_35_code (6 : Nat) (Option.some Jvm.ClassFile.FieldType.int)) ∈ lw_all := lw_g (lw_at lw_m5 55 rfl) rfl
theorem q1095 : (Jvm.Cond.methodLink "StarTrackerModel" (161 : Nat) ({ cls := "StarTrackerModel", name := "isTriangle", desc := "(IIII)Z" } : Jvm.MethodName)) ∈ lw_all := lw_g (lw_at lw_m5 56 rfl) rfl
theorem q1096 : (Jvm.Cond.privateMethod ({ cls := "StarTrackerModel", name := "isTriangle", desc := "(IIII)Z" } : Jvm.MethodName)) ∈ lw_tbl := lw_at lw_m5 57 rfl
theorem q1097 : (Jvm.Cond.instanceMethod ({ cls := "StarTrackerModel", name := "isTriangle", desc := "(IIII)Z" } : Jvm.MethodName)) ∈ lw_all := lw_g (lw_at lw_m5 58 rfl) rfl
theorem q1098 : (Jvm.Cond.code ({ cls := "StarTrackerModel", name := "isTriangle", desc := "(IIII)Z" } : Jvm.MethodName) prog_11_method_34_code (5 : Nat) (Option.some Jvm.ClassFile.FieldType.boolean)) ∈ lw_all := lw_g (lw_at lw_m5 59 rfl) rfl
theorem q1099 : (Jvm.Cond.methodLink "StarTrackerModel" (165 : Nat) ({ cls := "StarTrackerModel", name := "keyOf", desc := "(IIIII)I" } : Jvm.MethodName)) ∈ lw_all := lw_g (lw_at lw_m5 60 rfl) rfl
theorem q1100 : (Jvm.Cond.privateMethod ({ cls := "StarTrackerModel", name := "keyOf", desc := "(IIIII)I" } : Jvm.MethodName)) ∈ lw_tbl := lw_at lw_m5 61 rfl
theorem q1101 : (Jvm.Cond.instanceMethod ({ cls := "StarTrackerModel", name := "keyOf", desc := "(IIIII)I" } : Jvm.MethodName)) ∈ lw_all := lw_g (lw_at lw_m5 62 rfl) rfl
theorem q1102 : (Jvm.Cond.code ({ cls := "StarTrackerModel", name := "keyOf", desc := "(IIIII)I" } : Jvm.MethodName) prog_11_method_33_code (11 : Nat) (Option.some Jvm.ClassFile.FieldType.int)) ∈ lw_all := lw_g (lw_at lw_m5 63 rfl) rfl
theorem q1104 : (Jvm.Cond.instanceMethod ({ cls := "StarTrackerModel", name := "looks", desc := "(I)I" } : Jvm.MethodName)) ∈ lw_all := lw_g (lw_at lw_m5 65 rfl) rfl
theorem q1105 : (Jvm.Cond.selects "StarTrackerModel" ({ cls := "StarTrackerModel", name := "looks", desc := "(I)I" } : Jvm.MethodName) ({ cls := "StarTrackerModel", name := "looks", desc := "(I)I" } : Jvm.MethodName)) ∈ lw_all := lw_g (lw_at lw_m5 66 rfl) rfl
theorem q1106 : (Jvm.Cond.code ({ cls := "StarTrackerModel", name := "looks", desc := "(I)I" } : Jvm.MethodName) prog_11_method_55_code (2 : Nat) (Option.some Jvm.ClassFile.FieldType.int)) ∈ lw_all := lw_g (lw_at lw_m5 67 rfl) rfl
theorem q1107 : (Jvm.Cond.methodLink "StarTrackerModel" (241 : Nat) ({ cls := "StarTrackerModel", name := "find", desc := "()V" } : Jvm.MethodName)) ∈ lw_all := lw_g (lw_at lw_m5 68 rfl) rfl
theorem q1108 : (Jvm.Cond.privateMethod ({ cls := "StarTrackerModel", name := "find", desc := "()V" } : Jvm.MethodName)) ∈ lw_tbl := lw_at lw_m5 69 rfl
theorem q1109 : (Jvm.Cond.instanceMethod ({ cls := "StarTrackerModel", name := "find", desc := "()V" } : Jvm.MethodName)) ∈ lw_all := lw_g (lw_at lw_m5 70 rfl) rfl
theorem q1110 : (Jvm.Cond.code ({ cls := "StarTrackerModel", name := "find", desc := "()V" } : Jvm.MethodName) prog_11_method_52_code (1 : Nat) (Option.none : Option Jvm.ClassFile.FieldType)) ∈ lw_all := lw_g (lw_at lw_m5 71 rfl) rfl
theorem q1111 : (Jvm.Cond.methodLink "StarTrackerModel" (226 : Nat) ({ cls := "StarTrackerModel", name := "votesAll", desc := "()V" } : Jvm.MethodName)) ∈ lw_all := lw_g (lw_at lw_m5 72 rfl) rfl
theorem q1112 : (Jvm.Cond.privateMethod ({ cls := "StarTrackerModel", name := "votesAll", desc := "()V" } : Jvm.MethodName)) ∈ lw_tbl := lw_at lw_m5 73 rfl
theorem q1113 : (Jvm.Cond.instanceMethod ({ cls := "StarTrackerModel", name := "votesAll", desc := "()V" } : Jvm.MethodName)) ∈ lw_all := lw_g (lw_at lw_m5 74 rfl) rfl
theorem q1114 : (Jvm.Cond.code ({ cls := "StarTrackerModel", name := "votesAll", desc := "()V" } : Jvm.MethodName) prog_11_method_41_code (4 : Nat) (Option.none : Option Jvm.ClassFile.FieldType)) ∈ lw_all := lw_g (lw_at lw_m5 75 rfl) rfl
theorem q1115 : (Jvm.Cond.methodLink "StarTrackerModel" (188 : Nat) ({ cls := "StarTrackerModel", name := "looksAt", desc := "(III)V" } : Jvm.MethodName)) ∈ lw_all := lw_g (lw_at lw_m5 76 rfl) rfl
theorem q1116 : (Jvm.Cond.privateMethod ({ cls := "StarTrackerModel", name := "looksAt", desc := "(III)V" } : Jvm.MethodName)) ∈ lw_tbl := lw_at lw_m5 77 rfl
theorem q1117 : (Jvm.Cond.instanceMethod ({ cls := "StarTrackerModel", name := "looksAt", desc := "(III)V" } : Jvm.MethodName)) ∈ lw_all := lw_g (lw_at lw_m5 78 rfl) rfl
theorem q1118 : (Jvm.Cond.code ({ cls := "StarTrackerModel", name := "looksAt", desc := "(III)V" } : Jvm.MethodName) prog_11_method_40_code (7 : Nat) (Option.none : Option Jvm.ClassFile.FieldType)) ∈ lw_all := lw_g (lw_at lw_m5 79 rfl) rfl
theorem q1119 : (Jvm.Cond.methodLink "StarTrackerModel" (185 : Nat) ({ cls := "StarTrackerModel", name := "meets", desc := "(IIIIII)V" } : Jvm.MethodName)) ∈ lw_all := lw_g (lw_at lw_m5 80 rfl) rfl
theorem q1120 : (Jvm.Cond.privateMethod ({ cls := "StarTrackerModel", name := "meets", desc := "(IIIIII)V" } : Jvm.MethodName)) ∈ lw_tbl := lw_at lw_m5 81 rfl
theorem q1121 : (Jvm.Cond.instanceMethod ({ cls := "StarTrackerModel", name := "meets", desc := "(IIIIII)V" } : Jvm.MethodName)) ∈ lw_all := lw_g (lw_at lw_m5 82 rfl) rfl
theorem q1122 : (Jvm.Cond.code ({ cls := "StarTrackerModel", name := "meets", desc := "(IIIIII)V" } : Jvm.MethodName) prog_11_method_39_code (9 : Nat) (Option.none : Option Jvm.ClassFile.FieldType)) ∈ lw_all := lw_g (lw_at lw_m5 83 rfl) rfl
theorem q1123 : (Jvm.Cond.methodLink "StarTrackerModel" (169 : Nat) ({ cls := "StarTrackerModel", name := "apart", desc := "(II)I" } : Jvm.MethodName)) ∈ lw_all := lw_g (lw_at lw_m5 84 rfl) rfl
theorem q1124 : (Jvm.Cond.static ({ cls := "StarTrackerModel", name := "apart", desc := "(II)I" } : Jvm.MethodName)) ∈ lw_all := lw_g (lw_at lw_m5 85 rfl) rfl
theorem q1125 : (Jvm.Cond.code ({ cls := "StarTrackerModel", name := "apart", desc := "(II)I" } : Jvm.MethodName) prog_11_method_36_code (2 : Nat) (Option.some Jvm.ClassFile.FieldType.int)) ∈ lw_all := lw_g (lw_at lw_m5 86 rfl) rfl
theorem q1126 : (Jvm.Cond.methodLink "StarTrackerModel" (181 : Nat) ({ cls := "StarTrackerModel", name := "tries", desc := "(IIIIII)V" } : Jvm.MethodName)) ∈ lw_all := lw_g (lw_at lw_m5 87 rfl) rfl
theorem q1127 : (Jvm.Cond.privateMethod ({ cls := "StarTrackerModel", name := "tries", desc := "(IIIIII)V" } : Jvm.MethodName)) ∈ lw_tbl := lw_at lw_m5 88 rfl
theorem q1128 : (Jvm.Cond.instanceMethod ({ cls := "StarTrackerModel", name := "tries", desc := "(IIIIII)V" } : Jvm.MethodName)) ∈ lw_all := lw_g (lw_at lw_m5 89 rfl) rfl
theorem q1129 : (Jvm.Cond.code ({ cls := "StarTrackerModel", name := "tries", desc := "(IIIIII)V" } : Jvm.MethodName) prog_11_method_38_code (7 : Nat) (Option.none : Option Jvm.ClassFile.FieldType)) ∈ lw_all := lw_g (lw_at lw_m5 90 rfl) rfl
theorem q1130 : (Jvm.Cond.methodLink "StarTrackerModel" (172 : Nat) ({ cls := "StarTrackerModel", name := "isLike", desc := "(IIII)Z" } : Jvm.MethodName)) ∈ lw_all := lw_g (lw_at lw_m5 91 rfl) rfl
theorem q1131 : (Jvm.Cond.privateMethod ({ cls := "StarTrackerModel", name := "isLike", desc := "(IIII)Z" } : Jvm.MethodName)) ∈ lw_tbl := lw_at lw_m5 92 rfl
theorem q1132 : (Jvm.Cond.instanceMethod ({ cls := "StarTrackerModel", name := "isLike", desc := "(IIII)Z" } : Jvm.MethodName)) ∈ lw_all := lw_g (lw_at lw_m5 93 rfl) rfl
theorem q1133 : (Jvm.Cond.code ({ cls := "StarTrackerModel", name := "isLike", desc := "(IIII)Z" } : Jvm.MethodName) prog_11_method_37_code (5 : Nat) (Option.some Jvm.ClassFile.FieldType.boolean)) ∈ lw_all := lw_g (lw_at lw_m5 94 rfl) rfl
theorem q1134 : (Jvm.Cond.methodLink "StarTrackerModel" (229 : Nat) ({ cls := "StarTrackerModel", name := "takes", desc := "()V" } : Jvm.MethodName)) ∈ lw_all := lw_g (lw_at lw_m5 95 rfl) rfl
theorem q1135 : (Jvm.Cond.privateMethod ({ cls := "StarTrackerModel", name := "takes", desc := "()V" } : Jvm.MethodName)) ∈ lw_tbl := lw_at lw_m5 96 rfl
theorem q1136 : (Jvm.Cond.instanceMethod ({ cls := "StarTrackerModel", name := "takes", desc := "()V" } : Jvm.MethodName)) ∈ lw_all := lw_g (lw_at lw_m5 97 rfl) rfl
theorem q1137 : (Jvm.Cond.code ({ cls := "StarTrackerModel", name := "takes", desc := "()V" } : Jvm.MethodName) prog_11_method_42_code (4 : Nat) (Option.none : Option Jvm.ClassFile.FieldType)) ∈ lw_all := lw_g (lw_at lw_m5 98 rfl) rfl
theorem q1138 : (Jvm.Cond.methodLink "StarTrackerModel" (232 : Nat) ({ cls := "StarTrackerModel", name := "turning", desc := "()V" } : Jvm.MethodName)) ∈ lw_all := lw_g (lw_at lw_m5 99 rfl) rfl
theorem q1139 : (Jvm.Cond.privateMethod ({ cls := "StarTrackerModel", name := "turning", desc := "()V" } : Jvm.MethodName)) ∈ lw_tbl := lw_at lw_m5 100 rfl
theorem q1140 : (Jvm.Cond.instanceMethod ({ cls := "StarTrackerModel", name := "turning", desc := "()V" } : Jvm.MethodName)) ∈ lw_all := lw_g (lw_at lw_m5 101 rfl) rfl
theorem q1141 : (Jvm.Cond.code ({ cls := "StarTrackerModel", name := "turning", desc := "()V" } : Jvm.MethodName) prog_11_method_49_code (5 : Nat) (Option.none : Option Jvm.ClassFile.FieldType)) ∈ lw_all := lw_g (lw_at lw_m5 102 rfl) rfl
theorem q1142 : (Jvm.Cond.methodLink "StarTrackerModel" (207 : Nat) ({ cls := "StarTrackerModel", name := "spotOf", desc := "(I)I" } : Jvm.MethodName)) ∈ lw_all := lw_g (lw_at lw_m5 103 rfl) rfl
theorem q1143 : (Jvm.Cond.privateMethod ({ cls := "StarTrackerModel", name := "spotOf", desc := "(I)I" } : Jvm.MethodName)) ∈ lw_tbl := lw_at lw_m5 104 rfl
theorem q1144 : (Jvm.Cond.instanceMethod ({ cls := "StarTrackerModel", name := "spotOf", desc := "(I)I" } : Jvm.MethodName)) ∈ lw_all := lw_g (lw_at lw_m5 105 rfl) rfl
theorem q1145 : (Jvm.Cond.code ({ cls := "StarTrackerModel", name := "spotOf", desc := "(I)I" } : Jvm.MethodName) prog_11_method_47_code (4 : Nat) (Option.some Jvm.ClassFile.FieldType.int)) ∈ lw_all := lw_g (lw_at lw_m5 106 rfl) rfl
theorem q1146 : (Jvm.Cond.methodLink "StarTrackerModel" (210 : Nat) ({ cls := "StarTrackerModel", name := "arms", desc := "([JIII)V" } : Jvm.MethodName)) ∈ lw_all := lw_g (lw_at lw_m5 107 rfl) rfl
theorem q1147 : (Jvm.Cond.privateMethod ({ cls := "StarTrackerModel", name := "arms", desc := "([JIII)V" } : Jvm.MethodName)) ∈ lw_tbl := lw_at lw_m5 108 rfl
theorem q1148 : (Jvm.Cond.instanceMethod ({ cls := "StarTrackerModel", name := "arms", desc := "([JIII)V" } : Jvm.MethodName)) ∈ lw_all := lw_g (lw_at lw_m5 109 rfl) rfl
theorem q1149 : (Jvm.Cond.code ({ cls := "StarTrackerModel", name := "arms", desc := "([JIII)V" } : Jvm.MethodName) prog_11_method_44_code (6 : Nat) (Option.none : Option Jvm.ClassFile.FieldType)) ∈ lw_all := lw_g (lw_at lw_m5 110 rfl) rfl
theorem q1150 : (Jvm.Cond.methodLink "StarTrackerModel" (195 : Nat) ({ cls := "StarTrackerModel", name := "multiplies", desc := "([JIII)V" } : Jvm.MethodName)) ∈ lw_all := lw_g (lw_at lw_m5 111 rfl) rfl
theorem q1151 : (Jvm.Cond.static ({ cls := "StarTrackerModel", name := "multiplies", desc := "([JIII)V" } : Jvm.MethodName)) ∈ lw_all := lw_g (lw_at lw_m5 112 rfl) rfl
theorem q1152 : (Jvm.Cond.code ({ cls := "StarTrackerModel", name := "multiplies", desc := "([JIII)V" } : Jvm.MethodName) prog_11_method_43_code (4 : Nat) (Option.none : Option Jvm.ClassFile.FieldType)) ∈ lw_all := lw_g (lw_at lw_m5 113 rfl) rfl
theorem q1153 : (Jvm.Cond.methodLink "StarTrackerModel" (213 : Nat) ({ cls := "StarTrackerModel", name := "isNone", desc := "([J)Z" } : Jvm.MethodName)) ∈ lw_all := lw_g (lw_at lw_m5 114 rfl) rfl
theorem q1154 : (Jvm.Cond.static ({ cls := "StarTrackerModel", name := "isNone", desc := "([J)Z" } : Jvm.MethodName)) ∈ lw_all := lw_g (lw_at lw_m5 115 rfl) rfl
theorem q1155 : (Jvm.Cond.code ({ cls := "StarTrackerModel", name := "isNone", desc := "([J)Z" } : Jvm.MethodName) prog_11_method_48_code (1 : Nat) (Option.some Jvm.ClassFile.FieldType.boolean)) ∈ lw_all := lw_g (lw_at lw_m5 116 rfl) rfl
theorem q1156 : (Jvm.Cond.methodLink "StarTrackerModel" (217 : Nat) ({ cls := "StarTrackerModel", name := "coordinate", desc := "(II)I" } : Jvm.MethodName)) ∈ lw_all := lw_g (lw_at lw_m5 117 rfl) rfl
theorem q1157 : (Jvm.Cond.privateMethod ({ cls := "StarTrackerModel", name := "coordinate", desc := "(II)I" } : Jvm.MethodName)) ∈ lw_tbl := lw_at lw_m5 118 rfl
theorem q1158 : (Jvm.Cond.instanceMethod ({ cls := "StarTrackerModel", name := "coordinate", desc := "(II)I" } : Jvm.MethodName)) ∈ lw_all := lw_g (lw_at lw_m5 119 rfl) rfl
theorem q1159 : (Jvm.Cond.code ({ cls := "StarTrackerModel", name := "coordinate", desc := "(II)I" } : Jvm.MethodName) prog_11_method_46_code (9 : Nat) (Option.some Jvm.ClassFile.FieldType.int)) ∈ lw_all := lw_g (lw_at lw_m5 120 rfl) rfl
theorem q1160 : (Jvm.Cond.methodLink "StarTrackerModel" (199 : Nat) ({ cls := "StarTrackerModel", name := "nearest", desc := "(JJ)J" } : Jvm.MethodName)) ∈ lw_all := lw_g (lw_at lw_m5 121 rfl) rfl
theorem q1161 : (Jvm.Cond.static ({ cls := "StarTrackerModel", name := "nearest", desc := "(JJ)J" } : Jvm.MethodName)) ∈ lw_all := lw_g (lw_at lw_m5 122 rfl) rfl
theorem q1162 : (Jvm.Cond.code ({ cls := "StarTrackerModel", name := "nearest", desc := "(JJ)J" } : Jvm.MethodName) prog_11_method_45_code (10 : Nat) (Option.some Jvm.ClassFile.FieldType.long)) ∈ lw_all := lw_g (lw_at lw_m5 123 rfl) rfl
theorem q1163 : (Jvm.Cond.methodLink "StarTrackerModel" (235 : Nat) ({ cls := "StarTrackerModel", name := "confirms", desc := "()V" } : Jvm.MethodName)) ∈ lw_all := lw_g (lw_at lw_m5 124 rfl) rfl
theorem q1164 : (Jvm.Cond.privateMethod ({ cls := "StarTrackerModel", name := "confirms", desc := "()V" } : Jvm.MethodName)) ∈ lw_tbl := lw_at lw_m5 125 rfl
theorem q1165 : (Jvm.Cond.instanceMethod ({ cls := "StarTrackerModel", name := "confirms", desc := "()V" } : Jvm.MethodName)) ∈ lw_all := lw_g (lw_at lw_m5 126 rfl) rfl
theorem q1166 : (Jvm.Cond.code ({ cls := "StarTrackerModel", name := "confirms", desc := "()V" } : Jvm.MethodName) prog_11_method_51_code (4 : Nat) (Option.none : Option Jvm.ClassFile.FieldType)) ∈ lw_all := lw_g (lw_at lw_m5 127 rfl) rfl
theorem q1167 : (Jvm.Cond.methodLink "StarTrackerModel" (223 : Nat) ({ cls := "StarTrackerModel", name := "farOf", desc := "(II)I" } : Jvm.MethodName)) ∈ lw_all := lw_g (lw_at lw_m5 128 rfl) rfl
theorem q1168 : (Jvm.Cond.privateMethod ({ cls := "StarTrackerModel", name := "farOf", desc := "(II)I" } : Jvm.MethodName)) ∈ lw_tbl := lw_at lw_m5 129 rfl
theorem q1169 : (Jvm.Cond.instanceMethod ({ cls := "StarTrackerModel", name := "farOf", desc := "(II)I" } : Jvm.MethodName)) ∈ lw_all := lw_g (lw_at lw_m5 130 rfl) rfl
theorem q1170 : (Jvm.Cond.code ({ cls := "StarTrackerModel", name := "farOf", desc := "(II)I" } : Jvm.MethodName) prog_11_method_50_code (5 : Nat) (Option.some Jvm.ClassFile.FieldType.int)) ∈ lw_all := lw_g (lw_at lw_m5 131 rfl) rfl
theorem q1171 : (Jvm.Cond.methodLink "StarTrackerModel" (244 : Nat) ({ cls := "StarTrackerModel", name := "looksBy", desc := "(I)I" } : Jvm.MethodName)) ∈ lw_all := lw_g (lw_at lw_m5 132 rfl) rfl
theorem q1172 : (Jvm.Cond.privateMethod ({ cls := "StarTrackerModel", name := "looksBy", desc := "(I)I" } : Jvm.MethodName)) ∈ lw_tbl := lw_at lw_m5 133 rfl
theorem q1173 : (Jvm.Cond.instanceMethod ({ cls := "StarTrackerModel", name := "looksBy", desc := "(I)I" } : Jvm.MethodName)) ∈ lw_all := lw_g (lw_at lw_m5 134 rfl) rfl
theorem q1174 : (Jvm.Cond.code ({ cls := "StarTrackerModel", name := "looksBy", desc := "(I)I" } : Jvm.MethodName) prog_11_method_54_code (2 : Nat) (Option.some Jvm.ClassFile.FieldType.int)) ∈ lw_all := lw_g (lw_at lw_m5 135 rfl) rfl
theorem q1175 : (Jvm.Cond.methodLink "StarTrackerModel" (238 : Nat) ({ cls := "StarTrackerModel", name := "threes", desc := "(I)I" } : Jvm.MethodName)) ∈ lw_all := lw_g (lw_at lw_m5 136 rfl) rfl
theorem q1176 : (Jvm.Cond.static ({ cls := "StarTrackerModel", name := "threes", desc := "(I)I" } : Jvm.MethodName)) ∈ lw_all := lw_g (lw_at lw_m5 137 rfl) rfl
theorem q1177 : (Jvm.Cond.code ({ cls := "StarTrackerModel", name := "threes", desc := "(I)I" } : Jvm.MethodName) prog_11_method_53_code (1 : Nat) (Option.some Jvm.ClassFile.FieldType.int)) ∈ lw_all := lw_g (lw_at lw_m5 138 rfl) rfl
theorem q1179 : (Jvm.Cond.instanceMethod ({ cls := "StarTrackerModel", name := "votes", desc := "(II)I" } : Jvm.MethodName)) ∈ lw_all := lw_g (lw_at lw_m5 140 rfl) rfl
theorem q1180 : (Jvm.Cond.selects "StarTrackerModel" ({ cls := "StarTrackerModel", name := "votes", desc := "(II)I" } : Jvm.MethodName) ({ cls := "StarTrackerModel", name := "votes", desc := "(II)I" } : Jvm.MethodName)) ∈ lw_all := lw_g (lw_at lw_m5 141 rfl) rfl
theorem q1181 : (Jvm.Cond.code ({ cls := "StarTrackerModel", name := "votes", desc := "(II)I" } : Jvm.MethodName) prog_11_method_56_code (3 : Nat) (Option.some Jvm.ClassFile.FieldType.int)) ∈ lw_all := lw_g (lw_at lw_m5 142 rfl) rfl
theorem q1183 : (Jvm.Cond.instanceMethod ({ cls := "StarTrackerModel", name := "taken", desc := "(II)I" } : Jvm.MethodName)) ∈ lw_all := lw_g (lw_at lw_m5 144 rfl) rfl
theorem q1184 : (Jvm.Cond.selects "StarTrackerModel" ({ cls := "StarTrackerModel", name := "taken", desc := "(II)I" } : Jvm.MethodName) ({ cls := "StarTrackerModel", name := "taken", desc := "(II)I" } : Jvm.MethodName)) ∈ lw_all := lw_g (lw_at lw_m5 145 rfl) rfl
theorem q1185 : (Jvm.Cond.code ({ cls := "StarTrackerModel", name := "taken", desc := "(II)I" } : Jvm.MethodName) prog_11_method_58_code (3 : Nat) (Option.some Jvm.ClassFile.FieldType.int)) ∈ lw_all := lw_g (lw_at lw_m5 146 rfl) rfl
theorem q1186 : (Jvm.Cond.methodLink "StarTrackerModel" (247 : Nat) ({ cls := "StarTrackerModel", name := "takenBy", desc := "(II)I" } : Jvm.MethodName)) ∈ lw_all := lw_g (lw_at lw_m5 147 rfl) rfl
theorem q1187 : (Jvm.Cond.privateMethod ({ cls := "StarTrackerModel", name := "takenBy", desc := "(II)I" } : Jvm.MethodName)) ∈ lw_tbl := lw_at lw_m5 148 rfl
theorem q1188 : (Jvm.Cond.instanceMethod ({ cls := "StarTrackerModel", name := "takenBy", desc := "(II)I" } : Jvm.MethodName)) ∈ lw_all := lw_g (lw_at lw_m5 149 rfl) rfl
theorem q1189 : (Jvm.Cond.code ({ cls := "StarTrackerModel", name := "takenBy", desc := "(II)I" } : Jvm.MethodName) prog_11_method_57_code (3 : Nat) (Option.some Jvm.ClassFile.FieldType.int)) ∈ lw_all := lw_g (lw_at lw_m5 150 rfl) rfl
theorem q1191 : (Jvm.Cond.instanceMethod ({ cls := "StarTrackerModel", name := "turn", desc := "()I" } : Jvm.MethodName)) ∈ lw_all := lw_g (lw_at lw_m5 152 rfl) rfl
theorem q1192 : (Jvm.Cond.selects "StarTrackerModel" ({ cls := "StarTrackerModel", name := "turn", desc := "()I" } : Jvm.MethodName) ({ cls := "StarTrackerModel", name := "turn", desc := "()I" } : Jvm.MethodName)) ∈ lw_all := lw_g (lw_at lw_m5 153 rfl) rfl
theorem q1193 : (Jvm.Cond.code ({ cls := "StarTrackerModel", name := "turn", desc := "()I" } : Jvm.MethodName) prog_11_method_59_code (1 : Nat) (Option.some Jvm.ClassFile.FieldType.int)) ∈ lw_all := lw_g (lw_at lw_m5 154 rfl) rfl
theorem q1195 : (Jvm.Cond.instanceMethod ({ cls := "StarTrackerModel", name := "place", desc := "(II)I" } : Jvm.MethodName)) ∈ lw_all := lw_g (lw_at lw_m5 156 rfl) rfl
theorem q1196 : (Jvm.Cond.selects "StarTrackerModel" ({ cls := "StarTrackerModel", name := "place", desc := "(II)I" } : Jvm.MethodName) ({ cls := "StarTrackerModel", name := "place", desc := "(II)I" } : Jvm.MethodName)) ∈ lw_all := lw_g (lw_at lw_m5 157 rfl) rfl
theorem q1197 : (Jvm.Cond.code ({ cls := "StarTrackerModel", name := "place", desc := "(II)I" } : Jvm.MethodName) prog_11_method_61_code (3 : Nat) (Option.some Jvm.ClassFile.FieldType.int)) ∈ lw_all := lw_g (lw_at lw_m5 158 rfl) rfl
theorem q1198 : (Jvm.Cond.methodLink "StarTrackerModel" (250 : Nat) ({ cls := "StarTrackerModel", name := "placeBy", desc := "(II)I" } : Jvm.MethodName)) ∈ lw_all := lw_g (lw_at lw_m5 159 rfl) rfl
theorem q1199 : (Jvm.Cond.privateMethod ({ cls := "StarTrackerModel", name := "placeBy", desc := "(II)I" } : Jvm.MethodName)) ∈ lw_tbl := lw_at lw_m5 160 rfl
theorem q1200 : (Jvm.Cond.instanceMethod ({ cls := "StarTrackerModel", name := "placeBy", desc := "(II)I" } : Jvm.MethodName)) ∈ lw_all := lw_g (lw_at lw_m5 161 rfl) rfl
theorem q1201 : (Jvm.Cond.code ({ cls := "StarTrackerModel", name := "placeBy", desc := "(II)I" } : Jvm.MethodName) prog_11_method_60_code (3 : Nat) (Option.some Jvm.ClassFile.FieldType.int)) ∈ lw_all := lw_g (lw_at lw_m5 162 rfl) rfl
theorem q1203 : (Jvm.Cond.instanceMethod ({ cls := "StarTrackerModel", name := "confirmed", desc := "(II)I" } : Jvm.MethodName)) ∈ lw_all := lw_g (lw_at lw_m5 164 rfl) rfl
theorem q1204 : (Jvm.Cond.selects "StarTrackerModel" ({ cls := "StarTrackerModel", name := "confirmed", desc := "(II)I" } : Jvm.MethodName) ({ cls := "StarTrackerModel", name := "confirmed", desc := "(II)I" } : Jvm.MethodName)) ∈ lw_all := lw_g (lw_at lw_m5 165 rfl) rfl
theorem q1205 : (Jvm.Cond.code ({ cls := "StarTrackerModel", name := "confirmed", desc := "(II)I" } : Jvm.MethodName) prog_11_method_63_code (3 : Nat) (Option.some Jvm.ClassFile.FieldType.int)) ∈ lw_all := lw_g (lw_at lw_m5 166 rfl) rfl
theorem q1206 : (Jvm.Cond.methodLink "StarTrackerModel" (253 : Nat) ({ cls := "StarTrackerModel", name := "confirmedBy", desc := "(II)I" } : Jvm.MethodName)) ∈ lw_all := lw_g (lw_at lw_m5 167 rfl) rfl
theorem q1207 : (Jvm.Cond.privateMethod ({ cls := "StarTrackerModel", name := "confirmedBy", desc := "(II)I" } : Jvm.MethodName)) ∈ lw_tbl := lw_at lw_m5 168 rfl
theorem q1208 : (Jvm.Cond.instanceMethod ({ cls := "StarTrackerModel", name := "confirmedBy", desc := "(II)I" } : Jvm.MethodName)) ∈ lw_all := lw_g (lw_at lw_m5 169 rfl) rfl
theorem q1209 : (Jvm.Cond.code ({ cls := "StarTrackerModel", name := "confirmedBy", desc := "(II)I" } : Jvm.MethodName) prog_11_method_62_code (3 : Nat) (Option.some Jvm.ClassFile.FieldType.int)) ∈ lw_all := lw_g (lw_at lw_m5 170 rfl) rfl
theorem q1211 : (Jvm.Cond.instanceMethod ({ cls := "StarTrackerModel", name := "wrong", desc := "()I" } : Jvm.MethodName)) ∈ lw_all := lw_g (lw_at lw_m5 172 rfl) rfl
theorem q1212 : (Jvm.Cond.selects "StarTrackerModel" ({ cls := "StarTrackerModel", name := "wrong", desc := "()I" } : Jvm.MethodName) ({ cls := "StarTrackerModel", name := "wrong", desc := "()I" } : Jvm.MethodName)) ∈ lw_all := lw_g (lw_at lw_m5 173 rfl) rfl
theorem q1213 : (Jvm.Cond.code ({ cls := "StarTrackerModel", name := "wrong", desc := "()I" } : Jvm.MethodName) prog_11_method_65_code (1 : Nat) (Option.some Jvm.ClassFile.FieldType.int)) ∈ lw_all := lw_g (lw_at lw_m5 174 rfl) rfl
theorem q1214 : (Jvm.Cond.methodLink "StarTrackerModel" (256 : Nat) ({ cls := "StarTrackerModel", name := "wrongNow", desc := "()I" } : Jvm.MethodName)) ∈ lw_all := lw_g (lw_at lw_m5 175 rfl) rfl
theorem q1215 : (Jvm.Cond.privateMethod ({ cls := "StarTrackerModel", name := "wrongNow", desc := "()I" } : Jvm.MethodName)) ∈ lw_tbl := lw_at lw_m5 176 rfl
theorem q1216 : (Jvm.Cond.instanceMethod ({ cls := "StarTrackerModel", name := "wrongNow", desc := "()I" } : Jvm.MethodName)) ∈ lw_all := lw_g (lw_at lw_m5 177 rfl) rfl
theorem q1217 : (Jvm.Cond.code ({ cls := "StarTrackerModel", name := "wrongNow", desc := "()I" } : Jvm.MethodName) prog_11_method_64_code (3 : Nat) (Option.some Jvm.ClassFile.FieldType.int)) ∈ lw_all := lw_g (lw_at lw_m5 178 rfl) rfl
theorem q1219 : (Jvm.Cond.instanceMethod ({ cls := "StarTrackerModel", name := "better", desc := "(I)I" } : Jvm.MethodName)) ∈ lw_all := lw_g (lw_at lw_m5 180 rfl) rfl
theorem q1220 : (Jvm.Cond.selects "StarTrackerModel" ({ cls := "StarTrackerModel", name := "better", desc := "(I)I" } : Jvm.MethodName) ({ cls := "StarTrackerModel", name := "better", desc := "(I)I" } : Jvm.MethodName)) ∈ lw_all := lw_g (lw_at lw_m5 181 rfl) rfl
theorem q1221 : (Jvm.Cond.code ({ cls := "StarTrackerModel", name := "better", desc := "(I)I" } : Jvm.MethodName) prog_11_method_67_code (2 : Nat) (Option.some Jvm.ClassFile.FieldType.int)) ∈ lw_all := lw_g (lw_at lw_m5 182 rfl) rfl
theorem q1222 : (Jvm.Cond.methodLink "StarTrackerModel" (260 : Nat) ({ cls := "StarTrackerModel", name := "betterBy", desc := "(I)I" } : Jvm.MethodName)) ∈ lw_all := lw_g (lw_at lw_m5 183 rfl) rfl
theorem q1223 : (Jvm.Cond.privateMethod ({ cls := "StarTrackerModel", name := "betterBy", desc := "(I)I" } : Jvm.MethodName)) ∈ lw_tbl := lw_at lw_m5 184 rfl
theorem q1224 : (Jvm.Cond.instanceMethod ({ cls := "StarTrackerModel", name := "betterBy", desc := "(I)I" } : Jvm.MethodName)) ∈ lw_all := lw_g (lw_at lw_m5 185 rfl) rfl
theorem q1225 : (Jvm.Cond.code ({ cls := "StarTrackerModel", name := "betterBy", desc := "(I)I" } : Jvm.MethodName) prog_11_method_66_code (6 : Nat) (Option.some Jvm.ClassFile.FieldType.int)) ∈ lw_all := lw_g (lw_at lw_m5 186 rfl) rfl
theorem q1227 : (Jvm.Cond.instanceMethod ({ cls := "StarTrackerModel", name := "spare", desc := "(I)I" } : Jvm.MethodName)) ∈ lw_all := lw_g (lw_at lw_m5 188 rfl) rfl
theorem q1228 : (Jvm.Cond.selects "StarTrackerModel" ({ cls := "StarTrackerModel", name := "spare", desc := "(I)I" } : Jvm.MethodName) ({ cls := "StarTrackerModel", name := "spare", desc := "(I)I" } : Jvm.MethodName)) ∈ lw_all := lw_g (lw_at lw_m5 189 rfl) rfl
theorem q1229 : (Jvm.Cond.code ({ cls := "StarTrackerModel", name := "spare", desc := "(I)I" } : Jvm.MethodName) prog_11_method_69_code (2 : Nat) (Option.some Jvm.ClassFile.FieldType.int)) ∈ lw_all := lw_g (lw_at lw_m5 190 rfl) rfl
theorem q1230 : (Jvm.Cond.methodLink "StarTrackerModel" (263 : Nat) ({ cls := "StarTrackerModel", name := "spareBy", desc := "(I)I" } : Jvm.MethodName)) ∈ lw_all := lw_g (lw_at lw_m5 191 rfl) rfl
theorem q1231 : (Jvm.Cond.privateMethod ({ cls := "StarTrackerModel", name := "spareBy", desc := "(I)I" } : Jvm.MethodName)) ∈ lw_tbl := lw_at lw_m5 192 rfl
theorem q1232 : (Jvm.Cond.instanceMethod ({ cls := "StarTrackerModel", name := "spareBy", desc := "(I)I" } : Jvm.MethodName)) ∈ lw_all := lw_g (lw_at lw_m5 193 rfl) rfl
theorem q1233 : (Jvm.Cond.code ({ cls := "StarTrackerModel", name := "spareBy", desc := "(I)I" } : Jvm.MethodName) prog_11_method_68_code (5 : Nat) (Option.some Jvm.ClassFile.FieldType.int)) ∈ lw_all := lw_g (lw_at lw_m5 194 rfl) rfl
theorem q1235 : (Jvm.Cond.instanceMethod ({ cls := "StarTrackerModel", name := "put", desc := "(III)I" } : Jvm.MethodName)) ∈ lw_all := lw_g (lw_at lw_m5 196 rfl) rfl
theorem q1236 : (Jvm.Cond.selects "StarTrackerModel" ({ cls := "StarTrackerModel", name := "put", desc := "(III)I" } : Jvm.MethodName) ({ cls := "StarTrackerModel", name := "put", desc := "(III)I" } : Jvm.MethodName)) ∈ lw_all := lw_g (lw_at lw_m5 197 rfl) rfl
theorem q1237 : (Jvm.Cond.code ({ cls := "StarTrackerModel", name := "put", desc := "(III)I" } : Jvm.MethodName) prog_11_method_71_code (6 : Nat) (Option.some Jvm.ClassFile.FieldType.int)) ∈ lw_all := lw_g (lw_at lw_m5 198 rfl) rfl
theorem q1238 : (Jvm.Cond.methodLink "StarTrackerModel" (266 : Nat) ({ cls := "StarTrackerModel", name := "isTray", desc := "(I)Z" } : Jvm.MethodName)) ∈ lw_all := lw_g (lw_at lw_m5 199 rfl) rfl
theorem q1239 : (Jvm.Cond.static ({ cls := "StarTrackerModel", name := "isTray", desc := "(I)Z" } : Jvm.MethodName)) ∈ lw_all := lw_g (lw_at lw_m5 200 rfl) rfl
theorem q1240 : (Jvm.Cond.code ({ cls := "StarTrackerModel", name := "isTray", desc := "(I)Z" } : Jvm.MethodName) prog_11_method_70_code (1 : Nat) (Option.some Jvm.ClassFile.FieldType.boolean)) ∈ lw_all := lw_g (lw_at lw_m5 201 rfl) rfl
theorem q1242 : (Jvm.Cond.instanceMethod ({ cls := "StarTrackerModel", name := "fork", desc := "(II)I" } : Jvm.MethodName)) ∈ lw_all := lw_g (lw_at lw_m5 203 rfl) rfl
theorem q1243 : (Jvm.Cond.selects "StarTrackerModel" ({ cls := "StarTrackerModel", name := "fork", desc := "(II)I" } : Jvm.MethodName) ({ cls := "StarTrackerModel", name := "fork", desc := "(II)I" } : Jvm.MethodName)) ∈ lw_all := lw_g (lw_at lw_m5 204 rfl) rfl
theorem q1244 : (Jvm.Cond.code ({ cls := "StarTrackerModel", name := "fork", desc := "(II)I" } : Jvm.MethodName) prog_11_method_72_code (4 : Nat) (Option.some Jvm.ClassFile.FieldType.int)) ∈ lw_all := lw_g (lw_at lw_m5 205 rfl) rfl
theorem q1246 : (Jvm.Cond.instanceMethod ({ cls := "StarTrackerModel", name := "take", desc := "(I)I" } : Jvm.MethodName)) ∈ lw_all := lw_g (lw_at lw_m5 207 rfl) rfl
theorem q1247 : (Jvm.Cond.selects "StarTrackerModel" ({ cls := "StarTrackerModel", name := "take", desc := "(I)I" } : Jvm.MethodName) ({ cls := "StarTrackerModel", name := "take", desc := "(I)I" } : Jvm.MethodName)) ∈ lw_all := lw_g (lw_at lw_m5 208 rfl) rfl
theorem q1248 : (Jvm.Cond.code ({ cls := "StarTrackerModel", name := "take", desc := "(I)I" } : Jvm.MethodName) prog_11_method_73_code (2 : Nat) (Option.some Jvm.ClassFile.FieldType.int)) ∈ lw_all := lw_g (lw_at lw_m5 209 rfl) rfl
theorem q1250 : (Jvm.Cond.instanceMethod ({ cls := "StarTrackerModel", name := "thing", desc := "(III)I" } : Jvm.MethodName)) ∈ lw_all := lw_g (lw_at lw_m5 211 rfl) rfl
theorem q1251 : (Jvm.Cond.selects "StarTrackerModel" ({ cls := "StarTrackerModel", name := "thing", desc := "(III)I" } : Jvm.MethodName) ({ cls := "StarTrackerModel", name := "thing", desc := "(III)I" } : Jvm.MethodName)) ∈ lw_all := lw_g (lw_at lw_m5 212 rfl) rfl
theorem q1252 : (Jvm.Cond.code ({ cls := "StarTrackerModel", name := "thing", desc := "(III)I" } : Jvm.MethodName) prog_11_method_75_code (4 : Nat) (Option.some Jvm.ClassFile.FieldType.int)) ∈ lw_all := lw_g (lw_at lw_m5 213 rfl) rfl
theorem q1253 : (Jvm.Cond.methodLink "StarTrackerModel" (269 : Nat) ({ cls := "StarTrackerModel", name := "isThing", desc := "(II)Z" } : Jvm.MethodName)) ∈ lw_all := lw_g (lw_at lw_m5 214 rfl) rfl
theorem q1254 : (Jvm.Cond.privateMethod ({ cls := "StarTrackerModel", name := "isThing", desc := "(II)Z" } : Jvm.MethodName)) ∈ lw_tbl := lw_at lw_m5 215 rfl
theorem q1255 : (Jvm.Cond.instanceMethod ({ cls := "StarTrackerModel", name := "isThing", desc := "(II)Z" } : Jvm.MethodName)) ∈ lw_all := lw_g (lw_at lw_m5 216 rfl) rfl
theorem q1256 : (Jvm.Cond.code ({ cls := "StarTrackerModel", name := "isThing", desc := "(II)Z" } : Jvm.MethodName) prog_11_method_74_code (3 : Nat) (Option.some Jvm.ClassFile.FieldType.boolean)) ∈ lw_all := lw_g (lw_at lw_m5 217 rfl) rfl
theorem q1258 : (Jvm.Cond.instanceMethod ({ cls := "StarTrackerModel", name := "share", desc := "(III)I" } : Jvm.MethodName)) ∈ lw_all := lw_g (lw_at lw_m5 219 rfl) rfl
theorem q1259 : (Jvm.Cond.selects "StarTrackerModel" ({ cls := "StarTrackerModel", name := "share", desc := "(III)I" } : Jvm.MethodName) ({ cls := "StarTrackerModel", name := "share", desc := "(III)I" } : Jvm.MethodName)) ∈ lw_all := lw_g (lw_at lw_m5 220 rfl) rfl
theorem q1260 : (Jvm.Cond.code ({ cls := "StarTrackerModel", name := "share", desc := "(III)I" } : Jvm.MethodName) prog_11_method_79_code (4 : Nat) (Option.some Jvm.ClassFile.FieldType.int)) ∈ lw_all := lw_g (lw_at lw_m5 221 rfl) rfl
theorem q1261 : (Jvm.Cond.methodLink "StarTrackerModel" (282 : Nat) ({ cls := "StarTrackerModel", name := "shareBy", desc := "(III)I" } : Jvm.MethodName)) ∈ lw_all := lw_g (lw_at lw_m5 222 rfl) rfl
theorem q1262 : (Jvm.Cond.privateMethod ({ cls := "StarTrackerModel", name := "shareBy", desc := "(III)I" } : Jvm.MethodName)) ∈ lw_tbl := lw_at lw_m5 223 rfl
theorem q1263 : (Jvm.Cond.instanceMethod ({ cls := "StarTrackerModel", name := "shareBy", desc := "(III)I" } : Jvm.MethodName)) ∈ lw_all := lw_g (lw_at lw_m5 224 rfl) rfl
theorem q1264 : (Jvm.Cond.code ({ cls := "StarTrackerModel", name := "shareBy", desc := "(III)I" } : Jvm.MethodName) prog_11_method_78_code (4 : Nat) (Option.some Jvm.ClassFile.FieldType.int)) ∈ lw_all := lw_g (lw_at lw_m5 225 rfl) rfl
theorem q1265 : (Jvm.Cond.methodLink "StarTrackerModel" (276 : Nat) ({ cls := "StarTrackerModel", name := "product", desc := "(III)I" } : Jvm.MethodName)) ∈ lw_all := lw_g (lw_at lw_m5 226 rfl) rfl
theorem q1266 : (Jvm.Cond.privateMethod ({ cls := "StarTrackerModel", name := "product", desc := "(III)I" } : Jvm.MethodName)) ∈ lw_tbl := lw_at lw_m5 227 rfl
theorem q1267 : (Jvm.Cond.instanceMethod ({ cls := "StarTrackerModel", name := "product", desc := "(III)I" } : Jvm.MethodName)) ∈ lw_all := lw_g (lw_at lw_m5 228 rfl) rfl
theorem q1268 : (Jvm.Cond.code ({ cls := "StarTrackerModel", name := "product", desc := "(III)I" } : Jvm.MethodName) prog_11_method_76_code (6 : Nat) (Option.some Jvm.ClassFile.FieldType.int)) ∈ lw_all := lw_g (lw_at lw_m5 229 rfl) rfl
theorem q1269 : (Jvm.Cond.methodLink "StarTrackerModel" (279 : Nat) ({ cls := "StarTrackerModel", name := "quotient", desc := "(II)I" } : Jvm.MethodName)) ∈ lw_all := lw_g (lw_at lw_m5 230 rfl) rfl
theorem q1270 : (Jvm.Cond.static ({ cls := "StarTrackerModel", name := "quotient", desc := "(II)I" } : Jvm.MethodName)) ∈ lw_all := lw_g (lw_at lw_m5 231 rfl) rfl
theorem q1271 : (Jvm.Cond.code ({ cls := "StarTrackerModel", name := "quotient", desc := "(II)I" } : Jvm.MethodName) prog_11_method_77_code (13 : Nat) (Option.some Jvm.ClassFile.FieldType.int)) ∈ lw_all := lw_g (lw_at lw_m5 232 rfl) rfl
theorem q1272 : (Jvm.Cond.constantLong "StarTrackerModel" (272 : Nat) (8388608 : Int64)) ∈ lw_all := lw_g (lw_at lw_m5 233 rfl) rfl
theorem q1273 : (Jvm.Cond.constantLong "StarTrackerModel" (274 : Nat) (16777216 : Int64)) ∈ lw_all := lw_g (lw_at lw_m5 234 rfl) rfl
theorem q1275 : (Jvm.Cond.instanceMethod ({ cls := "StarTrackerModel", name := "write", desc := "(I)I" } : Jvm.MethodName)) ∈ lw_all := lw_g (lw_at lw_m5 236 rfl) rfl
theorem q1276 : (Jvm.Cond.selects "StarTrackerModel" ({ cls := "StarTrackerModel", name := "write", desc := "(I)I" } : Jvm.MethodName) ({ cls := "StarTrackerModel", name := "write", desc := "(I)I" } : Jvm.MethodName)) ∈ lw_all := lw_g (lw_at lw_m5 237 rfl) rfl
theorem q1277 : (Jvm.Cond.code ({ cls := "StarTrackerModel", name := "write", desc := "(I)I" } : Jvm.MethodName) prog_11_method_80_code (4 : Nat) (Option.some Jvm.ClassFile.FieldType.int)) ∈ lw_all := lw_g (lw_at lw_m5 238 rfl) rfl
theorem q1279 : (Jvm.Cond.instanceMethod ({ cls := "StarTrackerModel", name := "count", desc := "(I)I" } : Jvm.MethodName)) ∈ lw_all := lw_g (lw_at lw_m6 0 rfl) rfl
theorem q1280 : (Jvm.Cond.selects "StarTrackerModel" ({ cls := "StarTrackerModel", name := "count", desc := "(I)I" } : Jvm.MethodName) ({ cls := "StarTrackerModel", name := "count", desc := "(I)I" } : Jvm.MethodName)) ∈ lw_all := lw_g (lw_at lw_m6 1 rfl) rfl
theorem q1281 : (Jvm.Cond.code ({ cls := "StarTrackerModel", name := "count", desc := "(I)I" } : Jvm.MethodName) prog_11_method_83_code (2 : Nat) (Option.some Jvm.ClassFile.FieldType.int)) ∈ lw_all := lw_g (lw_at lw_m6 2 rfl) rfl
theorem q1282 : (Jvm.Cond.methodLink "StarTrackerModel" (288 : Nat) ({ cls := "StarTrackerModel", name := "manyThings", desc := "()I" } : Jvm.MethodName)) ∈ lw_all := lw_g (lw_at lw_m6 3 rfl) rfl
theorem q1283 : (Jvm.Cond.privateMethod ({ cls := "StarTrackerModel", name := "manyThings", desc := "()I" } : Jvm.MethodName)) ∈ lw_tbl := lw_at lw_m6 4 rfl
theorem q1284 : (Jvm.Cond.instanceMethod ({ cls := "StarTrackerModel", name := "manyThings", desc := "()I" } : Jvm.MethodName)) ∈ lw_all := lw_g (lw_at lw_m6 5 rfl) rfl
theorem q1285 : (Jvm.Cond.code ({ cls := "StarTrackerModel", name := "manyThings", desc := "()I" } : Jvm.MethodName) prog_11_method_81_code (1 : Nat) (Option.some Jvm.ClassFile.FieldType.int)) ∈ lw_all := lw_g (lw_at lw_m6 6 rfl) rfl
theorem q1286 : (Jvm.Cond.methodLink "StarTrackerModel" (291 : Nat) ({ cls := "StarTrackerModel", name := "manyWrong", desc := "()I" } : Jvm.MethodName)) ∈ lw_all := lw_g (lw_at lw_m6 7 rfl) rfl
theorem q1287 : (Jvm.Cond.privateMethod ({ cls := "StarTrackerModel", name := "manyWrong", desc := "()I" } : Jvm.MethodName)) ∈ lw_tbl := lw_at lw_m6 8 rfl
theorem q1288 : (Jvm.Cond.instanceMethod ({ cls := "StarTrackerModel", name := "manyWrong", desc := "()I" } : Jvm.MethodName)) ∈ lw_all := lw_g (lw_at lw_m6 9 rfl) rfl
theorem q1289 : (Jvm.Cond.code ({ cls := "StarTrackerModel", name := "manyWrong", desc := "()I" } : Jvm.MethodName) prog_11_method_82_code (3 : Nat) (Option.some Jvm.ClassFile.FieldType.int)) ∈ lw_all := lw_g (lw_at lw_m6 10 rfl) rfl
theorem q1290 : (Jvm.Cond.methodLink "StarTrackerModel" (285 : Nat) ({ cls := "StarTrackerModel", name := "isIn", desc := "(II)Z" } : Jvm.MethodName)) ∈ lw_all := lw_g (lw_at lw_m6 11 rfl) rfl
theorem q1291 : (Jvm.Cond.static ({ cls := "StarTrackerModel", name := "isIn", desc := "(II)Z" } : Jvm.MethodName)) ∈ lw_all := lw_g (lw_at lw_m6 12 rfl) rfl
theorem q1292 : (Jvm.Cond.code ({ cls := "StarTrackerModel", name := "isIn", desc := "(II)Z" } : Jvm.MethodName) prog_11_method_5_code (2 : Nat) (Option.some Jvm.ClassFile.FieldType.boolean)) ∈ lw_all := lw_g (lw_at lw_m6 13 rfl) rfl
theorem q1294 : (Jvm.Cond.instanceMethod ({ cls := "StarTrackerModel", name := "digest", desc := "()J" } : Jvm.MethodName)) ∈ lw_all := lw_g (lw_at lw_m6 15 rfl) rfl
theorem q1295 : (Jvm.Cond.selects "StarTrackerModel" ({ cls := "StarTrackerModel", name := "digest", desc := "()J" } : Jvm.MethodName) ({ cls := "StarTrackerModel", name := "digest", desc := "()J" } : Jvm.MethodName)) ∈ lw_all := lw_g (lw_at lw_m6 16 rfl) rfl
theorem q1296 : (Jvm.Cond.code ({ cls := "StarTrackerModel", name := "digest", desc := "()J" } : Jvm.MethodName) prog_11_method_85_code (6 : Nat) (Option.some Jvm.ClassFile.FieldType.long)) ∈ lw_all := lw_g (lw_at lw_m6 17 rfl) rfl
theorem q1297 : (Jvm.Cond.constantLong "StarTrackerModel" (299 : Nat) (17 : Int64)) ∈ lw_all := lw_g (lw_at lw_m6 18 rfl) rfl
theorem q1298 : (Jvm.Cond.constantLong "StarTrackerModel" (294 : Nat) (31 : Int64)) ∈ lw_all := lw_g (lw_at lw_m6 19 rfl) rfl
theorem q1299 : (Jvm.Cond.methodLink "StarTrackerModel" (301 : Nat) ({ cls := "StarTrackerModel", name := "count", desc := "(I)I" } : Jvm.MethodName)) ∈ lw_all := lw_g (lw_at lw_m6 20 rfl) rfl
theorem q1300 : (Jvm.Cond.methodLink "StarTrackerModel" (304 : Nat) ({ cls := "StarTrackerModel", name := "tellsSky", desc := "(J)J" } : Jvm.MethodName)) ∈ lw_all := lw_g (lw_at lw_m6 21 rfl) rfl
theorem q1301 : (Jvm.Cond.privateMethod ({ cls := "StarTrackerModel", name := "tellsSky", desc := "(J)J" } : Jvm.MethodName)) ∈ lw_tbl := lw_at lw_m6 22 rfl
theorem q1302 : (Jvm.Cond.instanceMethod ({ cls := "StarTrackerModel", name := "tellsSky", desc := "(J)J" } : Jvm.MethodName)) ∈ lw_all := lw_g (lw_at lw_m6 23 rfl) rfl
theorem q1303 : (Jvm.Cond.code ({ cls := "StarTrackerModel", name := "tellsSky", desc := "(J)J" } : Jvm.MethodName) prog_11_method_84_code (7 : Nat) (Option.some Jvm.ClassFile.FieldType.long)) ∈ lw_all := lw_g (lw_at lw_m6 24 rfl) rfl
theorem q1304 : (Jvm.Cond.methodLink "StarTrackerModel" (296 : Nat) ({ cls := "StarTrackerModel", name := "key", desc := "(IIIII)I" } : Jvm.MethodName)) ∈ lw_all := lw_g (lw_at lw_m6 25 rfl) rfl
theorem q1305 : (Jvm.Cond.methodLink "StarTrackerModel" (308 : Nat) ({ cls := "StarTrackerModel", name := "thing", desc := "(III)I" } : Jvm.MethodName)) ∈ lw_all := lw_g (lw_at lw_m6 26 rfl) rfl
theorem in_X3 : ∀ w ∈ wsX30, w ∈ lw_all := lw_in wsX30 [915, 917, 919, 921, 923, 925, 927, 929, 931, 933, 935, 937, 939, 941, 943, 945, 947, 949, 951, 953, 955, 957, 959, 961, 963, 965, 967, 969] (by decide +kernel) (by decide +kernel)
