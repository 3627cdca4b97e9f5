/-! EdgeWalkModel -/
set_option maxRecDepth 100000
def RX4 : String := "EdgeWalkModel"
def TX4 : u_T := fun k => match k with
  | 0 => ("EdgeWalkModel", "tape", "[B", true)
  | 1 => ("EdgeWalkModel", "taped", "I", false)
  | 2 => ("EdgeWalkModel", "rules", "I", false)
  | 3 => ("EdgeWalkModel", "sign", "[I", true)
  | 4 => ("EdgeWalkModel", "length", "[I", true)
  | 5 => ("EdgeWalkModel", "clause", "[I", true)
  | 6 => ("EdgeWalkModel", "clauses", "[I", true)
  | 7 => ("EdgeWalkModel", "read", "[I", true)
  | 8 => ("EdgeWalkModel", "next", "I", false)
  | 9 => ("EdgeWalkModel", "wrong", "I", false)
  | 10 => ("EdgeWalkModel", "number", "I", false)
  | 11 => ("EdgeWalkModel", "text", "I", false)
  | 12 => ("EdgeWalkModel", "made", "I", false)
  | 13 => ("EdgeWalkModel", "deep", "I", false)
  | 14 => ("EdgeWalkModel", "lines", "I", false)
  | 15 => ("EdgeWalkModel", "open", "[I", true)
  | 16 => ("EdgeWalkModel", "opened", "I", false)
  | 17 => ("EdgeWalkModel", "stack", "[J", true)
  | 18 => ("EdgeWalkModel", "top", "I", false)
  | 19 => ("EdgeWalkModel", "word", "[J", true)
  | 20 => ("EdgeWalkModel", "said", "[I", true)
  | 21 => ("EdgeWalkModel", "force", "I", false)
  | 22 => ("EdgeWalkModel", "x", "I", false)
  | 23 => ("EdgeWalkModel", "wasSaid", "[I", true)
  | 24 => ("EdgeWalkModel", "undone", "I", false)
  | 25 => ("EdgeWalkModel", "kept", "[I", true)
  | 26 => ("EdgeWalkModel", "far", "[I", true)
  | 27 => ("EdgeWalkModel", "wasIn", "[Z", true)
  | 28 => ("EdgeWalkModel", "outOften", "[I", true)
  | 29 => ("EdgeWalkModel", "fewestLost", "I", false)
  | 30 => ("EdgeWalkModel", "mostFood", "I", false)
  | 31 => ("EdgeWalkModel", "bestOne", "I", false)
  | 32 => ("EdgeWalkModel", "hasBy", "[I", true)
  | 33 => ("EdgeWalkModel", "whereThen", "[I", true)
  | 34 => ("EdgeWalkModel", "isFit", "[Z", true)
  | 35 => ("EdgeWalkModel", "cellThen", "[I", true)
  | 36 => ("EdgeWalkModel", "drawX", "J", false)
  | 37 => ("EdgeWalkModel", "images", "[I", true)
  | 38 => ("EdgeWalkModel", "imageForce", "[I", true)
  | 39 => ("EdgeWalkModel", "imageX", "[I", true)
  | _ => ("EdgeWalkModel", "isMade", "[Z", true)
def tyX4 : Nat → FieldType := fun k => match k with
  | 0 => .array .byte
  | 1 => .int
  | 2 => .int
  | 3 => .array .int
  | 4 => .array .int
  | 5 => .array .int
  | 6 => .array .int
  | 7 => .array .int
  | 8 => .int
  | 9 => .int
  | 10 => .int
  | 11 => .int
  | 12 => .int
  | 13 => .int
  | 14 => .int
  | 15 => .array .int
  | 16 => .int
  | 17 => .array .long
  | 18 => .int
  | 19 => .array .long
  | 20 => .array .int
  | 21 => .int
  | 22 => .int
  | 23 => .array .int
  | 24 => .int
  | 25 => .array .int
  | 26 => .array .int
  | 27 => .array .boolean
  | 28 => .array .int
  | 29 => .int
  | 30 => .int
  | 31 => .int
  | 32 => .array .int
  | 33 => .array .int
  | 34 => .array .boolean
  | 35 => .array .int
  | 36 => .long
  | 37 => .array .int
  | 38 => .array .int
  | 39 => .array .int
  | _ => .array .boolean
abbrev wsX40 : List Cond := u_ws RX4 TX4 41
set_option maxRecDepth 100000 in
theorem nmX4 : ∀ a, a < 41 → ∀ b, b < 41 → a ≠ b → (TX4 a).2.1 ≠ (TX4 b).2.1 := by decide +kernel
set_option maxRecDepth 100000 in
theorem tyX4_ok : ∀ k, k < 41 → parseFieldDescriptor (TX4 k).2.2.1 = some (tyX4 k) := by decide +kernel
abbrev cX4_init : ByteArray := prog_19_method_1_code
def yX4_init : MethodName := ⟨RX4, "<init>", "()V"⟩
def dkwX4_init_8 : List UInt8 := [7, 188, 10, 181, 0, 80, 42, 7, 188, 4, 181, 0, 83, 177]
abbrev dktX4_init_8 : List UInt8 := dkwX4_init_8 ++ []
def dkwX4_init_7 : List UInt8 := [16, 35, 188, 10, 181, 0, 71, 42, 17, 2, 192, 188, 10, 181, 0, 74, 42, 7, 188, 10, 181, 0, 77, 42]
abbrev dktX4_init_7 : List UInt8 := dkwX4_init_7 ++ dktX4_init_8
def dkwX4_init_6 : List UInt8 := [188, 10, 181, 0, 62, 42, 17, 1, 49, 188, 10, 181, 0, 65, 42, 16, 7, 188, 4, 181, 0, 68, 42]
abbrev dktX4_init_6 : List UInt8 := dkwX4_init_6 ++ dktX4_init_7
def dkwX4_init_5 : List UInt8 := [188, 10, 181, 0, 52, 42, 16, 36, 188, 4, 181, 0, 55, 42, 8, 188, 10, 181, 0, 59, 42, 16, 32]
abbrev dktX4_init_5 : List UInt8 := dkwX4_init_5 ++ dktX4_init_6
def dkwX4_init_4 : List UInt8 := [181, 0, 42, 42, 17, 5, 240, 188, 10, 181, 0, 46, 42, 16, 76, 188, 10, 181, 0, 49, 42, 16, 36]
abbrev dktX4_init_4 : List UInt8 := dkwX4_init_4 ++ dktX4_init_5
def dkwX4_init_3 : List UInt8 := [181, 0, 32, 42, 16, 11, 188, 11, 181, 0, 36, 42, 17, 0, 176, 188, 10, 181, 0, 39, 42, 2]
abbrev dktX4_init_3 : List UInt8 := dkwX4_init_3 ++ dktX4_init_4
def dkwX4_init_2 : List UInt8 := [42, 17, 0, 145, 188, 10, 181, 0, 26, 42, 17, 1, 144, 188, 10, 181, 0, 29, 42, 16, 64, 188, 11]
abbrev dktX4_init_2 : List UInt8 := dkwX4_init_2 ++ dktX4_init_3
def dkwX4_init_1 : List UInt8 := [16, 7, 188, 10, 181, 0, 17, 42, 17, 1, 32, 188, 10, 181, 0, 20, 42, 16, 6, 188, 10, 181, 0, 23]
abbrev dktX4_init_1 : List UInt8 := dkwX4_init_1 ++ dktX4_init_2
def dkwX4_init_0 : List UInt8 := [42, 183, 0, 1, 42, 17, 1, 144, 188, 8, 181, 0, 7, 42, 17, 9, 96, 188, 10, 181, 0, 13, 42]
abbrev dktX4_init_0 : List UInt8 := dkwX4_init_0 ++ dktX4_init_1
theorem dksX4_init_0 : cX4_init.data.toList.drop 0 = dktX4_init_0 := by decide +kernel
theorem dksX4_init_1 : cX4_init.data.toList.drop 23 = dktX4_init_1 := dk_seg dksX4_init_0 23 rfl rfl
theorem dksX4_init_2 : cX4_init.data.toList.drop 47 = dktX4_init_2 := dk_seg dksX4_init_1 24 rfl rfl
theorem dksX4_init_3 : cX4_init.data.toList.drop 70 = dktX4_init_3 := dk_seg dksX4_init_2 23 rfl rfl
theorem dksX4_init_4 : cX4_init.data.toList.drop 92 = dktX4_init_4 := dk_seg dksX4_init_3 22 rfl rfl
theorem dksX4_init_5 : cX4_init.data.toList.drop 115 = dktX4_init_5 := dk_seg dksX4_init_4 23 rfl rfl
theorem dksX4_init_6 : cX4_init.data.toList.drop 138 = dktX4_init_6 := dk_seg dksX4_init_5 23 rfl rfl
theorem dksX4_init_7 : cX4_init.data.toList.drop 161 = dktX4_init_7 := dk_seg dksX4_init_6 23 rfl rfl
theorem dksX4_init_8 : cX4_init.data.toList.drop 185 = dktX4_init_8 := dk_seg dksX4_init_7 24 rfl rfl
theorem dX4_init_0 : decode cX4_init 0 = .ok (.aload_n 0, 1) := dk_42 (dk_at dksX4_init_0 0 rfl rfl)
theorem dX4_init_1 : decode cX4_init 1 = .ok (.invokespecial 1, 3) := dk_183 0 1 (dk_at dksX4_init_0 1 rfl rfl)
theorem dX4_init_4 : decode cX4_init 4 = .ok (.aload_n 0, 1) := dk_42 (dk_at dksX4_init_0 4 rfl rfl)
theorem dX4_init_5 : decode cX4_init 5 = .ok (.sipush 400, 3) := dk_17 1 144 (dk_at dksX4_init_0 5 rfl rfl)
theorem dX4_init_8 : decode cX4_init 8 = .ok (.newarray .byte, 2) := dk_188_8 (dk_at dksX4_init_0 8 rfl rfl)
theorem dX4_init_10 : decode cX4_init 10 = .ok (.putfield 7, 3) := dk_181 0 7 (dk_at dksX4_init_0 10 rfl rfl)
theorem dX4_init_13 : decode cX4_init 13 = .ok (.aload_n 0, 1) := dk_42 (dk_at dksX4_init_0 13 rfl rfl)
theorem dX4_init_14 : decode cX4_init 14 = .ok (.sipush 2400, 3) := dk_17 9 96 (dk_at dksX4_init_0 14 rfl rfl)
theorem dX4_init_17 : decode cX4_init 17 = .ok (.newarray .int, 2) := dk_188_10 (dk_at dksX4_init_0 17 rfl rfl)
theorem dX4_init_19 : decode cX4_init 19 = .ok (.putfield 13, 3) := dk_181 0 13 (dk_at dksX4_init_0 19 rfl rfl)
theorem dX4_init_22 : decode cX4_init 22 = .ok (.aload_n 0, 1) := dk_42 (dk_at dksX4_init_0 22 rfl rfl)
theorem dX4_init_23 : decode cX4_init 23 = .ok (.bipush 7, 2) := dk_16 7 (dk_at dksX4_init_1 0 rfl rfl)
theorem dX4_init_25 : decode cX4_init 25 = .ok (.newarray .int, 2) := dk_188_10 (dk_at dksX4_init_1 2 rfl rfl)
theorem dX4_init_27 : decode cX4_init 27 = .ok (.putfield 17, 3) := dk_181 0 17 (dk_at dksX4_init_1 4 rfl rfl)
theorem dX4_init_30 : decode cX4_init 30 = .ok (.aload_n 0, 1) := dk_42 (dk_at dksX4_init_1 7 rfl rfl)
theorem dX4_init_31 : decode cX4_init 31 = .ok (.sipush 288, 3) := dk_17 1 32 (dk_at dksX4_init_1 8 rfl rfl)
theorem dX4_init_34 : decode cX4_init 34 = .ok (.newarray .int, 2) := dk_188_10 (dk_at dksX4_init_1 11 rfl rfl)
theorem dX4_init_36 : decode cX4_init 36 = .ok (.putfield 20, 3) := dk_181 0 20 (dk_at dksX4_init_1 13 rfl rfl)
theorem dX4_init_39 : decode cX4_init 39 = .ok (.aload_n 0, 1) := dk_42 (dk_at dksX4_init_1 16 rfl rfl)
theorem dX4_init_40 : decode cX4_init 40 = .ok (.bipush 6, 2) := dk_16 6 (dk_at dksX4_init_1 17 rfl rfl)
theorem dX4_init_42 : decode cX4_init 42 = .ok (.newarray .int, 2) := dk_188_10 (dk_at dksX4_init_1 19 rfl rfl)
theorem dX4_init_44 : decode cX4_init 44 = .ok (.putfield 23, 3) := dk_181 0 23 (dk_at dksX4_init_1 21 rfl rfl)
theorem dX4_init_47 : decode cX4_init 47 = .ok (.aload_n 0, 1) := dk_42 (dk_at dksX4_init_2 0 rfl rfl)
theorem dX4_init_48 : decode cX4_init 48 = .ok (.sipush 145, 3) := dk_17 0 145 (dk_at dksX4_init_2 1 rfl rfl)
theorem dX4_init_51 : decode cX4_init 51 = .ok (.newarray .int, 2) := dk_188_10 (dk_at dksX4_init_2 4 rfl rfl)
theorem dX4_init_53 : decode cX4_init 53 = .ok (.putfield 26, 3) := dk_181 0 26 (dk_at dksX4_init_2 6 rfl rfl)
theorem dX4_init_56 : decode cX4_init 56 = .ok (.aload_n 0, 1) := dk_42 (dk_at dksX4_init_2 9 rfl rfl)
theorem dX4_init_57 : decode cX4_init 57 = .ok (.sipush 400, 3) := dk_17 1 144 (dk_at dksX4_init_2 10 rfl rfl)
theorem dX4_init_60 : decode cX4_init 60 = .ok (.newarray .int, 2) := dk_188_10 (dk_at dksX4_init_2 13 rfl rfl)
theorem dX4_init_62 : decode cX4_init 62 = .ok (.putfield 29, 3) := dk_181 0 29 (dk_at dksX4_init_2 15 rfl rfl)
theorem dX4_init_65 : decode cX4_init 65 = .ok (.aload_n 0, 1) := dk_42 (dk_at dksX4_init_2 18 rfl rfl)
theorem dX4_init_66 : decode cX4_init 66 = .ok (.bipush 64, 2) := dk_16 64 (dk_at dksX4_init_2 19 rfl rfl)
theorem dX4_init_68 : decode cX4_init 68 = .ok (.newarray .long, 2) := dk_188_11 (dk_at dksX4_init_2 21 rfl rfl)
theorem dX4_init_70 : decode cX4_init 70 = .ok (.putfield 32, 3) := dk_181 0 32 (dk_at dksX4_init_3 0 rfl rfl)
theorem dX4_init_73 : decode cX4_init 73 = .ok (.aload_n 0, 1) := dk_42 (dk_at dksX4_init_3 3 rfl rfl)
theorem dX4_init_74 : decode cX4_init 74 = .ok (.bipush 11, 2) := dk_16 11 (dk_at dksX4_init_3 4 rfl rfl)
theorem dX4_init_76 : decode cX4_init 76 = .ok (.newarray .long, 2) := dk_188_11 (dk_at dksX4_init_3 6 rfl rfl)
theorem dX4_init_78 : decode cX4_init 78 = .ok (.putfield 36, 3) := dk_181 0 36 (dk_at dksX4_init_3 8 rfl rfl)
theorem dX4_init_81 : decode cX4_init 81 = .ok (.aload_n 0, 1) := dk_42 (dk_at dksX4_init_3 11 rfl rfl)
theorem dX4_init_82 : decode cX4_init 82 = .ok (.sipush 176, 3) := dk_17 0 176 (dk_at dksX4_init_3 12 rfl rfl)
theorem dX4_init_85 : decode cX4_init 85 = .ok (.newarray .int, 2) := dk_188_10 (dk_at dksX4_init_3 15 rfl rfl)
theorem dX4_init_87 : decode cX4_init 87 = .ok (.putfield 39, 3) := dk_181 0 39 (dk_at dksX4_init_3 17 rfl rfl)
theorem dX4_init_90 : decode cX4_init 90 = .ok (.aload_n 0, 1) := dk_42 (dk_at dksX4_init_3 20 rfl rfl)
theorem dX4_init_91 : decode cX4_init 91 = .ok (.iconst (-1), 1) := dk_2 (dk_at dksX4_init_3 21 rfl rfl)
theorem dX4_init_92 : decode cX4_init 92 = .ok (.putfield 42, 3) := dk_181 0 42 (dk_at dksX4_init_4 0 rfl rfl)
theorem dX4_init_95 : decode cX4_init 95 = .ok (.aload_n 0, 1) := dk_42 (dk_at dksX4_init_4 3 rfl rfl)
theorem dX4_init_96 : decode cX4_init 96 = .ok (.sipush 1520, 3) := dk_17 5 240 (dk_at dksX4_init_4 4 rfl rfl)
theorem dX4_init_99 : decode cX4_init 99 = .ok (.newarray .int, 2) := dk_188_10 (dk_at dksX4_init_4 7 rfl rfl)
theorem dX4_init_101 : decode cX4_init 101 = .ok (.putfield 46, 3) := dk_181 0 46 (dk_at dksX4_init_4 9 rfl rfl)
theorem dX4_init_104 : decode cX4_init 104 = .ok (.aload_n 0, 1) := dk_42 (dk_at dksX4_init_4 12 rfl rfl)
theorem dX4_init_105 : decode cX4_init 105 = .ok (.bipush 76, 2) := dk_16 76 (dk_at dksX4_init_4 13 rfl rfl)
theorem dX4_init_107 : decode cX4_init 107 = .ok (.newarray .int, 2) := dk_188_10 (dk_at dksX4_init_4 15 rfl rfl)
theorem dX4_init_109 : decode cX4_init 109 = .ok (.putfield 49, 3) := dk_181 0 49 (dk_at dksX4_init_4 17 rfl rfl)
theorem dX4_init_112 : decode cX4_init 112 = .ok (.aload_n 0, 1) := dk_42 (dk_at dksX4_init_4 20 rfl rfl)
theorem dX4_init_113 : decode cX4_init 113 = .ok (.bipush 36, 2) := dk_16 36 (dk_at dksX4_init_4 21 rfl rfl)
theorem dX4_init_115 : decode cX4_init 115 = .ok (.newarray .int, 2) := dk_188_10 (dk_at dksX4_init_5 0 rfl rfl)
theorem dX4_init_117 : decode cX4_init 117 = .ok (.putfield 52, 3) := dk_181 0 52 (dk_at dksX4_init_5 2 rfl rfl)
theorem dX4_init_120 : decode cX4_init 120 = .ok (.aload_n 0, 1) := dk_42 (dk_at dksX4_init_5 5 rfl rfl)
theorem dX4_init_121 : decode cX4_init 121 = .ok (.bipush 36, 2) := dk_16 36 (dk_at dksX4_init_5 6 rfl rfl)
theorem dX4_init_123 : decode cX4_init 123 = .ok (.newarray .boolean, 2) := dk_188_4 (dk_at dksX4_init_5 8 rfl rfl)
theorem dX4_init_125 : decode cX4_init 125 = .ok (.putfield 55, 3) := dk_181 0 55 (dk_at dksX4_init_5 10 rfl rfl)
theorem dX4_init_128 : decode cX4_init 128 = .ok (.aload_n 0, 1) := dk_42 (dk_at dksX4_init_5 13 rfl rfl)
theorem dX4_init_129 : decode cX4_init 129 = .ok (.iconst 5, 1) := dk_8 (dk_at dksX4_init_5 14 rfl rfl)
theorem dX4_init_130 : decode cX4_init 130 = .ok (.newarray .int, 2) := dk_188_10 (dk_at dksX4_init_5 15 rfl rfl)
theorem dX4_init_132 : decode cX4_init 132 = .ok (.putfield 59, 3) := dk_181 0 59 (dk_at dksX4_init_5 17 rfl rfl)
theorem dX4_init_135 : decode cX4_init 135 = .ok (.aload_n 0, 1) := dk_42 (dk_at dksX4_init_5 20 rfl rfl)
theorem dX4_init_136 : decode cX4_init 136 = .ok (.bipush 32, 2) := dk_16 32 (dk_at dksX4_init_5 21 rfl rfl)
theorem dX4_init_138 : decode cX4_init 138 = .ok (.newarray .int, 2) := dk_188_10 (dk_at dksX4_init_6 0 rfl rfl)
theorem dX4_init_140 : decode cX4_init 140 = .ok (.putfield 62, 3) := dk_181 0 62 (dk_at dksX4_init_6 2 rfl rfl)
theorem dX4_init_143 : decode cX4_init 143 = .ok (.aload_n 0, 1) := dk_42 (dk_at dksX4_init_6 5 rfl rfl)
theorem dX4_init_144 : decode cX4_init 144 = .ok (.sipush 305, 3) := dk_17 1 49 (dk_at dksX4_init_6 6 rfl rfl)
theorem dX4_init_147 : decode cX4_init 147 = .ok (.newarray .int, 2) := dk_188_10 (dk_at dksX4_init_6 9 rfl rfl)
theorem dX4_init_149 : decode cX4_init 149 = .ok (.putfield 65, 3) := dk_181 0 65 (dk_at dksX4_init_6 11 rfl rfl)
theorem dX4_init_152 : decode cX4_init 152 = .ok (.aload_n 0, 1) := dk_42 (dk_at dksX4_init_6 14 rfl rfl)
theorem dX4_init_153 : decode cX4_init 153 = .ok (.bipush 7, 2) := dk_16 7 (dk_at dksX4_init_6 15 rfl rfl)
theorem dX4_init_155 : decode cX4_init 155 = .ok (.newarray .boolean, 2) := dk_188_4 (dk_at dksX4_init_6 17 rfl rfl)
theorem dX4_init_157 : decode cX4_init 157 = .ok (.putfield 68, 3) := dk_181 0 68 (dk_at dksX4_init_6 19 rfl rfl)
theorem dX4_init_160 : decode cX4_init 160 = .ok (.aload_n 0, 1) := dk_42 (dk_at dksX4_init_6 22 rfl rfl)
theorem dX4_init_161 : decode cX4_init 161 = .ok (.bipush 35, 2) := dk_16 35 (dk_at dksX4_init_7 0 rfl rfl)
theorem dX4_init_163 : decode cX4_init 163 = .ok (.newarray .int, 2) := dk_188_10 (dk_at dksX4_init_7 2 rfl rfl)
theorem dX4_init_165 : decode cX4_init 165 = .ok (.putfield 71, 3) := dk_181 0 71 (dk_at dksX4_init_7 4 rfl rfl)
theorem dX4_init_168 : decode cX4_init 168 = .ok (.aload_n 0, 1) := dk_42 (dk_at dksX4_init_7 7 rfl rfl)
theorem dX4_init_169 : decode cX4_init 169 = .ok (.sipush 704, 3) := dk_17 2 192 (dk_at dksX4_init_7 8 rfl rfl)
theorem dX4_init_172 : decode cX4_init 172 = .ok (.newarray .int, 2) := dk_188_10 (dk_at dksX4_init_7 11 rfl rfl)
theorem dX4_init_174 : decode cX4_init 174 = .ok (.putfield 74, 3) := dk_181 0 74 (dk_at dksX4_init_7 13 rfl rfl)
theorem dX4_init_177 : decode cX4_init 177 = .ok (.aload_n 0, 1) := dk_42 (dk_at dksX4_init_7 16 rfl rfl)
theorem dX4_init_178 : decode cX4_init 178 = .ok (.iconst 4, 1) := dk_7 (dk_at dksX4_init_7 17 rfl rfl)
theorem dX4_init_179 : decode cX4_init 179 = .ok (.newarray .int, 2) := dk_188_10 (dk_at dksX4_init_7 18 rfl rfl)
theorem dX4_init_181 : decode cX4_init 181 = .ok (.putfield 77, 3) := dk_181 0 77 (dk_at dksX4_init_7 20 rfl rfl)
theorem dX4_init_184 : decode cX4_init 184 = .ok (.aload_n 0, 1) := dk_42 (dk_at dksX4_init_7 23 rfl rfl)
theorem dX4_init_185 : decode cX4_init 185 = .ok (.iconst 4, 1) := dk_7 (dk_at dksX4_init_8 0 rfl rfl)
theorem dX4_init_186 : decode cX4_init 186 = .ok (.newarray .int, 2) := dk_188_10 (dk_at dksX4_init_8 1 rfl rfl)
theorem dX4_init_188 : decode cX4_init 188 = .ok (.putfield 80, 3) := dk_181 0 80 (dk_at dksX4_init_8 3 rfl rfl)
theorem dX4_init_191 : decode cX4_init 191 = .ok (.aload_n 0, 1) := dk_42 (dk_at dksX4_init_8 6 rfl rfl)
theorem dX4_init_192 : decode cX4_init 192 = .ok (.iconst 4, 1) := dk_7 (dk_at dksX4_init_8 7 rfl rfl)
theorem dX4_init_193 : decode cX4_init 193 = .ok (.newarray .boolean, 2) := dk_188_4 (dk_at dksX4_init_8 8 rfl rfl)
theorem dX4_init_195 : decode cX4_init 195 = .ok (.putfield 83, 3) := dk_181 0 83 (dk_at dksX4_init_8 10 rfl rfl)
theorem dX4_init_198 : decode cX4_init 198 = .ok (.return_, 1) := dk_177 (dk_at dksX4_init_8 13 rfl rfl)
abbrev cX4_feed : ByteArray := prog_19_method_4_code
def yX4_feed : MethodName := ⟨RX4, "feed", "(IIIII)I"⟩
def dkwX4_feed_2 : List UInt8 := [172]
abbrev dktX4_feed_2 : List UInt8 := dkwX4_feed_2 ++ []
def dkwX4_feed_1 : List UInt8 := [182, 0, 89, 42, 29, 182, 0, 89, 42, 21, 4, 182, 0, 89, 42, 21, 5, 182, 0, 89, 42, 180, 0, 86]
abbrev dktX4_feed_1 : List UInt8 := dkwX4_feed_1 ++ dktX4_feed_2
def dkwX4_feed_0 : List UInt8 := [42, 180, 0, 86, 16, 20, 96, 17, 1, 144, 164, 0, 5, 2, 172, 42, 27, 182, 0, 89, 42, 28]
abbrev dktX4_feed_0 : List UInt8 := dkwX4_feed_0 ++ dktX4_feed_1
theorem dksX4_feed_0 : cX4_feed.data.toList.drop 0 = dktX4_feed_0 := by decide +kernel
theorem dksX4_feed_1 : cX4_feed.data.toList.drop 22 = dktX4_feed_1 := dk_seg dksX4_feed_0 22 rfl rfl
theorem dksX4_feed_2 : cX4_feed.data.toList.drop 46 = dktX4_feed_2 := dk_seg dksX4_feed_1 24 rfl rfl
theorem dX4_feed_0 : decode cX4_feed 0 = .ok (.aload_n 0, 1) := dk_42 (dk_at dksX4_feed_0 0 rfl rfl)
theorem dX4_feed_1 : decode cX4_feed 1 = .ok (.getfield 86, 3) := dk_180 0 86 (dk_at dksX4_feed_0 1 rfl rfl)
theorem dX4_feed_4 : decode cX4_feed 4 = .ok (.bipush 20, 2) := dk_16 20 (dk_at dksX4_feed_0 4 rfl rfl)
theorem dX4_feed_6 : decode cX4_feed 6 = .ok (.iadd, 1) := dk_96 (dk_at dksX4_feed_0 6 rfl rfl)
theorem dX4_feed_7 : decode cX4_feed 7 = .ok (.sipush 400, 3) := dk_17 1 144 (dk_at dksX4_feed_0 7 rfl rfl)
theorem dX4_feed_10 : decode cX4_feed 10 = .ok (.if_icmp .le 5, 3) := dk_164 0 5 (dk_at dksX4_feed_0 10 rfl rfl)
theorem dX4_feed_13 : decode cX4_feed 13 = .ok (.iconst (-1), 1) := dk_2 (dk_at dksX4_feed_0 13 rfl rfl)
theorem dX4_feed_14 : decode cX4_feed 14 = .ok (.ireturn, 1) := dk_172 (dk_at dksX4_feed_0 14 rfl rfl)
theorem dX4_feed_15 : decode cX4_feed 15 = .ok (.aload_n 0, 1) := dk_42 (dk_at dksX4_feed_0 15 rfl rfl)
theorem dX4_feed_16 : decode cX4_feed 16 = .ok (.iload_n 1, 1) := dk_27 (dk_at dksX4_feed_0 16 rfl rfl)
theorem dX4_feed_17 : decode cX4_feed 17 = .ok (.invokevirtual 89, 3) := dk_182 0 89 (dk_at dksX4_feed_0 17 rfl rfl)
theorem dX4_feed_20 : decode cX4_feed 20 = .ok (.aload_n 0, 1) := dk_42 (dk_at dksX4_feed_0 20 rfl rfl)
theorem dX4_feed_21 : decode cX4_feed 21 = .ok (.iload_n 2, 1) := dk_28 (dk_at dksX4_feed_0 21 rfl rfl)
theorem dX4_feed_22 : decode cX4_feed 22 = .ok (.invokevirtual 89, 3) := dk_182 0 89 (dk_at dksX4_feed_1 0 rfl rfl)
theorem dX4_feed_25 : decode cX4_feed 25 = .ok (.aload_n 0, 1) := dk_42 (dk_at dksX4_feed_1 3 rfl rfl)
theorem dX4_feed_26 : decode cX4_feed 26 = .ok (.iload_n 3, 1) := dk_29 (dk_at dksX4_feed_1 4 rfl rfl)
theorem dX4_feed_27 : decode cX4_feed 27 = .ok (.invokevirtual 89, 3) := dk_182 0 89 (dk_at dksX4_feed_1 5 rfl rfl)
theorem dX4_feed_30 : decode cX4_feed 30 = .ok (.aload_n 0, 1) := dk_42 (dk_at dksX4_feed_1 8 rfl rfl)
theorem dX4_feed_31 : decode cX4_feed 31 = .ok (.iload 4, 2) := dk_21 4 (dk_at dksX4_feed_1 9 rfl rfl)
theorem dX4_feed_33 : decode cX4_feed 33 = .ok (.invokevirtual 89, 3) := dk_182 0 89 (dk_at dksX4_feed_1 11 rfl rfl)
theorem dX4_feed_36 : decode cX4_feed 36 = .ok (.aload_n 0, 1) := dk_42 (dk_at dksX4_feed_1 14 rfl rfl)
theorem dX4_feed_37 : decode cX4_feed 37 = .ok (.iload 5, 2) := dk_21 5 (dk_at dksX4_feed_1 15 rfl rfl)
theorem dX4_feed_39 : decode cX4_feed 39 = .ok (.invokevirtual 89, 3) := dk_182 0 89 (dk_at dksX4_feed_1 17 rfl rfl)
theorem dX4_feed_42 : decode cX4_feed 42 = .ok (.aload_n 0, 1) := dk_42 (dk_at dksX4_feed_1 20 rfl rfl)
theorem dX4_feed_43 : decode cX4_feed 43 = .ok (.getfield 86, 3) := dk_180 0 86 (dk_at dksX4_feed_1 21 rfl rfl)
theorem dX4_feed_46 : decode cX4_feed 46 = .ok (.ireturn, 1) := dk_172 (dk_at dksX4_feed_2 0 rfl rfl)
abbrev cX4_four : ByteArray := prog_19_method_3_code
def yX4_four : MethodName := ⟨RX4, "four", "(I)V"⟩
def dkwX4_four_1 : List UInt8 := [180, 0, 86, 4, 96, 181, 0, 86, 132, 2, 248, 167, 255, 226, 177]
abbrev dktX4_four_1 : List UInt8 := dkwX4_four_1 ++ []
def dkwX4_four_0 : List UInt8 := [16, 24, 61, 28, 155, 0, 32, 42, 180, 0, 7, 42, 180, 0, 86, 27, 28, 122, 145, 84, 42, 89]
abbrev dktX4_four_0 : List UInt8 := dkwX4_four_0 ++ dktX4_four_1
theorem dksX4_four_0 : cX4_four.data.toList.drop 0 = dktX4_four_0 := by decide +kernel
theorem dksX4_four_1 : cX4_four.data.toList.drop 22 = dktX4_four_1 := dk_seg dksX4_four_0 22 rfl rfl
theorem dX4_four_0 : decode cX4_four 0 = .ok (.bipush 24, 2) := dk_16 24 (dk_at dksX4_four_0 0 rfl rfl)
theorem dX4_four_2 : decode cX4_four 2 = .ok (.istore_n 2, 1) := dk_61 (dk_at dksX4_four_0 2 rfl rfl)
theorem dX4_four_3 : decode cX4_four 3 = .ok (.iload_n 2, 1) := dk_28 (dk_at dksX4_four_0 3 rfl rfl)
theorem dX4_four_4 : decode cX4_four 4 = .ok (.ifCond .lt 32, 3) := dk_155 0 32 (dk_at dksX4_four_0 4 rfl rfl)
theorem dX4_four_7 : decode cX4_four 7 = .ok (.aload_n 0, 1) := dk_42 (dk_at dksX4_four_0 7 rfl rfl)
theorem dX4_four_8 : decode cX4_four 8 = .ok (.getfield 7, 3) := dk_180 0 7 (dk_at dksX4_four_0 8 rfl rfl)
theorem dX4_four_11 : decode cX4_four 11 = .ok (.aload_n 0, 1) := dk_42 (dk_at dksX4_four_0 11 rfl rfl)
theorem dX4_four_12 : decode cX4_four 12 = .ok (.getfield 86, 3) := dk_180 0 86 (dk_at dksX4_four_0 12 rfl rfl)
theorem dX4_four_15 : decode cX4_four 15 = .ok (.iload_n 1, 1) := dk_27 (dk_at dksX4_four_0 15 rfl rfl)
theorem dX4_four_16 : decode cX4_four 16 = .ok (.iload_n 2, 1) := dk_28 (dk_at dksX4_four_0 16 rfl rfl)
theorem dX4_four_17 : decode cX4_four 17 = .ok (.ishr, 1) := dk_122 (dk_at dksX4_four_0 17 rfl rfl)
theorem dX4_four_18 : decode cX4_four 18 = .ok (.i2b, 1) := dk_145 (dk_at dksX4_four_0 18 rfl rfl)
theorem dX4_four_19 : decode cX4_four 19 = .ok (.bastore, 1) := dk_84 (dk_at dksX4_four_0 19 rfl rfl)
theorem dX4_four_20 : decode cX4_four 20 = .ok (.aload_n 0, 1) := dk_42 (dk_at dksX4_four_0 20 rfl rfl)
theorem dX4_four_21 : decode cX4_four 21 = .ok (.dup, 1) := dk_89 (dk_at dksX4_four_0 21 rfl rfl)
theorem dX4_four_22 : decode cX4_four 22 = .ok (.getfield 86, 3) := dk_180 0 86 (dk_at dksX4_four_1 0 rfl rfl)
theorem dX4_four_25 : decode cX4_four 25 = .ok (.iconst 1, 1) := dk_4 (dk_at dksX4_four_1 3 rfl rfl)
theorem dX4_four_26 : decode cX4_four 26 = .ok (.iadd, 1) := dk_96 (dk_at dksX4_four_1 4 rfl rfl)
theorem dX4_four_27 : decode cX4_four 27 = .ok (.putfield 86, 3) := dk_181 0 86 (dk_at dksX4_four_1 5 rfl rfl)
theorem dX4_four_30 : decode cX4_four 30 = .ok (.iinc 2 (-8), 3) := dk_132 2 248 (dk_at dksX4_four_1 8 rfl rfl)
theorem dX4_four_33 : decode cX4_four 33 = .ok (.goto (-30), 3) := dk_167 255 226 (dk_at dksX4_four_1 11 rfl rfl)
theorem dX4_four_36 : decode cX4_four 36 = .ok (.return_, 1) := dk_177 (dk_at dksX4_four_1 14 rfl rfl)
abbrev cX4_end : ByteArray := prog_19_method_5_code
def yX4_end : MethodName := ⟨RX4, "end", "(I)I"⟩
def dkwX4_end_0 : List UInt8 := [27, 155, 0, 11, 27, 42, 180, 0, 86, 164, 0, 5, 2, 172, 42, 27, 181, 0, 86, 27, 172]
abbrev dktX4_end_0 : List UInt8 := dkwX4_end_0 ++ []
theorem dksX4_end_0 : cX4_end.data.toList.drop 0 = dktX4_end_0 := by decide +kernel
theorem dX4_end_0 : decode cX4_end 0 = .ok (.iload_n 1, 1) := dk_27 (dk_at dksX4_end_0 0 rfl rfl)
theorem dX4_end_1 : decode cX4_end 1 = .ok (.ifCond .lt 11, 3) := dk_155 0 11 (dk_at dksX4_end_0 1 rfl rfl)
theorem dX4_end_4 : decode cX4_end 4 = .ok (.iload_n 1, 1) := dk_27 (dk_at dksX4_end_0 4 rfl rfl)
theorem dX4_end_5 : decode cX4_end 5 = .ok (.aload_n 0, 1) := dk_42 (dk_at dksX4_end_0 5 rfl rfl)
theorem dX4_end_6 : decode cX4_end 6 = .ok (.getfield 86, 3) := dk_180 0 86 (dk_at dksX4_end_0 6 rfl rfl)
theorem dX4_end_9 : decode cX4_end 9 = .ok (.if_icmp .le 5, 3) := dk_164 0 5 (dk_at dksX4_end_0 9 rfl rfl)
theorem dX4_end_12 : decode cX4_end 12 = .ok (.iconst (-1), 1) := dk_2 (dk_at dksX4_end_0 12 rfl rfl)
theorem dX4_end_13 : decode cX4_end 13 = .ok (.ireturn, 1) := dk_172 (dk_at dksX4_end_0 13 rfl rfl)
theorem dX4_end_14 : decode cX4_end 14 = .ok (.aload_n 0, 1) := dk_42 (dk_at dksX4_end_0 14 rfl rfl)
theorem dX4_end_15 : decode cX4_end 15 = .ok (.iload_n 1, 1) := dk_27 (dk_at dksX4_end_0 15 rfl rfl)
theorem dX4_end_16 : decode cX4_end 16 = .ok (.putfield 86, 3) := dk_181 0 86 (dk_at dksX4_end_0 16 rfl rfl)
theorem dX4_end_19 : decode cX4_end 19 = .ok (.iload_n 1, 1) := dk_27 (dk_at dksX4_end_0 19 rfl rfl)
theorem dX4_end_20 : decode cX4_end 20 = .ok (.ireturn, 1) := dk_172 (dk_at dksX4_end_0 20 rfl rfl)
abbrev cX4_rule : ByteArray := prog_19_method_39_code
def yX4_rule : MethodName := ⟨RX4, "rule", "()I"⟩
def dkwX4_rule_2 : List UInt8 := [180, 1, 6, 4, 96, 181, 1, 6, 42, 180, 1, 6, 4, 100, 172]
abbrev dktX4_rule_2 : List UInt8 := dkwX4_rule_2 ++ []
def dkwX4_rule_1 : List UInt8 := [180, 0, 150, 3, 79, 42, 182, 1, 9, 154, 0, 11, 16, 254, 42, 180, 0, 93, 100, 172, 42, 89]
abbrev dktX4_rule_1 : List UInt8 := dkwX4_rule_1 ++ dktX4_rule_2
def dkwX4_rule_0 : List UInt8 := [42, 180, 1, 6, 16, 6, 160, 0, 5, 2, 172, 42, 42, 180, 1, 6, 181, 0, 150, 42, 180, 0, 23, 42]
abbrev dktX4_rule_0 : List UInt8 := dkwX4_rule_0 ++ dktX4_rule_1
theorem dksX4_rule_0 : cX4_rule.data.toList.drop 0 = dktX4_rule_0 := by decide +kernel
theorem dksX4_rule_1 : cX4_rule.data.toList.drop 24 = dktX4_rule_1 := dk_seg dksX4_rule_0 24 rfl rfl
theorem dksX4_rule_2 : cX4_rule.data.toList.drop 46 = dktX4_rule_2 := dk_seg dksX4_rule_1 22 rfl rfl
theorem dX4_rule_0 : decode cX4_rule 0 = .ok (.aload_n 0, 1) := dk_42 (dk_at dksX4_rule_0 0 rfl rfl)
theorem dX4_rule_1 : decode cX4_rule 1 = .ok (.getfield 262, 3) := dk_180 1 6 (dk_at dksX4_rule_0 1 rfl rfl)
theorem dX4_rule_4 : decode cX4_rule 4 = .ok (.bipush 6, 2) := dk_16 6 (dk_at dksX4_rule_0 4 rfl rfl)
theorem dX4_rule_6 : decode cX4_rule 6 = .ok (.if_icmp .ne 5, 3) := dk_160 0 5 (dk_at dksX4_rule_0 6 rfl rfl)
theorem dX4_rule_9 : decode cX4_rule 9 = .ok (.iconst (-1), 1) := dk_2 (dk_at dksX4_rule_0 9 rfl rfl)
theorem dX4_rule_10 : decode cX4_rule 10 = .ok (.ireturn, 1) := dk_172 (dk_at dksX4_rule_0 10 rfl rfl)
theorem dX4_rule_11 : decode cX4_rule 11 = .ok (.aload_n 0, 1) := dk_42 (dk_at dksX4_rule_0 11 rfl rfl)
theorem dX4_rule_12 : decode cX4_rule 12 = .ok (.aload_n 0, 1) := dk_42 (dk_at dksX4_rule_0 12 rfl rfl)
theorem dX4_rule_13 : decode cX4_rule 13 = .ok (.getfield 262, 3) := dk_180 1 6 (dk_at dksX4_rule_0 13 rfl rfl)
theorem dX4_rule_16 : decode cX4_rule 16 = .ok (.putfield 150, 3) := dk_181 0 150 (dk_at dksX4_rule_0 16 rfl rfl)
theorem dX4_rule_19 : decode cX4_rule 19 = .ok (.aload_n 0, 1) := dk_42 (dk_at dksX4_rule_0 19 rfl rfl)
theorem dX4_rule_20 : decode cX4_rule 20 = .ok (.getfield 23, 3) := dk_180 0 23 (dk_at dksX4_rule_0 20 rfl rfl)
theorem dX4_rule_23 : decode cX4_rule 23 = .ok (.aload_n 0, 1) := dk_42 (dk_at dksX4_rule_0 23 rfl rfl)
theorem dX4_rule_24 : decode cX4_rule 24 = .ok (.getfield 150, 3) := dk_180 0 150 (dk_at dksX4_rule_1 0 rfl rfl)
theorem dX4_rule_27 : decode cX4_rule 27 = .ok (.iconst 0, 1) := dk_3 (dk_at dksX4_rule_1 3 rfl rfl)
theorem dX4_rule_28 : decode cX4_rule 28 = .ok (.iastore, 1) := dk_79 (dk_at dksX4_rule_1 4 rfl rfl)
theorem dX4_rule_29 : decode cX4_rule 29 = .ok (.aload_n 0, 1) := dk_42 (dk_at dksX4_rule_1 5 rfl rfl)
theorem dX4_rule_30 : decode cX4_rule 30 = .ok (.invokevirtual 265, 3) := dk_182 1 9 (dk_at dksX4_rule_1 6 rfl rfl)
theorem dX4_rule_33 : decode cX4_rule 33 = .ok (.ifCond .ne 11, 3) := dk_154 0 11 (dk_at dksX4_rule_1 9 rfl rfl)
theorem dX4_rule_36 : decode cX4_rule 36 = .ok (.bipush (-2), 2) := dk_16 254 (dk_at dksX4_rule_1 12 rfl rfl)
theorem dX4_rule_38 : decode cX4_rule 38 = .ok (.aload_n 0, 1) := dk_42 (dk_at dksX4_rule_1 14 rfl rfl)
theorem dX4_rule_39 : decode cX4_rule 39 = .ok (.getfield 93, 3) := dk_180 0 93 (dk_at dksX4_rule_1 15 rfl rfl)
theorem dX4_rule_42 : decode cX4_rule 42 = .ok (.isub, 1) := dk_100 (dk_at dksX4_rule_1 18 rfl rfl)
theorem dX4_rule_43 : decode cX4_rule 43 = .ok (.ireturn, 1) := dk_172 (dk_at dksX4_rule_1 19 rfl rfl)
theorem dX4_rule_44 : decode cX4_rule 44 = .ok (.aload_n 0, 1) := dk_42 (dk_at dksX4_rule_1 20 rfl rfl)
theorem dX4_rule_45 : decode cX4_rule 45 = .ok (.dup, 1) := dk_89 (dk_at dksX4_rule_1 21 rfl rfl)
theorem dX4_rule_46 : decode cX4_rule 46 = .ok (.getfield 262, 3) := dk_180 1 6 (dk_at dksX4_rule_2 0 rfl rfl)
theorem dX4_rule_49 : decode cX4_rule 49 = .ok (.iconst 1, 1) := dk_4 (dk_at dksX4_rule_2 3 rfl rfl)
theorem dX4_rule_50 : decode cX4_rule 50 = .ok (.iadd, 1) := dk_96 (dk_at dksX4_rule_2 4 rfl rfl)
theorem dX4_rule_51 : decode cX4_rule 51 = .ok (.putfield 262, 3) := dk_181 1 6 (dk_at dksX4_rule_2 5 rfl rfl)
theorem dX4_rule_54 : decode cX4_rule 54 = .ok (.aload_n 0, 1) := dk_42 (dk_at dksX4_rule_2 8 rfl rfl)
theorem dX4_rule_55 : decode cX4_rule 55 = .ok (.getfield 262, 3) := dk_180 1 6 (dk_at dksX4_rule_2 9 rfl rfl)
theorem dX4_rule_58 : decode cX4_rule 58 = .ok (.iconst 1, 1) := dk_4 (dk_at dksX4_rule_2 12 rfl rfl)
theorem dX4_rule_59 : decode cX4_rule 59 = .ok (.isub, 1) := dk_100 (dk_at dksX4_rule_2 13 rfl rfl)
theorem dX4_rule_60 : decode cX4_rule 60 = .ok (.ireturn, 1) := dk_172 (dk_at dksX4_rule_2 14 rfl rfl)
abbrev cX4_readsAll : ByteArray := prog_19_method_38_code
def yX4_readsAll : MethodName := ⟨RX4, "readsAll", "()Z"⟩
def dkwX4_readsAll_4 : List UInt8 := [181, 0, 86, 42, 180, 0, 93, 154, 0, 7, 4, 167, 0, 4, 3, 172]
abbrev dktX4_readsAll_4 : List UInt8 := dkwX4_readsAll_4 ++ []
def dkwX4_readsAll_3 : List UInt8 := [153, 0, 21, 42, 182, 0, 99, 2, 159, 0, 13, 42, 3, 42, 180, 0, 96, 182, 0, 117, 87, 42, 3]
abbrev dktX4_readsAll_3 : List UInt8 := dkwX4_readsAll_3 ++ dktX4_readsAll_4
def dkwX4_readsAll_2 : List UInt8 := [160, 0, 21, 42, 89, 180, 0, 96, 4, 96, 181, 0, 96, 42, 182, 1, 3, 60, 167, 255, 228, 27]
abbrev dktX4_readsAll_2 : List UInt8 := dkwX4_readsAll_2 ++ dktX4_readsAll_3
def dkwX4_readsAll_1 : List UInt8 := [181, 0, 93, 42, 3, 181, 0, 153, 42, 182, 1, 3, 60, 27, 153, 0, 30, 42, 182, 0, 99, 16, 59]
abbrev dktX4_readsAll_1 : List UInt8 := dkwX4_readsAll_1 ++ dktX4_readsAll_2
def dkwX4_readsAll_0 : List UInt8 := [42, 180, 0, 17, 42, 180, 0, 150, 3, 79, 42, 3, 181, 0, 250, 42, 3, 181, 0, 96, 42, 3]
abbrev dktX4_readsAll_0 : List UInt8 := dkwX4_readsAll_0 ++ dktX4_readsAll_1
theorem dksX4_readsAll_0 : cX4_readsAll.data.toList.drop 0 = dktX4_readsAll_0 := by decide +kernel
theorem dksX4_readsAll_1 : cX4_readsAll.data.toList.drop 22 = dktX4_readsAll_1 := dk_seg dksX4_readsAll_0 22 rfl rfl
theorem dksX4_readsAll_2 : cX4_readsAll.data.toList.drop 45 = dktX4_readsAll_2 := dk_seg dksX4_readsAll_1 23 rfl rfl
theorem dksX4_readsAll_3 : cX4_readsAll.data.toList.drop 67 = dktX4_readsAll_3 := dk_seg dksX4_readsAll_2 22 rfl rfl
theorem dksX4_readsAll_4 : cX4_readsAll.data.toList.drop 90 = dktX4_readsAll_4 := dk_seg dksX4_readsAll_3 23 rfl rfl
theorem dX4_readsAll_0 : decode cX4_readsAll 0 = .ok (.aload_n 0, 1) := dk_42 (dk_at dksX4_readsAll_0 0 rfl rfl)
theorem dX4_readsAll_1 : decode cX4_readsAll 1 = .ok (.getfield 17, 3) := dk_180 0 17 (dk_at dksX4_readsAll_0 1 rfl rfl)
theorem dX4_readsAll_4 : decode cX4_readsAll 4 = .ok (.aload_n 0, 1) := dk_42 (dk_at dksX4_readsAll_0 4 rfl rfl)
theorem dX4_readsAll_5 : decode cX4_readsAll 5 = .ok (.getfield 150, 3) := dk_180 0 150 (dk_at dksX4_readsAll_0 5 rfl rfl)
theorem dX4_readsAll_8 : decode cX4_readsAll 8 = .ok (.iconst 0, 1) := dk_3 (dk_at dksX4_readsAll_0 8 rfl rfl)
theorem dX4_readsAll_9 : decode cX4_readsAll 9 = .ok (.iastore, 1) := dk_79 (dk_at dksX4_readsAll_0 9 rfl rfl)
theorem dX4_readsAll_10 : decode cX4_readsAll 10 = .ok (.aload_n 0, 1) := dk_42 (dk_at dksX4_readsAll_0 10 rfl rfl)
theorem dX4_readsAll_11 : decode cX4_readsAll 11 = .ok (.iconst 0, 1) := dk_3 (dk_at dksX4_readsAll_0 11 rfl rfl)
theorem dX4_readsAll_12 : decode cX4_readsAll 12 = .ok (.putfield 250, 3) := dk_181 0 250 (dk_at dksX4_readsAll_0 12 rfl rfl)
theorem dX4_readsAll_15 : decode cX4_readsAll 15 = .ok (.aload_n 0, 1) := dk_42 (dk_at dksX4_readsAll_0 15 rfl rfl)
theorem dX4_readsAll_16 : decode cX4_readsAll 16 = .ok (.iconst 0, 1) := dk_3 (dk_at dksX4_readsAll_0 16 rfl rfl)
theorem dX4_readsAll_17 : decode cX4_readsAll 17 = .ok (.putfield 96, 3) := dk_181 0 96 (dk_at dksX4_readsAll_0 17 rfl rfl)
theorem dX4_readsAll_20 : decode cX4_readsAll 20 = .ok (.aload_n 0, 1) := dk_42 (dk_at dksX4_readsAll_0 20 rfl rfl)
theorem dX4_readsAll_21 : decode cX4_readsAll 21 = .ok (.iconst 0, 1) := dk_3 (dk_at dksX4_readsAll_0 21 rfl rfl)
theorem dX4_readsAll_22 : decode cX4_readsAll 22 = .ok (.putfield 93, 3) := dk_181 0 93 (dk_at dksX4_readsAll_1 0 rfl rfl)
theorem dX4_readsAll_25 : decode cX4_readsAll 25 = .ok (.aload_n 0, 1) := dk_42 (dk_at dksX4_readsAll_1 3 rfl rfl)
theorem dX4_readsAll_26 : decode cX4_readsAll 26 = .ok (.iconst 0, 1) := dk_3 (dk_at dksX4_readsAll_1 4 rfl rfl)
theorem dX4_readsAll_27 : decode cX4_readsAll 27 = .ok (.putfield 153, 3) := dk_181 0 153 (dk_at dksX4_readsAll_1 5 rfl rfl)
theorem dX4_readsAll_30 : decode cX4_readsAll 30 = .ok (.aload_n 0, 1) := dk_42 (dk_at dksX4_readsAll_1 8 rfl rfl)
theorem dX4_readsAll_31 : decode cX4_readsAll 31 = .ok (.invokevirtual 259, 3) := dk_182 1 3 (dk_at dksX4_readsAll_1 9 rfl rfl)
theorem dX4_readsAll_34 : decode cX4_readsAll 34 = .ok (.istore_n 1, 1) := dk_60 (dk_at dksX4_readsAll_1 12 rfl rfl)
theorem dX4_readsAll_35 : decode cX4_readsAll 35 = .ok (.iload_n 1, 1) := dk_27 (dk_at dksX4_readsAll_1 13 rfl rfl)
theorem dX4_readsAll_36 : decode cX4_readsAll 36 = .ok (.ifCond .eq 30, 3) := dk_153 0 30 (dk_at dksX4_readsAll_1 14 rfl rfl)
theorem dX4_readsAll_39 : decode cX4_readsAll 39 = .ok (.aload_n 0, 1) := dk_42 (dk_at dksX4_readsAll_1 17 rfl rfl)
theorem dX4_readsAll_40 : decode cX4_readsAll 40 = .ok (.invokevirtual 99, 3) := dk_182 0 99 (dk_at dksX4_readsAll_1 18 rfl rfl)
theorem dX4_readsAll_43 : decode cX4_readsAll 43 = .ok (.bipush 59, 2) := dk_16 59 (dk_at dksX4_readsAll_1 21 rfl rfl)
theorem dX4_readsAll_45 : decode cX4_readsAll 45 = .ok (.if_icmp .ne 21, 3) := dk_160 0 21 (dk_at dksX4_readsAll_2 0 rfl rfl)
theorem dX4_readsAll_48 : decode cX4_readsAll 48 = .ok (.aload_n 0, 1) := dk_42 (dk_at dksX4_readsAll_2 3 rfl rfl)
theorem dX4_readsAll_49 : decode cX4_readsAll 49 = .ok (.dup, 1) := dk_89 (dk_at dksX4_readsAll_2 4 rfl rfl)
theorem dX4_readsAll_50 : decode cX4_readsAll 50 = .ok (.getfield 96, 3) := dk_180 0 96 (dk_at dksX4_readsAll_2 5 rfl rfl)
theorem dX4_readsAll_53 : decode cX4_readsAll 53 = .ok (.iconst 1, 1) := dk_4 (dk_at dksX4_readsAll_2 8 rfl rfl)
theorem dX4_readsAll_54 : decode cX4_readsAll 54 = .ok (.iadd, 1) := dk_96 (dk_at dksX4_readsAll_2 9 rfl rfl)
theorem dX4_readsAll_55 : decode cX4_readsAll 55 = .ok (.putfield 96, 3) := dk_181 0 96 (dk_at dksX4_readsAll_2 10 rfl rfl)
theorem dX4_readsAll_58 : decode cX4_readsAll 58 = .ok (.aload_n 0, 1) := dk_42 (dk_at dksX4_readsAll_2 13 rfl rfl)
theorem dX4_readsAll_59 : decode cX4_readsAll 59 = .ok (.invokevirtual 259, 3) := dk_182 1 3 (dk_at dksX4_readsAll_2 14 rfl rfl)
theorem dX4_readsAll_62 : decode cX4_readsAll 62 = .ok (.istore_n 1, 1) := dk_60 (dk_at dksX4_readsAll_2 17 rfl rfl)
theorem dX4_readsAll_63 : decode cX4_readsAll 63 = .ok (.goto (-28), 3) := dk_167 255 228 (dk_at dksX4_readsAll_2 18 rfl rfl)
theorem dX4_readsAll_66 : decode cX4_readsAll 66 = .ok (.iload_n 1, 1) := dk_27 (dk_at dksX4_readsAll_2 21 rfl rfl)
theorem dX4_readsAll_67 : decode cX4_readsAll 67 = .ok (.ifCond .eq 21, 3) := dk_153 0 21 (dk_at dksX4_readsAll_3 0 rfl rfl)
theorem dX4_readsAll_70 : decode cX4_readsAll 70 = .ok (.aload_n 0, 1) := dk_42 (dk_at dksX4_readsAll_3 3 rfl rfl)
theorem dX4_readsAll_71 : decode cX4_readsAll 71 = .ok (.invokevirtual 99, 3) := dk_182 0 99 (dk_at dksX4_readsAll_3 4 rfl rfl)
theorem dX4_readsAll_74 : decode cX4_readsAll 74 = .ok (.iconst (-1), 1) := dk_2 (dk_at dksX4_readsAll_3 7 rfl rfl)
theorem dX4_readsAll_75 : decode cX4_readsAll 75 = .ok (.if_icmp .eq 13, 3) := dk_159 0 13 (dk_at dksX4_readsAll_3 8 rfl rfl)
theorem dX4_readsAll_78 : decode cX4_readsAll 78 = .ok (.aload_n 0, 1) := dk_42 (dk_at dksX4_readsAll_3 11 rfl rfl)
theorem dX4_readsAll_79 : decode cX4_readsAll 79 = .ok (.iconst 0, 1) := dk_3 (dk_at dksX4_readsAll_3 12 rfl rfl)
theorem dX4_readsAll_80 : decode cX4_readsAll 80 = .ok (.aload_n 0, 1) := dk_42 (dk_at dksX4_readsAll_3 13 rfl rfl)
theorem dX4_readsAll_81 : decode cX4_readsAll 81 = .ok (.getfield 96, 3) := dk_180 0 96 (dk_at dksX4_readsAll_3 14 rfl rfl)
theorem dX4_readsAll_84 : decode cX4_readsAll 84 = .ok (.invokevirtual 117, 3) := dk_182 0 117 (dk_at dksX4_readsAll_3 17 rfl rfl)
theorem dX4_readsAll_87 : decode cX4_readsAll 87 = .ok (.pop, 1) := dk_87 (dk_at dksX4_readsAll_3 20 rfl rfl)
theorem dX4_readsAll_88 : decode cX4_readsAll 88 = .ok (.aload_n 0, 1) := dk_42 (dk_at dksX4_readsAll_3 21 rfl rfl)
theorem dX4_readsAll_89 : decode cX4_readsAll 89 = .ok (.iconst 0, 1) := dk_3 (dk_at dksX4_readsAll_3 22 rfl rfl)
theorem dX4_readsAll_90 : decode cX4_readsAll 90 = .ok (.putfield 86, 3) := dk_181 0 86 (dk_at dksX4_readsAll_4 0 rfl rfl)
theorem dX4_readsAll_93 : decode cX4_readsAll 93 = .ok (.aload_n 0, 1) := dk_42 (dk_at dksX4_readsAll_4 3 rfl rfl)
theorem dX4_readsAll_94 : decode cX4_readsAll 94 = .ok (.getfield 93, 3) := dk_180 0 93 (dk_at dksX4_readsAll_4 4 rfl rfl)
theorem dX4_readsAll_97 : decode cX4_readsAll 97 = .ok (.ifCond .ne 7, 3) := dk_154 0 7 (dk_at dksX4_readsAll_4 7 rfl rfl)
theorem dX4_readsAll_100 : decode cX4_readsAll 100 = .ok (.iconst 1, 1) := dk_4 (dk_at dksX4_readsAll_4 10 rfl rfl)
theorem dX4_readsAll_101 : decode cX4_readsAll 101 = .ok (.goto 4, 3) := dk_167 0 4 (dk_at dksX4_readsAll_4 11 rfl rfl)
theorem dX4_readsAll_104 : decode cX4_readsAll 104 = .ok (.iconst 0, 1) := dk_3 (dk_at dksX4_readsAll_4 14 rfl rfl)
theorem dX4_readsAll_105 : decode cX4_readsAll 105 = .ok (.ireturn, 1) := dk_172 (dk_at dksX4_readsAll_4 15 rfl rfl)
abbrev cX4_clauseHere : ByteArray := prog_19_method_37_code
def yX4_clauseHere : MethodName := ⟨RX4, "clauseHere", "()Z"⟩
def dkwX4_clauseHere_4 : List UInt8 := [153, 0, 11, 42, 27, 182, 0, 253, 167, 0, 7, 42, 182, 1, 0, 172]
abbrev dktX4_clauseHere_4 : List UInt8 := dkwX4_clauseHere_4 ++ []
def dkwX4_clauseHere_3 : List UInt8 := [16, 12, 160, 0, 10, 42, 7, 27, 182, 0, 117, 172, 42, 89, 180, 0, 250, 4, 96, 181, 0, 250, 28]
abbrev dktX4_clauseHere_3 : List UInt8 := dkwX4_clauseHere_3 ++ dktX4_clauseHere_4
def dkwX4_clauseHere_2 : List UInt8 := [154, 0, 10, 42, 3, 27, 182, 0, 117, 172, 42, 180, 0, 250, 28, 153, 0, 8, 16, 40, 167, 0, 5]
abbrev dktX4_clauseHere_2 : List UInt8 := dkwX4_clauseHere_2 ++ dktX4_clauseHere_3
def dkwX4_clauseHere_1 : List UInt8 := [61, 28, 153, 0, 13, 42, 182, 0, 245, 154, 0, 23, 167, 0, 13, 42, 20, 0, 248, 182, 0, 107]
abbrev dktX4_clauseHere_1 : List UInt8 := dkwX4_clauseHere_1 ++ dktX4_clauseHere_2
def dkwX4_clauseHere_0 : List UInt8 := [42, 182, 0, 99, 87, 42, 180, 0, 96, 60, 42, 180, 0, 150, 16, 6, 160, 0, 7, 4, 167, 0, 4, 3]
abbrev dktX4_clauseHere_0 : List UInt8 := dkwX4_clauseHere_0 ++ dktX4_clauseHere_1
theorem dksX4_clauseHere_0 : cX4_clauseHere.data.toList.drop 0 = dktX4_clauseHere_0 := by decide +kernel
theorem dksX4_clauseHere_1 : cX4_clauseHere.data.toList.drop 24 = dktX4_clauseHere_1 := dk_seg dksX4_clauseHere_0 24 rfl rfl
theorem dksX4_clauseHere_2 : cX4_clauseHere.data.toList.drop 46 = dktX4_clauseHere_2 := dk_seg dksX4_clauseHere_1 22 rfl rfl
theorem dksX4_clauseHere_3 : cX4_clauseHere.data.toList.drop 69 = dktX4_clauseHere_3 := dk_seg dksX4_clauseHere_2 23 rfl rfl
theorem dksX4_clauseHere_4 : cX4_clauseHere.data.toList.drop 92 = dktX4_clauseHere_4 := dk_seg dksX4_clauseHere_3 23 rfl rfl
theorem dX4_clauseHere_0 : decode cX4_clauseHere 0 = .ok (.aload_n 0, 1) := dk_42 (dk_at dksX4_clauseHere_0 0 rfl rfl)
theorem dX4_clauseHere_1 : decode cX4_clauseHere 1 = .ok (.invokevirtual 99, 3) := dk_182 0 99 (dk_at dksX4_clauseHere_0 1 rfl rfl)
theorem dX4_clauseHere_4 : decode cX4_clauseHere 4 = .ok (.pop, 1) := dk_87 (dk_at dksX4_clauseHere_0 4 rfl rfl)
theorem dX4_clauseHere_5 : decode cX4_clauseHere 5 = .ok (.aload_n 0, 1) := dk_42 (dk_at dksX4_clauseHere_0 5 rfl rfl)
theorem dX4_clauseHere_6 : decode cX4_clauseHere 6 = .ok (.getfield 96, 3) := dk_180 0 96 (dk_at dksX4_clauseHere_0 6 rfl rfl)
theorem dX4_clauseHere_9 : decode cX4_clauseHere 9 = .ok (.istore_n 1, 1) := dk_60 (dk_at dksX4_clauseHere_0 9 rfl rfl)
theorem dX4_clauseHere_10 : decode cX4_clauseHere 10 = .ok (.aload_n 0, 1) := dk_42 (dk_at dksX4_clauseHere_0 10 rfl rfl)
theorem dX4_clauseHere_11 : decode cX4_clauseHere 11 = .ok (.getfield 150, 3) := dk_180 0 150 (dk_at dksX4_clauseHere_0 11 rfl rfl)
theorem dX4_clauseHere_14 : decode cX4_clauseHere 14 = .ok (.bipush 6, 2) := dk_16 6 (dk_at dksX4_clauseHere_0 14 rfl rfl)
theorem dX4_clauseHere_16 : decode cX4_clauseHere 16 = .ok (.if_icmp .ne 7, 3) := dk_160 0 7 (dk_at dksX4_clauseHere_0 16 rfl rfl)
theorem dX4_clauseHere_19 : decode cX4_clauseHere 19 = .ok (.iconst 1, 1) := dk_4 (dk_at dksX4_clauseHere_0 19 rfl rfl)
theorem dX4_clauseHere_20 : decode cX4_clauseHere 20 = .ok (.goto 4, 3) := dk_167 0 4 (dk_at dksX4_clauseHere_0 20 rfl rfl)
theorem dX4_clauseHere_23 : decode cX4_clauseHere 23 = .ok (.iconst 0, 1) := dk_3 (dk_at dksX4_clauseHere_0 23 rfl rfl)
theorem dX4_clauseHere_24 : decode cX4_clauseHere 24 = .ok (.istore_n 2, 1) := dk_61 (dk_at dksX4_clauseHere_1 0 rfl rfl)
theorem dX4_clauseHere_25 : decode cX4_clauseHere 25 = .ok (.iload_n 2, 1) := dk_28 (dk_at dksX4_clauseHere_1 1 rfl rfl)
theorem dX4_clauseHere_26 : decode cX4_clauseHere 26 = .ok (.ifCond .eq 13, 3) := dk_153 0 13 (dk_at dksX4_clauseHere_1 2 rfl rfl)
theorem dX4_clauseHere_29 : decode cX4_clauseHere 29 = .ok (.aload_n 0, 1) := dk_42 (dk_at dksX4_clauseHere_1 5 rfl rfl)
theorem dX4_clauseHere_30 : decode cX4_clauseHere 30 = .ok (.invokevirtual 245, 3) := dk_182 0 245 (dk_at dksX4_clauseHere_1 6 rfl rfl)
theorem dX4_clauseHere_33 : decode cX4_clauseHere 33 = .ok (.ifCond .ne 23, 3) := dk_154 0 23 (dk_at dksX4_clauseHere_1 9 rfl rfl)
theorem dX4_clauseHere_36 : decode cX4_clauseHere 36 = .ok (.goto 13, 3) := dk_167 0 13 (dk_at dksX4_clauseHere_1 12 rfl rfl)
theorem dX4_clauseHere_39 : decode cX4_clauseHere 39 = .ok (.aload_n 0, 1) := dk_42 (dk_at dksX4_clauseHere_1 15 rfl rfl)
theorem dX4_clauseHere_40 : decode cX4_clauseHere 40 = .ok (.ldc2_w 248, 3) := dk_20 0 248 (dk_at dksX4_clauseHere_1 16 rfl rfl)
theorem dX4_clauseHere_43 : decode cX4_clauseHere 43 = .ok (.invokevirtual 107, 3) := dk_182 0 107 (dk_at dksX4_clauseHere_1 19 rfl rfl)
theorem dX4_clauseHere_46 : decode cX4_clauseHere 46 = .ok (.ifCond .ne 10, 3) := dk_154 0 10 (dk_at dksX4_clauseHere_2 0 rfl rfl)
theorem dX4_clauseHere_49 : decode cX4_clauseHere 49 = .ok (.aload_n 0, 1) := dk_42 (dk_at dksX4_clauseHere_2 3 rfl rfl)
theorem dX4_clauseHere_50 : decode cX4_clauseHere 50 = .ok (.iconst 0, 1) := dk_3 (dk_at dksX4_clauseHere_2 4 rfl rfl)
theorem dX4_clauseHere_51 : decode cX4_clauseHere 51 = .ok (.iload_n 1, 1) := dk_27 (dk_at dksX4_clauseHere_2 5 rfl rfl)
theorem dX4_clauseHere_52 : decode cX4_clauseHere 52 = .ok (.invokevirtual 117, 3) := dk_182 0 117 (dk_at dksX4_clauseHere_2 6 rfl rfl)
theorem dX4_clauseHere_55 : decode cX4_clauseHere 55 = .ok (.ireturn, 1) := dk_172 (dk_at dksX4_clauseHere_2 9 rfl rfl)
theorem dX4_clauseHere_56 : decode cX4_clauseHere 56 = .ok (.aload_n 0, 1) := dk_42 (dk_at dksX4_clauseHere_2 10 rfl rfl)
theorem dX4_clauseHere_57 : decode cX4_clauseHere 57 = .ok (.getfield 250, 3) := dk_180 0 250 (dk_at dksX4_clauseHere_2 11 rfl rfl)
theorem dX4_clauseHere_60 : decode cX4_clauseHere 60 = .ok (.iload_n 2, 1) := dk_28 (dk_at dksX4_clauseHere_2 14 rfl rfl)
theorem dX4_clauseHere_61 : decode cX4_clauseHere 61 = .ok (.ifCond .eq 8, 3) := dk_153 0 8 (dk_at dksX4_clauseHere_2 15 rfl rfl)
theorem dX4_clauseHere_64 : decode cX4_clauseHere 64 = .ok (.bipush 40, 2) := dk_16 40 (dk_at dksX4_clauseHere_2 18 rfl rfl)
theorem dX4_clauseHere_66 : decode cX4_clauseHere 66 = .ok (.goto 5, 3) := dk_167 0 5 (dk_at dksX4_clauseHere_2 20 rfl rfl)
theorem dX4_clauseHere_69 : decode cX4_clauseHere 69 = .ok (.bipush 12, 2) := dk_16 12 (dk_at dksX4_clauseHere_3 0 rfl rfl)
theorem dX4_clauseHere_71 : decode cX4_clauseHere 71 = .ok (.if_icmp .ne 10, 3) := dk_160 0 10 (dk_at dksX4_clauseHere_3 2 rfl rfl)
theorem dX4_clauseHere_74 : decode cX4_clauseHere 74 = .ok (.aload_n 0, 1) := dk_42 (dk_at dksX4_clauseHere_3 5 rfl rfl)
theorem dX4_clauseHere_75 : decode cX4_clauseHere 75 = .ok (.iconst 4, 1) := dk_7 (dk_at dksX4_clauseHere_3 6 rfl rfl)
theorem dX4_clauseHere_76 : decode cX4_clauseHere 76 = .ok (.iload_n 1, 1) := dk_27 (dk_at dksX4_clauseHere_3 7 rfl rfl)
theorem dX4_clauseHere_77 : decode cX4_clauseHere 77 = .ok (.invokevirtual 117, 3) := dk_182 0 117 (dk_at dksX4_clauseHere_3 8 rfl rfl)
theorem dX4_clauseHere_80 : decode cX4_clauseHere 80 = .ok (.ireturn, 1) := dk_172 (dk_at dksX4_clauseHere_3 11 rfl rfl)
theorem dX4_clauseHere_81 : decode cX4_clauseHere 81 = .ok (.aload_n 0, 1) := dk_42 (dk_at dksX4_clauseHere_3 12 rfl rfl)
theorem dX4_clauseHere_82 : decode cX4_clauseHere 82 = .ok (.dup, 1) := dk_89 (dk_at dksX4_clauseHere_3 13 rfl rfl)
theorem dX4_clauseHere_83 : decode cX4_clauseHere 83 = .ok (.getfield 250, 3) := dk_180 0 250 (dk_at dksX4_clauseHere_3 14 rfl rfl)
theorem dX4_clauseHere_86 : decode cX4_clauseHere 86 = .ok (.iconst 1, 1) := dk_4 (dk_at dksX4_clauseHere_3 17 rfl rfl)
theorem dX4_clauseHere_87 : decode cX4_clauseHere 87 = .ok (.iadd, 1) := dk_96 (dk_at dksX4_clauseHere_3 18 rfl rfl)
theorem dX4_clauseHere_88 : decode cX4_clauseHere 88 = .ok (.putfield 250, 3) := dk_181 0 250 (dk_at dksX4_clauseHere_3 19 rfl rfl)
theorem dX4_clauseHere_91 : decode cX4_clauseHere 91 = .ok (.iload_n 2, 1) := dk_28 (dk_at dksX4_clauseHere_3 22 rfl rfl)
theorem dX4_clauseHere_92 : decode cX4_clauseHere 92 = .ok (.ifCond .eq 11, 3) := dk_153 0 11 (dk_at dksX4_clauseHere_4 0 rfl rfl)
theorem dX4_clauseHere_95 : decode cX4_clauseHere 95 = .ok (.aload_n 0, 1) := dk_42 (dk_at dksX4_clauseHere_4 3 rfl rfl)
theorem dX4_clauseHere_96 : decode cX4_clauseHere 96 = .ok (.iload_n 1, 1) := dk_27 (dk_at dksX4_clauseHere_4 4 rfl rfl)
theorem dX4_clauseHere_97 : decode cX4_clauseHere 97 = .ok (.invokevirtual 253, 3) := dk_182 0 253 (dk_at dksX4_clauseHere_4 5 rfl rfl)
theorem dX4_clauseHere_100 : decode cX4_clauseHere 100 = .ok (.goto 7, 3) := dk_167 0 7 (dk_at dksX4_clauseHere_4 8 rfl rfl)
theorem dX4_clauseHere_103 : decode cX4_clauseHere 103 = .ok (.aload_n 0, 1) := dk_42 (dk_at dksX4_clauseHere_4 11 rfl rfl)
theorem dX4_clauseHere_104 : decode cX4_clauseHere 104 = .ok (.invokevirtual 256, 3) := dk_182 1 0 (dk_at dksX4_clauseHere_4 12 rfl rfl)
theorem dX4_clauseHere_107 : decode cX4_clauseHere 107 = .ok (.ireturn, 1) := dk_172 (dk_at dksX4_clauseHere_4 15 rfl rfl)
abbrev cX4_see : ByteArray := prog_19_method_7_code
def yX4_see : MethodName := ⟨RX4, "see", "()I"⟩
def dkwX4_see_2 : List UInt8 := [162, 0, 19, 42, 180, 0, 7, 42, 180, 0, 96, 51, 17, 0, 255, 126, 167, 0, 4, 2, 172]
abbrev dktX4_see_2 : List UInt8 := dkwX4_see_2 ++ []
def dkwX4_see_1 : List UInt8 := [160, 0, 16, 42, 89, 180, 0, 96, 4, 96, 181, 0, 96, 167, 255, 221, 42, 180, 0, 96, 42, 180, 0, 86]
abbrev dktX4_see_1 : List UInt8 := dkwX4_see_1 ++ dktX4_see_2
def dkwX4_see_0 : List UInt8 := [42, 180, 0, 96, 42, 180, 0, 86, 162, 0, 30, 42, 180, 0, 7, 42, 180, 0, 96, 51, 16, 32]
abbrev dktX4_see_0 : List UInt8 := dkwX4_see_0 ++ dktX4_see_1
theorem dksX4_see_0 : cX4_see.data.toList.drop 0 = dktX4_see_0 := by decide +kernel
theorem dksX4_see_1 : cX4_see.data.toList.drop 22 = dktX4_see_1 := dk_seg dksX4_see_0 22 rfl rfl
theorem dksX4_see_2 : cX4_see.data.toList.drop 46 = dktX4_see_2 := dk_seg dksX4_see_1 24 rfl rfl
theorem dX4_see_0 : decode cX4_see 0 = .ok (.aload_n 0, 1) := dk_42 (dk_at dksX4_see_0 0 rfl rfl)
theorem dX4_see_1 : decode cX4_see 1 = .ok (.getfield 96, 3) := dk_180 0 96 (dk_at dksX4_see_0 1 rfl rfl)
theorem dX4_see_4 : decode cX4_see 4 = .ok (.aload_n 0, 1) := dk_42 (dk_at dksX4_see_0 4 rfl rfl)
theorem dX4_see_5 : decode cX4_see 5 = .ok (.getfield 86, 3) := dk_180 0 86 (dk_at dksX4_see_0 5 rfl rfl)
theorem dX4_see_8 : decode cX4_see 8 = .ok (.if_icmp .ge 30, 3) := dk_162 0 30 (dk_at dksX4_see_0 8 rfl rfl)
theorem dX4_see_11 : decode cX4_see 11 = .ok (.aload_n 0, 1) := dk_42 (dk_at dksX4_see_0 11 rfl rfl)
theorem dX4_see_12 : decode cX4_see 12 = .ok (.getfield 7, 3) := dk_180 0 7 (dk_at dksX4_see_0 12 rfl rfl)
theorem dX4_see_15 : decode cX4_see 15 = .ok (.aload_n 0, 1) := dk_42 (dk_at dksX4_see_0 15 rfl rfl)
theorem dX4_see_16 : decode cX4_see 16 = .ok (.getfield 96, 3) := dk_180 0 96 (dk_at dksX4_see_0 16 rfl rfl)
theorem dX4_see_19 : decode cX4_see 19 = .ok (.baload, 1) := dk_51 (dk_at dksX4_see_0 19 rfl rfl)
theorem dX4_see_20 : decode cX4_see 20 = .ok (.bipush 32, 2) := dk_16 32 (dk_at dksX4_see_0 20 rfl rfl)
theorem dX4_see_22 : decode cX4_see 22 = .ok (.if_icmp .ne 16, 3) := dk_160 0 16 (dk_at dksX4_see_1 0 rfl rfl)
theorem dX4_see_25 : decode cX4_see 25 = .ok (.aload_n 0, 1) := dk_42 (dk_at dksX4_see_1 3 rfl rfl)
theorem dX4_see_26 : decode cX4_see 26 = .ok (.dup, 1) := dk_89 (dk_at dksX4_see_1 4 rfl rfl)
theorem dX4_see_27 : decode cX4_see 27 = .ok (.getfield 96, 3) := dk_180 0 96 (dk_at dksX4_see_1 5 rfl rfl)
theorem dX4_see_30 : decode cX4_see 30 = .ok (.iconst 1, 1) := dk_4 (dk_at dksX4_see_1 8 rfl rfl)
theorem dX4_see_31 : decode cX4_see 31 = .ok (.iadd, 1) := dk_96 (dk_at dksX4_see_1 9 rfl rfl)
theorem dX4_see_32 : decode cX4_see 32 = .ok (.putfield 96, 3) := dk_181 0 96 (dk_at dksX4_see_1 10 rfl rfl)
theorem dX4_see_35 : decode cX4_see 35 = .ok (.goto (-35), 3) := dk_167 255 221 (dk_at dksX4_see_1 13 rfl rfl)
theorem dX4_see_38 : decode cX4_see 38 = .ok (.aload_n 0, 1) := dk_42 (dk_at dksX4_see_1 16 rfl rfl)
theorem dX4_see_39 : decode cX4_see 39 = .ok (.getfield 96, 3) := dk_180 0 96 (dk_at dksX4_see_1 17 rfl rfl)
theorem dX4_see_42 : decode cX4_see 42 = .ok (.aload_n 0, 1) := dk_42 (dk_at dksX4_see_1 20 rfl rfl)
theorem dX4_see_43 : decode cX4_see 43 = .ok (.getfield 86, 3) := dk_180 0 86 (dk_at dksX4_see_1 21 rfl rfl)
theorem dX4_see_46 : decode cX4_see 46 = .ok (.if_icmp .ge 19, 3) := dk_162 0 19 (dk_at dksX4_see_2 0 rfl rfl)
theorem dX4_see_49 : decode cX4_see 49 = .ok (.aload_n 0, 1) := dk_42 (dk_at dksX4_see_2 3 rfl rfl)
theorem dX4_see_50 : decode cX4_see 50 = .ok (.getfield 7, 3) := dk_180 0 7 (dk_at dksX4_see_2 4 rfl rfl)
theorem dX4_see_53 : decode cX4_see 53 = .ok (.aload_n 0, 1) := dk_42 (dk_at dksX4_see_2 7 rfl rfl)
theorem dX4_see_54 : decode cX4_see 54 = .ok (.getfield 96, 3) := dk_180 0 96 (dk_at dksX4_see_2 8 rfl rfl)
theorem dX4_see_57 : decode cX4_see 57 = .ok (.baload, 1) := dk_51 (dk_at dksX4_see_2 11 rfl rfl)
theorem dX4_see_58 : decode cX4_see 58 = .ok (.sipush 255, 3) := dk_17 0 255 (dk_at dksX4_see_2 12 rfl rfl)
theorem dX4_see_61 : decode cX4_see 61 = .ok (.iand, 1) := dk_126 (dk_at dksX4_see_2 15 rfl rfl)
theorem dX4_see_62 : decode cX4_see 62 = .ok (.goto 4, 3) := dk_167 0 4 (dk_at dksX4_see_2 16 rfl rfl)
theorem dX4_see_65 : decode cX4_see 65 = .ok (.iconst (-1), 1) := dk_2 (dk_at dksX4_see_2 19 rfl rfl)
theorem dX4_see_66 : decode cX4_see 66 = .ok (.ireturn, 1) := dk_172 (dk_at dksX4_see_2 20 rfl rfl)
abbrev cX4_isSheetWord : ByteArray := prog_19_method_36_code
def yX4_isSheetWord : MethodName := ⟨RX4, "isSheetWord", "()Z"⟩
def dkwX4_isSheetWord_1 : List UInt8 := [182, 0, 107, 154, 0, 13, 42, 20, 0, 142, 182, 0, 107, 153, 0, 7, 4, 167, 0, 4, 3, 172]
abbrev dktX4_isSheetWord_1 : List UInt8 := dkwX4_isSheetWord_1 ++ []
def dkwX4_isSheetWord_0 : List UInt8 := [42, 20, 0, 229, 182, 0, 107, 154, 0, 33, 42, 20, 0, 128, 182, 0, 107, 154, 0, 23, 42, 20, 0, 237]
abbrev dktX4_isSheetWord_0 : List UInt8 := dkwX4_isSheetWord_0 ++ dktX4_isSheetWord_1
theorem dksX4_isSheetWord_0 : cX4_isSheetWord.data.toList.drop 0 = dktX4_isSheetWord_0 := by decide +kernel
theorem dksX4_isSheetWord_1 : cX4_isSheetWord.data.toList.drop 24 = dktX4_isSheetWord_1 := dk_seg dksX4_isSheetWord_0 24 rfl rfl
theorem dX4_isSheetWord_0 : decode cX4_isSheetWord 0 = .ok (.aload_n 0, 1) := dk_42 (dk_at dksX4_isSheetWord_0 0 rfl rfl)
theorem dX4_isSheetWord_1 : decode cX4_isSheetWord 1 = .ok (.ldc2_w 229, 3) := dk_20 0 229 (dk_at dksX4_isSheetWord_0 1 rfl rfl)
theorem dX4_isSheetWord_4 : decode cX4_isSheetWord 4 = .ok (.invokevirtual 107, 3) := dk_182 0 107 (dk_at dksX4_isSheetWord_0 4 rfl rfl)
theorem dX4_isSheetWord_7 : decode cX4_isSheetWord 7 = .ok (.ifCond .ne 33, 3) := dk_154 0 33 (dk_at dksX4_isSheetWord_0 7 rfl rfl)
theorem dX4_isSheetWord_10 : decode cX4_isSheetWord 10 = .ok (.aload_n 0, 1) := dk_42 (dk_at dksX4_isSheetWord_0 10 rfl rfl)
theorem dX4_isSheetWord_11 : decode cX4_isSheetWord 11 = .ok (.ldc2_w 128, 3) := dk_20 0 128 (dk_at dksX4_isSheetWord_0 11 rfl rfl)
theorem dX4_isSheetWord_14 : decode cX4_isSheetWord 14 = .ok (.invokevirtual 107, 3) := dk_182 0 107 (dk_at dksX4_isSheetWord_0 14 rfl rfl)
theorem dX4_isSheetWord_17 : decode cX4_isSheetWord 17 = .ok (.ifCond .ne 23, 3) := dk_154 0 23 (dk_at dksX4_isSheetWord_0 17 rfl rfl)
theorem dX4_isSheetWord_20 : decode cX4_isSheetWord 20 = .ok (.aload_n 0, 1) := dk_42 (dk_at dksX4_isSheetWord_0 20 rfl rfl)
theorem dX4_isSheetWord_21 : decode cX4_isSheetWord 21 = .ok (.ldc2_w 237, 3) := dk_20 0 237 (dk_at dksX4_isSheetWord_0 21 rfl rfl)
theorem dX4_isSheetWord_24 : decode cX4_isSheetWord 24 = .ok (.invokevirtual 107, 3) := dk_182 0 107 (dk_at dksX4_isSheetWord_1 0 rfl rfl)
theorem dX4_isSheetWord_27 : decode cX4_isSheetWord 27 = .ok (.ifCond .ne 13, 3) := dk_154 0 13 (dk_at dksX4_isSheetWord_1 3 rfl rfl)
theorem dX4_isSheetWord_30 : decode cX4_isSheetWord 30 = .ok (.aload_n 0, 1) := dk_42 (dk_at dksX4_isSheetWord_1 6 rfl rfl)
theorem dX4_isSheetWord_31 : decode cX4_isSheetWord 31 = .ok (.ldc2_w 142, 3) := dk_20 0 142 (dk_at dksX4_isSheetWord_1 7 rfl rfl)
theorem dX4_isSheetWord_34 : decode cX4_isSheetWord 34 = .ok (.invokevirtual 107, 3) := dk_182 0 107 (dk_at dksX4_isSheetWord_1 10 rfl rfl)
theorem dX4_isSheetWord_37 : decode cX4_isSheetWord 37 = .ok (.ifCond .eq 7, 3) := dk_153 0 7 (dk_at dksX4_isSheetWord_1 13 rfl rfl)
theorem dX4_isSheetWord_40 : decode cX4_isSheetWord 40 = .ok (.iconst 1, 1) := dk_4 (dk_at dksX4_isSheetWord_1 16 rfl rfl)
theorem dX4_isSheetWord_41 : decode cX4_isSheetWord 41 = .ok (.goto 4, 3) := dk_167 0 4 (dk_at dksX4_isSheetWord_1 17 rfl rfl)
theorem dX4_isSheetWord_44 : decode cX4_isSheetWord 44 = .ok (.iconst 0, 1) := dk_3 (dk_at dksX4_isSheetWord_1 20 rfl rfl)
theorem dX4_isSheetWord_45 : decode cX4_isSheetWord 45 = .ok (.ireturn, 1) := dk_172 (dk_at dksX4_isSheetWord_1 21 rfl rfl)
abbrev cX4_isWord : ByteArray := prog_19_method_10_code
def yX4_isWord : MethodName := ⟨RX4, "isWord", "(J)Z"⟩
def dkwX4_isWord_3 : List UInt8 := [154, 0, 7, 4, 167, 0, 4, 3, 172]
abbrev dktX4_isWord_3 : List UInt8 := dkwX4_isWord_3 ++ []
def dkwX4_isWord_2 : List UInt8 := [129, 66, 132, 5, 1, 167, 255, 213, 21, 5, 158, 0, 20, 21, 5, 16, 8, 162, 0, 13, 33, 31, 148]
abbrev dktX4_isWord_2 : List UInt8 := dkwX4_isWord_2 ++ dktX4_isWord_3
def dkwX4_isWord_1 : List UInt8 := [21, 5, 16, 8, 162, 0, 22, 33, 16, 8, 121, 42, 180, 0, 7, 42, 180, 0, 96, 21, 5, 96, 51, 133]
abbrev dktX4_isWord_1 : List UInt8 := dkwX4_isWord_1 ++ dktX4_isWord_2
def dkwX4_isWord_0 : List UInt8 := [42, 182, 0, 99, 87, 9, 66, 3, 54, 5, 42, 42, 180, 0, 96, 21, 5, 96, 182, 0, 103, 153, 0, 35]
abbrev dktX4_isWord_0 : List UInt8 := dkwX4_isWord_0 ++ dktX4_isWord_1
theorem dksX4_isWord_0 : cX4_isWord.data.toList.drop 0 = dktX4_isWord_0 := by decide +kernel
theorem dksX4_isWord_1 : cX4_isWord.data.toList.drop 24 = dktX4_isWord_1 := dk_seg dksX4_isWord_0 24 rfl rfl
theorem dksX4_isWord_2 : cX4_isWord.data.toList.drop 48 = dktX4_isWord_2 := dk_seg dksX4_isWord_1 24 rfl rfl
theorem dksX4_isWord_3 : cX4_isWord.data.toList.drop 71 = dktX4_isWord_3 := dk_seg dksX4_isWord_2 23 rfl rfl
theorem dX4_isWord_0 : decode cX4_isWord 0 = .ok (.aload_n 0, 1) := dk_42 (dk_at dksX4_isWord_0 0 rfl rfl)
theorem dX4_isWord_1 : decode cX4_isWord 1 = .ok (.invokevirtual 99, 3) := dk_182 0 99 (dk_at dksX4_isWord_0 1 rfl rfl)
theorem dX4_isWord_4 : decode cX4_isWord 4 = .ok (.pop, 1) := dk_87 (dk_at dksX4_isWord_0 4 rfl rfl)
theorem dX4_isWord_5 : decode cX4_isWord 5 = .ok (.lconst 0, 1) := dk_9 (dk_at dksX4_isWord_0 5 rfl rfl)
theorem dX4_isWord_6 : decode cX4_isWord 6 = .ok (.lstore_n 3, 1) := dk_66 (dk_at dksX4_isWord_0 6 rfl rfl)
theorem dX4_isWord_7 : decode cX4_isWord 7 = .ok (.iconst 0, 1) := dk_3 (dk_at dksX4_isWord_0 7 rfl rfl)
theorem dX4_isWord_8 : decode cX4_isWord 8 = .ok (.istore 5, 2) := dk_54 5 (dk_at dksX4_isWord_0 8 rfl rfl)
theorem dX4_isWord_10 : decode cX4_isWord 10 = .ok (.aload_n 0, 1) := dk_42 (dk_at dksX4_isWord_0 10 rfl rfl)
theorem dX4_isWord_11 : decode cX4_isWord 11 = .ok (.aload_n 0, 1) := dk_42 (dk_at dksX4_isWord_0 11 rfl rfl)
theorem dX4_isWord_12 : decode cX4_isWord 12 = .ok (.getfield 96, 3) := dk_180 0 96 (dk_at dksX4_isWord_0 12 rfl rfl)
theorem dX4_isWord_15 : decode cX4_isWord 15 = .ok (.iload 5, 2) := dk_21 5 (dk_at dksX4_isWord_0 15 rfl rfl)
theorem dX4_isWord_17 : decode cX4_isWord 17 = .ok (.iadd, 1) := dk_96 (dk_at dksX4_isWord_0 17 rfl rfl)
theorem dX4_isWord_18 : decode cX4_isWord 18 = .ok (.invokevirtual 103, 3) := dk_182 0 103 (dk_at dksX4_isWord_0 18 rfl rfl)
theorem dX4_isWord_21 : decode cX4_isWord 21 = .ok (.ifCond .eq 35, 3) := dk_153 0 35 (dk_at dksX4_isWord_0 21 rfl rfl)
theorem dX4_isWord_24 : decode cX4_isWord 24 = .ok (.iload 5, 2) := dk_21 5 (dk_at dksX4_isWord_1 0 rfl rfl)
theorem dX4_isWord_26 : decode cX4_isWord 26 = .ok (.bipush 8, 2) := dk_16 8 (dk_at dksX4_isWord_1 2 rfl rfl)
theorem dX4_isWord_28 : decode cX4_isWord 28 = .ok (.if_icmp .ge 22, 3) := dk_162 0 22 (dk_at dksX4_isWord_1 4 rfl rfl)
theorem dX4_isWord_31 : decode cX4_isWord 31 = .ok (.lload_n 3, 1) := dk_33 (dk_at dksX4_isWord_1 7 rfl rfl)
theorem dX4_isWord_32 : decode cX4_isWord 32 = .ok (.bipush 8, 2) := dk_16 8 (dk_at dksX4_isWord_1 8 rfl rfl)
theorem dX4_isWord_34 : decode cX4_isWord 34 = .ok (.lshl, 1) := dk_121 (dk_at dksX4_isWord_1 10 rfl rfl)
theorem dX4_isWord_35 : decode cX4_isWord 35 = .ok (.aload_n 0, 1) := dk_42 (dk_at dksX4_isWord_1 11 rfl rfl)
theorem dX4_isWord_36 : decode cX4_isWord 36 = .ok (.getfield 7, 3) := dk_180 0 7 (dk_at dksX4_isWord_1 12 rfl rfl)
theorem dX4_isWord_39 : decode cX4_isWord 39 = .ok (.aload_n 0, 1) := dk_42 (dk_at dksX4_isWord_1 15 rfl rfl)
theorem dX4_isWord_40 : decode cX4_isWord 40 = .ok (.getfield 96, 3) := dk_180 0 96 (dk_at dksX4_isWord_1 16 rfl rfl)
theorem dX4_isWord_43 : decode cX4_isWord 43 = .ok (.iload 5, 2) := dk_21 5 (dk_at dksX4_isWord_1 19 rfl rfl)
theorem dX4_isWord_45 : decode cX4_isWord 45 = .ok (.iadd, 1) := dk_96 (dk_at dksX4_isWord_1 21 rfl rfl)
theorem dX4_isWord_46 : decode cX4_isWord 46 = .ok (.baload, 1) := dk_51 (dk_at dksX4_isWord_1 22 rfl rfl)
theorem dX4_isWord_47 : decode cX4_isWord 47 = .ok (.i2l, 1) := dk_133 (dk_at dksX4_isWord_1 23 rfl rfl)
theorem dX4_isWord_48 : decode cX4_isWord 48 = .ok (.lor, 1) := dk_129 (dk_at dksX4_isWord_2 0 rfl rfl)
theorem dX4_isWord_49 : decode cX4_isWord 49 = .ok (.lstore_n 3, 1) := dk_66 (dk_at dksX4_isWord_2 1 rfl rfl)
theorem dX4_isWord_50 : decode cX4_isWord 50 = .ok (.iinc 5 1, 3) := dk_132 5 1 (dk_at dksX4_isWord_2 2 rfl rfl)
theorem dX4_isWord_53 : decode cX4_isWord 53 = .ok (.goto (-43), 3) := dk_167 255 213 (dk_at dksX4_isWord_2 5 rfl rfl)
theorem dX4_isWord_56 : decode cX4_isWord 56 = .ok (.iload 5, 2) := dk_21 5 (dk_at dksX4_isWord_2 8 rfl rfl)
theorem dX4_isWord_58 : decode cX4_isWord 58 = .ok (.ifCond .le 20, 3) := dk_158 0 20 (dk_at dksX4_isWord_2 10 rfl rfl)
theorem dX4_isWord_61 : decode cX4_isWord 61 = .ok (.iload 5, 2) := dk_21 5 (dk_at dksX4_isWord_2 13 rfl rfl)
theorem dX4_isWord_63 : decode cX4_isWord 63 = .ok (.bipush 8, 2) := dk_16 8 (dk_at dksX4_isWord_2 15 rfl rfl)
theorem dX4_isWord_65 : decode cX4_isWord 65 = .ok (.if_icmp .ge 13, 3) := dk_162 0 13 (dk_at dksX4_isWord_2 17 rfl rfl)
theorem dX4_isWord_68 : decode cX4_isWord 68 = .ok (.lload_n 3, 1) := dk_33 (dk_at dksX4_isWord_2 20 rfl rfl)
theorem dX4_isWord_69 : decode cX4_isWord 69 = .ok (.lload_n 1, 1) := dk_31 (dk_at dksX4_isWord_2 21 rfl rfl)
theorem dX4_isWord_70 : decode cX4_isWord 70 = .ok (.lcmp, 1) := dk_148 (dk_at dksX4_isWord_2 22 rfl rfl)
theorem dX4_isWord_71 : decode cX4_isWord 71 = .ok (.ifCond .ne 7, 3) := dk_154 0 7 (dk_at dksX4_isWord_3 0 rfl rfl)
theorem dX4_isWord_74 : decode cX4_isWord 74 = .ok (.iconst 1, 1) := dk_4 (dk_at dksX4_isWord_3 3 rfl rfl)
theorem dX4_isWord_75 : decode cX4_isWord 75 = .ok (.goto 4, 3) := dk_167 0 4 (dk_at dksX4_isWord_3 4 rfl rfl)
theorem dX4_isWord_78 : decode cX4_isWord 78 = .ok (.iconst 0, 1) := dk_3 (dk_at dksX4_isWord_3 7 rfl rfl)
theorem dX4_isWord_79 : decode cX4_isWord 79 = .ok (.ireturn, 1) := dk_172 (dk_at dksX4_isWord_3 8 rfl rfl)
abbrev cX4_isLetter : ByteArray := prog_19_method_9_code
def yX4_isLetter : MethodName := ⟨RX4, "isLetter", "(I)Z"⟩
def dkwX4_isLetter_1 : List UInt8 := [51, 16, 122, 163, 0, 7, 4, 167, 0, 4, 3, 172]
abbrev dktX4_isLetter_1 : List UInt8 := dkwX4_isLetter_1 ++ []
def dkwX4_isLetter_0 : List UInt8 := [27, 42, 180, 0, 86, 162, 0, 29, 42, 180, 0, 7, 27, 51, 16, 97, 161, 0, 18, 42, 180, 0, 7, 27]
abbrev dktX4_isLetter_0 : List UInt8 := dkwX4_isLetter_0 ++ dktX4_isLetter_1
theorem dksX4_isLetter_0 : cX4_isLetter.data.toList.drop 0 = dktX4_isLetter_0 := by decide +kernel
theorem dksX4_isLetter_1 : cX4_isLetter.data.toList.drop 24 = dktX4_isLetter_1 := dk_seg dksX4_isLetter_0 24 rfl rfl
theorem dX4_isLetter_0 : decode cX4_isLetter 0 = .ok (.iload_n 1, 1) := dk_27 (dk_at dksX4_isLetter_0 0 rfl rfl)
theorem dX4_isLetter_1 : decode cX4_isLetter 1 = .ok (.aload_n 0, 1) := dk_42 (dk_at dksX4_isLetter_0 1 rfl rfl)
theorem dX4_isLetter_2 : decode cX4_isLetter 2 = .ok (.getfield 86, 3) := dk_180 0 86 (dk_at dksX4_isLetter_0 2 rfl rfl)
theorem dX4_isLetter_5 : decode cX4_isLetter 5 = .ok (.if_icmp .ge 29, 3) := dk_162 0 29 (dk_at dksX4_isLetter_0 5 rfl rfl)
theorem dX4_isLetter_8 : decode cX4_isLetter 8 = .ok (.aload_n 0, 1) := dk_42 (dk_at dksX4_isLetter_0 8 rfl rfl)
theorem dX4_isLetter_9 : decode cX4_isLetter 9 = .ok (.getfield 7, 3) := dk_180 0 7 (dk_at dksX4_isLetter_0 9 rfl rfl)
theorem dX4_isLetter_12 : decode cX4_isLetter 12 = .ok (.iload_n 1, 1) := dk_27 (dk_at dksX4_isLetter_0 12 rfl rfl)
theorem dX4_isLetter_13 : decode cX4_isLetter 13 = .ok (.baload, 1) := dk_51 (dk_at dksX4_isLetter_0 13 rfl rfl)
theorem dX4_isLetter_14 : decode cX4_isLetter 14 = .ok (.bipush 97, 2) := dk_16 97 (dk_at dksX4_isLetter_0 14 rfl rfl)
theorem dX4_isLetter_16 : decode cX4_isLetter 16 = .ok (.if_icmp .lt 18, 3) := dk_161 0 18 (dk_at dksX4_isLetter_0 16 rfl rfl)
theorem dX4_isLetter_19 : decode cX4_isLetter 19 = .ok (.aload_n 0, 1) := dk_42 (dk_at dksX4_isLetter_0 19 rfl rfl)
theorem dX4_isLetter_20 : decode cX4_isLetter 20 = .ok (.getfield 7, 3) := dk_180 0 7 (dk_at dksX4_isLetter_0 20 rfl rfl)
theorem dX4_isLetter_23 : decode cX4_isLetter 23 = .ok (.iload_n 1, 1) := dk_27 (dk_at dksX4_isLetter_0 23 rfl rfl)
theorem dX4_isLetter_24 : decode cX4_isLetter 24 = .ok (.baload, 1) := dk_51 (dk_at dksX4_isLetter_1 0 rfl rfl)
theorem dX4_isLetter_25 : decode cX4_isLetter 25 = .ok (.bipush 122, 2) := dk_16 122 (dk_at dksX4_isLetter_1 1 rfl rfl)
theorem dX4_isLetter_27 : decode cX4_isLetter 27 = .ok (.if_icmp .gt 7, 3) := dk_163 0 7 (dk_at dksX4_isLetter_1 3 rfl rfl)
theorem dX4_isLetter_30 : decode cX4_isLetter 30 = .ok (.iconst 1, 1) := dk_4 (dk_at dksX4_isLetter_1 6 rfl rfl)
theorem dX4_isLetter_31 : decode cX4_isLetter 31 = .ok (.goto 4, 3) := dk_167 0 4 (dk_at dksX4_isLetter_1 7 rfl rfl)
theorem dX4_isLetter_34 : decode cX4_isLetter 34 = .ok (.iconst 0, 1) := dk_3 (dk_at dksX4_isLetter_1 10 rfl rfl)
theorem dX4_isLetter_35 : decode cX4_isLetter 35 = .ok (.ireturn, 1) := dk_172 (dk_at dksX4_isLetter_1 11 rfl rfl)
abbrev cX4_fails : ByteArray := prog_19_method_6_code
def yX4_fails : MethodName := ⟨RX4, "fails", "(II)Z"⟩
def dkwX4_fails_0 : List UInt8 := [42, 180, 0, 93, 154, 0, 15, 42, 4, 16, 8, 28, 104, 96, 27, 96, 181, 0, 93, 3, 172]
abbrev dktX4_fails_0 : List UInt8 := dkwX4_fails_0 ++ []
theorem dksX4_fails_0 : cX4_fails.data.toList.drop 0 = dktX4_fails_0 := by decide +kernel
theorem dX4_fails_0 : decode cX4_fails 0 = .ok (.aload_n 0, 1) := dk_42 (dk_at dksX4_fails_0 0 rfl rfl)
theorem dX4_fails_1 : decode cX4_fails 1 = .ok (.getfield 93, 3) := dk_180 0 93 (dk_at dksX4_fails_0 1 rfl rfl)
theorem dX4_fails_4 : decode cX4_fails 4 = .ok (.ifCond .ne 15, 3) := dk_154 0 15 (dk_at dksX4_fails_0 4 rfl rfl)
theorem dX4_fails_7 : decode cX4_fails 7 = .ok (.aload_n 0, 1) := dk_42 (dk_at dksX4_fails_0 7 rfl rfl)
theorem dX4_fails_8 : decode cX4_fails 8 = .ok (.iconst 1, 1) := dk_4 (dk_at dksX4_fails_0 8 rfl rfl)
theorem dX4_fails_9 : decode cX4_fails 9 = .ok (.bipush 8, 2) := dk_16 8 (dk_at dksX4_fails_0 9 rfl rfl)
theorem dX4_fails_11 : decode cX4_fails 11 = .ok (.iload_n 2, 1) := dk_28 (dk_at dksX4_fails_0 11 rfl rfl)
theorem dX4_fails_12 : decode cX4_fails 12 = .ok (.imul, 1) := dk_104 (dk_at dksX4_fails_0 12 rfl rfl)
theorem dX4_fails_13 : decode cX4_fails 13 = .ok (.iadd, 1) := dk_96 (dk_at dksX4_fails_0 13 rfl rfl)
theorem dX4_fails_14 : decode cX4_fails 14 = .ok (.iload_n 1, 1) := dk_27 (dk_at dksX4_fails_0 14 rfl rfl)
theorem dX4_fails_15 : decode cX4_fails 15 = .ok (.iadd, 1) := dk_96 (dk_at dksX4_fails_0 15 rfl rfl)
theorem dX4_fails_16 : decode cX4_fails 16 = .ok (.putfield 93, 3) := dk_181 0 93 (dk_at dksX4_fails_0 16 rfl rfl)
theorem dX4_fails_19 : decode cX4_fails 19 = .ok (.iconst 0, 1) := dk_3 (dk_at dksX4_fails_0 19 rfl rfl)
theorem dX4_fails_20 : decode cX4_fails 20 = .ok (.ireturn, 1) := dk_172 (dk_at dksX4_fails_0 20 rfl rfl)
abbrev cX4_sheetLineHere : ByteArray := prog_19_method_35_code
def yX4_sheetLineHere : MethodName := ⟨RX4, "sheetLineHere", "(I)Z"⟩
def dkwX4_sheetLineHere_3 : List UInt8 := [182, 0, 242, 172]
abbrev dktX4_sheetLineHere_3 : List UInt8 := dkwX4_sheetLineHere_3 ++ []
def dkwX4_sheetLineHere_2 : List UInt8 := [182, 0, 234, 172, 42, 20, 0, 237, 182, 0, 107, 153, 0, 10, 42, 182, 0, 239, 167, 0, 7, 42]
abbrev dktX4_sheetLineHere_2 : List UInt8 := dkwX4_sheetLineHere_2 ++ dktX4_sheetLineHere_3
def dkwX4_sheetLineHere_1 : List UInt8 := [154, 0, 10, 42, 7, 27, 182, 0, 117, 172, 42, 20, 0, 128, 182, 0, 107, 153, 0, 9, 42, 27]
abbrev dktX4_sheetLineHere_1 : List UInt8 := dkwX4_sheetLineHere_1 ++ dktX4_sheetLineHere_2
def dkwX4_sheetLineHere_0 : List UInt8 := [42, 20, 0, 229, 182, 0, 107, 153, 0, 9, 42, 27, 182, 0, 231, 172, 42, 180, 0, 26, 3, 46]
abbrev dktX4_sheetLineHere_0 : List UInt8 := dkwX4_sheetLineHere_0 ++ dktX4_sheetLineHere_1
theorem dksX4_sheetLineHere_0 : cX4_sheetLineHere.data.toList.drop 0 = dktX4_sheetLineHere_0 := by decide +kernel
theorem dksX4_sheetLineHere_1 : cX4_sheetLineHere.data.toList.drop 22 = dktX4_sheetLineHere_1 := dk_seg dksX4_sheetLineHere_0 22 rfl rfl
theorem dksX4_sheetLineHere_2 : cX4_sheetLineHere.data.toList.drop 44 = dktX4_sheetLineHere_2 := dk_seg dksX4_sheetLineHere_1 22 rfl rfl
theorem dksX4_sheetLineHere_3 : cX4_sheetLineHere.data.toList.drop 66 = dktX4_sheetLineHere_3 := dk_seg dksX4_sheetLineHere_2 22 rfl rfl
theorem dX4_sheetLineHere_0 : decode cX4_sheetLineHere 0 = .ok (.aload_n 0, 1) := dk_42 (dk_at dksX4_sheetLineHere_0 0 rfl rfl)
theorem dX4_sheetLineHere_1 : decode cX4_sheetLineHere 1 = .ok (.ldc2_w 229, 3) := dk_20 0 229 (dk_at dksX4_sheetLineHere_0 1 rfl rfl)
theorem dX4_sheetLineHere_4 : decode cX4_sheetLineHere 4 = .ok (.invokevirtual 107, 3) := dk_182 0 107 (dk_at dksX4_sheetLineHere_0 4 rfl rfl)
theorem dX4_sheetLineHere_7 : decode cX4_sheetLineHere 7 = .ok (.ifCond .eq 9, 3) := dk_153 0 9 (dk_at dksX4_sheetLineHere_0 7 rfl rfl)
theorem dX4_sheetLineHere_10 : decode cX4_sheetLineHere 10 = .ok (.aload_n 0, 1) := dk_42 (dk_at dksX4_sheetLineHere_0 10 rfl rfl)
theorem dX4_sheetLineHere_11 : decode cX4_sheetLineHere 11 = .ok (.iload_n 1, 1) := dk_27 (dk_at dksX4_sheetLineHere_0 11 rfl rfl)
theorem dX4_sheetLineHere_12 : decode cX4_sheetLineHere 12 = .ok (.invokevirtual 231, 3) := dk_182 0 231 (dk_at dksX4_sheetLineHere_0 12 rfl rfl)
theorem dX4_sheetLineHere_15 : decode cX4_sheetLineHere 15 = .ok (.ireturn, 1) := dk_172 (dk_at dksX4_sheetLineHere_0 15 rfl rfl)
theorem dX4_sheetLineHere_16 : decode cX4_sheetLineHere 16 = .ok (.aload_n 0, 1) := dk_42 (dk_at dksX4_sheetLineHere_0 16 rfl rfl)
theorem dX4_sheetLineHere_17 : decode cX4_sheetLineHere 17 = .ok (.getfield 26, 3) := dk_180 0 26 (dk_at dksX4_sheetLineHere_0 17 rfl rfl)
theorem dX4_sheetLineHere_20 : decode cX4_sheetLineHere 20 = .ok (.iconst 0, 1) := dk_3 (dk_at dksX4_sheetLineHere_0 20 rfl rfl)
theorem dX4_sheetLineHere_21 : decode cX4_sheetLineHere 21 = .ok (.iaload, 1) := dk_46 (dk_at dksX4_sheetLineHere_0 21 rfl rfl)
theorem dX4_sheetLineHere_22 : decode cX4_sheetLineHere 22 = .ok (.ifCond .ne 10, 3) := dk_154 0 10 (dk_at dksX4_sheetLineHere_1 0 rfl rfl)
theorem dX4_sheetLineHere_25 : decode cX4_sheetLineHere 25 = .ok (.aload_n 0, 1) := dk_42 (dk_at dksX4_sheetLineHere_1 3 rfl rfl)
theorem dX4_sheetLineHere_26 : decode cX4_sheetLineHere 26 = .ok (.iconst 4, 1) := dk_7 (dk_at dksX4_sheetLineHere_1 4 rfl rfl)
theorem dX4_sheetLineHere_27 : decode cX4_sheetLineHere 27 = .ok (.iload_n 1, 1) := dk_27 (dk_at dksX4_sheetLineHere_1 5 rfl rfl)
theorem dX4_sheetLineHere_28 : decode cX4_sheetLineHere 28 = .ok (.invokevirtual 117, 3) := dk_182 0 117 (dk_at dksX4_sheetLineHere_1 6 rfl rfl)
theorem dX4_sheetLineHere_31 : decode cX4_sheetLineHere 31 = .ok (.ireturn, 1) := dk_172 (dk_at dksX4_sheetLineHere_1 9 rfl rfl)
theorem dX4_sheetLineHere_32 : decode cX4_sheetLineHere 32 = .ok (.aload_n 0, 1) := dk_42 (dk_at dksX4_sheetLineHere_1 10 rfl rfl)
theorem dX4_sheetLineHere_33 : decode cX4_sheetLineHere 33 = .ok (.ldc2_w 128, 3) := dk_20 0 128 (dk_at dksX4_sheetLineHere_1 11 rfl rfl)
theorem dX4_sheetLineHere_36 : decode cX4_sheetLineHere 36 = .ok (.invokevirtual 107, 3) := dk_182 0 107 (dk_at dksX4_sheetLineHere_1 14 rfl rfl)
theorem dX4_sheetLineHere_39 : decode cX4_sheetLineHere 39 = .ok (.ifCond .eq 9, 3) := dk_153 0 9 (dk_at dksX4_sheetLineHere_1 17 rfl rfl)
theorem dX4_sheetLineHere_42 : decode cX4_sheetLineHere 42 = .ok (.aload_n 0, 1) := dk_42 (dk_at dksX4_sheetLineHere_1 20 rfl rfl)
theorem dX4_sheetLineHere_43 : decode cX4_sheetLineHere 43 = .ok (.iload_n 1, 1) := dk_27 (dk_at dksX4_sheetLineHere_1 21 rfl rfl)
theorem dX4_sheetLineHere_44 : decode cX4_sheetLineHere 44 = .ok (.invokevirtual 234, 3) := dk_182 0 234 (dk_at dksX4_sheetLineHere_2 0 rfl rfl)
theorem dX4_sheetLineHere_47 : decode cX4_sheetLineHere 47 = .ok (.ireturn, 1) := dk_172 (dk_at dksX4_sheetLineHere_2 3 rfl rfl)
theorem dX4_sheetLineHere_48 : decode cX4_sheetLineHere 48 = .ok (.aload_n 0, 1) := dk_42 (dk_at dksX4_sheetLineHere_2 4 rfl rfl)
theorem dX4_sheetLineHere_49 : decode cX4_sheetLineHere 49 = .ok (.ldc2_w 237, 3) := dk_20 0 237 (dk_at dksX4_sheetLineHere_2 5 rfl rfl)
theorem dX4_sheetLineHere_52 : decode cX4_sheetLineHere 52 = .ok (.invokevirtual 107, 3) := dk_182 0 107 (dk_at dksX4_sheetLineHere_2 8 rfl rfl)
theorem dX4_sheetLineHere_55 : decode cX4_sheetLineHere 55 = .ok (.ifCond .eq 10, 3) := dk_153 0 10 (dk_at dksX4_sheetLineHere_2 11 rfl rfl)
theorem dX4_sheetLineHere_58 : decode cX4_sheetLineHere 58 = .ok (.aload_n 0, 1) := dk_42 (dk_at dksX4_sheetLineHere_2 14 rfl rfl)
theorem dX4_sheetLineHere_59 : decode cX4_sheetLineHere 59 = .ok (.invokevirtual 239, 3) := dk_182 0 239 (dk_at dksX4_sheetLineHere_2 15 rfl rfl)
theorem dX4_sheetLineHere_62 : decode cX4_sheetLineHere 62 = .ok (.goto 7, 3) := dk_167 0 7 (dk_at dksX4_sheetLineHere_2 18 rfl rfl)
theorem dX4_sheetLineHere_65 : decode cX4_sheetLineHere 65 = .ok (.aload_n 0, 1) := dk_42 (dk_at dksX4_sheetLineHere_2 21 rfl rfl)
theorem dX4_sheetLineHere_66 : decode cX4_sheetLineHere 66 = .ok (.invokevirtual 242, 3) := dk_182 0 242 (dk_at dksX4_sheetLineHere_3 0 rfl rfl)
theorem dX4_sheetLineHere_69 : decode cX4_sheetLineHere 69 = .ok (.ireturn, 1) := dk_172 (dk_at dksX4_sheetLineHere_3 3 rfl rfl)
abbrev cX4_isSheetHere : ByteArray := prog_19_method_31_code
def yX4_isSheetHere : MethodName := ⟨RX4, "isSheetHere", "(I)Z"⟩
def dkwX4_isSheetHere_1 : List UInt8 := [16, 6, 182, 0, 222, 154, 0, 5, 3, 172, 42, 180, 0, 26, 3, 4, 79, 4, 172]
abbrev dktX4_isSheetHere_1 : List UInt8 := dkwX4_isSheetHere_1 ++ []
def dkwX4_isSheetHere_0 : List UInt8 := [42, 180, 0, 26, 3, 46, 158, 0, 10, 42, 7, 27, 182, 0, 117, 172, 42, 182, 0, 111, 42, 4, 5]
abbrev dktX4_isSheetHere_0 : List UInt8 := dkwX4_isSheetHere_0 ++ dktX4_isSheetHere_1
theorem dksX4_isSheetHere_0 : cX4_isSheetHere.data.toList.drop 0 = dktX4_isSheetHere_0 := by decide +kernel
theorem dksX4_isSheetHere_1 : cX4_isSheetHere.data.toList.drop 23 = dktX4_isSheetHere_1 := dk_seg dksX4_isSheetHere_0 23 rfl rfl
theorem dX4_isSheetHere_0 : decode cX4_isSheetHere 0 = .ok (.aload_n 0, 1) := dk_42 (dk_at dksX4_isSheetHere_0 0 rfl rfl)
theorem dX4_isSheetHere_1 : decode cX4_isSheetHere 1 = .ok (.getfield 26, 3) := dk_180 0 26 (dk_at dksX4_isSheetHere_0 1 rfl rfl)
theorem dX4_isSheetHere_4 : decode cX4_isSheetHere 4 = .ok (.iconst 0, 1) := dk_3 (dk_at dksX4_isSheetHere_0 4 rfl rfl)
theorem dX4_isSheetHere_5 : decode cX4_isSheetHere 5 = .ok (.iaload, 1) := dk_46 (dk_at dksX4_isSheetHere_0 5 rfl rfl)
theorem dX4_isSheetHere_6 : decode cX4_isSheetHere 6 = .ok (.ifCond .le 10, 3) := dk_158 0 10 (dk_at dksX4_isSheetHere_0 6 rfl rfl)
theorem dX4_isSheetHere_9 : decode cX4_isSheetHere 9 = .ok (.aload_n 0, 1) := dk_42 (dk_at dksX4_isSheetHere_0 9 rfl rfl)
theorem dX4_isSheetHere_10 : decode cX4_isSheetHere 10 = .ok (.iconst 4, 1) := dk_7 (dk_at dksX4_isSheetHere_0 10 rfl rfl)
theorem dX4_isSheetHere_11 : decode cX4_isSheetHere 11 = .ok (.iload_n 1, 1) := dk_27 (dk_at dksX4_isSheetHere_0 11 rfl rfl)
theorem dX4_isSheetHere_12 : decode cX4_isSheetHere 12 = .ok (.invokevirtual 117, 3) := dk_182 0 117 (dk_at dksX4_isSheetHere_0 12 rfl rfl)
theorem dX4_isSheetHere_15 : decode cX4_isSheetHere 15 = .ok (.ireturn, 1) := dk_172 (dk_at dksX4_isSheetHere_0 15 rfl rfl)
theorem dX4_isSheetHere_16 : decode cX4_isSheetHere 16 = .ok (.aload_n 0, 1) := dk_42 (dk_at dksX4_isSheetHere_0 16 rfl rfl)
theorem dX4_isSheetHere_17 : decode cX4_isSheetHere 17 = .ok (.invokevirtual 111, 3) := dk_182 0 111 (dk_at dksX4_isSheetHere_0 17 rfl rfl)
theorem dX4_isSheetHere_20 : decode cX4_isSheetHere 20 = .ok (.aload_n 0, 1) := dk_42 (dk_at dksX4_isSheetHere_0 20 rfl rfl)
theorem dX4_isSheetHere_21 : decode cX4_isSheetHere 21 = .ok (.iconst 1, 1) := dk_4 (dk_at dksX4_isSheetHere_0 21 rfl rfl)
theorem dX4_isSheetHere_22 : decode cX4_isSheetHere 22 = .ok (.iconst 2, 1) := dk_5 (dk_at dksX4_isSheetHere_0 22 rfl rfl)
theorem dX4_isSheetHere_23 : decode cX4_isSheetHere 23 = .ok (.bipush 6, 2) := dk_16 6 (dk_at dksX4_isSheetHere_1 0 rfl rfl)
theorem dX4_isSheetHere_25 : decode cX4_isSheetHere 25 = .ok (.invokevirtual 222, 3) := dk_182 0 222 (dk_at dksX4_isSheetHere_1 2 rfl rfl)
theorem dX4_isSheetHere_28 : decode cX4_isSheetHere 28 = .ok (.ifCond .ne 5, 3) := dk_154 0 5 (dk_at dksX4_isSheetHere_1 5 rfl rfl)
theorem dX4_isSheetHere_31 : decode cX4_isSheetHere 31 = .ok (.iconst 0, 1) := dk_3 (dk_at dksX4_isSheetHere_1 8 rfl rfl)
theorem dX4_isSheetHere_32 : decode cX4_isSheetHere 32 = .ok (.ireturn, 1) := dk_172 (dk_at dksX4_isSheetHere_1 9 rfl rfl)
theorem dX4_isSheetHere_33 : decode cX4_isSheetHere 33 = .ok (.aload_n 0, 1) := dk_42 (dk_at dksX4_isSheetHere_1 10 rfl rfl)
theorem dX4_isSheetHere_34 : decode cX4_isSheetHere 34 = .ok (.getfield 26, 3) := dk_180 0 26 (dk_at dksX4_isSheetHere_1 11 rfl rfl)
theorem dX4_isSheetHere_37 : decode cX4_isSheetHere 37 = .ok (.iconst 0, 1) := dk_3 (dk_at dksX4_isSheetHere_1 14 rfl rfl)
theorem dX4_isSheetHere_38 : decode cX4_isSheetHere 38 = .ok (.iconst 1, 1) := dk_4 (dk_at dksX4_isSheetHere_1 15 rfl rfl)
theorem dX4_isSheetHere_39 : decode cX4_isSheetHere 39 = .ok (.iastore, 1) := dk_79 (dk_at dksX4_isSheetHere_1 16 rfl rfl)
theorem dX4_isSheetHere_40 : decode cX4_isSheetHere 40 = .ok (.iconst 1, 1) := dk_4 (dk_at dksX4_isSheetHere_1 17 rfl rfl)
theorem dX4_isSheetHere_41 : decode cX4_isSheetHere 41 = .ok (.ireturn, 1) := dk_172 (dk_at dksX4_isSheetHere_1 18 rfl rfl)
abbrev cX4_passWord : ByteArray := prog_19_method_11_code
def yX4_passWord : MethodName := ⟨RX4, "passWord", "()V"⟩
def dkwX4_passWord_1 : List UInt8 := [177]
abbrev dktX4_passWord_1 : List UInt8 := dkwX4_passWord_1 ++ []
def dkwX4_passWord_0 : List UInt8 := [42, 42, 180, 0, 96, 182, 0, 103, 153, 0, 16, 42, 89, 180, 0, 96, 4, 96, 181, 0, 96, 167, 255, 235]
abbrev dktX4_passWord_0 : List UInt8 := dkwX4_passWord_0 ++ dktX4_passWord_1
theorem dksX4_passWord_0 : cX4_passWord.data.toList.drop 0 = dktX4_passWord_0 := by decide +kernel
theorem dksX4_passWord_1 : cX4_passWord.data.toList.drop 24 = dktX4_passWord_1 := dk_seg dksX4_passWord_0 24 rfl rfl
theorem dX4_passWord_0 : decode cX4_passWord 0 = .ok (.aload_n 0, 1) := dk_42 (dk_at dksX4_passWord_0 0 rfl rfl)
theorem dX4_passWord_1 : decode cX4_passWord 1 = .ok (.aload_n 0, 1) := dk_42 (dk_at dksX4_passWord_0 1 rfl rfl)
theorem dX4_passWord_2 : decode cX4_passWord 2 = .ok (.getfield 96, 3) := dk_180 0 96 (dk_at dksX4_passWord_0 2 rfl rfl)
theorem dX4_passWord_5 : decode cX4_passWord 5 = .ok (.invokevirtual 103, 3) := dk_182 0 103 (dk_at dksX4_passWord_0 5 rfl rfl)
theorem dX4_passWord_8 : decode cX4_passWord 8 = .ok (.ifCond .eq 16, 3) := dk_153 0 16 (dk_at dksX4_passWord_0 8 rfl rfl)
theorem dX4_passWord_11 : decode cX4_passWord 11 = .ok (.aload_n 0, 1) := dk_42 (dk_at dksX4_passWord_0 11 rfl rfl)
theorem dX4_passWord_12 : decode cX4_passWord 12 = .ok (.dup, 1) := dk_89 (dk_at dksX4_passWord_0 12 rfl rfl)
theorem dX4_passWord_13 : decode cX4_passWord 13 = .ok (.getfield 96, 3) := dk_180 0 96 (dk_at dksX4_passWord_0 13 rfl rfl)
theorem dX4_passWord_16 : decode cX4_passWord 16 = .ok (.iconst 1, 1) := dk_4 (dk_at dksX4_passWord_0 16 rfl rfl)
theorem dX4_passWord_17 : decode cX4_passWord 17 = .ok (.iadd, 1) := dk_96 (dk_at dksX4_passWord_0 17 rfl rfl)
theorem dX4_passWord_18 : decode cX4_passWord 18 = .ok (.putfield 96, 3) := dk_181 0 96 (dk_at dksX4_passWord_0 18 rfl rfl)
theorem dX4_passWord_21 : decode cX4_passWord 21 = .ok (.goto (-21), 3) := dk_167 255 235 (dk_at dksX4_passWord_0 21 rfl rfl)
theorem dX4_passWord_24 : decode cX4_passWord 24 = .ok (.return_, 1) := dk_177 (dk_at dksX4_passWord_1 0 rfl rfl)
abbrev cX4_cellHere : ByteArray := prog_19_method_29_code
def yX4_cellHere : MethodName := ⟨RX4, "cellHere", "(III)Z"⟩
def dkwX4_cellHere_0 : List UInt8 := [42, 28, 29, 182, 0, 171, 154, 0, 5, 3, 172, 42, 180, 0, 26, 27, 42, 180, 0, 121, 79, 4, 172]
abbrev dktX4_cellHere_0 : List UInt8 := dkwX4_cellHere_0 ++ []
theorem dksX4_cellHere_0 : cX4_cellHere.data.toList.drop 0 = dktX4_cellHere_0 := by decide +kernel
theorem dX4_cellHere_0 : decode cX4_cellHere 0 = .ok (.aload_n 0, 1) := dk_42 (dk_at dksX4_cellHere_0 0 rfl rfl)
theorem dX4_cellHere_1 : decode cX4_cellHere 1 = .ok (.iload_n 2, 1) := dk_28 (dk_at dksX4_cellHere_0 1 rfl rfl)
theorem dX4_cellHere_2 : decode cX4_cellHere 2 = .ok (.iload_n 3, 1) := dk_29 (dk_at dksX4_cellHere_0 2 rfl rfl)
theorem dX4_cellHere_3 : decode cX4_cellHere 3 = .ok (.invokevirtual 171, 3) := dk_182 0 171 (dk_at dksX4_cellHere_0 3 rfl rfl)
theorem dX4_cellHere_6 : decode cX4_cellHere 6 = .ok (.ifCond .ne 5, 3) := dk_154 0 5 (dk_at dksX4_cellHere_0 6 rfl rfl)
theorem dX4_cellHere_9 : decode cX4_cellHere 9 = .ok (.iconst 0, 1) := dk_3 (dk_at dksX4_cellHere_0 9 rfl rfl)
theorem dX4_cellHere_10 : decode cX4_cellHere 10 = .ok (.ireturn, 1) := dk_172 (dk_at dksX4_cellHere_0 10 rfl rfl)
theorem dX4_cellHere_11 : decode cX4_cellHere 11 = .ok (.aload_n 0, 1) := dk_42 (dk_at dksX4_cellHere_0 11 rfl rfl)
theorem dX4_cellHere_12 : decode cX4_cellHere 12 = .ok (.getfield 26, 3) := dk_180 0 26 (dk_at dksX4_cellHere_0 12 rfl rfl)
theorem dX4_cellHere_15 : decode cX4_cellHere 15 = .ok (.iload_n 1, 1) := dk_27 (dk_at dksX4_cellHere_0 15 rfl rfl)
theorem dX4_cellHere_16 : decode cX4_cellHere 16 = .ok (.aload_n 0, 1) := dk_42 (dk_at dksX4_cellHere_0 16 rfl rfl)
theorem dX4_cellHere_17 : decode cX4_cellHere 17 = .ok (.getfield 121, 3) := dk_180 0 121 (dk_at dksX4_cellHere_0 17 rfl rfl)
theorem dX4_cellHere_20 : decode cX4_cellHere 20 = .ok (.iastore, 1) := dk_79 (dk_at dksX4_cellHere_0 20 rfl rfl)
theorem dX4_cellHere_21 : decode cX4_cellHere 21 = .ok (.iconst 1, 1) := dk_4 (dk_at dksX4_cellHere_0 21 rfl rfl)
theorem dX4_cellHere_22 : decode cX4_cellHere 22 = .ok (.ireturn, 1) := dk_172 (dk_at dksX4_cellHere_0 22 rfl rfl)
abbrev cX4_numberHere : ByteArray := prog_19_method_13_code
def yX4_numberHere : MethodName := ⟨RX4, "numberHere", "(II)Z"⟩
def dkwX4_numberHere_5 : List UInt8 := [4, 29, 182, 0, 117, 153, 0, 7, 4, 167, 0, 4, 3, 172]
abbrev dktX4_numberHere_5 : List UInt8 := dkwX4_numberHere_5 ++ []
def dkwX4_numberHere_4 : List UInt8 := [42, 180, 0, 96, 29, 100, 8, 163, 0, 16, 21, 4, 133, 27, 133, 28, 133, 184, 0, 124, 154, 0, 12, 42]
abbrev dktX4_numberHere_4 : List UInt8 := dkwX4_numberHere_4 ++ dktX4_numberHere_5
def dkwX4_numberHere_3 : List UInt8 := [16, 48, 100, 54, 4, 42, 89, 180, 0, 96, 4, 96, 181, 0, 96, 167, 255, 205, 42, 21, 4, 181, 0, 121]
abbrev dktX4_numberHere_3 : List UInt8 := dkwX4_numberHere_3 ++ dktX4_numberHere_4
def dkwX4_numberHere_2 : List UInt8 := [180, 0, 96, 29, 100, 8, 162, 0, 23, 16, 10, 21, 4, 104, 42, 180, 0, 7, 42, 180, 0, 96, 51, 96]
abbrev dktX4_numberHere_2 : List UInt8 := dkwX4_numberHere_2 ++ dktX4_numberHere_3
def dkwX4_numberHere_1 : List UInt8 := [182, 0, 117, 172, 42, 180, 0, 96, 62, 3, 54, 4, 42, 42, 180, 0, 96, 182, 0, 114, 153, 0, 46, 42]
abbrev dktX4_numberHere_1 : List UInt8 := dkwX4_numberHere_1 ++ dktX4_numberHere_2
def dkwX4_numberHere_0 : List UInt8 := [42, 182, 0, 99, 87, 42, 42, 180, 0, 96, 182, 0, 114, 154, 0, 13, 42, 3, 42, 180, 0, 96]
abbrev dktX4_numberHere_0 : List UInt8 := dkwX4_numberHere_0 ++ dktX4_numberHere_1
theorem dksX4_numberHere_0 : cX4_numberHere.data.toList.drop 0 = dktX4_numberHere_0 := by decide +kernel
theorem dksX4_numberHere_1 : cX4_numberHere.data.toList.drop 22 = dktX4_numberHere_1 := dk_seg dksX4_numberHere_0 22 rfl rfl
theorem dksX4_numberHere_2 : cX4_numberHere.data.toList.drop 46 = dktX4_numberHere_2 := dk_seg dksX4_numberHere_1 24 rfl rfl
theorem dksX4_numberHere_3 : cX4_numberHere.data.toList.drop 70 = dktX4_numberHere_3 := dk_seg dksX4_numberHere_2 24 rfl rfl
theorem dksX4_numberHere_4 : cX4_numberHere.data.toList.drop 94 = dktX4_numberHere_4 := dk_seg dksX4_numberHere_3 24 rfl rfl
theorem dksX4_numberHere_5 : cX4_numberHere.data.toList.drop 118 = dktX4_numberHere_5 := dk_seg dksX4_numberHere_4 24 rfl rfl
theorem dX4_numberHere_0 : decode cX4_numberHere 0 = .ok (.aload_n 0, 1) := dk_42 (dk_at dksX4_numberHere_0 0 rfl rfl)
theorem dX4_numberHere_1 : decode cX4_numberHere 1 = .ok (.invokevirtual 99, 3) := dk_182 0 99 (dk_at dksX4_numberHere_0 1 rfl rfl)
theorem dX4_numberHere_4 : decode cX4_numberHere 4 = .ok (.pop, 1) := dk_87 (dk_at dksX4_numberHere_0 4 rfl rfl)
theorem dX4_numberHere_5 : decode cX4_numberHere 5 = .ok (.aload_n 0, 1) := dk_42 (dk_at dksX4_numberHere_0 5 rfl rfl)
theorem dX4_numberHere_6 : decode cX4_numberHere 6 = .ok (.aload_n 0, 1) := dk_42 (dk_at dksX4_numberHere_0 6 rfl rfl)
theorem dX4_numberHere_7 : decode cX4_numberHere 7 = .ok (.getfield 96, 3) := dk_180 0 96 (dk_at dksX4_numberHere_0 7 rfl rfl)
theorem dX4_numberHere_10 : decode cX4_numberHere 10 = .ok (.invokevirtual 114, 3) := dk_182 0 114 (dk_at dksX4_numberHere_0 10 rfl rfl)
theorem dX4_numberHere_13 : decode cX4_numberHere 13 = .ok (.ifCond .ne 13, 3) := dk_154 0 13 (dk_at dksX4_numberHere_0 13 rfl rfl)
theorem dX4_numberHere_16 : decode cX4_numberHere 16 = .ok (.aload_n 0, 1) := dk_42 (dk_at dksX4_numberHere_0 16 rfl rfl)
theorem dX4_numberHere_17 : decode cX4_numberHere 17 = .ok (.iconst 0, 1) := dk_3 (dk_at dksX4_numberHere_0 17 rfl rfl)
theorem dX4_numberHere_18 : decode cX4_numberHere 18 = .ok (.aload_n 0, 1) := dk_42 (dk_at dksX4_numberHere_0 18 rfl rfl)
theorem dX4_numberHere_19 : decode cX4_numberHere 19 = .ok (.getfield 96, 3) := dk_180 0 96 (dk_at dksX4_numberHere_0 19 rfl rfl)
theorem dX4_numberHere_22 : decode cX4_numberHere 22 = .ok (.invokevirtual 117, 3) := dk_182 0 117 (dk_at dksX4_numberHere_1 0 rfl rfl)
theorem dX4_numberHere_25 : decode cX4_numberHere 25 = .ok (.ireturn, 1) := dk_172 (dk_at dksX4_numberHere_1 3 rfl rfl)
theorem dX4_numberHere_26 : decode cX4_numberHere 26 = .ok (.aload_n 0, 1) := dk_42 (dk_at dksX4_numberHere_1 4 rfl rfl)
theorem dX4_numberHere_27 : decode cX4_numberHere 27 = .ok (.getfield 96, 3) := dk_180 0 96 (dk_at dksX4_numberHere_1 5 rfl rfl)
theorem dX4_numberHere_30 : decode cX4_numberHere 30 = .ok (.istore_n 3, 1) := dk_62 (dk_at dksX4_numberHere_1 8 rfl rfl)
theorem dX4_numberHere_31 : decode cX4_numberHere 31 = .ok (.iconst 0, 1) := dk_3 (dk_at dksX4_numberHere_1 9 rfl rfl)
theorem dX4_numberHere_32 : decode cX4_numberHere 32 = .ok (.istore 4, 2) := dk_54 4 (dk_at dksX4_numberHere_1 10 rfl rfl)
theorem dX4_numberHere_34 : decode cX4_numberHere 34 = .ok (.aload_n 0, 1) := dk_42 (dk_at dksX4_numberHere_1 12 rfl rfl)
theorem dX4_numberHere_35 : decode cX4_numberHere 35 = .ok (.aload_n 0, 1) := dk_42 (dk_at dksX4_numberHere_1 13 rfl rfl)
theorem dX4_numberHere_36 : decode cX4_numberHere 36 = .ok (.getfield 96, 3) := dk_180 0 96 (dk_at dksX4_numberHere_1 14 rfl rfl)
theorem dX4_numberHere_39 : decode cX4_numberHere 39 = .ok (.invokevirtual 114, 3) := dk_182 0 114 (dk_at dksX4_numberHere_1 17 rfl rfl)
theorem dX4_numberHere_42 : decode cX4_numberHere 42 = .ok (.ifCond .eq 46, 3) := dk_153 0 46 (dk_at dksX4_numberHere_1 20 rfl rfl)
theorem dX4_numberHere_45 : decode cX4_numberHere 45 = .ok (.aload_n 0, 1) := dk_42 (dk_at dksX4_numberHere_1 23 rfl rfl)
theorem dX4_numberHere_46 : decode cX4_numberHere 46 = .ok (.getfield 96, 3) := dk_180 0 96 (dk_at dksX4_numberHere_2 0 rfl rfl)
theorem dX4_numberHere_49 : decode cX4_numberHere 49 = .ok (.iload_n 3, 1) := dk_29 (dk_at dksX4_numberHere_2 3 rfl rfl)
theorem dX4_numberHere_50 : decode cX4_numberHere 50 = .ok (.isub, 1) := dk_100 (dk_at dksX4_numberHere_2 4 rfl rfl)
theorem dX4_numberHere_51 : decode cX4_numberHere 51 = .ok (.iconst 5, 1) := dk_8 (dk_at dksX4_numberHere_2 5 rfl rfl)
theorem dX4_numberHere_52 : decode cX4_numberHere 52 = .ok (.if_icmp .ge 23, 3) := dk_162 0 23 (dk_at dksX4_numberHere_2 6 rfl rfl)
theorem dX4_numberHere_55 : decode cX4_numberHere 55 = .ok (.bipush 10, 2) := dk_16 10 (dk_at dksX4_numberHere_2 9 rfl rfl)
theorem dX4_numberHere_57 : decode cX4_numberHere 57 = .ok (.iload 4, 2) := dk_21 4 (dk_at dksX4_numberHere_2 11 rfl rfl)
theorem dX4_numberHere_59 : decode cX4_numberHere 59 = .ok (.imul, 1) := dk_104 (dk_at dksX4_numberHere_2 13 rfl rfl)
theorem dX4_numberHere_60 : decode cX4_numberHere 60 = .ok (.aload_n 0, 1) := dk_42 (dk_at dksX4_numberHere_2 14 rfl rfl)
theorem dX4_numberHere_61 : decode cX4_numberHere 61 = .ok (.getfield 7, 3) := dk_180 0 7 (dk_at dksX4_numberHere_2 15 rfl rfl)
theorem dX4_numberHere_64 : decode cX4_numberHere 64 = .ok (.aload_n 0, 1) := dk_42 (dk_at dksX4_numberHere_2 18 rfl rfl)
theorem dX4_numberHere_65 : decode cX4_numberHere 65 = .ok (.getfield 96, 3) := dk_180 0 96 (dk_at dksX4_numberHere_2 19 rfl rfl)
theorem dX4_numberHere_68 : decode cX4_numberHere 68 = .ok (.baload, 1) := dk_51 (dk_at dksX4_numberHere_2 22 rfl rfl)
theorem dX4_numberHere_69 : decode cX4_numberHere 69 = .ok (.iadd, 1) := dk_96 (dk_at dksX4_numberHere_2 23 rfl rfl)
theorem dX4_numberHere_70 : decode cX4_numberHere 70 = .ok (.bipush 48, 2) := dk_16 48 (dk_at dksX4_numberHere_3 0 rfl rfl)
theorem dX4_numberHere_72 : decode cX4_numberHere 72 = .ok (.isub, 1) := dk_100 (dk_at dksX4_numberHere_3 2 rfl rfl)
theorem dX4_numberHere_73 : decode cX4_numberHere 73 = .ok (.istore 4, 2) := dk_54 4 (dk_at dksX4_numberHere_3 3 rfl rfl)
theorem dX4_numberHere_75 : decode cX4_numberHere 75 = .ok (.aload_n 0, 1) := dk_42 (dk_at dksX4_numberHere_3 5 rfl rfl)
theorem dX4_numberHere_76 : decode cX4_numberHere 76 = .ok (.dup, 1) := dk_89 (dk_at dksX4_numberHere_3 6 rfl rfl)
theorem dX4_numberHere_77 : decode cX4_numberHere 77 = .ok (.getfield 96, 3) := dk_180 0 96 (dk_at dksX4_numberHere_3 7 rfl rfl)
theorem dX4_numberHere_80 : decode cX4_numberHere 80 = .ok (.iconst 1, 1) := dk_4 (dk_at dksX4_numberHere_3 10 rfl rfl)
theorem dX4_numberHere_81 : decode cX4_numberHere 81 = .ok (.iadd, 1) := dk_96 (dk_at dksX4_numberHere_3 11 rfl rfl)
theorem dX4_numberHere_82 : decode cX4_numberHere 82 = .ok (.putfield 96, 3) := dk_181 0 96 (dk_at dksX4_numberHere_3 12 rfl rfl)
theorem dX4_numberHere_85 : decode cX4_numberHere 85 = .ok (.goto (-51), 3) := dk_167 255 205 (dk_at dksX4_numberHere_3 15 rfl rfl)
theorem dX4_numberHere_88 : decode cX4_numberHere 88 = .ok (.aload_n 0, 1) := dk_42 (dk_at dksX4_numberHere_3 18 rfl rfl)
theorem dX4_numberHere_89 : decode cX4_numberHere 89 = .ok (.iload 4, 2) := dk_21 4 (dk_at dksX4_numberHere_3 19 rfl rfl)
theorem dX4_numberHere_91 : decode cX4_numberHere 91 = .ok (.putfield 121, 3) := dk_181 0 121 (dk_at dksX4_numberHere_3 21 rfl rfl)
theorem dX4_numberHere_94 : decode cX4_numberHere 94 = .ok (.aload_n 0, 1) := dk_42 (dk_at dksX4_numberHere_4 0 rfl rfl)
theorem dX4_numberHere_95 : decode cX4_numberHere 95 = .ok (.getfield 96, 3) := dk_180 0 96 (dk_at dksX4_numberHere_4 1 rfl rfl)
theorem dX4_numberHere_98 : decode cX4_numberHere 98 = .ok (.iload_n 3, 1) := dk_29 (dk_at dksX4_numberHere_4 4 rfl rfl)
theorem dX4_numberHere_99 : decode cX4_numberHere 99 = .ok (.isub, 1) := dk_100 (dk_at dksX4_numberHere_4 5 rfl rfl)
theorem dX4_numberHere_100 : decode cX4_numberHere 100 = .ok (.iconst 5, 1) := dk_8 (dk_at dksX4_numberHere_4 6 rfl rfl)
theorem dX4_numberHere_101 : decode cX4_numberHere 101 = .ok (.if_icmp .gt 16, 3) := dk_163 0 16 (dk_at dksX4_numberHere_4 7 rfl rfl)
theorem dX4_numberHere_104 : decode cX4_numberHere 104 = .ok (.iload 4, 2) := dk_21 4 (dk_at dksX4_numberHere_4 10 rfl rfl)
theorem dX4_numberHere_106 : decode cX4_numberHere 106 = .ok (.i2l, 1) := dk_133 (dk_at dksX4_numberHere_4 12 rfl rfl)
theorem dX4_numberHere_107 : decode cX4_numberHere 107 = .ok (.iload_n 1, 1) := dk_27 (dk_at dksX4_numberHere_4 13 rfl rfl)
theorem dX4_numberHere_108 : decode cX4_numberHere 108 = .ok (.i2l, 1) := dk_133 (dk_at dksX4_numberHere_4 14 rfl rfl)
theorem dX4_numberHere_109 : decode cX4_numberHere 109 = .ok (.iload_n 2, 1) := dk_28 (dk_at dksX4_numberHere_4 15 rfl rfl)
theorem dX4_numberHere_110 : decode cX4_numberHere 110 = .ok (.i2l, 1) := dk_133 (dk_at dksX4_numberHere_4 16 rfl rfl)
theorem dX4_numberHere_111 : decode cX4_numberHere 111 = .ok (.invokestatic 124, 3) := dk_184 0 124 (dk_at dksX4_numberHere_4 17 rfl rfl)
theorem dX4_numberHere_114 : decode cX4_numberHere 114 = .ok (.ifCond .ne 12, 3) := dk_154 0 12 (dk_at dksX4_numberHere_4 20 rfl rfl)
theorem dX4_numberHere_117 : decode cX4_numberHere 117 = .ok (.aload_n 0, 1) := dk_42 (dk_at dksX4_numberHere_4 23 rfl rfl)
theorem dX4_numberHere_118 : decode cX4_numberHere 118 = .ok (.iconst 1, 1) := dk_4 (dk_at dksX4_numberHere_5 0 rfl rfl)
theorem dX4_numberHere_119 : decode cX4_numberHere 119 = .ok (.iload_n 3, 1) := dk_29 (dk_at dksX4_numberHere_5 1 rfl rfl)
theorem dX4_numberHere_120 : decode cX4_numberHere 120 = .ok (.invokevirtual 117, 3) := dk_182 0 117 (dk_at dksX4_numberHere_5 2 rfl rfl)
theorem dX4_numberHere_123 : decode cX4_numberHere 123 = .ok (.ifCond .eq 7, 3) := dk_153 0 7 (dk_at dksX4_numberHere_5 5 rfl rfl)
theorem dX4_numberHere_126 : decode cX4_numberHere 126 = .ok (.iconst 1, 1) := dk_4 (dk_at dksX4_numberHere_5 8 rfl rfl)
theorem dX4_numberHere_127 : decode cX4_numberHere 127 = .ok (.goto 4, 3) := dk_167 0 4 (dk_at dksX4_numberHere_5 9 rfl rfl)
theorem dX4_numberHere_130 : decode cX4_numberHere 130 = .ok (.iconst 0, 1) := dk_3 (dk_at dksX4_numberHere_5 12 rfl rfl)
theorem dX4_numberHere_131 : decode cX4_numberHere 131 = .ok (.ireturn, 1) := dk_172 (dk_at dksX4_numberHere_5 13 rfl rfl)
abbrev cX4_isDigit : ByteArray := prog_19_method_8_code
def yX4_isDigit : MethodName := ⟨RX4, "isDigit", "(I)Z"⟩
def dkwX4_isDigit_1 : List UInt8 := [51, 16, 57, 163, 0, 7, 4, 167, 0, 4, 3, 172]
abbrev dktX4_isDigit_1 : List UInt8 := dkwX4_isDigit_1 ++ []
def dkwX4_isDigit_0 : List UInt8 := [27, 42, 180, 0, 86, 162, 0, 29, 42, 180, 0, 7, 27, 51, 16, 48, 161, 0, 18, 42, 180, 0, 7, 27]
abbrev dktX4_isDigit_0 : List UInt8 := dkwX4_isDigit_0 ++ dktX4_isDigit_1
theorem dksX4_isDigit_0 : cX4_isDigit.data.toList.drop 0 = dktX4_isDigit_0 := by decide +kernel
theorem dksX4_isDigit_1 : cX4_isDigit.data.toList.drop 24 = dktX4_isDigit_1 := dk_seg dksX4_isDigit_0 24 rfl rfl
theorem dX4_isDigit_0 : decode cX4_isDigit 0 = .ok (.iload_n 1, 1) := dk_27 (dk_at dksX4_isDigit_0 0 rfl rfl)
theorem dX4_isDigit_1 : decode cX4_isDigit 1 = .ok (.aload_n 0, 1) := dk_42 (dk_at dksX4_isDigit_0 1 rfl rfl)
theorem dX4_isDigit_2 : decode cX4_isDigit 2 = .ok (.getfield 86, 3) := dk_180 0 86 (dk_at dksX4_isDigit_0 2 rfl rfl)
theorem dX4_isDigit_5 : decode cX4_isDigit 5 = .ok (.if_icmp .ge 29, 3) := dk_162 0 29 (dk_at dksX4_isDigit_0 5 rfl rfl)
theorem dX4_isDigit_8 : decode cX4_isDigit 8 = .ok (.aload_n 0, 1) := dk_42 (dk_at dksX4_isDigit_0 8 rfl rfl)
theorem dX4_isDigit_9 : decode cX4_isDigit 9 = .ok (.getfield 7, 3) := dk_180 0 7 (dk_at dksX4_isDigit_0 9 rfl rfl)
theorem dX4_isDigit_12 : decode cX4_isDigit 12 = .ok (.iload_n 1, 1) := dk_27 (dk_at dksX4_isDigit_0 12 rfl rfl)
theorem dX4_isDigit_13 : decode cX4_isDigit 13 = .ok (.baload, 1) := dk_51 (dk_at dksX4_isDigit_0 13 rfl rfl)
theorem dX4_isDigit_14 : decode cX4_isDigit 14 = .ok (.bipush 48, 2) := dk_16 48 (dk_at dksX4_isDigit_0 14 rfl rfl)
theorem dX4_isDigit_16 : decode cX4_isDigit 16 = .ok (.if_icmp .lt 18, 3) := dk_161 0 18 (dk_at dksX4_isDigit_0 16 rfl rfl)
theorem dX4_isDigit_19 : decode cX4_isDigit 19 = .ok (.aload_n 0, 1) := dk_42 (dk_at dksX4_isDigit_0 19 rfl rfl)
theorem dX4_isDigit_20 : decode cX4_isDigit 20 = .ok (.getfield 7, 3) := dk_180 0 7 (dk_at dksX4_isDigit_0 20 rfl rfl)
theorem dX4_isDigit_23 : decode cX4_isDigit 23 = .ok (.iload_n 1, 1) := dk_27 (dk_at dksX4_isDigit_0 23 rfl rfl)
theorem dX4_isDigit_24 : decode cX4_isDigit 24 = .ok (.baload, 1) := dk_51 (dk_at dksX4_isDigit_1 0 rfl rfl)
theorem dX4_isDigit_25 : decode cX4_isDigit 25 = .ok (.bipush 57, 2) := dk_16 57 (dk_at dksX4_isDigit_1 1 rfl rfl)
theorem dX4_isDigit_27 : decode cX4_isDigit 27 = .ok (.if_icmp .gt 7, 3) := dk_163 0 7 (dk_at dksX4_isDigit_1 3 rfl rfl)
theorem dX4_isDigit_30 : decode cX4_isDigit 30 = .ok (.iconst 1, 1) := dk_4 (dk_at dksX4_isDigit_1 6 rfl rfl)
theorem dX4_isDigit_31 : decode cX4_isDigit 31 = .ok (.goto 4, 3) := dk_167 0 4 (dk_at dksX4_isDigit_1 7 rfl rfl)
theorem dX4_isDigit_34 : decode cX4_isDigit 34 = .ok (.iconst 0, 1) := dk_3 (dk_at dksX4_isDigit_1 10 rfl rfl)
theorem dX4_isDigit_35 : decode cX4_isDigit 35 = .ok (.ireturn, 1) := dk_172 (dk_at dksX4_isDigit_1 11 rfl rfl)
abbrev cX4_in : ByteArray := prog_19_method_2_code
def yX4_in : MethodName := ⟨RX4, "in", "(JJJ)Z"⟩
def dkwX4_in_0 : List UInt8 := [30, 32, 148, 155, 0, 14, 30, 22, 4, 148, 157, 0, 7, 4, 167, 0, 4, 3, 172]
abbrev dktX4_in_0 : List UInt8 := dkwX4_in_0 ++ []
theorem dksX4_in_0 : cX4_in.data.toList.drop 0 = dktX4_in_0 := by decide +kernel
theorem dX4_in_0 : decode cX4_in 0 = .ok (.lload_n 0, 1) := dk_30 (dk_at dksX4_in_0 0 rfl rfl)
theorem dX4_in_1 : decode cX4_in 1 = .ok (.lload_n 2, 1) := dk_32 (dk_at dksX4_in_0 1 rfl rfl)
theorem dX4_in_2 : decode cX4_in 2 = .ok (.lcmp, 1) := dk_148 (dk_at dksX4_in_0 2 rfl rfl)
theorem dX4_in_3 : decode cX4_in 3 = .ok (.ifCond .lt 14, 3) := dk_155 0 14 (dk_at dksX4_in_0 3 rfl rfl)
theorem dX4_in_6 : decode cX4_in 6 = .ok (.lload_n 0, 1) := dk_30 (dk_at dksX4_in_0 6 rfl rfl)
theorem dX4_in_7 : decode cX4_in 7 = .ok (.lload 4, 2) := dk_22 4 (dk_at dksX4_in_0 7 rfl rfl)
theorem dX4_in_9 : decode cX4_in 9 = .ok (.lcmp, 1) := dk_148 (dk_at dksX4_in_0 9 rfl rfl)
theorem dX4_in_10 : decode cX4_in 10 = .ok (.ifCond .gt 7, 3) := dk_157 0 7 (dk_at dksX4_in_0 10 rfl rfl)
theorem dX4_in_13 : decode cX4_in 13 = .ok (.iconst 1, 1) := dk_4 (dk_at dksX4_in_0 13 rfl rfl)
theorem dX4_in_14 : decode cX4_in 14 = .ok (.goto 4, 3) := dk_167 0 4 (dk_at dksX4_in_0 14 rfl rfl)
theorem dX4_in_17 : decode cX4_in 17 = .ok (.iconst 0, 1) := dk_3 (dk_at dksX4_in_0 17 rfl rfl)
theorem dX4_in_18 : decode cX4_in 18 = .ok (.ireturn, 1) := dk_172 (dk_at dksX4_in_0 18 rfl rfl)
abbrev cX4_isGoerHere : ByteArray := prog_19_method_32_code
def yX4_isGoerHere : MethodName := ⟨RX4, "isGoerHere", "(I)Z"⟩
def dkwX4_isGoerHere_3 : List UInt8 := [172, 42, 180, 0, 26, 5, 92, 46, 4, 96, 79, 4, 172]
abbrev dktX4_isGoerHere_3 : List UInt8 := dkwX4_isGoerHere_3 ++ []
def dkwX4_isGoerHere_2 : List UInt8 := [4, 96, 3, 6, 182, 0, 222, 153, 0, 16, 42, 28, 5, 96, 3, 16, 60, 182, 0, 222, 154, 0, 5, 3]
abbrev dktX4_isGoerHere_2 : List UInt8 := dkwX4_isGoerHere_2 ++ dktX4_isGoerHere_3
def dkwX4_isGoerHere_1 : List UInt8 := [42, 180, 0, 26, 5, 46, 104, 96, 61, 42, 28, 3, 42, 182, 0, 226, 182, 0, 222, 153, 0, 28, 42, 28]
abbrev dktX4_isGoerHere_1 : List UInt8 := dkwX4_isGoerHere_1 ++ dktX4_isGoerHere_2
def dkwX4_isGoerHere_0 : List UInt8 := [42, 180, 0, 26, 5, 46, 8, 160, 0, 10, 42, 7, 27, 182, 0, 117, 172, 42, 182, 0, 111, 16, 90, 6]
abbrev dktX4_isGoerHere_0 : List UInt8 := dkwX4_isGoerHere_0 ++ dktX4_isGoerHere_1
theorem dksX4_isGoerHere_0 : cX4_isGoerHere.data.toList.drop 0 = dktX4_isGoerHere_0 := by decide +kernel
theorem dksX4_isGoerHere_1 : cX4_isGoerHere.data.toList.drop 24 = dktX4_isGoerHere_1 := dk_seg dksX4_isGoerHere_0 24 rfl rfl
theorem dksX4_isGoerHere_2 : cX4_isGoerHere.data.toList.drop 48 = dktX4_isGoerHere_2 := dk_seg dksX4_isGoerHere_1 24 rfl rfl
theorem dksX4_isGoerHere_3 : cX4_isGoerHere.data.toList.drop 72 = dktX4_isGoerHere_3 := dk_seg dksX4_isGoerHere_2 24 rfl rfl
theorem dX4_isGoerHere_0 : decode cX4_isGoerHere 0 = .ok (.aload_n 0, 1) := dk_42 (dk_at dksX4_isGoerHere_0 0 rfl rfl)
theorem dX4_isGoerHere_1 : decode cX4_isGoerHere 1 = .ok (.getfield 26, 3) := dk_180 0 26 (dk_at dksX4_isGoerHere_0 1 rfl rfl)
theorem dX4_isGoerHere_4 : decode cX4_isGoerHere 4 = .ok (.iconst 2, 1) := dk_5 (dk_at dksX4_isGoerHere_0 4 rfl rfl)
theorem dX4_isGoerHere_5 : decode cX4_isGoerHere 5 = .ok (.iaload, 1) := dk_46 (dk_at dksX4_isGoerHere_0 5 rfl rfl)
theorem dX4_isGoerHere_6 : decode cX4_isGoerHere 6 = .ok (.iconst 5, 1) := dk_8 (dk_at dksX4_isGoerHere_0 6 rfl rfl)
theorem dX4_isGoerHere_7 : decode cX4_isGoerHere 7 = .ok (.if_icmp .ne 10, 3) := dk_160 0 10 (dk_at dksX4_isGoerHere_0 7 rfl rfl)
theorem dX4_isGoerHere_10 : decode cX4_isGoerHere 10 = .ok (.aload_n 0, 1) := dk_42 (dk_at dksX4_isGoerHere_0 10 rfl rfl)
theorem dX4_isGoerHere_11 : decode cX4_isGoerHere 11 = .ok (.iconst 4, 1) := dk_7 (dk_at dksX4_isGoerHere_0 11 rfl rfl)
theorem dX4_isGoerHere_12 : decode cX4_isGoerHere 12 = .ok (.iload_n 1, 1) := dk_27 (dk_at dksX4_isGoerHere_0 12 rfl rfl)
theorem dX4_isGoerHere_13 : decode cX4_isGoerHere 13 = .ok (.invokevirtual 117, 3) := dk_182 0 117 (dk_at dksX4_isGoerHere_0 13 rfl rfl)
theorem dX4_isGoerHere_16 : decode cX4_isGoerHere 16 = .ok (.ireturn, 1) := dk_172 (dk_at dksX4_isGoerHere_0 16 rfl rfl)
theorem dX4_isGoerHere_17 : decode cX4_isGoerHere 17 = .ok (.aload_n 0, 1) := dk_42 (dk_at dksX4_isGoerHere_0 17 rfl rfl)
theorem dX4_isGoerHere_18 : decode cX4_isGoerHere 18 = .ok (.invokevirtual 111, 3) := dk_182 0 111 (dk_at dksX4_isGoerHere_0 18 rfl rfl)
theorem dX4_isGoerHere_21 : decode cX4_isGoerHere 21 = .ok (.bipush 90, 2) := dk_16 90 (dk_at dksX4_isGoerHere_0 21 rfl rfl)
theorem dX4_isGoerHere_23 : decode cX4_isGoerHere 23 = .ok (.iconst 3, 1) := dk_6 (dk_at dksX4_isGoerHere_0 23 rfl rfl)
theorem dX4_isGoerHere_24 : decode cX4_isGoerHere 24 = .ok (.aload_n 0, 1) := dk_42 (dk_at dksX4_isGoerHere_1 0 rfl rfl)
theorem dX4_isGoerHere_25 : decode cX4_isGoerHere 25 = .ok (.getfield 26, 3) := dk_180 0 26 (dk_at dksX4_isGoerHere_1 1 rfl rfl)
theorem dX4_isGoerHere_28 : decode cX4_isGoerHere 28 = .ok (.iconst 2, 1) := dk_5 (dk_at dksX4_isGoerHere_1 4 rfl rfl)
theorem dX4_isGoerHere_29 : decode cX4_isGoerHere 29 = .ok (.iaload, 1) := dk_46 (dk_at dksX4_isGoerHere_1 5 rfl rfl)
theorem dX4_isGoerHere_30 : decode cX4_isGoerHere 30 = .ok (.imul, 1) := dk_104 (dk_at dksX4_isGoerHere_1 6 rfl rfl)
theorem dX4_isGoerHere_31 : decode cX4_isGoerHere 31 = .ok (.iadd, 1) := dk_96 (dk_at dksX4_isGoerHere_1 7 rfl rfl)
theorem dX4_isGoerHere_32 : decode cX4_isGoerHere 32 = .ok (.istore_n 2, 1) := dk_61 (dk_at dksX4_isGoerHere_1 8 rfl rfl)
theorem dX4_isGoerHere_33 : decode cX4_isGoerHere 33 = .ok (.aload_n 0, 1) := dk_42 (dk_at dksX4_isGoerHere_1 9 rfl rfl)
theorem dX4_isGoerHere_34 : decode cX4_isGoerHere 34 = .ok (.iload_n 2, 1) := dk_28 (dk_at dksX4_isGoerHere_1 10 rfl rfl)
theorem dX4_isGoerHere_35 : decode cX4_isGoerHere 35 = .ok (.iconst 0, 1) := dk_3 (dk_at dksX4_isGoerHere_1 11 rfl rfl)
theorem dX4_isGoerHere_36 : decode cX4_isGoerHere 36 = .ok (.aload_n 0, 1) := dk_42 (dk_at dksX4_isGoerHere_1 12 rfl rfl)
theorem dX4_isGoerHere_37 : decode cX4_isGoerHere 37 = .ok (.invokevirtual 226, 3) := dk_182 0 226 (dk_at dksX4_isGoerHere_1 13 rfl rfl)
theorem dX4_isGoerHere_40 : decode cX4_isGoerHere 40 = .ok (.invokevirtual 222, 3) := dk_182 0 222 (dk_at dksX4_isGoerHere_1 16 rfl rfl)
theorem dX4_isGoerHere_43 : decode cX4_isGoerHere 43 = .ok (.ifCond .eq 28, 3) := dk_153 0 28 (dk_at dksX4_isGoerHere_1 19 rfl rfl)
theorem dX4_isGoerHere_46 : decode cX4_isGoerHere 46 = .ok (.aload_n 0, 1) := dk_42 (dk_at dksX4_isGoerHere_1 22 rfl rfl)
theorem dX4_isGoerHere_47 : decode cX4_isGoerHere 47 = .ok (.iload_n 2, 1) := dk_28 (dk_at dksX4_isGoerHere_1 23 rfl rfl)
theorem dX4_isGoerHere_48 : decode cX4_isGoerHere 48 = .ok (.iconst 1, 1) := dk_4 (dk_at dksX4_isGoerHere_2 0 rfl rfl)
theorem dX4_isGoerHere_49 : decode cX4_isGoerHere 49 = .ok (.iadd, 1) := dk_96 (dk_at dksX4_isGoerHere_2 1 rfl rfl)
theorem dX4_isGoerHere_50 : decode cX4_isGoerHere 50 = .ok (.iconst 0, 1) := dk_3 (dk_at dksX4_isGoerHere_2 2 rfl rfl)
theorem dX4_isGoerHere_51 : decode cX4_isGoerHere 51 = .ok (.iconst 3, 1) := dk_6 (dk_at dksX4_isGoerHere_2 3 rfl rfl)
theorem dX4_isGoerHere_52 : decode cX4_isGoerHere 52 = .ok (.invokevirtual 222, 3) := dk_182 0 222 (dk_at dksX4_isGoerHere_2 4 rfl rfl)
theorem dX4_isGoerHere_55 : decode cX4_isGoerHere 55 = .ok (.ifCond .eq 16, 3) := dk_153 0 16 (dk_at dksX4_isGoerHere_2 7 rfl rfl)
theorem dX4_isGoerHere_58 : decode cX4_isGoerHere 58 = .ok (.aload_n 0, 1) := dk_42 (dk_at dksX4_isGoerHere_2 10 rfl rfl)
theorem dX4_isGoerHere_59 : decode cX4_isGoerHere 59 = .ok (.iload_n 2, 1) := dk_28 (dk_at dksX4_isGoerHere_2 11 rfl rfl)
theorem dX4_isGoerHere_60 : decode cX4_isGoerHere 60 = .ok (.iconst 2, 1) := dk_5 (dk_at dksX4_isGoerHere_2 12 rfl rfl)
theorem dX4_isGoerHere_61 : decode cX4_isGoerHere 61 = .ok (.iadd, 1) := dk_96 (dk_at dksX4_isGoerHere_2 13 rfl rfl)
theorem dX4_isGoerHere_62 : decode cX4_isGoerHere 62 = .ok (.iconst 0, 1) := dk_3 (dk_at dksX4_isGoerHere_2 14 rfl rfl)
theorem dX4_isGoerHere_63 : decode cX4_isGoerHere 63 = .ok (.bipush 60, 2) := dk_16 60 (dk_at dksX4_isGoerHere_2 15 rfl rfl)
theorem dX4_isGoerHere_65 : decode cX4_isGoerHere 65 = .ok (.invokevirtual 222, 3) := dk_182 0 222 (dk_at dksX4_isGoerHere_2 17 rfl rfl)
theorem dX4_isGoerHere_68 : decode cX4_isGoerHere 68 = .ok (.ifCond .ne 5, 3) := dk_154 0 5 (dk_at dksX4_isGoerHere_2 20 rfl rfl)
theorem dX4_isGoerHere_71 : decode cX4_isGoerHere 71 = .ok (.iconst 0, 1) := dk_3 (dk_at dksX4_isGoerHere_2 23 rfl rfl)
theorem dX4_isGoerHere_72 : decode cX4_isGoerHere 72 = .ok (.ireturn, 1) := dk_172 (dk_at dksX4_isGoerHere_3 0 rfl rfl)
theorem dX4_isGoerHere_73 : decode cX4_isGoerHere 73 = .ok (.aload_n 0, 1) := dk_42 (dk_at dksX4_isGoerHere_3 1 rfl rfl)
theorem dX4_isGoerHere_74 : decode cX4_isGoerHere 74 = .ok (.getfield 26, 3) := dk_180 0 26 (dk_at dksX4_isGoerHere_3 2 rfl rfl)
theorem dX4_isGoerHere_77 : decode cX4_isGoerHere 77 = .ok (.iconst 2, 1) := dk_5 (dk_at dksX4_isGoerHere_3 5 rfl rfl)
theorem dX4_isGoerHere_78 : decode cX4_isGoerHere 78 = .ok (.dup2, 1) := dk_92 (dk_at dksX4_isGoerHere_3 6 rfl rfl)
theorem dX4_isGoerHere_79 : decode cX4_isGoerHere 79 = .ok (.iaload, 1) := dk_46 (dk_at dksX4_isGoerHere_3 7 rfl rfl)
theorem dX4_isGoerHere_80 : decode cX4_isGoerHere 80 = .ok (.iconst 1, 1) := dk_4 (dk_at dksX4_isGoerHere_3 8 rfl rfl)
theorem dX4_isGoerHere_81 : decode cX4_isGoerHere 81 = .ok (.iadd, 1) := dk_96 (dk_at dksX4_isGoerHere_3 9 rfl rfl)
theorem dX4_isGoerHere_82 : decode cX4_isGoerHere 82 = .ok (.iastore, 1) := dk_79 (dk_at dksX4_isGoerHere_3 10 rfl rfl)
theorem dX4_isGoerHere_83 : decode cX4_isGoerHere 83 = .ok (.iconst 1, 1) := dk_4 (dk_at dksX4_isGoerHere_3 11 rfl rfl)
theorem dX4_isGoerHere_84 : decode cX4_isGoerHere 84 = .ok (.ireturn, 1) := dk_172 (dk_at dksX4_isGoerHere_3 12 rfl rfl)
abbrev cX4_lastCell : ByteArray := prog_19_method_30_code
def yX4_lastCell : MethodName := ⟨RX4, "lastCell", "()I"⟩
def dkwX4_lastCell_0 : List UInt8 := [42, 180, 0, 26, 4, 46, 42, 180, 0, 26, 4, 46, 104, 4, 100, 172]
abbrev dktX4_lastCell_0 : List UInt8 := dkwX4_lastCell_0 ++ []
theorem dksX4_lastCell_0 : cX4_lastCell.data.toList.drop 0 = dktX4_lastCell_0 := by decide +kernel
theorem dX4_lastCell_0 : decode cX4_lastCell 0 = .ok (.aload_n 0, 1) := dk_42 (dk_at dksX4_lastCell_0 0 rfl rfl)
theorem dX4_lastCell_1 : decode cX4_lastCell 1 = .ok (.getfield 26, 3) := dk_180 0 26 (dk_at dksX4_lastCell_0 1 rfl rfl)
theorem dX4_lastCell_4 : decode cX4_lastCell 4 = .ok (.iconst 1, 1) := dk_4 (dk_at dksX4_lastCell_0 4 rfl rfl)
theorem dX4_lastCell_5 : decode cX4_lastCell 5 = .ok (.iaload, 1) := dk_46 (dk_at dksX4_lastCell_0 5 rfl rfl)
theorem dX4_lastCell_6 : decode cX4_lastCell 6 = .ok (.aload_n 0, 1) := dk_42 (dk_at dksX4_lastCell_0 6 rfl rfl)
theorem dX4_lastCell_7 : decode cX4_lastCell 7 = .ok (.getfield 26, 3) := dk_180 0 26 (dk_at dksX4_lastCell_0 7 rfl rfl)
theorem dX4_lastCell_10 : decode cX4_lastCell 10 = .ok (.iconst 1, 1) := dk_4 (dk_at dksX4_lastCell_0 10 rfl rfl)
theorem dX4_lastCell_11 : decode cX4_lastCell 11 = .ok (.iaload, 1) := dk_46 (dk_at dksX4_lastCell_0 11 rfl rfl)
theorem dX4_lastCell_12 : decode cX4_lastCell 12 = .ok (.imul, 1) := dk_104 (dk_at dksX4_lastCell_0 12 rfl rfl)
theorem dX4_lastCell_13 : decode cX4_lastCell 13 = .ok (.iconst 1, 1) := dk_4 (dk_at dksX4_lastCell_0 13 rfl rfl)
theorem dX4_lastCell_14 : decode cX4_lastCell 14 = .ok (.isub, 1) := dk_100 (dk_at dksX4_lastCell_0 14 rfl rfl)
theorem dX4_lastCell_15 : decode cX4_lastCell 15 = .ok (.ireturn, 1) := dk_172 (dk_at dksX4_lastCell_0 15 rfl rfl)
abbrev cX4_isJoinHere : ByteArray := prog_19_method_33_code
def yX4_isJoinHere : MethodName := ⟨RX4, "isJoinHere", "()Z"⟩
def dkwX4_isJoinHere_2 : List UInt8 := [167, 0, 4, 3, 172]
abbrev dktX4_isJoinHere_2 : List UInt8 := dkwX4_isJoinHere_2 ++ []
def dkwX4_isJoinHere_1 : List UInt8 := [96, 3, 6, 182, 0, 222, 153, 0, 21, 42, 16, 86, 27, 96, 3, 16, 9, 182, 0, 222, 153, 0, 7, 4]
abbrev dktX4_isJoinHere_1 : List UInt8 := dkwX4_isJoinHere_1 ++ dktX4_isJoinHere_2
def dkwX4_isJoinHere_0 : List UInt8 := [42, 182, 0, 111, 42, 3, 6, 182, 0, 171, 154, 0, 5, 3, 172, 42, 180, 0, 121, 60, 42, 16, 105, 27]
abbrev dktX4_isJoinHere_0 : List UInt8 := dkwX4_isJoinHere_0 ++ dktX4_isJoinHere_1
theorem dksX4_isJoinHere_0 : cX4_isJoinHere.data.toList.drop 0 = dktX4_isJoinHere_0 := by decide +kernel
theorem dksX4_isJoinHere_1 : cX4_isJoinHere.data.toList.drop 24 = dktX4_isJoinHere_1 := dk_seg dksX4_isJoinHere_0 24 rfl rfl
theorem dksX4_isJoinHere_2 : cX4_isJoinHere.data.toList.drop 48 = dktX4_isJoinHere_2 := dk_seg dksX4_isJoinHere_1 24 rfl rfl
theorem dX4_isJoinHere_0 : decode cX4_isJoinHere 0 = .ok (.aload_n 0, 1) := dk_42 (dk_at dksX4_isJoinHere_0 0 rfl rfl)
theorem dX4_isJoinHere_1 : decode cX4_isJoinHere 1 = .ok (.invokevirtual 111, 3) := dk_182 0 111 (dk_at dksX4_isJoinHere_0 1 rfl rfl)
theorem dX4_isJoinHere_4 : decode cX4_isJoinHere 4 = .ok (.aload_n 0, 1) := dk_42 (dk_at dksX4_isJoinHere_0 4 rfl rfl)
theorem dX4_isJoinHere_5 : decode cX4_isJoinHere 5 = .ok (.iconst 0, 1) := dk_3 (dk_at dksX4_isJoinHere_0 5 rfl rfl)
theorem dX4_isJoinHere_6 : decode cX4_isJoinHere 6 = .ok (.iconst 3, 1) := dk_6 (dk_at dksX4_isJoinHere_0 6 rfl rfl)
theorem dX4_isJoinHere_7 : decode cX4_isJoinHere 7 = .ok (.invokevirtual 171, 3) := dk_182 0 171 (dk_at dksX4_isJoinHere_0 7 rfl rfl)
theorem dX4_isJoinHere_10 : decode cX4_isJoinHere 10 = .ok (.ifCond .ne 5, 3) := dk_154 0 5 (dk_at dksX4_isJoinHere_0 10 rfl rfl)
theorem dX4_isJoinHere_13 : decode cX4_isJoinHere 13 = .ok (.iconst 0, 1) := dk_3 (dk_at dksX4_isJoinHere_0 13 rfl rfl)
theorem dX4_isJoinHere_14 : decode cX4_isJoinHere 14 = .ok (.ireturn, 1) := dk_172 (dk_at dksX4_isJoinHere_0 14 rfl rfl)
theorem dX4_isJoinHere_15 : decode cX4_isJoinHere 15 = .ok (.aload_n 0, 1) := dk_42 (dk_at dksX4_isJoinHere_0 15 rfl rfl)
theorem dX4_isJoinHere_16 : decode cX4_isJoinHere 16 = .ok (.getfield 121, 3) := dk_180 0 121 (dk_at dksX4_isJoinHere_0 16 rfl rfl)
theorem dX4_isJoinHere_19 : decode cX4_isJoinHere 19 = .ok (.istore_n 1, 1) := dk_60 (dk_at dksX4_isJoinHere_0 19 rfl rfl)
theorem dX4_isJoinHere_20 : decode cX4_isJoinHere 20 = .ok (.aload_n 0, 1) := dk_42 (dk_at dksX4_isJoinHere_0 20 rfl rfl)
theorem dX4_isJoinHere_21 : decode cX4_isJoinHere 21 = .ok (.bipush 105, 2) := dk_16 105 (dk_at dksX4_isJoinHere_0 21 rfl rfl)
theorem dX4_isJoinHere_23 : decode cX4_isJoinHere 23 = .ok (.iload_n 1, 1) := dk_27 (dk_at dksX4_isJoinHere_0 23 rfl rfl)
theorem dX4_isJoinHere_24 : decode cX4_isJoinHere 24 = .ok (.iadd, 1) := dk_96 (dk_at dksX4_isJoinHere_1 0 rfl rfl)
theorem dX4_isJoinHere_25 : decode cX4_isJoinHere 25 = .ok (.iconst 0, 1) := dk_3 (dk_at dksX4_isJoinHere_1 1 rfl rfl)
theorem dX4_isJoinHere_26 : decode cX4_isJoinHere 26 = .ok (.iconst 3, 1) := dk_6 (dk_at dksX4_isJoinHere_1 2 rfl rfl)
theorem dX4_isJoinHere_27 : decode cX4_isJoinHere 27 = .ok (.invokevirtual 222, 3) := dk_182 0 222 (dk_at dksX4_isJoinHere_1 3 rfl rfl)
theorem dX4_isJoinHere_30 : decode cX4_isJoinHere 30 = .ok (.ifCond .eq 21, 3) := dk_153 0 21 (dk_at dksX4_isJoinHere_1 6 rfl rfl)
theorem dX4_isJoinHere_33 : decode cX4_isJoinHere 33 = .ok (.aload_n 0, 1) := dk_42 (dk_at dksX4_isJoinHere_1 9 rfl rfl)
theorem dX4_isJoinHere_34 : decode cX4_isJoinHere 34 = .ok (.bipush 86, 2) := dk_16 86 (dk_at dksX4_isJoinHere_1 10 rfl rfl)
theorem dX4_isJoinHere_36 : decode cX4_isJoinHere 36 = .ok (.iload_n 1, 1) := dk_27 (dk_at dksX4_isJoinHere_1 12 rfl rfl)
theorem dX4_isJoinHere_37 : decode cX4_isJoinHere 37 = .ok (.iadd, 1) := dk_96 (dk_at dksX4_isJoinHere_1 13 rfl rfl)
theorem dX4_isJoinHere_38 : decode cX4_isJoinHere 38 = .ok (.iconst 0, 1) := dk_3 (dk_at dksX4_isJoinHere_1 14 rfl rfl)
theorem dX4_isJoinHere_39 : decode cX4_isJoinHere 39 = .ok (.bipush 9, 2) := dk_16 9 (dk_at dksX4_isJoinHere_1 15 rfl rfl)
theorem dX4_isJoinHere_41 : decode cX4_isJoinHere 41 = .ok (.invokevirtual 222, 3) := dk_182 0 222 (dk_at dksX4_isJoinHere_1 17 rfl rfl)
theorem dX4_isJoinHere_44 : decode cX4_isJoinHere 44 = .ok (.ifCond .eq 7, 3) := dk_153 0 7 (dk_at dksX4_isJoinHere_1 20 rfl rfl)
theorem dX4_isJoinHere_47 : decode cX4_isJoinHere 47 = .ok (.iconst 1, 1) := dk_4 (dk_at dksX4_isJoinHere_1 23 rfl rfl)
theorem dX4_isJoinHere_48 : decode cX4_isJoinHere 48 = .ok (.goto 4, 3) := dk_167 0 4 (dk_at dksX4_isJoinHere_2 0 rfl rfl)
theorem dX4_isJoinHere_51 : decode cX4_isJoinHere 51 = .ok (.iconst 0, 1) := dk_3 (dk_at dksX4_isJoinHere_2 3 rfl rfl)
theorem dX4_isJoinHere_52 : decode cX4_isJoinHere 52 = .ok (.ireturn, 1) := dk_172 (dk_at dksX4_isJoinHere_2 4 rfl rfl)
abbrev cX4_isStoneHere : ByteArray := prog_19_method_34_code
def yX4_isStoneHere : MethodName := ⟨RX4, "isStoneHere", "()Z"⟩
def dkwX4_isStoneHere_1 : List UInt8 := [42, 180, 0, 121, 96, 4, 79, 4, 172]
abbrev dktX4_isStoneHere_1 : List UInt8 := dkwX4_isStoneHere_1 ++ []
def dkwX4_isStoneHere_0 : List UInt8 := [42, 182, 0, 111, 42, 3, 42, 182, 0, 226, 182, 0, 171, 154, 0, 5, 3, 172, 42, 180, 0, 26, 16, 109]
abbrev dktX4_isStoneHere_0 : List UInt8 := dkwX4_isStoneHere_0 ++ dktX4_isStoneHere_1
theorem dksX4_isStoneHere_0 : cX4_isStoneHere.data.toList.drop 0 = dktX4_isStoneHere_0 := by decide +kernel
theorem dksX4_isStoneHere_1 : cX4_isStoneHere.data.toList.drop 24 = dktX4_isStoneHere_1 := dk_seg dksX4_isStoneHere_0 24 rfl rfl
theorem dX4_isStoneHere_0 : decode cX4_isStoneHere 0 = .ok (.aload_n 0, 1) := dk_42 (dk_at dksX4_isStoneHere_0 0 rfl rfl)
theorem dX4_isStoneHere_1 : decode cX4_isStoneHere 1 = .ok (.invokevirtual 111, 3) := dk_182 0 111 (dk_at dksX4_isStoneHere_0 1 rfl rfl)
theorem dX4_isStoneHere_4 : decode cX4_isStoneHere 4 = .ok (.aload_n 0, 1) := dk_42 (dk_at dksX4_isStoneHere_0 4 rfl rfl)
theorem dX4_isStoneHere_5 : decode cX4_isStoneHere 5 = .ok (.iconst 0, 1) := dk_3 (dk_at dksX4_isStoneHere_0 5 rfl rfl)
theorem dX4_isStoneHere_6 : decode cX4_isStoneHere 6 = .ok (.aload_n 0, 1) := dk_42 (dk_at dksX4_isStoneHere_0 6 rfl rfl)
theorem dX4_isStoneHere_7 : decode cX4_isStoneHere 7 = .ok (.invokevirtual 226, 3) := dk_182 0 226 (dk_at dksX4_isStoneHere_0 7 rfl rfl)
theorem dX4_isStoneHere_10 : decode cX4_isStoneHere 10 = .ok (.invokevirtual 171, 3) := dk_182 0 171 (dk_at dksX4_isStoneHere_0 10 rfl rfl)
theorem dX4_isStoneHere_13 : decode cX4_isStoneHere 13 = .ok (.ifCond .ne 5, 3) := dk_154 0 5 (dk_at dksX4_isStoneHere_0 13 rfl rfl)
theorem dX4_isStoneHere_16 : decode cX4_isStoneHere 16 = .ok (.iconst 0, 1) := dk_3 (dk_at dksX4_isStoneHere_0 16 rfl rfl)
theorem dX4_isStoneHere_17 : decode cX4_isStoneHere 17 = .ok (.ireturn, 1) := dk_172 (dk_at dksX4_isStoneHere_0 17 rfl rfl)
theorem dX4_isStoneHere_18 : decode cX4_isStoneHere 18 = .ok (.aload_n 0, 1) := dk_42 (dk_at dksX4_isStoneHere_0 18 rfl rfl)
theorem dX4_isStoneHere_19 : decode cX4_isStoneHere 19 = .ok (.getfield 26, 3) := dk_180 0 26 (dk_at dksX4_isStoneHere_0 19 rfl rfl)
theorem dX4_isStoneHere_22 : decode cX4_isStoneHere 22 = .ok (.bipush 109, 2) := dk_16 109 (dk_at dksX4_isStoneHere_0 22 rfl rfl)
theorem dX4_isStoneHere_24 : decode cX4_isStoneHere 24 = .ok (.aload_n 0, 1) := dk_42 (dk_at dksX4_isStoneHere_1 0 rfl rfl)
theorem dX4_isStoneHere_25 : decode cX4_isStoneHere 25 = .ok (.getfield 121, 3) := dk_180 0 121 (dk_at dksX4_isStoneHere_1 1 rfl rfl)
theorem dX4_isStoneHere_28 : decode cX4_isStoneHere 28 = .ok (.iadd, 1) := dk_96 (dk_at dksX4_isStoneHere_1 4 rfl rfl)
theorem dX4_isStoneHere_29 : decode cX4_isStoneHere 29 = .ok (.iconst 1, 1) := dk_4 (dk_at dksX4_isStoneHere_1 5 rfl rfl)
theorem dX4_isStoneHere_30 : decode cX4_isStoneHere 30 = .ok (.iastore, 1) := dk_79 (dk_at dksX4_isStoneHere_1 6 rfl rfl)
theorem dX4_isStoneHere_31 : decode cX4_isStoneHere 31 = .ok (.iconst 1, 1) := dk_4 (dk_at dksX4_isStoneHere_1 7 rfl rfl)
theorem dX4_isStoneHere_32 : decode cX4_isStoneHere 32 = .ok (.ireturn, 1) := dk_172 (dk_at dksX4_isStoneHere_1 8 rfl rfl)
abbrev cX4_isTurnHere : ByteArray := prog_19_method_28_code
def yX4_isTurnHere : MethodName := ⟨RX4, "isTurnHere", "()Z"⟩
def dkwX4_isTurnHere_5 : List UInt8 := [180, 0, 17, 42, 180, 0, 150, 46, 79, 42, 180, 0, 23, 42, 180, 0, 150, 92, 46, 4, 96, 79, 4, 172]
abbrev dktX4_isTurnHere_5 : List UInt8 := dkwX4_isTurnHere_5 ++ []
def dkwX4_isTurnHere_4 : List UInt8 := [180, 0, 150, 46, 79, 42, 182, 0, 219, 154, 0, 5, 3, 172, 42, 180, 0, 20, 27, 6, 96, 42]
abbrev dktX4_isTurnHere_4 : List UInt8 := dkwX4_isTurnHere_4 ++ dktX4_isTurnHere_5
def dkwX4_isTurnHere_3 : List UInt8 := [2, 79, 42, 20, 0, 214, 182, 0, 216, 153, 0, 29, 42, 180, 0, 20, 27, 5, 96, 42, 180, 0, 17, 42]
abbrev dktX4_isTurnHere_3 : List UInt8 := dkwX4_isTurnHere_3 ++ dktX4_isTurnHere_4
def dkwX4_isTurnHere_2 : List UInt8 := [42, 180, 0, 20, 27, 4, 96, 42, 180, 0, 17, 42, 180, 0, 150, 46, 79, 42, 180, 0, 20, 27, 5, 96]
abbrev dktX4_isTurnHere_2 : List UInt8 := dkwX4_isTurnHere_2 ++ dktX4_isTurnHere_3
def dkwX4_isTurnHere_1 : List UInt8 := [42, 180, 0, 20, 27, 42, 180, 0, 17, 42, 180, 0, 150, 46, 79, 42, 182, 0, 187, 154, 0, 5, 3, 172]
abbrev dktX4_isTurnHere_1 : List UInt8 := dkwX4_isTurnHere_1 ++ dktX4_isTurnHere_2
def dkwX4_isTurnHere_0 : List UInt8 := [42, 182, 0, 111, 16, 48, 42, 180, 0, 150, 104, 7, 42, 180, 0, 23, 42, 180, 0, 150, 46, 104, 96, 60]
abbrev dktX4_isTurnHere_0 : List UInt8 := dkwX4_isTurnHere_0 ++ dktX4_isTurnHere_1
theorem dksX4_isTurnHere_0 : cX4_isTurnHere.data.toList.drop 0 = dktX4_isTurnHere_0 := by decide +kernel
theorem dksX4_isTurnHere_1 : cX4_isTurnHere.data.toList.drop 24 = dktX4_isTurnHere_1 := dk_seg dksX4_isTurnHere_0 24 rfl rfl
theorem dksX4_isTurnHere_2 : cX4_isTurnHere.data.toList.drop 48 = dktX4_isTurnHere_2 := dk_seg dksX4_isTurnHere_1 24 rfl rfl
theorem dksX4_isTurnHere_3 : cX4_isTurnHere.data.toList.drop 72 = dktX4_isTurnHere_3 := dk_seg dksX4_isTurnHere_2 24 rfl rfl
theorem dksX4_isTurnHere_4 : cX4_isTurnHere.data.toList.drop 96 = dktX4_isTurnHere_4 := dk_seg dksX4_isTurnHere_3 24 rfl rfl
theorem dksX4_isTurnHere_5 : cX4_isTurnHere.data.toList.drop 118 = dktX4_isTurnHere_5 := dk_seg dksX4_isTurnHere_4 22 rfl rfl
theorem dX4_isTurnHere_0 : decode cX4_isTurnHere 0 = .ok (.aload_n 0, 1) := dk_42 (dk_at dksX4_isTurnHere_0 0 rfl rfl)
theorem dX4_isTurnHere_1 : decode cX4_isTurnHere 1 = .ok (.invokevirtual 111, 3) := dk_182 0 111 (dk_at dksX4_isTurnHere_0 1 rfl rfl)
theorem dX4_isTurnHere_4 : decode cX4_isTurnHere 4 = .ok (.bipush 48, 2) := dk_16 48 (dk_at dksX4_isTurnHere_0 4 rfl rfl)
theorem dX4_isTurnHere_6 : decode cX4_isTurnHere 6 = .ok (.aload_n 0, 1) := dk_42 (dk_at dksX4_isTurnHere_0 6 rfl rfl)
theorem dX4_isTurnHere_7 : decode cX4_isTurnHere 7 = .ok (.getfield 150, 3) := dk_180 0 150 (dk_at dksX4_isTurnHere_0 7 rfl rfl)
theorem dX4_isTurnHere_10 : decode cX4_isTurnHere 10 = .ok (.imul, 1) := dk_104 (dk_at dksX4_isTurnHere_0 10 rfl rfl)
theorem dX4_isTurnHere_11 : decode cX4_isTurnHere 11 = .ok (.iconst 4, 1) := dk_7 (dk_at dksX4_isTurnHere_0 11 rfl rfl)
theorem dX4_isTurnHere_12 : decode cX4_isTurnHere 12 = .ok (.aload_n 0, 1) := dk_42 (dk_at dksX4_isTurnHere_0 12 rfl rfl)
theorem dX4_isTurnHere_13 : decode cX4_isTurnHere 13 = .ok (.getfield 23, 3) := dk_180 0 23 (dk_at dksX4_isTurnHere_0 13 rfl rfl)
theorem dX4_isTurnHere_16 : decode cX4_isTurnHere 16 = .ok (.aload_n 0, 1) := dk_42 (dk_at dksX4_isTurnHere_0 16 rfl rfl)
theorem dX4_isTurnHere_17 : decode cX4_isTurnHere 17 = .ok (.getfield 150, 3) := dk_180 0 150 (dk_at dksX4_isTurnHere_0 17 rfl rfl)
theorem dX4_isTurnHere_20 : decode cX4_isTurnHere 20 = .ok (.iaload, 1) := dk_46 (dk_at dksX4_isTurnHere_0 20 rfl rfl)
theorem dX4_isTurnHere_21 : decode cX4_isTurnHere 21 = .ok (.imul, 1) := dk_104 (dk_at dksX4_isTurnHere_0 21 rfl rfl)
theorem dX4_isTurnHere_22 : decode cX4_isTurnHere 22 = .ok (.iadd, 1) := dk_96 (dk_at dksX4_isTurnHere_0 22 rfl rfl)
theorem dX4_isTurnHere_23 : decode cX4_isTurnHere 23 = .ok (.istore_n 1, 1) := dk_60 (dk_at dksX4_isTurnHere_0 23 rfl rfl)
theorem dX4_isTurnHere_24 : decode cX4_isTurnHere 24 = .ok (.aload_n 0, 1) := dk_42 (dk_at dksX4_isTurnHere_1 0 rfl rfl)
theorem dX4_isTurnHere_25 : decode cX4_isTurnHere 25 = .ok (.getfield 20, 3) := dk_180 0 20 (dk_at dksX4_isTurnHere_1 1 rfl rfl)
theorem dX4_isTurnHere_28 : decode cX4_isTurnHere 28 = .ok (.iload_n 1, 1) := dk_27 (dk_at dksX4_isTurnHere_1 4 rfl rfl)
theorem dX4_isTurnHere_29 : decode cX4_isTurnHere 29 = .ok (.aload_n 0, 1) := dk_42 (dk_at dksX4_isTurnHere_1 5 rfl rfl)
theorem dX4_isTurnHere_30 : decode cX4_isTurnHere 30 = .ok (.getfield 17, 3) := dk_180 0 17 (dk_at dksX4_isTurnHere_1 6 rfl rfl)
theorem dX4_isTurnHere_33 : decode cX4_isTurnHere 33 = .ok (.aload_n 0, 1) := dk_42 (dk_at dksX4_isTurnHere_1 9 rfl rfl)
theorem dX4_isTurnHere_34 : decode cX4_isTurnHere 34 = .ok (.getfield 150, 3) := dk_180 0 150 (dk_at dksX4_isTurnHere_1 10 rfl rfl)
theorem dX4_isTurnHere_37 : decode cX4_isTurnHere 37 = .ok (.iaload, 1) := dk_46 (dk_at dksX4_isTurnHere_1 13 rfl rfl)
theorem dX4_isTurnHere_38 : decode cX4_isTurnHere 38 = .ok (.iastore, 1) := dk_79 (dk_at dksX4_isTurnHere_1 14 rfl rfl)
theorem dX4_isTurnHere_39 : decode cX4_isTurnHere 39 = .ok (.aload_n 0, 1) := dk_42 (dk_at dksX4_isTurnHere_1 15 rfl rfl)
theorem dX4_isTurnHere_40 : decode cX4_isTurnHere 40 = .ok (.invokevirtual 187, 3) := dk_182 0 187 (dk_at dksX4_isTurnHere_1 16 rfl rfl)
theorem dX4_isTurnHere_43 : decode cX4_isTurnHere 43 = .ok (.ifCond .ne 5, 3) := dk_154 0 5 (dk_at dksX4_isTurnHere_1 19 rfl rfl)
theorem dX4_isTurnHere_46 : decode cX4_isTurnHere 46 = .ok (.iconst 0, 1) := dk_3 (dk_at dksX4_isTurnHere_1 22 rfl rfl)
theorem dX4_isTurnHere_47 : decode cX4_isTurnHere 47 = .ok (.ireturn, 1) := dk_172 (dk_at dksX4_isTurnHere_1 23 rfl rfl)
theorem dX4_isTurnHere_48 : decode cX4_isTurnHere 48 = .ok (.aload_n 0, 1) := dk_42 (dk_at dksX4_isTurnHere_2 0 rfl rfl)
theorem dX4_isTurnHere_49 : decode cX4_isTurnHere 49 = .ok (.getfield 20, 3) := dk_180 0 20 (dk_at dksX4_isTurnHere_2 1 rfl rfl)
theorem dX4_isTurnHere_52 : decode cX4_isTurnHere 52 = .ok (.iload_n 1, 1) := dk_27 (dk_at dksX4_isTurnHere_2 4 rfl rfl)
theorem dX4_isTurnHere_53 : decode cX4_isTurnHere 53 = .ok (.iconst 1, 1) := dk_4 (dk_at dksX4_isTurnHere_2 5 rfl rfl)
theorem dX4_isTurnHere_54 : decode cX4_isTurnHere 54 = .ok (.iadd, 1) := dk_96 (dk_at dksX4_isTurnHere_2 6 rfl rfl)
theorem dX4_isTurnHere_55 : decode cX4_isTurnHere 55 = .ok (.aload_n 0, 1) := dk_42 (dk_at dksX4_isTurnHere_2 7 rfl rfl)
theorem dX4_isTurnHere_56 : decode cX4_isTurnHere 56 = .ok (.getfield 17, 3) := dk_180 0 17 (dk_at dksX4_isTurnHere_2 8 rfl rfl)
theorem dX4_isTurnHere_59 : decode cX4_isTurnHere 59 = .ok (.aload_n 0, 1) := dk_42 (dk_at dksX4_isTurnHere_2 11 rfl rfl)
theorem dX4_isTurnHere_60 : decode cX4_isTurnHere 60 = .ok (.getfield 150, 3) := dk_180 0 150 (dk_at dksX4_isTurnHere_2 12 rfl rfl)
theorem dX4_isTurnHere_63 : decode cX4_isTurnHere 63 = .ok (.iaload, 1) := dk_46 (dk_at dksX4_isTurnHere_2 15 rfl rfl)
theorem dX4_isTurnHere_64 : decode cX4_isTurnHere 64 = .ok (.iastore, 1) := dk_79 (dk_at dksX4_isTurnHere_2 16 rfl rfl)
theorem dX4_isTurnHere_65 : decode cX4_isTurnHere 65 = .ok (.aload_n 0, 1) := dk_42 (dk_at dksX4_isTurnHere_2 17 rfl rfl)
theorem dX4_isTurnHere_66 : decode cX4_isTurnHere 66 = .ok (.getfield 20, 3) := dk_180 0 20 (dk_at dksX4_isTurnHere_2 18 rfl rfl)
theorem dX4_isTurnHere_69 : decode cX4_isTurnHere 69 = .ok (.iload_n 1, 1) := dk_27 (dk_at dksX4_isTurnHere_2 21 rfl rfl)
theorem dX4_isTurnHere_70 : decode cX4_isTurnHere 70 = .ok (.iconst 2, 1) := dk_5 (dk_at dksX4_isTurnHere_2 22 rfl rfl)
theorem dX4_isTurnHere_71 : decode cX4_isTurnHere 71 = .ok (.iadd, 1) := dk_96 (dk_at dksX4_isTurnHere_2 23 rfl rfl)
theorem dX4_isTurnHere_72 : decode cX4_isTurnHere 72 = .ok (.iconst (-1), 1) := dk_2 (dk_at dksX4_isTurnHere_3 0 rfl rfl)
theorem dX4_isTurnHere_73 : decode cX4_isTurnHere 73 = .ok (.iastore, 1) := dk_79 (dk_at dksX4_isTurnHere_3 1 rfl rfl)
theorem dX4_isTurnHere_74 : decode cX4_isTurnHere 74 = .ok (.aload_n 0, 1) := dk_42 (dk_at dksX4_isTurnHere_3 2 rfl rfl)
theorem dX4_isTurnHere_75 : decode cX4_isTurnHere 75 = .ok (.ldc2_w 214, 3) := dk_20 0 214 (dk_at dksX4_isTurnHere_3 3 rfl rfl)
theorem dX4_isTurnHere_78 : decode cX4_isTurnHere 78 = .ok (.invokevirtual 216, 3) := dk_182 0 216 (dk_at dksX4_isTurnHere_3 6 rfl rfl)
theorem dX4_isTurnHere_81 : decode cX4_isTurnHere 81 = .ok (.ifCond .eq 29, 3) := dk_153 0 29 (dk_at dksX4_isTurnHere_3 9 rfl rfl)
theorem dX4_isTurnHere_84 : decode cX4_isTurnHere 84 = .ok (.aload_n 0, 1) := dk_42 (dk_at dksX4_isTurnHere_3 12 rfl rfl)
theorem dX4_isTurnHere_85 : decode cX4_isTurnHere 85 = .ok (.getfield 20, 3) := dk_180 0 20 (dk_at dksX4_isTurnHere_3 13 rfl rfl)
theorem dX4_isTurnHere_88 : decode cX4_isTurnHere 88 = .ok (.iload_n 1, 1) := dk_27 (dk_at dksX4_isTurnHere_3 16 rfl rfl)
theorem dX4_isTurnHere_89 : decode cX4_isTurnHere 89 = .ok (.iconst 2, 1) := dk_5 (dk_at dksX4_isTurnHere_3 17 rfl rfl)
theorem dX4_isTurnHere_90 : decode cX4_isTurnHere 90 = .ok (.iadd, 1) := dk_96 (dk_at dksX4_isTurnHere_3 18 rfl rfl)
theorem dX4_isTurnHere_91 : decode cX4_isTurnHere 91 = .ok (.aload_n 0, 1) := dk_42 (dk_at dksX4_isTurnHere_3 19 rfl rfl)
theorem dX4_isTurnHere_92 : decode cX4_isTurnHere 92 = .ok (.getfield 17, 3) := dk_180 0 17 (dk_at dksX4_isTurnHere_3 20 rfl rfl)
theorem dX4_isTurnHere_95 : decode cX4_isTurnHere 95 = .ok (.aload_n 0, 1) := dk_42 (dk_at dksX4_isTurnHere_3 23 rfl rfl)
theorem dX4_isTurnHere_96 : decode cX4_isTurnHere 96 = .ok (.getfield 150, 3) := dk_180 0 150 (dk_at dksX4_isTurnHere_4 0 rfl rfl)
theorem dX4_isTurnHere_99 : decode cX4_isTurnHere 99 = .ok (.iaload, 1) := dk_46 (dk_at dksX4_isTurnHere_4 3 rfl rfl)
theorem dX4_isTurnHere_100 : decode cX4_isTurnHere 100 = .ok (.iastore, 1) := dk_79 (dk_at dksX4_isTurnHere_4 4 rfl rfl)
theorem dX4_isTurnHere_101 : decode cX4_isTurnHere 101 = .ok (.aload_n 0, 1) := dk_42 (dk_at dksX4_isTurnHere_4 5 rfl rfl)
theorem dX4_isTurnHere_102 : decode cX4_isTurnHere 102 = .ok (.invokevirtual 219, 3) := dk_182 0 219 (dk_at dksX4_isTurnHere_4 6 rfl rfl)
theorem dX4_isTurnHere_105 : decode cX4_isTurnHere 105 = .ok (.ifCond .ne 5, 3) := dk_154 0 5 (dk_at dksX4_isTurnHere_4 9 rfl rfl)
theorem dX4_isTurnHere_108 : decode cX4_isTurnHere 108 = .ok (.iconst 0, 1) := dk_3 (dk_at dksX4_isTurnHere_4 12 rfl rfl)
theorem dX4_isTurnHere_109 : decode cX4_isTurnHere 109 = .ok (.ireturn, 1) := dk_172 (dk_at dksX4_isTurnHere_4 13 rfl rfl)
theorem dX4_isTurnHere_110 : decode cX4_isTurnHere 110 = .ok (.aload_n 0, 1) := dk_42 (dk_at dksX4_isTurnHere_4 14 rfl rfl)
theorem dX4_isTurnHere_111 : decode cX4_isTurnHere 111 = .ok (.getfield 20, 3) := dk_180 0 20 (dk_at dksX4_isTurnHere_4 15 rfl rfl)
theorem dX4_isTurnHere_114 : decode cX4_isTurnHere 114 = .ok (.iload_n 1, 1) := dk_27 (dk_at dksX4_isTurnHere_4 18 rfl rfl)
theorem dX4_isTurnHere_115 : decode cX4_isTurnHere 115 = .ok (.iconst 3, 1) := dk_6 (dk_at dksX4_isTurnHere_4 19 rfl rfl)
theorem dX4_isTurnHere_116 : decode cX4_isTurnHere 116 = .ok (.iadd, 1) := dk_96 (dk_at dksX4_isTurnHere_4 20 rfl rfl)
theorem dX4_isTurnHere_117 : decode cX4_isTurnHere 117 = .ok (.aload_n 0, 1) := dk_42 (dk_at dksX4_isTurnHere_4 21 rfl rfl)
theorem dX4_isTurnHere_118 : decode cX4_isTurnHere 118 = .ok (.getfield 17, 3) := dk_180 0 17 (dk_at dksX4_isTurnHere_5 0 rfl rfl)
theorem dX4_isTurnHere_121 : decode cX4_isTurnHere 121 = .ok (.aload_n 0, 1) := dk_42 (dk_at dksX4_isTurnHere_5 3 rfl rfl)
theorem dX4_isTurnHere_122 : decode cX4_isTurnHere 122 = .ok (.getfield 150, 3) := dk_180 0 150 (dk_at dksX4_isTurnHere_5 4 rfl rfl)
theorem dX4_isTurnHere_125 : decode cX4_isTurnHere 125 = .ok (.iaload, 1) := dk_46 (dk_at dksX4_isTurnHere_5 7 rfl rfl)
theorem dX4_isTurnHere_126 : decode cX4_isTurnHere 126 = .ok (.iastore, 1) := dk_79 (dk_at dksX4_isTurnHere_5 8 rfl rfl)
theorem dX4_isTurnHere_127 : decode cX4_isTurnHere 127 = .ok (.aload_n 0, 1) := dk_42 (dk_at dksX4_isTurnHere_5 9 rfl rfl)
theorem dX4_isTurnHere_128 : decode cX4_isTurnHere 128 = .ok (.getfield 23, 3) := dk_180 0 23 (dk_at dksX4_isTurnHere_5 10 rfl rfl)
theorem dX4_isTurnHere_131 : decode cX4_isTurnHere 131 = .ok (.aload_n 0, 1) := dk_42 (dk_at dksX4_isTurnHere_5 13 rfl rfl)
theorem dX4_isTurnHere_132 : decode cX4_isTurnHere 132 = .ok (.getfield 150, 3) := dk_180 0 150 (dk_at dksX4_isTurnHere_5 14 rfl rfl)
theorem dX4_isTurnHere_135 : decode cX4_isTurnHere 135 = .ok (.dup2, 1) := dk_92 (dk_at dksX4_isTurnHere_5 17 rfl rfl)
theorem dX4_isTurnHere_136 : decode cX4_isTurnHere 136 = .ok (.iaload, 1) := dk_46 (dk_at dksX4_isTurnHere_5 18 rfl rfl)
theorem dX4_isTurnHere_137 : decode cX4_isTurnHere 137 = .ok (.iconst 1, 1) := dk_4 (dk_at dksX4_isTurnHere_5 19 rfl rfl)
theorem dX4_isTurnHere_138 : decode cX4_isTurnHere 138 = .ok (.iadd, 1) := dk_96 (dk_at dksX4_isTurnHere_5 20 rfl rfl)
theorem dX4_isTurnHere_139 : decode cX4_isTurnHere 139 = .ok (.iastore, 1) := dk_79 (dk_at dksX4_isTurnHere_5 21 rfl rfl)
theorem dX4_isTurnHere_140 : decode cX4_isTurnHere 140 = .ok (.iconst 1, 1) := dk_4 (dk_at dksX4_isTurnHere_5 22 rfl rfl)
theorem dX4_isTurnHere_141 : decode cX4_isTurnHere 141 = .ok (.ireturn, 1) := dk_172 (dk_at dksX4_isTurnHere_5 23 rfl rfl)
abbrev cX4_sum : ByteArray := prog_19_method_22_code
def yX4_sum : MethodName := ⟨RX4, "sum", "()Z"⟩
def dkwX4_sum_3 : List UInt8 := [167, 255, 193, 4, 172]
abbrev dktX4_sum_3 : List UInt8 := dkwX4_sum_3 ++ []
def dkwX4_sum_2 : List UInt8 := [89, 180, 0, 96, 4, 96, 181, 0, 96, 42, 182, 0, 184, 154, 0, 5, 3, 172, 42, 27, 3, 182, 0, 166]
abbrev dktX4_sum_2 : List UInt8 := dkwX4_sum_2 ++ dktX4_sum_3
def dkwX4_sum_1 : List UInt8 := [160, 0, 51, 42, 180, 0, 7, 42, 180, 0, 96, 51, 16, 43, 160, 0, 7, 5, 167, 0, 4, 6, 60, 42]
abbrev dktX4_sum_1 : List UInt8 := dkwX4_sum_1 ++ dktX4_sum_2
def dkwX4_sum_0 : List UInt8 := [42, 182, 0, 184, 154, 0, 5, 3, 172, 42, 182, 0, 99, 16, 43, 159, 0, 12, 42, 182, 0, 99, 16, 45]
abbrev dktX4_sum_0 : List UInt8 := dkwX4_sum_0 ++ dktX4_sum_1
theorem dksX4_sum_0 : cX4_sum.data.toList.drop 0 = dktX4_sum_0 := by decide +kernel
theorem dksX4_sum_1 : cX4_sum.data.toList.drop 24 = dktX4_sum_1 := dk_seg dksX4_sum_0 24 rfl rfl
theorem dksX4_sum_2 : cX4_sum.data.toList.drop 48 = dktX4_sum_2 := dk_seg dksX4_sum_1 24 rfl rfl
theorem dksX4_sum_3 : cX4_sum.data.toList.drop 72 = dktX4_sum_3 := dk_seg dksX4_sum_2 24 rfl rfl
theorem dX4_sum_0 : decode cX4_sum 0 = .ok (.aload_n 0, 1) := dk_42 (dk_at dksX4_sum_0 0 rfl rfl)
theorem dX4_sum_1 : decode cX4_sum 1 = .ok (.invokevirtual 184, 3) := dk_182 0 184 (dk_at dksX4_sum_0 1 rfl rfl)
theorem dX4_sum_4 : decode cX4_sum 4 = .ok (.ifCond .ne 5, 3) := dk_154 0 5 (dk_at dksX4_sum_0 4 rfl rfl)
theorem dX4_sum_7 : decode cX4_sum 7 = .ok (.iconst 0, 1) := dk_3 (dk_at dksX4_sum_0 7 rfl rfl)
theorem dX4_sum_8 : decode cX4_sum 8 = .ok (.ireturn, 1) := dk_172 (dk_at dksX4_sum_0 8 rfl rfl)
theorem dX4_sum_9 : decode cX4_sum 9 = .ok (.aload_n 0, 1) := dk_42 (dk_at dksX4_sum_0 9 rfl rfl)
theorem dX4_sum_10 : decode cX4_sum 10 = .ok (.invokevirtual 99, 3) := dk_182 0 99 (dk_at dksX4_sum_0 10 rfl rfl)
theorem dX4_sum_13 : decode cX4_sum 13 = .ok (.bipush 43, 2) := dk_16 43 (dk_at dksX4_sum_0 13 rfl rfl)
theorem dX4_sum_15 : decode cX4_sum 15 = .ok (.if_icmp .eq 12, 3) := dk_159 0 12 (dk_at dksX4_sum_0 15 rfl rfl)
theorem dX4_sum_18 : decode cX4_sum 18 = .ok (.aload_n 0, 1) := dk_42 (dk_at dksX4_sum_0 18 rfl rfl)
theorem dX4_sum_19 : decode cX4_sum 19 = .ok (.invokevirtual 99, 3) := dk_182 0 99 (dk_at dksX4_sum_0 19 rfl rfl)
theorem dX4_sum_22 : decode cX4_sum 22 = .ok (.bipush 45, 2) := dk_16 45 (dk_at dksX4_sum_0 22 rfl rfl)
theorem dX4_sum_24 : decode cX4_sum 24 = .ok (.if_icmp .ne 51, 3) := dk_160 0 51 (dk_at dksX4_sum_1 0 rfl rfl)
theorem dX4_sum_27 : decode cX4_sum 27 = .ok (.aload_n 0, 1) := dk_42 (dk_at dksX4_sum_1 3 rfl rfl)
theorem dX4_sum_28 : decode cX4_sum 28 = .ok (.getfield 7, 3) := dk_180 0 7 (dk_at dksX4_sum_1 4 rfl rfl)
theorem dX4_sum_31 : decode cX4_sum 31 = .ok (.aload_n 0, 1) := dk_42 (dk_at dksX4_sum_1 7 rfl rfl)
theorem dX4_sum_32 : decode cX4_sum 32 = .ok (.getfield 96, 3) := dk_180 0 96 (dk_at dksX4_sum_1 8 rfl rfl)
theorem dX4_sum_35 : decode cX4_sum 35 = .ok (.baload, 1) := dk_51 (dk_at dksX4_sum_1 11 rfl rfl)
theorem dX4_sum_36 : decode cX4_sum 36 = .ok (.bipush 43, 2) := dk_16 43 (dk_at dksX4_sum_1 12 rfl rfl)
theorem dX4_sum_38 : decode cX4_sum 38 = .ok (.if_icmp .ne 7, 3) := dk_160 0 7 (dk_at dksX4_sum_1 14 rfl rfl)
theorem dX4_sum_41 : decode cX4_sum 41 = .ok (.iconst 2, 1) := dk_5 (dk_at dksX4_sum_1 17 rfl rfl)
theorem dX4_sum_42 : decode cX4_sum 42 = .ok (.goto 4, 3) := dk_167 0 4 (dk_at dksX4_sum_1 18 rfl rfl)
theorem dX4_sum_45 : decode cX4_sum 45 = .ok (.iconst 3, 1) := dk_6 (dk_at dksX4_sum_1 21 rfl rfl)
theorem dX4_sum_46 : decode cX4_sum 46 = .ok (.istore_n 1, 1) := dk_60 (dk_at dksX4_sum_1 22 rfl rfl)
theorem dX4_sum_47 : decode cX4_sum 47 = .ok (.aload_n 0, 1) := dk_42 (dk_at dksX4_sum_1 23 rfl rfl)
theorem dX4_sum_48 : decode cX4_sum 48 = .ok (.dup, 1) := dk_89 (dk_at dksX4_sum_2 0 rfl rfl)
theorem dX4_sum_49 : decode cX4_sum 49 = .ok (.getfield 96, 3) := dk_180 0 96 (dk_at dksX4_sum_2 1 rfl rfl)
theorem dX4_sum_52 : decode cX4_sum 52 = .ok (.iconst 1, 1) := dk_4 (dk_at dksX4_sum_2 4 rfl rfl)
theorem dX4_sum_53 : decode cX4_sum 53 = .ok (.iadd, 1) := dk_96 (dk_at dksX4_sum_2 5 rfl rfl)
theorem dX4_sum_54 : decode cX4_sum 54 = .ok (.putfield 96, 3) := dk_181 0 96 (dk_at dksX4_sum_2 6 rfl rfl)
theorem dX4_sum_57 : decode cX4_sum 57 = .ok (.aload_n 0, 1) := dk_42 (dk_at dksX4_sum_2 9 rfl rfl)
theorem dX4_sum_58 : decode cX4_sum 58 = .ok (.invokevirtual 184, 3) := dk_182 0 184 (dk_at dksX4_sum_2 10 rfl rfl)
theorem dX4_sum_61 : decode cX4_sum 61 = .ok (.ifCond .ne 5, 3) := dk_154 0 5 (dk_at dksX4_sum_2 13 rfl rfl)
theorem dX4_sum_64 : decode cX4_sum 64 = .ok (.iconst 0, 1) := dk_3 (dk_at dksX4_sum_2 16 rfl rfl)
theorem dX4_sum_65 : decode cX4_sum 65 = .ok (.ireturn, 1) := dk_172 (dk_at dksX4_sum_2 17 rfl rfl)
theorem dX4_sum_66 : decode cX4_sum 66 = .ok (.aload_n 0, 1) := dk_42 (dk_at dksX4_sum_2 18 rfl rfl)
theorem dX4_sum_67 : decode cX4_sum 67 = .ok (.iload_n 1, 1) := dk_27 (dk_at dksX4_sum_2 19 rfl rfl)
theorem dX4_sum_68 : decode cX4_sum 68 = .ok (.iconst 0, 1) := dk_3 (dk_at dksX4_sum_2 20 rfl rfl)
theorem dX4_sum_69 : decode cX4_sum 69 = .ok (.invokevirtual 166, 3) := dk_182 0 166 (dk_at dksX4_sum_2 21 rfl rfl)
theorem dX4_sum_72 : decode cX4_sum 72 = .ok (.goto (-63), 3) := dk_167 255 193 (dk_at dksX4_sum_3 0 rfl rfl)
theorem dX4_sum_75 : decode cX4_sum 75 = .ok (.iconst 1, 1) := dk_4 (dk_at dksX4_sum_3 3 rfl rfl)
theorem dX4_sum_76 : decode cX4_sum 76 = .ok (.ireturn, 1) := dk_172 (dk_at dksX4_sum_3 4 rfl rfl)
abbrev cX4_term : ByteArray := prog_19_method_21_code
def yX4_term : MethodName := ⟨RX4, "term", "()Z"⟩
def dkwX4_term_4 : List UInt8 := [172, 42, 27, 3, 182, 0, 166, 167, 255, 165, 4, 172]
abbrev dktX4_term_4 : List UInt8 := dkwX4_term_4 ++ []
def dkwX4_term_3 : List UInt8 := [167, 0, 5, 16, 14, 60, 42, 89, 180, 0, 96, 4, 96, 181, 0, 96, 42, 182, 0, 180, 154, 0, 5, 3]
abbrev dktX4_term_3 : List UInt8 := dkwX4_term_3 ++ dktX4_term_4
def dkwX4_term_2 : List UInt8 := [160, 0, 7, 7, 167, 0, 23, 42, 180, 0, 7, 42, 180, 0, 96, 51, 16, 47, 160, 0, 7, 8]
abbrev dktX4_term_2 : List UInt8 := dkwX4_term_2 ++ dktX4_term_3
def dkwX4_term_1 : List UInt8 := [159, 0, 12, 42, 182, 0, 99, 16, 37, 160, 0, 70, 42, 180, 0, 7, 42, 180, 0, 96, 51, 16, 42]
abbrev dktX4_term_1 : List UInt8 := dkwX4_term_1 ++ dktX4_term_2
def dkwX4_term_0 : List UInt8 := [42, 182, 0, 180, 154, 0, 5, 3, 172, 42, 182, 0, 99, 16, 42, 159, 0, 21, 42, 182, 0, 99, 16, 47]
abbrev dktX4_term_0 : List UInt8 := dkwX4_term_0 ++ dktX4_term_1
theorem dksX4_term_0 : cX4_term.data.toList.drop 0 = dktX4_term_0 := by decide +kernel
theorem dksX4_term_1 : cX4_term.data.toList.drop 24 = dktX4_term_1 := dk_seg dksX4_term_0 24 rfl rfl
theorem dksX4_term_2 : cX4_term.data.toList.drop 47 = dktX4_term_2 := dk_seg dksX4_term_1 23 rfl rfl
theorem dksX4_term_3 : cX4_term.data.toList.drop 69 = dktX4_term_3 := dk_seg dksX4_term_2 22 rfl rfl
theorem dksX4_term_4 : cX4_term.data.toList.drop 93 = dktX4_term_4 := dk_seg dksX4_term_3 24 rfl rfl
theorem dX4_term_0 : decode cX4_term 0 = .ok (.aload_n 0, 1) := dk_42 (dk_at dksX4_term_0 0 rfl rfl)
theorem dX4_term_1 : decode cX4_term 1 = .ok (.invokevirtual 180, 3) := dk_182 0 180 (dk_at dksX4_term_0 1 rfl rfl)
theorem dX4_term_4 : decode cX4_term 4 = .ok (.ifCond .ne 5, 3) := dk_154 0 5 (dk_at dksX4_term_0 4 rfl rfl)
theorem dX4_term_7 : decode cX4_term 7 = .ok (.iconst 0, 1) := dk_3 (dk_at dksX4_term_0 7 rfl rfl)
theorem dX4_term_8 : decode cX4_term 8 = .ok (.ireturn, 1) := dk_172 (dk_at dksX4_term_0 8 rfl rfl)
theorem dX4_term_9 : decode cX4_term 9 = .ok (.aload_n 0, 1) := dk_42 (dk_at dksX4_term_0 9 rfl rfl)
theorem dX4_term_10 : decode cX4_term 10 = .ok (.invokevirtual 99, 3) := dk_182 0 99 (dk_at dksX4_term_0 10 rfl rfl)
theorem dX4_term_13 : decode cX4_term 13 = .ok (.bipush 42, 2) := dk_16 42 (dk_at dksX4_term_0 13 rfl rfl)
theorem dX4_term_15 : decode cX4_term 15 = .ok (.if_icmp .eq 21, 3) := dk_159 0 21 (dk_at dksX4_term_0 15 rfl rfl)
theorem dX4_term_18 : decode cX4_term 18 = .ok (.aload_n 0, 1) := dk_42 (dk_at dksX4_term_0 18 rfl rfl)
theorem dX4_term_19 : decode cX4_term 19 = .ok (.invokevirtual 99, 3) := dk_182 0 99 (dk_at dksX4_term_0 19 rfl rfl)
theorem dX4_term_22 : decode cX4_term 22 = .ok (.bipush 47, 2) := dk_16 47 (dk_at dksX4_term_0 22 rfl rfl)
theorem dX4_term_24 : decode cX4_term 24 = .ok (.if_icmp .eq 12, 3) := dk_159 0 12 (dk_at dksX4_term_1 0 rfl rfl)
theorem dX4_term_27 : decode cX4_term 27 = .ok (.aload_n 0, 1) := dk_42 (dk_at dksX4_term_1 3 rfl rfl)
theorem dX4_term_28 : decode cX4_term 28 = .ok (.invokevirtual 99, 3) := dk_182 0 99 (dk_at dksX4_term_1 4 rfl rfl)
theorem dX4_term_31 : decode cX4_term 31 = .ok (.bipush 37, 2) := dk_16 37 (dk_at dksX4_term_1 7 rfl rfl)
theorem dX4_term_33 : decode cX4_term 33 = .ok (.if_icmp .ne 70, 3) := dk_160 0 70 (dk_at dksX4_term_1 9 rfl rfl)
theorem dX4_term_36 : decode cX4_term 36 = .ok (.aload_n 0, 1) := dk_42 (dk_at dksX4_term_1 12 rfl rfl)
theorem dX4_term_37 : decode cX4_term 37 = .ok (.getfield 7, 3) := dk_180 0 7 (dk_at dksX4_term_1 13 rfl rfl)
theorem dX4_term_40 : decode cX4_term 40 = .ok (.aload_n 0, 1) := dk_42 (dk_at dksX4_term_1 16 rfl rfl)
theorem dX4_term_41 : decode cX4_term 41 = .ok (.getfield 96, 3) := dk_180 0 96 (dk_at dksX4_term_1 17 rfl rfl)
theorem dX4_term_44 : decode cX4_term 44 = .ok (.baload, 1) := dk_51 (dk_at dksX4_term_1 20 rfl rfl)
theorem dX4_term_45 : decode cX4_term 45 = .ok (.bipush 42, 2) := dk_16 42 (dk_at dksX4_term_1 21 rfl rfl)
theorem dX4_term_47 : decode cX4_term 47 = .ok (.if_icmp .ne 7, 3) := dk_160 0 7 (dk_at dksX4_term_2 0 rfl rfl)
theorem dX4_term_50 : decode cX4_term 50 = .ok (.iconst 4, 1) := dk_7 (dk_at dksX4_term_2 3 rfl rfl)
theorem dX4_term_51 : decode cX4_term 51 = .ok (.goto 23, 3) := dk_167 0 23 (dk_at dksX4_term_2 4 rfl rfl)
theorem dX4_term_54 : decode cX4_term 54 = .ok (.aload_n 0, 1) := dk_42 (dk_at dksX4_term_2 7 rfl rfl)
theorem dX4_term_55 : decode cX4_term 55 = .ok (.getfield 7, 3) := dk_180 0 7 (dk_at dksX4_term_2 8 rfl rfl)
theorem dX4_term_58 : decode cX4_term 58 = .ok (.aload_n 0, 1) := dk_42 (dk_at dksX4_term_2 11 rfl rfl)
theorem dX4_term_59 : decode cX4_term 59 = .ok (.getfield 96, 3) := dk_180 0 96 (dk_at dksX4_term_2 12 rfl rfl)
theorem dX4_term_62 : decode cX4_term 62 = .ok (.baload, 1) := dk_51 (dk_at dksX4_term_2 15 rfl rfl)
theorem dX4_term_63 : decode cX4_term 63 = .ok (.bipush 47, 2) := dk_16 47 (dk_at dksX4_term_2 16 rfl rfl)
theorem dX4_term_65 : decode cX4_term 65 = .ok (.if_icmp .ne 7, 3) := dk_160 0 7 (dk_at dksX4_term_2 18 rfl rfl)
theorem dX4_term_68 : decode cX4_term 68 = .ok (.iconst 5, 1) := dk_8 (dk_at dksX4_term_2 21 rfl rfl)
theorem dX4_term_69 : decode cX4_term 69 = .ok (.goto 5, 3) := dk_167 0 5 (dk_at dksX4_term_3 0 rfl rfl)
theorem dX4_term_72 : decode cX4_term 72 = .ok (.bipush 14, 2) := dk_16 14 (dk_at dksX4_term_3 3 rfl rfl)
theorem dX4_term_74 : decode cX4_term 74 = .ok (.istore_n 1, 1) := dk_60 (dk_at dksX4_term_3 5 rfl rfl)
theorem dX4_term_75 : decode cX4_term 75 = .ok (.aload_n 0, 1) := dk_42 (dk_at dksX4_term_3 6 rfl rfl)
theorem dX4_term_76 : decode cX4_term 76 = .ok (.dup, 1) := dk_89 (dk_at dksX4_term_3 7 rfl rfl)
theorem dX4_term_77 : decode cX4_term 77 = .ok (.getfield 96, 3) := dk_180 0 96 (dk_at dksX4_term_3 8 rfl rfl)
theorem dX4_term_80 : decode cX4_term 80 = .ok (.iconst 1, 1) := dk_4 (dk_at dksX4_term_3 11 rfl rfl)
theorem dX4_term_81 : decode cX4_term 81 = .ok (.iadd, 1) := dk_96 (dk_at dksX4_term_3 12 rfl rfl)
theorem dX4_term_82 : decode cX4_term 82 = .ok (.putfield 96, 3) := dk_181 0 96 (dk_at dksX4_term_3 13 rfl rfl)
theorem dX4_term_85 : decode cX4_term 85 = .ok (.aload_n 0, 1) := dk_42 (dk_at dksX4_term_3 16 rfl rfl)
theorem dX4_term_86 : decode cX4_term 86 = .ok (.invokevirtual 180, 3) := dk_182 0 180 (dk_at dksX4_term_3 17 rfl rfl)
theorem dX4_term_89 : decode cX4_term 89 = .ok (.ifCond .ne 5, 3) := dk_154 0 5 (dk_at dksX4_term_3 20 rfl rfl)
theorem dX4_term_92 : decode cX4_term 92 = .ok (.iconst 0, 1) := dk_3 (dk_at dksX4_term_3 23 rfl rfl)
theorem dX4_term_93 : decode cX4_term 93 = .ok (.ireturn, 1) := dk_172 (dk_at dksX4_term_4 0 rfl rfl)
theorem dX4_term_94 : decode cX4_term 94 = .ok (.aload_n 0, 1) := dk_42 (dk_at dksX4_term_4 1 rfl rfl)
theorem dX4_term_95 : decode cX4_term 95 = .ok (.iload_n 1, 1) := dk_27 (dk_at dksX4_term_4 2 rfl rfl)
theorem dX4_term_96 : decode cX4_term 96 = .ok (.iconst 0, 1) := dk_3 (dk_at dksX4_term_4 3 rfl rfl)
theorem dX4_term_97 : decode cX4_term 97 = .ok (.invokevirtual 166, 3) := dk_182 0 166 (dk_at dksX4_term_4 4 rfl rfl)
theorem dX4_term_100 : decode cX4_term 100 = .ok (.goto (-91), 3) := dk_167 255 165 (dk_at dksX4_term_4 7 rfl rfl)
theorem dX4_term_103 : decode cX4_term 103 = .ok (.iconst 1, 1) := dk_4 (dk_at dksX4_term_4 10 rfl rfl)
theorem dX4_term_104 : decode cX4_term 104 = .ok (.ireturn, 1) := dk_172 (dk_at dksX4_term_4 11 rfl rfl)
abbrev cX4_value : ByteArray := prog_19_method_20_code
def yX4_value : MethodName := ⟨RX4, "value", "()Z"⟩
def dkwX4_value_3 : List UInt8 := [182, 0, 174, 154, 0, 5, 3, 172, 42, 182, 0, 111, 42, 4, 28, 182, 0, 166, 4, 172]
abbrev dktX4_value_3 : List UInt8 := dkwX4_value_3 ++ []
def dkwX4_value_2 : List UInt8 := [182, 0, 166, 4, 172, 42, 182, 0, 177, 61, 28, 156, 0, 10, 42, 3, 27, 182, 0, 117, 172, 42, 27]
abbrev dktX4_value_2 : List UInt8 := dkwX4_value_2 ++ dktX4_value_3
def dkwX4_value_1 : List UInt8 := [18, 170, 182, 0, 171, 153, 0, 11, 42, 27, 182, 0, 174, 154, 0, 5, 3, 172, 42, 3, 42, 180, 0, 121]
abbrev dktX4_value_1 : List UInt8 := dkwX4_value_1 ++ dktX4_value_2
def dkwX4_value_0 : List UInt8 := [42, 182, 0, 99, 87, 42, 180, 0, 96, 60, 42, 42, 180, 0, 96, 182, 0, 114, 153, 0, 34, 42, 3]
abbrev dktX4_value_0 : List UInt8 := dkwX4_value_0 ++ dktX4_value_1
theorem dksX4_value_0 : cX4_value.data.toList.drop 0 = dktX4_value_0 := by decide +kernel
theorem dksX4_value_1 : cX4_value.data.toList.drop 23 = dktX4_value_1 := dk_seg dksX4_value_0 23 rfl rfl
theorem dksX4_value_2 : cX4_value.data.toList.drop 47 = dktX4_value_2 := dk_seg dksX4_value_1 24 rfl rfl
theorem dksX4_value_3 : cX4_value.data.toList.drop 70 = dktX4_value_3 := dk_seg dksX4_value_2 23 rfl rfl
theorem dX4_value_0 : decode cX4_value 0 = .ok (.aload_n 0, 1) := dk_42 (dk_at dksX4_value_0 0 rfl rfl)
theorem dX4_value_1 : decode cX4_value 1 = .ok (.invokevirtual 99, 3) := dk_182 0 99 (dk_at dksX4_value_0 1 rfl rfl)
theorem dX4_value_4 : decode cX4_value 4 = .ok (.pop, 1) := dk_87 (dk_at dksX4_value_0 4 rfl rfl)
theorem dX4_value_5 : decode cX4_value 5 = .ok (.aload_n 0, 1) := dk_42 (dk_at dksX4_value_0 5 rfl rfl)
theorem dX4_value_6 : decode cX4_value 6 = .ok (.getfield 96, 3) := dk_180 0 96 (dk_at dksX4_value_0 6 rfl rfl)
theorem dX4_value_9 : decode cX4_value 9 = .ok (.istore_n 1, 1) := dk_60 (dk_at dksX4_value_0 9 rfl rfl)
theorem dX4_value_10 : decode cX4_value 10 = .ok (.aload_n 0, 1) := dk_42 (dk_at dksX4_value_0 10 rfl rfl)
theorem dX4_value_11 : decode cX4_value 11 = .ok (.aload_n 0, 1) := dk_42 (dk_at dksX4_value_0 11 rfl rfl)
theorem dX4_value_12 : decode cX4_value 12 = .ok (.getfield 96, 3) := dk_180 0 96 (dk_at dksX4_value_0 12 rfl rfl)
theorem dX4_value_15 : decode cX4_value 15 = .ok (.invokevirtual 114, 3) := dk_182 0 114 (dk_at dksX4_value_0 15 rfl rfl)
theorem dX4_value_18 : decode cX4_value 18 = .ok (.ifCond .eq 34, 3) := dk_153 0 34 (dk_at dksX4_value_0 18 rfl rfl)
theorem dX4_value_21 : decode cX4_value 21 = .ok (.aload_n 0, 1) := dk_42 (dk_at dksX4_value_0 21 rfl rfl)
theorem dX4_value_22 : decode cX4_value 22 = .ok (.iconst 0, 1) := dk_3 (dk_at dksX4_value_0 22 rfl rfl)
theorem dX4_value_23 : decode cX4_value 23 = .ok (.ldc 170, 2) := dk_18 170 (dk_at dksX4_value_1 0 rfl rfl)
theorem dX4_value_25 : decode cX4_value 25 = .ok (.invokevirtual 171, 3) := dk_182 0 171 (dk_at dksX4_value_1 2 rfl rfl)
theorem dX4_value_28 : decode cX4_value 28 = .ok (.ifCond .eq 11, 3) := dk_153 0 11 (dk_at dksX4_value_1 5 rfl rfl)
theorem dX4_value_31 : decode cX4_value 31 = .ok (.aload_n 0, 1) := dk_42 (dk_at dksX4_value_1 8 rfl rfl)
theorem dX4_value_32 : decode cX4_value 32 = .ok (.iload_n 1, 1) := dk_27 (dk_at dksX4_value_1 9 rfl rfl)
theorem dX4_value_33 : decode cX4_value 33 = .ok (.invokevirtual 174, 3) := dk_182 0 174 (dk_at dksX4_value_1 10 rfl rfl)
theorem dX4_value_36 : decode cX4_value 36 = .ok (.ifCond .ne 5, 3) := dk_154 0 5 (dk_at dksX4_value_1 13 rfl rfl)
theorem dX4_value_39 : decode cX4_value 39 = .ok (.iconst 0, 1) := dk_3 (dk_at dksX4_value_1 16 rfl rfl)
theorem dX4_value_40 : decode cX4_value 40 = .ok (.ireturn, 1) := dk_172 (dk_at dksX4_value_1 17 rfl rfl)
theorem dX4_value_41 : decode cX4_value 41 = .ok (.aload_n 0, 1) := dk_42 (dk_at dksX4_value_1 18 rfl rfl)
theorem dX4_value_42 : decode cX4_value 42 = .ok (.iconst 0, 1) := dk_3 (dk_at dksX4_value_1 19 rfl rfl)
theorem dX4_value_43 : decode cX4_value 43 = .ok (.aload_n 0, 1) := dk_42 (dk_at dksX4_value_1 20 rfl rfl)
theorem dX4_value_44 : decode cX4_value 44 = .ok (.getfield 121, 3) := dk_180 0 121 (dk_at dksX4_value_1 21 rfl rfl)
theorem dX4_value_47 : decode cX4_value 47 = .ok (.invokevirtual 166, 3) := dk_182 0 166 (dk_at dksX4_value_2 0 rfl rfl)
theorem dX4_value_50 : decode cX4_value 50 = .ok (.iconst 1, 1) := dk_4 (dk_at dksX4_value_2 3 rfl rfl)
theorem dX4_value_51 : decode cX4_value 51 = .ok (.ireturn, 1) := dk_172 (dk_at dksX4_value_2 4 rfl rfl)
theorem dX4_value_52 : decode cX4_value 52 = .ok (.aload_n 0, 1) := dk_42 (dk_at dksX4_value_2 5 rfl rfl)
theorem dX4_value_53 : decode cX4_value 53 = .ok (.invokevirtual 177, 3) := dk_182 0 177 (dk_at dksX4_value_2 6 rfl rfl)
theorem dX4_value_56 : decode cX4_value 56 = .ok (.istore_n 2, 1) := dk_61 (dk_at dksX4_value_2 9 rfl rfl)
theorem dX4_value_57 : decode cX4_value 57 = .ok (.iload_n 2, 1) := dk_28 (dk_at dksX4_value_2 10 rfl rfl)
theorem dX4_value_58 : decode cX4_value 58 = .ok (.ifCond .ge 10, 3) := dk_156 0 10 (dk_at dksX4_value_2 11 rfl rfl)
theorem dX4_value_61 : decode cX4_value 61 = .ok (.aload_n 0, 1) := dk_42 (dk_at dksX4_value_2 14 rfl rfl)
theorem dX4_value_62 : decode cX4_value 62 = .ok (.iconst 0, 1) := dk_3 (dk_at dksX4_value_2 15 rfl rfl)
theorem dX4_value_63 : decode cX4_value 63 = .ok (.iload_n 1, 1) := dk_27 (dk_at dksX4_value_2 16 rfl rfl)
theorem dX4_value_64 : decode cX4_value 64 = .ok (.invokevirtual 117, 3) := dk_182 0 117 (dk_at dksX4_value_2 17 rfl rfl)
theorem dX4_value_67 : decode cX4_value 67 = .ok (.ireturn, 1) := dk_172 (dk_at dksX4_value_2 20 rfl rfl)
theorem dX4_value_68 : decode cX4_value 68 = .ok (.aload_n 0, 1) := dk_42 (dk_at dksX4_value_2 21 rfl rfl)
theorem dX4_value_69 : decode cX4_value 69 = .ok (.iload_n 1, 1) := dk_27 (dk_at dksX4_value_2 22 rfl rfl)
theorem dX4_value_70 : decode cX4_value 70 = .ok (.invokevirtual 174, 3) := dk_182 0 174 (dk_at dksX4_value_3 0 rfl rfl)
theorem dX4_value_73 : decode cX4_value 73 = .ok (.ifCond .ne 5, 3) := dk_154 0 5 (dk_at dksX4_value_3 3 rfl rfl)
theorem dX4_value_76 : decode cX4_value 76 = .ok (.iconst 0, 1) := dk_3 (dk_at dksX4_value_3 6 rfl rfl)
theorem dX4_value_77 : decode cX4_value 77 = .ok (.ireturn, 1) := dk_172 (dk_at dksX4_value_3 7 rfl rfl)
theorem dX4_value_78 : decode cX4_value 78 = .ok (.aload_n 0, 1) := dk_42 (dk_at dksX4_value_3 8 rfl rfl)
theorem dX4_value_79 : decode cX4_value 79 = .ok (.invokevirtual 111, 3) := dk_182 0 111 (dk_at dksX4_value_3 9 rfl rfl)
theorem dX4_value_82 : decode cX4_value 82 = .ok (.aload_n 0, 1) := dk_42 (dk_at dksX4_value_3 12 rfl rfl)
theorem dX4_value_83 : decode cX4_value 83 = .ok (.iconst 1, 1) := dk_4 (dk_at dksX4_value_3 13 rfl rfl)
theorem dX4_value_84 : decode cX4_value 84 = .ok (.iload_n 2, 1) := dk_28 (dk_at dksX4_value_3 14 rfl rfl)
theorem dX4_value_85 : decode cX4_value 85 = .ok (.invokevirtual 166, 3) := dk_182 0 166 (dk_at dksX4_value_3 15 rfl rfl)
theorem dX4_value_88 : decode cX4_value 88 = .ok (.iconst 1, 1) := dk_4 (dk_at dksX4_value_3 18 rfl rfl)
theorem dX4_value_89 : decode cX4_value 89 = .ok (.ireturn, 1) := dk_172 (dk_at dksX4_value_3 19 rfl rfl)
abbrev cX4_makes : ByteArray := prog_19_method_16_code
def yX4_makes : MethodName := ⟨RX4, "makes", "(I)Z"⟩
def dkwX4_makes_1 : List UInt8 := [181, 0, 153, 4, 172]
abbrev dktX4_makes_1 : List UInt8 := dkwX4_makes_1 ++ []
def dkwX4_makes_0 : List UInt8 := [42, 180, 0, 153, 16, 60, 160, 0, 10, 42, 6, 27, 182, 0, 117, 172, 42, 89, 180, 0, 153, 4, 96]
abbrev dktX4_makes_0 : List UInt8 := dkwX4_makes_0 ++ dktX4_makes_1
theorem dksX4_makes_0 : cX4_makes.data.toList.drop 0 = dktX4_makes_0 := by decide +kernel
theorem dksX4_makes_1 : cX4_makes.data.toList.drop 23 = dktX4_makes_1 := dk_seg dksX4_makes_0 23 rfl rfl
theorem dX4_makes_0 : decode cX4_makes 0 = .ok (.aload_n 0, 1) := dk_42 (dk_at dksX4_makes_0 0 rfl rfl)
theorem dX4_makes_1 : decode cX4_makes 1 = .ok (.getfield 153, 3) := dk_180 0 153 (dk_at dksX4_makes_0 1 rfl rfl)
theorem dX4_makes_4 : decode cX4_makes 4 = .ok (.bipush 60, 2) := dk_16 60 (dk_at dksX4_makes_0 4 rfl rfl)
theorem dX4_makes_6 : decode cX4_makes 6 = .ok (.if_icmp .ne 10, 3) := dk_160 0 10 (dk_at dksX4_makes_0 6 rfl rfl)
theorem dX4_makes_9 : decode cX4_makes 9 = .ok (.aload_n 0, 1) := dk_42 (dk_at dksX4_makes_0 9 rfl rfl)
theorem dX4_makes_10 : decode cX4_makes 10 = .ok (.iconst 3, 1) := dk_6 (dk_at dksX4_makes_0 10 rfl rfl)
theorem dX4_makes_11 : decode cX4_makes 11 = .ok (.iload_n 1, 1) := dk_27 (dk_at dksX4_makes_0 11 rfl rfl)
theorem dX4_makes_12 : decode cX4_makes 12 = .ok (.invokevirtual 117, 3) := dk_182 0 117 (dk_at dksX4_makes_0 12 rfl rfl)
theorem dX4_makes_15 : decode cX4_makes 15 = .ok (.ireturn, 1) := dk_172 (dk_at dksX4_makes_0 15 rfl rfl)
theorem dX4_makes_16 : decode cX4_makes 16 = .ok (.aload_n 0, 1) := dk_42 (dk_at dksX4_makes_0 16 rfl rfl)
theorem dX4_makes_17 : decode cX4_makes 17 = .ok (.dup, 1) := dk_89 (dk_at dksX4_makes_0 17 rfl rfl)
theorem dX4_makes_18 : decode cX4_makes 18 = .ok (.getfield 153, 3) := dk_180 0 153 (dk_at dksX4_makes_0 18 rfl rfl)
theorem dX4_makes_21 : decode cX4_makes 21 = .ok (.iconst 1, 1) := dk_4 (dk_at dksX4_makes_0 21 rfl rfl)
theorem dX4_makes_22 : decode cX4_makes 22 = .ok (.iadd, 1) := dk_96 (dk_at dksX4_makes_0 22 rfl rfl)
theorem dX4_makes_23 : decode cX4_makes 23 = .ok (.putfield 153, 3) := dk_181 0 153 (dk_at dksX4_makes_1 0 rfl rfl)
theorem dX4_makes_26 : decode cX4_makes 26 = .ok (.iconst 1, 1) := dk_4 (dk_at dksX4_makes_1 3 rfl rfl)
theorem dX4_makes_27 : decode cX4_makes 27 = .ok (.ireturn, 1) := dk_172 (dk_at dksX4_makes_1 4 rfl rfl)
abbrev cX4_puts : ByteArray := prog_19_method_15_code
def yX4_puts : MethodName := ⟨RX4, "puts", "(II)V"⟩
def dkwX4_puts_1 : List UInt8 := [16, 16, 28, 104, 96, 79, 42, 180, 0, 17, 42, 180, 0, 150, 92, 46, 4, 96, 79, 177]
abbrev dktX4_puts_1 : List UInt8 := dkwX4_puts_1 ++ []
def dkwX4_puts_0 : List UInt8 := [42, 180, 0, 13, 17, 1, 144, 42, 180, 0, 150, 104, 42, 180, 0, 17, 42, 180, 0, 150, 46, 96, 27]
abbrev dktX4_puts_0 : List UInt8 := dkwX4_puts_0 ++ dktX4_puts_1
theorem dksX4_puts_0 : cX4_puts.data.toList.drop 0 = dktX4_puts_0 := by decide +kernel
theorem dksX4_puts_1 : cX4_puts.data.toList.drop 23 = dktX4_puts_1 := dk_seg dksX4_puts_0 23 rfl rfl
theorem dX4_puts_0 : decode cX4_puts 0 = .ok (.aload_n 0, 1) := dk_42 (dk_at dksX4_puts_0 0 rfl rfl)
theorem dX4_puts_1 : decode cX4_puts 1 = .ok (.getfield 13, 3) := dk_180 0 13 (dk_at dksX4_puts_0 1 rfl rfl)
theorem dX4_puts_4 : decode cX4_puts 4 = .ok (.sipush 400, 3) := dk_17 1 144 (dk_at dksX4_puts_0 4 rfl rfl)
theorem dX4_puts_7 : decode cX4_puts 7 = .ok (.aload_n 0, 1) := dk_42 (dk_at dksX4_puts_0 7 rfl rfl)
theorem dX4_puts_8 : decode cX4_puts 8 = .ok (.getfield 150, 3) := dk_180 0 150 (dk_at dksX4_puts_0 8 rfl rfl)
theorem dX4_puts_11 : decode cX4_puts 11 = .ok (.imul, 1) := dk_104 (dk_at dksX4_puts_0 11 rfl rfl)
theorem dX4_puts_12 : decode cX4_puts 12 = .ok (.aload_n 0, 1) := dk_42 (dk_at dksX4_puts_0 12 rfl rfl)
theorem dX4_puts_13 : decode cX4_puts 13 = .ok (.getfield 17, 3) := dk_180 0 17 (dk_at dksX4_puts_0 13 rfl rfl)
theorem dX4_puts_16 : decode cX4_puts 16 = .ok (.aload_n 0, 1) := dk_42 (dk_at dksX4_puts_0 16 rfl rfl)
theorem dX4_puts_17 : decode cX4_puts 17 = .ok (.getfield 150, 3) := dk_180 0 150 (dk_at dksX4_puts_0 17 rfl rfl)
theorem dX4_puts_20 : decode cX4_puts 20 = .ok (.iaload, 1) := dk_46 (dk_at dksX4_puts_0 20 rfl rfl)
theorem dX4_puts_21 : decode cX4_puts 21 = .ok (.iadd, 1) := dk_96 (dk_at dksX4_puts_0 21 rfl rfl)
theorem dX4_puts_22 : decode cX4_puts 22 = .ok (.iload_n 1, 1) := dk_27 (dk_at dksX4_puts_0 22 rfl rfl)
theorem dX4_puts_23 : decode cX4_puts 23 = .ok (.bipush 16, 2) := dk_16 16 (dk_at dksX4_puts_1 0 rfl rfl)
theorem dX4_puts_25 : decode cX4_puts 25 = .ok (.iload_n 2, 1) := dk_28 (dk_at dksX4_puts_1 2 rfl rfl)
theorem dX4_puts_26 : decode cX4_puts 26 = .ok (.imul, 1) := dk_104 (dk_at dksX4_puts_1 3 rfl rfl)
theorem dX4_puts_27 : decode cX4_puts 27 = .ok (.iadd, 1) := dk_96 (dk_at dksX4_puts_1 4 rfl rfl)
theorem dX4_puts_28 : decode cX4_puts 28 = .ok (.iastore, 1) := dk_79 (dk_at dksX4_puts_1 5 rfl rfl)
theorem dX4_puts_29 : decode cX4_puts 29 = .ok (.aload_n 0, 1) := dk_42 (dk_at dksX4_puts_1 6 rfl rfl)
theorem dX4_puts_30 : decode cX4_puts 30 = .ok (.getfield 17, 3) := dk_180 0 17 (dk_at dksX4_puts_1 7 rfl rfl)
theorem dX4_puts_33 : decode cX4_puts 33 = .ok (.aload_n 0, 1) := dk_42 (dk_at dksX4_puts_1 10 rfl rfl)
theorem dX4_puts_34 : decode cX4_puts 34 = .ok (.getfield 150, 3) := dk_180 0 150 (dk_at dksX4_puts_1 11 rfl rfl)
theorem dX4_puts_37 : decode cX4_puts 37 = .ok (.dup2, 1) := dk_92 (dk_at dksX4_puts_1 14 rfl rfl)
theorem dX4_puts_38 : decode cX4_puts 38 = .ok (.iaload, 1) := dk_46 (dk_at dksX4_puts_1 15 rfl rfl)
theorem dX4_puts_39 : decode cX4_puts 39 = .ok (.iconst 1, 1) := dk_4 (dk_at dksX4_puts_1 16 rfl rfl)
theorem dX4_puts_40 : decode cX4_puts 40 = .ok (.iadd, 1) := dk_96 (dk_at dksX4_puts_1 17 rfl rfl)
theorem dX4_puts_41 : decode cX4_puts 41 = .ok (.iastore, 1) := dk_79 (dk_at dksX4_puts_1 18 rfl rfl)
theorem dX4_puts_42 : decode cX4_puts 42 = .ok (.return_, 1) := dk_177 (dk_at dksX4_puts_1 19 rfl rfl)
abbrev cX4_wordHere : ByteArray := prog_19_method_14_code
def yX4_wordHere : MethodName := ⟨RX4, "wordHere", "()I"⟩
def dkwX4_wordHere_6 : List UInt8 := [172]
abbrev dktX4_wordHere_6 : List UInt8 := dkwX4_wordHere_6 ++ []
def dkwX4_wordHere_5 : List UInt8 := [153, 0, 8, 16, 9, 167, 0, 19, 42, 20, 0, 148, 182, 0, 107, 153, 0, 8, 16, 10, 167, 0, 4, 2]
abbrev dktX4_wordHere_5 : List UInt8 := dkwX4_wordHere_5 ++ dktX4_wordHere_6
def dkwX4_wordHere_4 : List UInt8 := [16, 7, 172, 42, 20, 0, 144, 182, 0, 107, 153, 0, 6, 16, 8, 172, 42, 20, 0, 146, 182, 0, 107]
abbrev dktX4_wordHere_4 : List UInt8 := dkwX4_wordHere_4 ++ dktX4_wordHere_5
def dkwX4_wordHere_3 : List UInt8 := [42, 20, 0, 140, 182, 0, 107, 153, 0, 6, 16, 6, 172, 42, 20, 0, 142, 182, 0, 107, 153, 0, 6]
abbrev dktX4_wordHere_3 : List UInt8 := dkwX4_wordHere_3 ++ dktX4_wordHere_4
def dkwX4_wordHere_2 : List UInt8 := [42, 20, 0, 136, 182, 0, 107, 153, 0, 5, 7, 172, 42, 20, 0, 138, 182, 0, 107, 153, 0, 5, 8, 172]
abbrev dktX4_wordHere_2 : List UInt8 := dkwX4_wordHere_2 ++ dktX4_wordHere_3
def dkwX4_wordHere_1 : List UInt8 := [42, 20, 0, 132, 182, 0, 107, 153, 0, 5, 5, 172, 42, 20, 0, 134, 182, 0, 107, 153, 0, 5, 6, 172]
abbrev dktX4_wordHere_1 : List UInt8 := dkwX4_wordHere_1 ++ dktX4_wordHere_2
def dkwX4_wordHere_0 : List UInt8 := [42, 20, 0, 128, 182, 0, 107, 153, 0, 5, 3, 172, 42, 20, 0, 130, 182, 0, 107, 153, 0, 5, 4, 172]
abbrev dktX4_wordHere_0 : List UInt8 := dkwX4_wordHere_0 ++ dktX4_wordHere_1
theorem dksX4_wordHere_0 : cX4_wordHere.data.toList.drop 0 = dktX4_wordHere_0 := by decide +kernel
theorem dksX4_wordHere_1 : cX4_wordHere.data.toList.drop 24 = dktX4_wordHere_1 := dk_seg dksX4_wordHere_0 24 rfl rfl
theorem dksX4_wordHere_2 : cX4_wordHere.data.toList.drop 48 = dktX4_wordHere_2 := dk_seg dksX4_wordHere_1 24 rfl rfl
theorem dksX4_wordHere_3 : cX4_wordHere.data.toList.drop 72 = dktX4_wordHere_3 := dk_seg dksX4_wordHere_2 24 rfl rfl
theorem dksX4_wordHere_4 : cX4_wordHere.data.toList.drop 95 = dktX4_wordHere_4 := dk_seg dksX4_wordHere_3 23 rfl rfl
theorem dksX4_wordHere_5 : cX4_wordHere.data.toList.drop 118 = dktX4_wordHere_5 := dk_seg dksX4_wordHere_4 23 rfl rfl
theorem dksX4_wordHere_6 : cX4_wordHere.data.toList.drop 142 = dktX4_wordHere_6 := dk_seg dksX4_wordHere_5 24 rfl rfl
theorem dX4_wordHere_0 : decode cX4_wordHere 0 = .ok (.aload_n 0, 1) := dk_42 (dk_at dksX4_wordHere_0 0 rfl rfl)
theorem dX4_wordHere_1 : decode cX4_wordHere 1 = .ok (.ldc2_w 128, 3) := dk_20 0 128 (dk_at dksX4_wordHere_0 1 rfl rfl)
theorem dX4_wordHere_4 : decode cX4_wordHere 4 = .ok (.invokevirtual 107, 3) := dk_182 0 107 (dk_at dksX4_wordHere_0 4 rfl rfl)
theorem dX4_wordHere_7 : decode cX4_wordHere 7 = .ok (.ifCond .eq 5, 3) := dk_153 0 5 (dk_at dksX4_wordHere_0 7 rfl rfl)
theorem dX4_wordHere_10 : decode cX4_wordHere 10 = .ok (.iconst 0, 1) := dk_3 (dk_at dksX4_wordHere_0 10 rfl rfl)
theorem dX4_wordHere_11 : decode cX4_wordHere 11 = .ok (.ireturn, 1) := dk_172 (dk_at dksX4_wordHere_0 11 rfl rfl)
theorem dX4_wordHere_12 : decode cX4_wordHere 12 = .ok (.aload_n 0, 1) := dk_42 (dk_at dksX4_wordHere_0 12 rfl rfl)
theorem dX4_wordHere_13 : decode cX4_wordHere 13 = .ok (.ldc2_w 130, 3) := dk_20 0 130 (dk_at dksX4_wordHere_0 13 rfl rfl)
theorem dX4_wordHere_16 : decode cX4_wordHere 16 = .ok (.invokevirtual 107, 3) := dk_182 0 107 (dk_at dksX4_wordHere_0 16 rfl rfl)
theorem dX4_wordHere_19 : decode cX4_wordHere 19 = .ok (.ifCond .eq 5, 3) := dk_153 0 5 (dk_at dksX4_wordHere_0 19 rfl rfl)
theorem dX4_wordHere_22 : decode cX4_wordHere 22 = .ok (.iconst 1, 1) := dk_4 (dk_at dksX4_wordHere_0 22 rfl rfl)
theorem dX4_wordHere_23 : decode cX4_wordHere 23 = .ok (.ireturn, 1) := dk_172 (dk_at dksX4_wordHere_0 23 rfl rfl)
theorem dX4_wordHere_24 : decode cX4_wordHere 24 = .ok (.aload_n 0, 1) := dk_42 (dk_at dksX4_wordHere_1 0 rfl rfl)
theorem dX4_wordHere_25 : decode cX4_wordHere 25 = .ok (.ldc2_w 132, 3) := dk_20 0 132 (dk_at dksX4_wordHere_1 1 rfl rfl)
theorem dX4_wordHere_28 : decode cX4_wordHere 28 = .ok (.invokevirtual 107, 3) := dk_182 0 107 (dk_at dksX4_wordHere_1 4 rfl rfl)
theorem dX4_wordHere_31 : decode cX4_wordHere 31 = .ok (.ifCond .eq 5, 3) := dk_153 0 5 (dk_at dksX4_wordHere_1 7 rfl rfl)
theorem dX4_wordHere_34 : decode cX4_wordHere 34 = .ok (.iconst 2, 1) := dk_5 (dk_at dksX4_wordHere_1 10 rfl rfl)
theorem dX4_wordHere_35 : decode cX4_wordHere 35 = .ok (.ireturn, 1) := dk_172 (dk_at dksX4_wordHere_1 11 rfl rfl)
theorem dX4_wordHere_36 : decode cX4_wordHere 36 = .ok (.aload_n 0, 1) := dk_42 (dk_at dksX4_wordHere_1 12 rfl rfl)
theorem dX4_wordHere_37 : decode cX4_wordHere 37 = .ok (.ldc2_w 134, 3) := dk_20 0 134 (dk_at dksX4_wordHere_1 13 rfl rfl)
theorem dX4_wordHere_40 : decode cX4_wordHere 40 = .ok (.invokevirtual 107, 3) := dk_182 0 107 (dk_at dksX4_wordHere_1 16 rfl rfl)
theorem dX4_wordHere_43 : decode cX4_wordHere 43 = .ok (.ifCond .eq 5, 3) := dk_153 0 5 (dk_at dksX4_wordHere_1 19 rfl rfl)
theorem dX4_wordHere_46 : decode cX4_wordHere 46 = .ok (.iconst 3, 1) := dk_6 (dk_at dksX4_wordHere_1 22 rfl rfl)
theorem dX4_wordHere_47 : decode cX4_wordHere 47 = .ok (.ireturn, 1) := dk_172 (dk_at dksX4_wordHere_1 23 rfl rfl)
theorem dX4_wordHere_48 : decode cX4_wordHere 48 = .ok (.aload_n 0, 1) := dk_42 (dk_at dksX4_wordHere_2 0 rfl rfl)
theorem dX4_wordHere_49 : decode cX4_wordHere 49 = .ok (.ldc2_w 136, 3) := dk_20 0 136 (dk_at dksX4_wordHere_2 1 rfl rfl)
theorem dX4_wordHere_52 : decode cX4_wordHere 52 = .ok (.invokevirtual 107, 3) := dk_182 0 107 (dk_at dksX4_wordHere_2 4 rfl rfl)
theorem dX4_wordHere_55 : decode cX4_wordHere 55 = .ok (.ifCond .eq 5, 3) := dk_153 0 5 (dk_at dksX4_wordHere_2 7 rfl rfl)
theorem dX4_wordHere_58 : decode cX4_wordHere 58 = .ok (.iconst 4, 1) := dk_7 (dk_at dksX4_wordHere_2 10 rfl rfl)
theorem dX4_wordHere_59 : decode cX4_wordHere 59 = .ok (.ireturn, 1) := dk_172 (dk_at dksX4_wordHere_2 11 rfl rfl)
theorem dX4_wordHere_60 : decode cX4_wordHere 60 = .ok (.aload_n 0, 1) := dk_42 (dk_at dksX4_wordHere_2 12 rfl rfl)
theorem dX4_wordHere_61 : decode cX4_wordHere 61 = .ok (.ldc2_w 138, 3) := dk_20 0 138 (dk_at dksX4_wordHere_2 13 rfl rfl)
theorem dX4_wordHere_64 : decode cX4_wordHere 64 = .ok (.invokevirtual 107, 3) := dk_182 0 107 (dk_at dksX4_wordHere_2 16 rfl rfl)
theorem dX4_wordHere_67 : decode cX4_wordHere 67 = .ok (.ifCond .eq 5, 3) := dk_153 0 5 (dk_at dksX4_wordHere_2 19 rfl rfl)
theorem dX4_wordHere_70 : decode cX4_wordHere 70 = .ok (.iconst 5, 1) := dk_8 (dk_at dksX4_wordHere_2 22 rfl rfl)
theorem dX4_wordHere_71 : decode cX4_wordHere 71 = .ok (.ireturn, 1) := dk_172 (dk_at dksX4_wordHere_2 23 rfl rfl)
theorem dX4_wordHere_72 : decode cX4_wordHere 72 = .ok (.aload_n 0, 1) := dk_42 (dk_at dksX4_wordHere_3 0 rfl rfl)
theorem dX4_wordHere_73 : decode cX4_wordHere 73 = .ok (.ldc2_w 140, 3) := dk_20 0 140 (dk_at dksX4_wordHere_3 1 rfl rfl)
theorem dX4_wordHere_76 : decode cX4_wordHere 76 = .ok (.invokevirtual 107, 3) := dk_182 0 107 (dk_at dksX4_wordHere_3 4 rfl rfl)
theorem dX4_wordHere_79 : decode cX4_wordHere 79 = .ok (.ifCond .eq 6, 3) := dk_153 0 6 (dk_at dksX4_wordHere_3 7 rfl rfl)
theorem dX4_wordHere_82 : decode cX4_wordHere 82 = .ok (.bipush 6, 2) := dk_16 6 (dk_at dksX4_wordHere_3 10 rfl rfl)
theorem dX4_wordHere_84 : decode cX4_wordHere 84 = .ok (.ireturn, 1) := dk_172 (dk_at dksX4_wordHere_3 12 rfl rfl)
theorem dX4_wordHere_85 : decode cX4_wordHere 85 = .ok (.aload_n 0, 1) := dk_42 (dk_at dksX4_wordHere_3 13 rfl rfl)
theorem dX4_wordHere_86 : decode cX4_wordHere 86 = .ok (.ldc2_w 142, 3) := dk_20 0 142 (dk_at dksX4_wordHere_3 14 rfl rfl)
theorem dX4_wordHere_89 : decode cX4_wordHere 89 = .ok (.invokevirtual 107, 3) := dk_182 0 107 (dk_at dksX4_wordHere_3 17 rfl rfl)
theorem dX4_wordHere_92 : decode cX4_wordHere 92 = .ok (.ifCond .eq 6, 3) := dk_153 0 6 (dk_at dksX4_wordHere_3 20 rfl rfl)
theorem dX4_wordHere_95 : decode cX4_wordHere 95 = .ok (.bipush 7, 2) := dk_16 7 (dk_at dksX4_wordHere_4 0 rfl rfl)
theorem dX4_wordHere_97 : decode cX4_wordHere 97 = .ok (.ireturn, 1) := dk_172 (dk_at dksX4_wordHere_4 2 rfl rfl)
theorem dX4_wordHere_98 : decode cX4_wordHere 98 = .ok (.aload_n 0, 1) := dk_42 (dk_at dksX4_wordHere_4 3 rfl rfl)
theorem dX4_wordHere_99 : decode cX4_wordHere 99 = .ok (.ldc2_w 144, 3) := dk_20 0 144 (dk_at dksX4_wordHere_4 4 rfl rfl)
theorem dX4_wordHere_102 : decode cX4_wordHere 102 = .ok (.invokevirtual 107, 3) := dk_182 0 107 (dk_at dksX4_wordHere_4 7 rfl rfl)
theorem dX4_wordHere_105 : decode cX4_wordHere 105 = .ok (.ifCond .eq 6, 3) := dk_153 0 6 (dk_at dksX4_wordHere_4 10 rfl rfl)
theorem dX4_wordHere_108 : decode cX4_wordHere 108 = .ok (.bipush 8, 2) := dk_16 8 (dk_at dksX4_wordHere_4 13 rfl rfl)
theorem dX4_wordHere_110 : decode cX4_wordHere 110 = .ok (.ireturn, 1) := dk_172 (dk_at dksX4_wordHere_4 15 rfl rfl)
theorem dX4_wordHere_111 : decode cX4_wordHere 111 = .ok (.aload_n 0, 1) := dk_42 (dk_at dksX4_wordHere_4 16 rfl rfl)
theorem dX4_wordHere_112 : decode cX4_wordHere 112 = .ok (.ldc2_w 146, 3) := dk_20 0 146 (dk_at dksX4_wordHere_4 17 rfl rfl)
theorem dX4_wordHere_115 : decode cX4_wordHere 115 = .ok (.invokevirtual 107, 3) := dk_182 0 107 (dk_at dksX4_wordHere_4 20 rfl rfl)
theorem dX4_wordHere_118 : decode cX4_wordHere 118 = .ok (.ifCond .eq 8, 3) := dk_153 0 8 (dk_at dksX4_wordHere_5 0 rfl rfl)
theorem dX4_wordHere_121 : decode cX4_wordHere 121 = .ok (.bipush 9, 2) := dk_16 9 (dk_at dksX4_wordHere_5 3 rfl rfl)
theorem dX4_wordHere_123 : decode cX4_wordHere 123 = .ok (.goto 19, 3) := dk_167 0 19 (dk_at dksX4_wordHere_5 5 rfl rfl)
theorem dX4_wordHere_126 : decode cX4_wordHere 126 = .ok (.aload_n 0, 1) := dk_42 (dk_at dksX4_wordHere_5 8 rfl rfl)
theorem dX4_wordHere_127 : decode cX4_wordHere 127 = .ok (.ldc2_w 148, 3) := dk_20 0 148 (dk_at dksX4_wordHere_5 9 rfl rfl)
theorem dX4_wordHere_130 : decode cX4_wordHere 130 = .ok (.invokevirtual 107, 3) := dk_182 0 107 (dk_at dksX4_wordHere_5 12 rfl rfl)
theorem dX4_wordHere_133 : decode cX4_wordHere 133 = .ok (.ifCond .eq 8, 3) := dk_153 0 8 (dk_at dksX4_wordHere_5 15 rfl rfl)
theorem dX4_wordHere_136 : decode cX4_wordHere 136 = .ok (.bipush 10, 2) := dk_16 10 (dk_at dksX4_wordHere_5 18 rfl rfl)
theorem dX4_wordHere_138 : decode cX4_wordHere 138 = .ok (.goto 4, 3) := dk_167 0 4 (dk_at dksX4_wordHere_5 20 rfl rfl)
theorem dX4_wordHere_141 : decode cX4_wordHere 141 = .ok (.iconst (-1), 1) := dk_2 (dk_at dksX4_wordHere_5 23 rfl rfl)
theorem dX4_wordHere_142 : decode cX4_wordHere 142 = .ok (.ireturn, 1) := dk_172 (dk_at dksX4_wordHere_6 0 rfl rfl)
abbrev cX4_takesWord : ByteArray := prog_19_method_12_code
def yX4_takesWord : MethodName := ⟨RX4, "takesWord", "(J)Z"⟩
def dkwX4_takesWord_0 : List UInt8 := [42, 31, 182, 0, 107, 154, 0, 5, 3, 172, 42, 182, 0, 111, 4, 172]
abbrev dktX4_takesWord_0 : List UInt8 := dkwX4_takesWord_0 ++ []
theorem dksX4_takesWord_0 : cX4_takesWord.data.toList.drop 0 = dktX4_takesWord_0 := by decide +kernel
theorem dX4_takesWord_0 : decode cX4_takesWord 0 = .ok (.aload_n 0, 1) := dk_42 (dk_at dksX4_takesWord_0 0 rfl rfl)
theorem dX4_takesWord_1 : decode cX4_takesWord 1 = .ok (.lload_n 1, 1) := dk_31 (dk_at dksX4_takesWord_0 1 rfl rfl)
theorem dX4_takesWord_2 : decode cX4_takesWord 2 = .ok (.invokevirtual 107, 3) := dk_182 0 107 (dk_at dksX4_takesWord_0 2 rfl rfl)
theorem dX4_takesWord_5 : decode cX4_takesWord 5 = .ok (.ifCond .ne 5, 3) := dk_154 0 5 (dk_at dksX4_takesWord_0 5 rfl rfl)
theorem dX4_takesWord_8 : decode cX4_takesWord 8 = .ok (.iconst 0, 1) := dk_3 (dk_at dksX4_takesWord_0 8 rfl rfl)
theorem dX4_takesWord_9 : decode cX4_takesWord 9 = .ok (.ireturn, 1) := dk_172 (dk_at dksX4_takesWord_0 9 rfl rfl)
theorem dX4_takesWord_10 : decode cX4_takesWord 10 = .ok (.aload_n 0, 1) := dk_42 (dk_at dksX4_takesWord_0 10 rfl rfl)
theorem dX4_takesWord_11 : decode cX4_takesWord 11 = .ok (.invokevirtual 111, 3) := dk_182 0 111 (dk_at dksX4_takesWord_0 11 rfl rfl)
theorem dX4_takesWord_14 : decode cX4_takesWord 14 = .ok (.iconst 1, 1) := dk_4 (dk_at dksX4_takesWord_0 14 rfl rfl)
theorem dX4_takesWord_15 : decode cX4_takesWord 15 = .ok (.ireturn, 1) := dk_172 (dk_at dksX4_takesWord_0 15 rfl rfl)
abbrev cX4_tested : ByteArray := prog_19_method_27_code
def yX4_tested : MethodName := ⟨RX4, "tested", "()Z"⟩
def dkwX4_tested_6 : List UInt8 := [172]
abbrev dktX4_tested_6 : List UInt8 := dkwX4_tested_6 ++ []
def dkwX4_tested_5 : List UInt8 := [153, 0, 18, 42, 182, 0, 99, 87, 42, 3, 42, 180, 0, 96, 182, 0, 117, 172, 42, 4, 182, 0, 198, 4]
abbrev dktX4_tested_5 : List UInt8 := dkwX4_tested_5 ++ dktX4_tested_6
def dkwX4_tested_4 : List UInt8 := [42, 180, 0, 159, 28, 79, 42, 89, 180, 0, 159, 4, 96, 181, 0, 159, 167, 255, 159, 42, 182, 0, 201]
abbrev dktX4_tested_4 : List UInt8 := dkwX4_tested_4 ++ dktX4_tested_5
def dkwX4_tested_3 : List UInt8 := [16, 12, 167, 0, 5, 16, 13, 61, 42, 182, 0, 111, 42, 28, 184, 0, 162, 182, 0, 198, 42, 180, 0, 29]
abbrev dktX4_tested_3 : List UInt8 := dkwX4_tested_3 ++ dktX4_tested_4
def dkwX4_tested_2 : List UInt8 := [153, 0, 7, 4, 167, 0, 4, 3, 60, 27, 153, 255, 212, 42, 20, 0, 210, 182, 0, 107, 153, 0, 8]
abbrev dktX4_tested_2 : List UInt8 := dkwX4_tested_2 ++ dktX4_tested_3
def dkwX4_tested_1 : List UInt8 := [172, 42, 182, 0, 207, 42, 20, 0, 210, 182, 0, 107, 154, 0, 13, 42, 20, 0, 212, 182, 0, 107]
abbrev dktX4_tested_1 : List UInt8 := dkwX4_tested_1 ++ dktX4_tested_2
def dkwX4_tested_0 : List UInt8 := [42, 3, 181, 0, 159, 42, 3, 181, 0, 156, 4, 60, 27, 153, 0, 99, 42, 182, 0, 204, 154, 0, 5, 3]
abbrev dktX4_tested_0 : List UInt8 := dkwX4_tested_0 ++ dktX4_tested_1
theorem dksX4_tested_0 : cX4_tested.data.toList.drop 0 = dktX4_tested_0 := by decide +kernel
theorem dksX4_tested_1 : cX4_tested.data.toList.drop 24 = dktX4_tested_1 := dk_seg dksX4_tested_0 24 rfl rfl
theorem dksX4_tested_2 : cX4_tested.data.toList.drop 46 = dktX4_tested_2 := dk_seg dksX4_tested_1 22 rfl rfl
theorem dksX4_tested_3 : cX4_tested.data.toList.drop 69 = dktX4_tested_3 := dk_seg dksX4_tested_2 23 rfl rfl
theorem dksX4_tested_4 : cX4_tested.data.toList.drop 93 = dktX4_tested_4 := dk_seg dksX4_tested_3 24 rfl rfl
theorem dksX4_tested_5 : cX4_tested.data.toList.drop 116 = dktX4_tested_5 := dk_seg dksX4_tested_4 23 rfl rfl
theorem dksX4_tested_6 : cX4_tested.data.toList.drop 140 = dktX4_tested_6 := dk_seg dksX4_tested_5 24 rfl rfl
theorem dX4_tested_0 : decode cX4_tested 0 = .ok (.aload_n 0, 1) := dk_42 (dk_at dksX4_tested_0 0 rfl rfl)
theorem dX4_tested_1 : decode cX4_tested 1 = .ok (.iconst 0, 1) := dk_3 (dk_at dksX4_tested_0 1 rfl rfl)
theorem dX4_tested_2 : decode cX4_tested 2 = .ok (.putfield 159, 3) := dk_181 0 159 (dk_at dksX4_tested_0 2 rfl rfl)
theorem dX4_tested_5 : decode cX4_tested 5 = .ok (.aload_n 0, 1) := dk_42 (dk_at dksX4_tested_0 5 rfl rfl)
theorem dX4_tested_6 : decode cX4_tested 6 = .ok (.iconst 0, 1) := dk_3 (dk_at dksX4_tested_0 6 rfl rfl)
theorem dX4_tested_7 : decode cX4_tested 7 = .ok (.putfield 156, 3) := dk_181 0 156 (dk_at dksX4_tested_0 7 rfl rfl)
theorem dX4_tested_10 : decode cX4_tested 10 = .ok (.iconst 1, 1) := dk_4 (dk_at dksX4_tested_0 10 rfl rfl)
theorem dX4_tested_11 : decode cX4_tested 11 = .ok (.istore_n 1, 1) := dk_60 (dk_at dksX4_tested_0 11 rfl rfl)
theorem dX4_tested_12 : decode cX4_tested 12 = .ok (.iload_n 1, 1) := dk_27 (dk_at dksX4_tested_0 12 rfl rfl)
theorem dX4_tested_13 : decode cX4_tested 13 = .ok (.ifCond .eq 99, 3) := dk_153 0 99 (dk_at dksX4_tested_0 13 rfl rfl)
theorem dX4_tested_16 : decode cX4_tested 16 = .ok (.aload_n 0, 1) := dk_42 (dk_at dksX4_tested_0 16 rfl rfl)
theorem dX4_tested_17 : decode cX4_tested 17 = .ok (.invokevirtual 204, 3) := dk_182 0 204 (dk_at dksX4_tested_0 17 rfl rfl)
theorem dX4_tested_20 : decode cX4_tested 20 = .ok (.ifCond .ne 5, 3) := dk_154 0 5 (dk_at dksX4_tested_0 20 rfl rfl)
theorem dX4_tested_23 : decode cX4_tested 23 = .ok (.iconst 0, 1) := dk_3 (dk_at dksX4_tested_0 23 rfl rfl)
theorem dX4_tested_24 : decode cX4_tested 24 = .ok (.ireturn, 1) := dk_172 (dk_at dksX4_tested_1 0 rfl rfl)
theorem dX4_tested_25 : decode cX4_tested 25 = .ok (.aload_n 0, 1) := dk_42 (dk_at dksX4_tested_1 1 rfl rfl)
theorem dX4_tested_26 : decode cX4_tested 26 = .ok (.invokevirtual 207, 3) := dk_182 0 207 (dk_at dksX4_tested_1 2 rfl rfl)
theorem dX4_tested_29 : decode cX4_tested 29 = .ok (.aload_n 0, 1) := dk_42 (dk_at dksX4_tested_1 5 rfl rfl)
theorem dX4_tested_30 : decode cX4_tested 30 = .ok (.ldc2_w 210, 3) := dk_20 0 210 (dk_at dksX4_tested_1 6 rfl rfl)
theorem dX4_tested_33 : decode cX4_tested 33 = .ok (.invokevirtual 107, 3) := dk_182 0 107 (dk_at dksX4_tested_1 9 rfl rfl)
theorem dX4_tested_36 : decode cX4_tested 36 = .ok (.ifCond .ne 13, 3) := dk_154 0 13 (dk_at dksX4_tested_1 12 rfl rfl)
theorem dX4_tested_39 : decode cX4_tested 39 = .ok (.aload_n 0, 1) := dk_42 (dk_at dksX4_tested_1 15 rfl rfl)
theorem dX4_tested_40 : decode cX4_tested 40 = .ok (.ldc2_w 212, 3) := dk_20 0 212 (dk_at dksX4_tested_1 16 rfl rfl)
theorem dX4_tested_43 : decode cX4_tested 43 = .ok (.invokevirtual 107, 3) := dk_182 0 107 (dk_at dksX4_tested_1 19 rfl rfl)
theorem dX4_tested_46 : decode cX4_tested 46 = .ok (.ifCond .eq 7, 3) := dk_153 0 7 (dk_at dksX4_tested_2 0 rfl rfl)
theorem dX4_tested_49 : decode cX4_tested 49 = .ok (.iconst 1, 1) := dk_4 (dk_at dksX4_tested_2 3 rfl rfl)
theorem dX4_tested_50 : decode cX4_tested 50 = .ok (.goto 4, 3) := dk_167 0 4 (dk_at dksX4_tested_2 4 rfl rfl)
theorem dX4_tested_53 : decode cX4_tested 53 = .ok (.iconst 0, 1) := dk_3 (dk_at dksX4_tested_2 7 rfl rfl)
theorem dX4_tested_54 : decode cX4_tested 54 = .ok (.istore_n 1, 1) := dk_60 (dk_at dksX4_tested_2 8 rfl rfl)
theorem dX4_tested_55 : decode cX4_tested 55 = .ok (.iload_n 1, 1) := dk_27 (dk_at dksX4_tested_2 9 rfl rfl)
theorem dX4_tested_56 : decode cX4_tested 56 = .ok (.ifCond .eq (-44), 3) := dk_153 255 212 (dk_at dksX4_tested_2 10 rfl rfl)
theorem dX4_tested_59 : decode cX4_tested 59 = .ok (.aload_n 0, 1) := dk_42 (dk_at dksX4_tested_2 13 rfl rfl)
theorem dX4_tested_60 : decode cX4_tested 60 = .ok (.ldc2_w 210, 3) := dk_20 0 210 (dk_at dksX4_tested_2 14 rfl rfl)
theorem dX4_tested_63 : decode cX4_tested 63 = .ok (.invokevirtual 107, 3) := dk_182 0 107 (dk_at dksX4_tested_2 17 rfl rfl)
theorem dX4_tested_66 : decode cX4_tested 66 = .ok (.ifCond .eq 8, 3) := dk_153 0 8 (dk_at dksX4_tested_2 20 rfl rfl)
theorem dX4_tested_69 : decode cX4_tested 69 = .ok (.bipush 12, 2) := dk_16 12 (dk_at dksX4_tested_3 0 rfl rfl)
theorem dX4_tested_71 : decode cX4_tested 71 = .ok (.goto 5, 3) := dk_167 0 5 (dk_at dksX4_tested_3 2 rfl rfl)
theorem dX4_tested_74 : decode cX4_tested 74 = .ok (.bipush 13, 2) := dk_16 13 (dk_at dksX4_tested_3 5 rfl rfl)
theorem dX4_tested_76 : decode cX4_tested 76 = .ok (.istore_n 2, 1) := dk_61 (dk_at dksX4_tested_3 7 rfl rfl)
theorem dX4_tested_77 : decode cX4_tested 77 = .ok (.aload_n 0, 1) := dk_42 (dk_at dksX4_tested_3 8 rfl rfl)
theorem dX4_tested_78 : decode cX4_tested 78 = .ok (.invokevirtual 111, 3) := dk_182 0 111 (dk_at dksX4_tested_3 9 rfl rfl)
theorem dX4_tested_81 : decode cX4_tested 81 = .ok (.aload_n 0, 1) := dk_42 (dk_at dksX4_tested_3 12 rfl rfl)
theorem dX4_tested_82 : decode cX4_tested 82 = .ok (.iload_n 2, 1) := dk_28 (dk_at dksX4_tested_3 13 rfl rfl)
theorem dX4_tested_83 : decode cX4_tested 83 = .ok (.invokestatic 162, 3) := dk_184 0 162 (dk_at dksX4_tested_3 14 rfl rfl)
theorem dX4_tested_86 : decode cX4_tested 86 = .ok (.invokevirtual 198, 3) := dk_182 0 198 (dk_at dksX4_tested_3 17 rfl rfl)
theorem dX4_tested_89 : decode cX4_tested 89 = .ok (.aload_n 0, 1) := dk_42 (dk_at dksX4_tested_3 20 rfl rfl)
theorem dX4_tested_90 : decode cX4_tested 90 = .ok (.getfield 29, 3) := dk_180 0 29 (dk_at dksX4_tested_3 21 rfl rfl)
theorem dX4_tested_93 : decode cX4_tested 93 = .ok (.aload_n 0, 1) := dk_42 (dk_at dksX4_tested_4 0 rfl rfl)
theorem dX4_tested_94 : decode cX4_tested 94 = .ok (.getfield 159, 3) := dk_180 0 159 (dk_at dksX4_tested_4 1 rfl rfl)
theorem dX4_tested_97 : decode cX4_tested 97 = .ok (.iload_n 2, 1) := dk_28 (dk_at dksX4_tested_4 4 rfl rfl)
theorem dX4_tested_98 : decode cX4_tested 98 = .ok (.iastore, 1) := dk_79 (dk_at dksX4_tested_4 5 rfl rfl)
theorem dX4_tested_99 : decode cX4_tested 99 = .ok (.aload_n 0, 1) := dk_42 (dk_at dksX4_tested_4 6 rfl rfl)
theorem dX4_tested_100 : decode cX4_tested 100 = .ok (.dup, 1) := dk_89 (dk_at dksX4_tested_4 7 rfl rfl)
theorem dX4_tested_101 : decode cX4_tested 101 = .ok (.getfield 159, 3) := dk_180 0 159 (dk_at dksX4_tested_4 8 rfl rfl)
theorem dX4_tested_104 : decode cX4_tested 104 = .ok (.iconst 1, 1) := dk_4 (dk_at dksX4_tested_4 11 rfl rfl)
theorem dX4_tested_105 : decode cX4_tested 105 = .ok (.iadd, 1) := dk_96 (dk_at dksX4_tested_4 12 rfl rfl)
theorem dX4_tested_106 : decode cX4_tested 106 = .ok (.putfield 159, 3) := dk_181 0 159 (dk_at dksX4_tested_4 13 rfl rfl)
theorem dX4_tested_109 : decode cX4_tested 109 = .ok (.goto (-97), 3) := dk_167 255 159 (dk_at dksX4_tested_4 16 rfl rfl)
theorem dX4_tested_112 : decode cX4_tested 112 = .ok (.aload_n 0, 1) := dk_42 (dk_at dksX4_tested_4 19 rfl rfl)
theorem dX4_tested_113 : decode cX4_tested 113 = .ok (.invokevirtual 201, 3) := dk_182 0 201 (dk_at dksX4_tested_4 20 rfl rfl)
theorem dX4_tested_116 : decode cX4_tested 116 = .ok (.ifCond .eq 18, 3) := dk_153 0 18 (dk_at dksX4_tested_5 0 rfl rfl)
theorem dX4_tested_119 : decode cX4_tested 119 = .ok (.aload_n 0, 1) := dk_42 (dk_at dksX4_tested_5 3 rfl rfl)
theorem dX4_tested_120 : decode cX4_tested 120 = .ok (.invokevirtual 99, 3) := dk_182 0 99 (dk_at dksX4_tested_5 4 rfl rfl)
theorem dX4_tested_123 : decode cX4_tested 123 = .ok (.pop, 1) := dk_87 (dk_at dksX4_tested_5 7 rfl rfl)
theorem dX4_tested_124 : decode cX4_tested 124 = .ok (.aload_n 0, 1) := dk_42 (dk_at dksX4_tested_5 8 rfl rfl)
theorem dX4_tested_125 : decode cX4_tested 125 = .ok (.iconst 0, 1) := dk_3 (dk_at dksX4_tested_5 9 rfl rfl)
theorem dX4_tested_126 : decode cX4_tested 126 = .ok (.aload_n 0, 1) := dk_42 (dk_at dksX4_tested_5 10 rfl rfl)
theorem dX4_tested_127 : decode cX4_tested 127 = .ok (.getfield 96, 3) := dk_180 0 96 (dk_at dksX4_tested_5 11 rfl rfl)
theorem dX4_tested_130 : decode cX4_tested 130 = .ok (.invokevirtual 117, 3) := dk_182 0 117 (dk_at dksX4_tested_5 14 rfl rfl)
theorem dX4_tested_133 : decode cX4_tested 133 = .ok (.ireturn, 1) := dk_172 (dk_at dksX4_tested_5 17 rfl rfl)
theorem dX4_tested_134 : decode cX4_tested 134 = .ok (.aload_n 0, 1) := dk_42 (dk_at dksX4_tested_5 18 rfl rfl)
theorem dX4_tested_135 : decode cX4_tested 135 = .ok (.iconst 1, 1) := dk_4 (dk_at dksX4_tested_5 19 rfl rfl)
theorem dX4_tested_136 : decode cX4_tested 136 = .ok (.invokevirtual 198, 3) := dk_182 0 198 (dk_at dksX4_tested_5 20 rfl rfl)
theorem dX4_tested_139 : decode cX4_tested 139 = .ok (.iconst 1, 1) := dk_4 (dk_at dksX4_tested_5 23 rfl rfl)
theorem dX4_tested_140 : decode cX4_tested 140 = .ok (.ireturn, 1) := dk_172 (dk_at dksX4_tested_6 0 rfl rfl)
abbrev cX4_fact : ByteArray := prog_19_method_24_code
def yX4_fact : MethodName := ⟨RX4, "fact", "()Z"⟩
def dkwX4_fact_3 : List UInt8 := [4, 60, 167, 255, 186, 42, 182, 0, 195, 172]
abbrev dktX4_fact_3 : List UInt8 := dkwX4_fact_3 ++ []
def dkwX4_fact_2 : List UInt8 := [160, 0, 26, 42, 16, 91, 182, 0, 192, 154, 0, 5, 3, 172, 42, 89, 180, 0, 96, 4, 96, 181, 0, 96]
abbrev dktX4_fact_2 : List UInt8 := dkwX4_fact_2 ++ dktX4_fact_3
def dkwX4_fact_1 : List UInt8 := [16, 11, 182, 0, 192, 154, 0, 5, 3, 172, 42, 182, 0, 111, 4, 60, 167, 0, 32, 28, 16, 91]
abbrev dktX4_fact_1 : List UInt8 := dkwX4_fact_1 ++ dktX4_fact_2
def dkwX4_fact_0 : List UInt8 := [4, 60, 27, 153, 0, 72, 3, 60, 42, 182, 0, 99, 61, 42, 20, 0, 190, 182, 0, 107, 153, 0, 23, 42]
abbrev dktX4_fact_0 : List UInt8 := dkwX4_fact_0 ++ dktX4_fact_1
theorem dksX4_fact_0 : cX4_fact.data.toList.drop 0 = dktX4_fact_0 := by decide +kernel
theorem dksX4_fact_1 : cX4_fact.data.toList.drop 24 = dktX4_fact_1 := dk_seg dksX4_fact_0 24 rfl rfl
theorem dksX4_fact_2 : cX4_fact.data.toList.drop 46 = dktX4_fact_2 := dk_seg dksX4_fact_1 22 rfl rfl
theorem dksX4_fact_3 : cX4_fact.data.toList.drop 70 = dktX4_fact_3 := dk_seg dksX4_fact_2 24 rfl rfl
theorem dX4_fact_0 : decode cX4_fact 0 = .ok (.iconst 1, 1) := dk_4 (dk_at dksX4_fact_0 0 rfl rfl)
theorem dX4_fact_1 : decode cX4_fact 1 = .ok (.istore_n 1, 1) := dk_60 (dk_at dksX4_fact_0 1 rfl rfl)
theorem dX4_fact_2 : decode cX4_fact 2 = .ok (.iload_n 1, 1) := dk_27 (dk_at dksX4_fact_0 2 rfl rfl)
theorem dX4_fact_3 : decode cX4_fact 3 = .ok (.ifCond .eq 72, 3) := dk_153 0 72 (dk_at dksX4_fact_0 3 rfl rfl)
theorem dX4_fact_6 : decode cX4_fact 6 = .ok (.iconst 0, 1) := dk_3 (dk_at dksX4_fact_0 6 rfl rfl)
theorem dX4_fact_7 : decode cX4_fact 7 = .ok (.istore_n 1, 1) := dk_60 (dk_at dksX4_fact_0 7 rfl rfl)
theorem dX4_fact_8 : decode cX4_fact 8 = .ok (.aload_n 0, 1) := dk_42 (dk_at dksX4_fact_0 8 rfl rfl)
theorem dX4_fact_9 : decode cX4_fact 9 = .ok (.invokevirtual 99, 3) := dk_182 0 99 (dk_at dksX4_fact_0 9 rfl rfl)
theorem dX4_fact_12 : decode cX4_fact 12 = .ok (.istore_n 2, 1) := dk_61 (dk_at dksX4_fact_0 12 rfl rfl)
theorem dX4_fact_13 : decode cX4_fact 13 = .ok (.aload_n 0, 1) := dk_42 (dk_at dksX4_fact_0 13 rfl rfl)
theorem dX4_fact_14 : decode cX4_fact 14 = .ok (.ldc2_w 190, 3) := dk_20 0 190 (dk_at dksX4_fact_0 14 rfl rfl)
theorem dX4_fact_17 : decode cX4_fact 17 = .ok (.invokevirtual 107, 3) := dk_182 0 107 (dk_at dksX4_fact_0 17 rfl rfl)
theorem dX4_fact_20 : decode cX4_fact 20 = .ok (.ifCond .eq 23, 3) := dk_153 0 23 (dk_at dksX4_fact_0 20 rfl rfl)
theorem dX4_fact_23 : decode cX4_fact 23 = .ok (.aload_n 0, 1) := dk_42 (dk_at dksX4_fact_0 23 rfl rfl)
theorem dX4_fact_24 : decode cX4_fact 24 = .ok (.bipush 11, 2) := dk_16 11 (dk_at dksX4_fact_1 0 rfl rfl)
theorem dX4_fact_26 : decode cX4_fact 26 = .ok (.invokevirtual 192, 3) := dk_182 0 192 (dk_at dksX4_fact_1 2 rfl rfl)
theorem dX4_fact_29 : decode cX4_fact 29 = .ok (.ifCond .ne 5, 3) := dk_154 0 5 (dk_at dksX4_fact_1 5 rfl rfl)
theorem dX4_fact_32 : decode cX4_fact 32 = .ok (.iconst 0, 1) := dk_3 (dk_at dksX4_fact_1 8 rfl rfl)
theorem dX4_fact_33 : decode cX4_fact 33 = .ok (.ireturn, 1) := dk_172 (dk_at dksX4_fact_1 9 rfl rfl)
theorem dX4_fact_34 : decode cX4_fact 34 = .ok (.aload_n 0, 1) := dk_42 (dk_at dksX4_fact_1 10 rfl rfl)
theorem dX4_fact_35 : decode cX4_fact 35 = .ok (.invokevirtual 111, 3) := dk_182 0 111 (dk_at dksX4_fact_1 11 rfl rfl)
theorem dX4_fact_38 : decode cX4_fact 38 = .ok (.iconst 1, 1) := dk_4 (dk_at dksX4_fact_1 14 rfl rfl)
theorem dX4_fact_39 : decode cX4_fact 39 = .ok (.istore_n 1, 1) := dk_60 (dk_at dksX4_fact_1 15 rfl rfl)
theorem dX4_fact_40 : decode cX4_fact 40 = .ok (.goto 32, 3) := dk_167 0 32 (dk_at dksX4_fact_1 16 rfl rfl)
theorem dX4_fact_43 : decode cX4_fact 43 = .ok (.iload_n 2, 1) := dk_28 (dk_at dksX4_fact_1 19 rfl rfl)
theorem dX4_fact_44 : decode cX4_fact 44 = .ok (.bipush 91, 2) := dk_16 91 (dk_at dksX4_fact_1 20 rfl rfl)
theorem dX4_fact_46 : decode cX4_fact 46 = .ok (.if_icmp .ne 26, 3) := dk_160 0 26 (dk_at dksX4_fact_2 0 rfl rfl)
theorem dX4_fact_49 : decode cX4_fact 49 = .ok (.aload_n 0, 1) := dk_42 (dk_at dksX4_fact_2 3 rfl rfl)
theorem dX4_fact_50 : decode cX4_fact 50 = .ok (.bipush 91, 2) := dk_16 91 (dk_at dksX4_fact_2 4 rfl rfl)
theorem dX4_fact_52 : decode cX4_fact 52 = .ok (.invokevirtual 192, 3) := dk_182 0 192 (dk_at dksX4_fact_2 6 rfl rfl)
theorem dX4_fact_55 : decode cX4_fact 55 = .ok (.ifCond .ne 5, 3) := dk_154 0 5 (dk_at dksX4_fact_2 9 rfl rfl)
theorem dX4_fact_58 : decode cX4_fact 58 = .ok (.iconst 0, 1) := dk_3 (dk_at dksX4_fact_2 12 rfl rfl)
theorem dX4_fact_59 : decode cX4_fact 59 = .ok (.ireturn, 1) := dk_172 (dk_at dksX4_fact_2 13 rfl rfl)
theorem dX4_fact_60 : decode cX4_fact 60 = .ok (.aload_n 0, 1) := dk_42 (dk_at dksX4_fact_2 14 rfl rfl)
theorem dX4_fact_61 : decode cX4_fact 61 = .ok (.dup, 1) := dk_89 (dk_at dksX4_fact_2 15 rfl rfl)
theorem dX4_fact_62 : decode cX4_fact 62 = .ok (.getfield 96, 3) := dk_180 0 96 (dk_at dksX4_fact_2 16 rfl rfl)
theorem dX4_fact_65 : decode cX4_fact 65 = .ok (.iconst 1, 1) := dk_4 (dk_at dksX4_fact_2 19 rfl rfl)
theorem dX4_fact_66 : decode cX4_fact 66 = .ok (.iadd, 1) := dk_96 (dk_at dksX4_fact_2 20 rfl rfl)
theorem dX4_fact_67 : decode cX4_fact 67 = .ok (.putfield 96, 3) := dk_181 0 96 (dk_at dksX4_fact_2 21 rfl rfl)
theorem dX4_fact_70 : decode cX4_fact 70 = .ok (.iconst 1, 1) := dk_4 (dk_at dksX4_fact_3 0 rfl rfl)
theorem dX4_fact_71 : decode cX4_fact 71 = .ok (.istore_n 1, 1) := dk_60 (dk_at dksX4_fact_3 1 rfl rfl)
theorem dX4_fact_72 : decode cX4_fact 72 = .ok (.goto (-70), 3) := dk_167 255 186 (dk_at dksX4_fact_3 2 rfl rfl)
theorem dX4_fact_75 : decode cX4_fact 75 = .ok (.aload_n 0, 1) := dk_42 (dk_at dksX4_fact_3 5 rfl rfl)
theorem dX4_fact_76 : decode cX4_fact 76 = .ok (.invokevirtual 195, 3) := dk_182 0 195 (dk_at dksX4_fact_3 6 rfl rfl)
theorem dX4_fact_79 : decode cX4_fact 79 = .ok (.ireturn, 1) := dk_172 (dk_at dksX4_fact_3 9 rfl rfl)
abbrev cX4_opens : ByteArray := prog_19_method_17_code
def yX4_opens : MethodName := ⟨RX4, "opens", "(I)Z"⟩
def dkwX4_opens_2 : List UInt8 := [181, 0, 159, 4, 172]
abbrev dktX4_opens_2 : List UInt8 := dkwX4_opens_2 ++ []
def dkwX4_opens_1 : List UInt8 := [4, 96, 181, 0, 156, 42, 180, 0, 29, 42, 180, 0, 159, 27, 79, 42, 89, 180, 0, 159, 4, 96]
abbrev dktX4_opens_1 : List UInt8 := dkwX4_opens_1 ++ dktX4_opens_2
def dkwX4_opens_0 : List UInt8 := [42, 180, 0, 156, 16, 10, 160, 0, 13, 42, 5, 42, 180, 0, 96, 182, 0, 117, 172, 42, 89, 180, 0, 156]
abbrev dktX4_opens_0 : List UInt8 := dkwX4_opens_0 ++ dktX4_opens_1
theorem dksX4_opens_0 : cX4_opens.data.toList.drop 0 = dktX4_opens_0 := by decide +kernel
theorem dksX4_opens_1 : cX4_opens.data.toList.drop 24 = dktX4_opens_1 := dk_seg dksX4_opens_0 24 rfl rfl
theorem dksX4_opens_2 : cX4_opens.data.toList.drop 46 = dktX4_opens_2 := dk_seg dksX4_opens_1 22 rfl rfl
theorem dX4_opens_0 : decode cX4_opens 0 = .ok (.aload_n 0, 1) := dk_42 (dk_at dksX4_opens_0 0 rfl rfl)
theorem dX4_opens_1 : decode cX4_opens 1 = .ok (.getfield 156, 3) := dk_180 0 156 (dk_at dksX4_opens_0 1 rfl rfl)
theorem dX4_opens_4 : decode cX4_opens 4 = .ok (.bipush 10, 2) := dk_16 10 (dk_at dksX4_opens_0 4 rfl rfl)
theorem dX4_opens_6 : decode cX4_opens 6 = .ok (.if_icmp .ne 13, 3) := dk_160 0 13 (dk_at dksX4_opens_0 6 rfl rfl)
theorem dX4_opens_9 : decode cX4_opens 9 = .ok (.aload_n 0, 1) := dk_42 (dk_at dksX4_opens_0 9 rfl rfl)
theorem dX4_opens_10 : decode cX4_opens 10 = .ok (.iconst 2, 1) := dk_5 (dk_at dksX4_opens_0 10 rfl rfl)
theorem dX4_opens_11 : decode cX4_opens 11 = .ok (.aload_n 0, 1) := dk_42 (dk_at dksX4_opens_0 11 rfl rfl)
theorem dX4_opens_12 : decode cX4_opens 12 = .ok (.getfield 96, 3) := dk_180 0 96 (dk_at dksX4_opens_0 12 rfl rfl)
theorem dX4_opens_15 : decode cX4_opens 15 = .ok (.invokevirtual 117, 3) := dk_182 0 117 (dk_at dksX4_opens_0 15 rfl rfl)
theorem dX4_opens_18 : decode cX4_opens 18 = .ok (.ireturn, 1) := dk_172 (dk_at dksX4_opens_0 18 rfl rfl)
theorem dX4_opens_19 : decode cX4_opens 19 = .ok (.aload_n 0, 1) := dk_42 (dk_at dksX4_opens_0 19 rfl rfl)
theorem dX4_opens_20 : decode cX4_opens 20 = .ok (.dup, 1) := dk_89 (dk_at dksX4_opens_0 20 rfl rfl)
theorem dX4_opens_21 : decode cX4_opens 21 = .ok (.getfield 156, 3) := dk_180 0 156 (dk_at dksX4_opens_0 21 rfl rfl)
theorem dX4_opens_24 : decode cX4_opens 24 = .ok (.iconst 1, 1) := dk_4 (dk_at dksX4_opens_1 0 rfl rfl)
theorem dX4_opens_25 : decode cX4_opens 25 = .ok (.iadd, 1) := dk_96 (dk_at dksX4_opens_1 1 rfl rfl)
theorem dX4_opens_26 : decode cX4_opens 26 = .ok (.putfield 156, 3) := dk_181 0 156 (dk_at dksX4_opens_1 2 rfl rfl)
theorem dX4_opens_29 : decode cX4_opens 29 = .ok (.aload_n 0, 1) := dk_42 (dk_at dksX4_opens_1 5 rfl rfl)
theorem dX4_opens_30 : decode cX4_opens 30 = .ok (.getfield 29, 3) := dk_180 0 29 (dk_at dksX4_opens_1 6 rfl rfl)
theorem dX4_opens_33 : decode cX4_opens 33 = .ok (.aload_n 0, 1) := dk_42 (dk_at dksX4_opens_1 9 rfl rfl)
theorem dX4_opens_34 : decode cX4_opens 34 = .ok (.getfield 159, 3) := dk_180 0 159 (dk_at dksX4_opens_1 10 rfl rfl)
theorem dX4_opens_37 : decode cX4_opens 37 = .ok (.iload_n 1, 1) := dk_27 (dk_at dksX4_opens_1 13 rfl rfl)
theorem dX4_opens_38 : decode cX4_opens 38 = .ok (.iastore, 1) := dk_79 (dk_at dksX4_opens_1 14 rfl rfl)
theorem dX4_opens_39 : decode cX4_opens 39 = .ok (.aload_n 0, 1) := dk_42 (dk_at dksX4_opens_1 15 rfl rfl)
theorem dX4_opens_40 : decode cX4_opens 40 = .ok (.dup, 1) := dk_89 (dk_at dksX4_opens_1 16 rfl rfl)
theorem dX4_opens_41 : decode cX4_opens 41 = .ok (.getfield 159, 3) := dk_180 0 159 (dk_at dksX4_opens_1 17 rfl rfl)
theorem dX4_opens_44 : decode cX4_opens 44 = .ok (.iconst 1, 1) := dk_4 (dk_at dksX4_opens_1 20 rfl rfl)
theorem dX4_opens_45 : decode cX4_opens 45 = .ok (.iadd, 1) := dk_96 (dk_at dksX4_opens_1 21 rfl rfl)
theorem dX4_opens_46 : decode cX4_opens 46 = .ok (.putfield 159, 3) := dk_181 0 159 (dk_at dksX4_opens_2 0 rfl rfl)
theorem dX4_opens_49 : decode cX4_opens 49 = .ok (.iconst 1, 1) := dk_4 (dk_at dksX4_opens_2 3 rfl rfl)
theorem dX4_opens_50 : decode cX4_opens 50 = .ok (.ireturn, 1) := dk_172 (dk_at dksX4_opens_2 4 rfl rfl)
abbrev cX4_compare : ByteArray := prog_19_method_23_code
def yX4_compare : MethodName := ⟨RX4, "compare", "()Z"⟩
def dkwX4_compare_7 : List UInt8 := [16, 6, 21, 4, 96, 3, 182, 0, 166, 4, 172]
abbrev dktX4_compare_7 : List UInt8 := dkwX4_compare_7 ++ []
def dkwX4_compare_6 : List UInt8 := [167, 0, 12, 29, 153, 0, 7, 6, 167, 0, 4, 7, 54, 4, 42, 182, 0, 187, 154, 0, 5, 3, 172, 42]
abbrev dktX4_compare_6 : List UInt8 := dkwX4_compare_6 ++ dktX4_compare_7
def dkwX4_compare_5 : List UInt8 := [16, 60, 160, 0, 15, 29, 153, 0, 7, 4, 167, 0, 26, 3, 167, 0, 22, 27, 16, 61, 160, 0, 7, 5]
abbrev dktX4_compare_5 : List UInt8 := dkwX4_compare_5 ++ dktX4_compare_6
def dkwX4_compare_4 : List UInt8 := [153, 0, 13, 42, 89, 180, 0, 96, 4, 96, 181, 0, 96, 42, 28, 182, 0, 174, 154, 0, 5, 3, 172, 27]
abbrev dktX4_compare_4 : List UInt8 := dkwX4_compare_4 ++ dktX4_compare_5
def dkwX4_compare_3 : List UInt8 := [162, 0, 21, 42, 180, 0, 7, 42, 180, 0, 96, 51, 16, 61, 160, 0, 7, 4, 167, 0, 4, 3, 62, 29]
abbrev dktX4_compare_3 : List UInt8 := dkwX4_compare_3 ++ dktX4_compare_4
def dkwX4_compare_2 : List UInt8 := [180, 0, 96, 4, 96, 181, 0, 96, 27, 16, 61, 159, 0, 32, 42, 180, 0, 96, 42, 180, 0, 86]
abbrev dktX4_compare_2 : List UInt8 := dkwX4_compare_2 ++ dktX4_compare_3
def dkwX4_compare_1 : List UInt8 := [159, 0, 22, 27, 16, 61, 159, 0, 16, 27, 16, 62, 159, 0, 10, 42, 3, 28, 182, 0, 117, 172, 42, 89]
abbrev dktX4_compare_1 : List UInt8 := dkwX4_compare_1 ++ dktX4_compare_2
def dkwX4_compare_0 : List UInt8 := [42, 182, 0, 187, 154, 0, 5, 3, 172, 42, 182, 0, 99, 60, 42, 180, 0, 96, 61, 27, 16, 60]
abbrev dktX4_compare_0 : List UInt8 := dkwX4_compare_0 ++ dktX4_compare_1
theorem dksX4_compare_0 : cX4_compare.data.toList.drop 0 = dktX4_compare_0 := by decide +kernel
theorem dksX4_compare_1 : cX4_compare.data.toList.drop 22 = dktX4_compare_1 := dk_seg dksX4_compare_0 22 rfl rfl
theorem dksX4_compare_2 : cX4_compare.data.toList.drop 46 = dktX4_compare_2 := dk_seg dksX4_compare_1 24 rfl rfl
theorem dksX4_compare_3 : cX4_compare.data.toList.drop 68 = dktX4_compare_3 := dk_seg dksX4_compare_2 22 rfl rfl
theorem dksX4_compare_4 : cX4_compare.data.toList.drop 92 = dktX4_compare_4 := dk_seg dksX4_compare_3 24 rfl rfl
theorem dksX4_compare_5 : cX4_compare.data.toList.drop 116 = dktX4_compare_5 := dk_seg dksX4_compare_4 24 rfl rfl
theorem dksX4_compare_6 : cX4_compare.data.toList.drop 140 = dktX4_compare_6 := dk_seg dksX4_compare_5 24 rfl rfl
theorem dksX4_compare_7 : cX4_compare.data.toList.drop 164 = dktX4_compare_7 := dk_seg dksX4_compare_6 24 rfl rfl
theorem dX4_compare_0 : decode cX4_compare 0 = .ok (.aload_n 0, 1) := dk_42 (dk_at dksX4_compare_0 0 rfl rfl)
theorem dX4_compare_1 : decode cX4_compare 1 = .ok (.invokevirtual 187, 3) := dk_182 0 187 (dk_at dksX4_compare_0 1 rfl rfl)
theorem dX4_compare_4 : decode cX4_compare 4 = .ok (.ifCond .ne 5, 3) := dk_154 0 5 (dk_at dksX4_compare_0 4 rfl rfl)
theorem dX4_compare_7 : decode cX4_compare 7 = .ok (.iconst 0, 1) := dk_3 (dk_at dksX4_compare_0 7 rfl rfl)
theorem dX4_compare_8 : decode cX4_compare 8 = .ok (.ireturn, 1) := dk_172 (dk_at dksX4_compare_0 8 rfl rfl)
theorem dX4_compare_9 : decode cX4_compare 9 = .ok (.aload_n 0, 1) := dk_42 (dk_at dksX4_compare_0 9 rfl rfl)
theorem dX4_compare_10 : decode cX4_compare 10 = .ok (.invokevirtual 99, 3) := dk_182 0 99 (dk_at dksX4_compare_0 10 rfl rfl)
theorem dX4_compare_13 : decode cX4_compare 13 = .ok (.istore_n 1, 1) := dk_60 (dk_at dksX4_compare_0 13 rfl rfl)
theorem dX4_compare_14 : decode cX4_compare 14 = .ok (.aload_n 0, 1) := dk_42 (dk_at dksX4_compare_0 14 rfl rfl)
theorem dX4_compare_15 : decode cX4_compare 15 = .ok (.getfield 96, 3) := dk_180 0 96 (dk_at dksX4_compare_0 15 rfl rfl)
theorem dX4_compare_18 : decode cX4_compare 18 = .ok (.istore_n 2, 1) := dk_61 (dk_at dksX4_compare_0 18 rfl rfl)
theorem dX4_compare_19 : decode cX4_compare 19 = .ok (.iload_n 1, 1) := dk_27 (dk_at dksX4_compare_0 19 rfl rfl)
theorem dX4_compare_20 : decode cX4_compare 20 = .ok (.bipush 60, 2) := dk_16 60 (dk_at dksX4_compare_0 20 rfl rfl)
theorem dX4_compare_22 : decode cX4_compare 22 = .ok (.if_icmp .eq 22, 3) := dk_159 0 22 (dk_at dksX4_compare_1 0 rfl rfl)
theorem dX4_compare_25 : decode cX4_compare 25 = .ok (.iload_n 1, 1) := dk_27 (dk_at dksX4_compare_1 3 rfl rfl)
theorem dX4_compare_26 : decode cX4_compare 26 = .ok (.bipush 61, 2) := dk_16 61 (dk_at dksX4_compare_1 4 rfl rfl)
theorem dX4_compare_28 : decode cX4_compare 28 = .ok (.if_icmp .eq 16, 3) := dk_159 0 16 (dk_at dksX4_compare_1 6 rfl rfl)
theorem dX4_compare_31 : decode cX4_compare 31 = .ok (.iload_n 1, 1) := dk_27 (dk_at dksX4_compare_1 9 rfl rfl)
theorem dX4_compare_32 : decode cX4_compare 32 = .ok (.bipush 62, 2) := dk_16 62 (dk_at dksX4_compare_1 10 rfl rfl)
theorem dX4_compare_34 : decode cX4_compare 34 = .ok (.if_icmp .eq 10, 3) := dk_159 0 10 (dk_at dksX4_compare_1 12 rfl rfl)
theorem dX4_compare_37 : decode cX4_compare 37 = .ok (.aload_n 0, 1) := dk_42 (dk_at dksX4_compare_1 15 rfl rfl)
theorem dX4_compare_38 : decode cX4_compare 38 = .ok (.iconst 0, 1) := dk_3 (dk_at dksX4_compare_1 16 rfl rfl)
theorem dX4_compare_39 : decode cX4_compare 39 = .ok (.iload_n 2, 1) := dk_28 (dk_at dksX4_compare_1 17 rfl rfl)
theorem dX4_compare_40 : decode cX4_compare 40 = .ok (.invokevirtual 117, 3) := dk_182 0 117 (dk_at dksX4_compare_1 18 rfl rfl)
theorem dX4_compare_43 : decode cX4_compare 43 = .ok (.ireturn, 1) := dk_172 (dk_at dksX4_compare_1 21 rfl rfl)
theorem dX4_compare_44 : decode cX4_compare 44 = .ok (.aload_n 0, 1) := dk_42 (dk_at dksX4_compare_1 22 rfl rfl)
theorem dX4_compare_45 : decode cX4_compare 45 = .ok (.dup, 1) := dk_89 (dk_at dksX4_compare_1 23 rfl rfl)
theorem dX4_compare_46 : decode cX4_compare 46 = .ok (.getfield 96, 3) := dk_180 0 96 (dk_at dksX4_compare_2 0 rfl rfl)
theorem dX4_compare_49 : decode cX4_compare 49 = .ok (.iconst 1, 1) := dk_4 (dk_at dksX4_compare_2 3 rfl rfl)
theorem dX4_compare_50 : decode cX4_compare 50 = .ok (.iadd, 1) := dk_96 (dk_at dksX4_compare_2 4 rfl rfl)
theorem dX4_compare_51 : decode cX4_compare 51 = .ok (.putfield 96, 3) := dk_181 0 96 (dk_at dksX4_compare_2 5 rfl rfl)
theorem dX4_compare_54 : decode cX4_compare 54 = .ok (.iload_n 1, 1) := dk_27 (dk_at dksX4_compare_2 8 rfl rfl)
theorem dX4_compare_55 : decode cX4_compare 55 = .ok (.bipush 61, 2) := dk_16 61 (dk_at dksX4_compare_2 9 rfl rfl)
theorem dX4_compare_57 : decode cX4_compare 57 = .ok (.if_icmp .eq 32, 3) := dk_159 0 32 (dk_at dksX4_compare_2 11 rfl rfl)
theorem dX4_compare_60 : decode cX4_compare 60 = .ok (.aload_n 0, 1) := dk_42 (dk_at dksX4_compare_2 14 rfl rfl)
theorem dX4_compare_61 : decode cX4_compare 61 = .ok (.getfield 96, 3) := dk_180 0 96 (dk_at dksX4_compare_2 15 rfl rfl)
theorem dX4_compare_64 : decode cX4_compare 64 = .ok (.aload_n 0, 1) := dk_42 (dk_at dksX4_compare_2 18 rfl rfl)
theorem dX4_compare_65 : decode cX4_compare 65 = .ok (.getfield 86, 3) := dk_180 0 86 (dk_at dksX4_compare_2 19 rfl rfl)
theorem dX4_compare_68 : decode cX4_compare 68 = .ok (.if_icmp .ge 21, 3) := dk_162 0 21 (dk_at dksX4_compare_3 0 rfl rfl)
theorem dX4_compare_71 : decode cX4_compare 71 = .ok (.aload_n 0, 1) := dk_42 (dk_at dksX4_compare_3 3 rfl rfl)
theorem dX4_compare_72 : decode cX4_compare 72 = .ok (.getfield 7, 3) := dk_180 0 7 (dk_at dksX4_compare_3 4 rfl rfl)
theorem dX4_compare_75 : decode cX4_compare 75 = .ok (.aload_n 0, 1) := dk_42 (dk_at dksX4_compare_3 7 rfl rfl)
theorem dX4_compare_76 : decode cX4_compare 76 = .ok (.getfield 96, 3) := dk_180 0 96 (dk_at dksX4_compare_3 8 rfl rfl)
theorem dX4_compare_79 : decode cX4_compare 79 = .ok (.baload, 1) := dk_51 (dk_at dksX4_compare_3 11 rfl rfl)
theorem dX4_compare_80 : decode cX4_compare 80 = .ok (.bipush 61, 2) := dk_16 61 (dk_at dksX4_compare_3 12 rfl rfl)
theorem dX4_compare_82 : decode cX4_compare 82 = .ok (.if_icmp .ne 7, 3) := dk_160 0 7 (dk_at dksX4_compare_3 14 rfl rfl)
theorem dX4_compare_85 : decode cX4_compare 85 = .ok (.iconst 1, 1) := dk_4 (dk_at dksX4_compare_3 17 rfl rfl)
theorem dX4_compare_86 : decode cX4_compare 86 = .ok (.goto 4, 3) := dk_167 0 4 (dk_at dksX4_compare_3 18 rfl rfl)
theorem dX4_compare_89 : decode cX4_compare 89 = .ok (.iconst 0, 1) := dk_3 (dk_at dksX4_compare_3 21 rfl rfl)
theorem dX4_compare_90 : decode cX4_compare 90 = .ok (.istore_n 3, 1) := dk_62 (dk_at dksX4_compare_3 22 rfl rfl)
theorem dX4_compare_91 : decode cX4_compare 91 = .ok (.iload_n 3, 1) := dk_29 (dk_at dksX4_compare_3 23 rfl rfl)
theorem dX4_compare_92 : decode cX4_compare 92 = .ok (.ifCond .eq 13, 3) := dk_153 0 13 (dk_at dksX4_compare_4 0 rfl rfl)
theorem dX4_compare_95 : decode cX4_compare 95 = .ok (.aload_n 0, 1) := dk_42 (dk_at dksX4_compare_4 3 rfl rfl)
theorem dX4_compare_96 : decode cX4_compare 96 = .ok (.dup, 1) := dk_89 (dk_at dksX4_compare_4 4 rfl rfl)
theorem dX4_compare_97 : decode cX4_compare 97 = .ok (.getfield 96, 3) := dk_180 0 96 (dk_at dksX4_compare_4 5 rfl rfl)
theorem dX4_compare_100 : decode cX4_compare 100 = .ok (.iconst 1, 1) := dk_4 (dk_at dksX4_compare_4 8 rfl rfl)
theorem dX4_compare_101 : decode cX4_compare 101 = .ok (.iadd, 1) := dk_96 (dk_at dksX4_compare_4 9 rfl rfl)
theorem dX4_compare_102 : decode cX4_compare 102 = .ok (.putfield 96, 3) := dk_181 0 96 (dk_at dksX4_compare_4 10 rfl rfl)
theorem dX4_compare_105 : decode cX4_compare 105 = .ok (.aload_n 0, 1) := dk_42 (dk_at dksX4_compare_4 13 rfl rfl)
theorem dX4_compare_106 : decode cX4_compare 106 = .ok (.iload_n 2, 1) := dk_28 (dk_at dksX4_compare_4 14 rfl rfl)
theorem dX4_compare_107 : decode cX4_compare 107 = .ok (.invokevirtual 174, 3) := dk_182 0 174 (dk_at dksX4_compare_4 15 rfl rfl)
theorem dX4_compare_110 : decode cX4_compare 110 = .ok (.ifCond .ne 5, 3) := dk_154 0 5 (dk_at dksX4_compare_4 18 rfl rfl)
theorem dX4_compare_113 : decode cX4_compare 113 = .ok (.iconst 0, 1) := dk_3 (dk_at dksX4_compare_4 21 rfl rfl)
theorem dX4_compare_114 : decode cX4_compare 114 = .ok (.ireturn, 1) := dk_172 (dk_at dksX4_compare_4 22 rfl rfl)
theorem dX4_compare_115 : decode cX4_compare 115 = .ok (.iload_n 1, 1) := dk_27 (dk_at dksX4_compare_4 23 rfl rfl)
theorem dX4_compare_116 : decode cX4_compare 116 = .ok (.bipush 60, 2) := dk_16 60 (dk_at dksX4_compare_5 0 rfl rfl)
theorem dX4_compare_118 : decode cX4_compare 118 = .ok (.if_icmp .ne 15, 3) := dk_160 0 15 (dk_at dksX4_compare_5 2 rfl rfl)
theorem dX4_compare_121 : decode cX4_compare 121 = .ok (.iload_n 3, 1) := dk_29 (dk_at dksX4_compare_5 5 rfl rfl)
theorem dX4_compare_122 : decode cX4_compare 122 = .ok (.ifCond .eq 7, 3) := dk_153 0 7 (dk_at dksX4_compare_5 6 rfl rfl)
theorem dX4_compare_125 : decode cX4_compare 125 = .ok (.iconst 1, 1) := dk_4 (dk_at dksX4_compare_5 9 rfl rfl)
theorem dX4_compare_126 : decode cX4_compare 126 = .ok (.goto 26, 3) := dk_167 0 26 (dk_at dksX4_compare_5 10 rfl rfl)
theorem dX4_compare_129 : decode cX4_compare 129 = .ok (.iconst 0, 1) := dk_3 (dk_at dksX4_compare_5 13 rfl rfl)
theorem dX4_compare_130 : decode cX4_compare 130 = .ok (.goto 22, 3) := dk_167 0 22 (dk_at dksX4_compare_5 14 rfl rfl)
theorem dX4_compare_133 : decode cX4_compare 133 = .ok (.iload_n 1, 1) := dk_27 (dk_at dksX4_compare_5 17 rfl rfl)
theorem dX4_compare_134 : decode cX4_compare 134 = .ok (.bipush 61, 2) := dk_16 61 (dk_at dksX4_compare_5 18 rfl rfl)
theorem dX4_compare_136 : decode cX4_compare 136 = .ok (.if_icmp .ne 7, 3) := dk_160 0 7 (dk_at dksX4_compare_5 20 rfl rfl)
theorem dX4_compare_139 : decode cX4_compare 139 = .ok (.iconst 2, 1) := dk_5 (dk_at dksX4_compare_5 23 rfl rfl)
theorem dX4_compare_140 : decode cX4_compare 140 = .ok (.goto 12, 3) := dk_167 0 12 (dk_at dksX4_compare_6 0 rfl rfl)
theorem dX4_compare_143 : decode cX4_compare 143 = .ok (.iload_n 3, 1) := dk_29 (dk_at dksX4_compare_6 3 rfl rfl)
theorem dX4_compare_144 : decode cX4_compare 144 = .ok (.ifCond .eq 7, 3) := dk_153 0 7 (dk_at dksX4_compare_6 4 rfl rfl)
theorem dX4_compare_147 : decode cX4_compare 147 = .ok (.iconst 3, 1) := dk_6 (dk_at dksX4_compare_6 7 rfl rfl)
theorem dX4_compare_148 : decode cX4_compare 148 = .ok (.goto 4, 3) := dk_167 0 4 (dk_at dksX4_compare_6 8 rfl rfl)
theorem dX4_compare_151 : decode cX4_compare 151 = .ok (.iconst 4, 1) := dk_7 (dk_at dksX4_compare_6 11 rfl rfl)
theorem dX4_compare_152 : decode cX4_compare 152 = .ok (.istore 4, 2) := dk_54 4 (dk_at dksX4_compare_6 12 rfl rfl)
theorem dX4_compare_154 : decode cX4_compare 154 = .ok (.aload_n 0, 1) := dk_42 (dk_at dksX4_compare_6 14 rfl rfl)
theorem dX4_compare_155 : decode cX4_compare 155 = .ok (.invokevirtual 187, 3) := dk_182 0 187 (dk_at dksX4_compare_6 15 rfl rfl)
theorem dX4_compare_158 : decode cX4_compare 158 = .ok (.ifCond .ne 5, 3) := dk_154 0 5 (dk_at dksX4_compare_6 18 rfl rfl)
theorem dX4_compare_161 : decode cX4_compare 161 = .ok (.iconst 0, 1) := dk_3 (dk_at dksX4_compare_6 21 rfl rfl)
theorem dX4_compare_162 : decode cX4_compare 162 = .ok (.ireturn, 1) := dk_172 (dk_at dksX4_compare_6 22 rfl rfl)
theorem dX4_compare_163 : decode cX4_compare 163 = .ok (.aload_n 0, 1) := dk_42 (dk_at dksX4_compare_6 23 rfl rfl)
theorem dX4_compare_164 : decode cX4_compare 164 = .ok (.bipush 6, 2) := dk_16 6 (dk_at dksX4_compare_7 0 rfl rfl)
theorem dX4_compare_166 : decode cX4_compare 166 = .ok (.iload 4, 2) := dk_21 4 (dk_at dksX4_compare_7 2 rfl rfl)
theorem dX4_compare_168 : decode cX4_compare 168 = .ok (.iadd, 1) := dk_96 (dk_at dksX4_compare_7 4 rfl rfl)
theorem dX4_compare_169 : decode cX4_compare 169 = .ok (.iconst 0, 1) := dk_3 (dk_at dksX4_compare_7 5 rfl rfl)
theorem dX4_compare_170 : decode cX4_compare 170 = .ok (.invokevirtual 166, 3) := dk_182 0 166 (dk_at dksX4_compare_7 6 rfl rfl)
theorem dX4_compare_173 : decode cX4_compare 173 = .ok (.iconst 1, 1) := dk_4 (dk_at dksX4_compare_7 9 rfl rfl)
theorem dX4_compare_174 : decode cX4_compare 174 = .ok (.ireturn, 1) := dk_172 (dk_at dksX4_compare_7 10 rfl rfl)
abbrev cX4_closes : ByteArray := prog_19_method_26_code
def yX4_closes : MethodName := ⟨RX4, "closes", "()V"⟩
def dkwX4_closes_2 : List UInt8 := [89, 180, 0, 96, 4, 96, 181, 0, 96, 42, 6, 182, 0, 198, 167, 255, 200, 177]
abbrev dktX4_closes_2 : List UInt8 := dkwX4_closes_2 ++ []
def dkwX4_closes_1 : List UInt8 := [182, 0, 198, 42, 89, 180, 0, 159, 4, 100, 181, 0, 159, 42, 89, 180, 0, 156, 4, 100, 181, 0, 156, 42]
abbrev dktX4_closes_1 : List UInt8 := dkwX4_closes_1 ++ dktX4_closes_2
def dkwX4_closes_0 : List UInt8 := [42, 6, 182, 0, 198, 42, 182, 0, 99, 16, 93, 160, 0, 53, 42, 182, 0, 201, 153, 0, 46, 42, 4]
abbrev dktX4_closes_0 : List UInt8 := dkwX4_closes_0 ++ dktX4_closes_1
theorem dksX4_closes_0 : cX4_closes.data.toList.drop 0 = dktX4_closes_0 := by decide +kernel
theorem dksX4_closes_1 : cX4_closes.data.toList.drop 23 = dktX4_closes_1 := dk_seg dksX4_closes_0 23 rfl rfl
theorem dksX4_closes_2 : cX4_closes.data.toList.drop 47 = dktX4_closes_2 := dk_seg dksX4_closes_1 24 rfl rfl
theorem dX4_closes_0 : decode cX4_closes 0 = .ok (.aload_n 0, 1) := dk_42 (dk_at dksX4_closes_0 0 rfl rfl)
theorem dX4_closes_1 : decode cX4_closes 1 = .ok (.iconst 3, 1) := dk_6 (dk_at dksX4_closes_0 1 rfl rfl)
theorem dX4_closes_2 : decode cX4_closes 2 = .ok (.invokevirtual 198, 3) := dk_182 0 198 (dk_at dksX4_closes_0 2 rfl rfl)
theorem dX4_closes_5 : decode cX4_closes 5 = .ok (.aload_n 0, 1) := dk_42 (dk_at dksX4_closes_0 5 rfl rfl)
theorem dX4_closes_6 : decode cX4_closes 6 = .ok (.invokevirtual 99, 3) := dk_182 0 99 (dk_at dksX4_closes_0 6 rfl rfl)
theorem dX4_closes_9 : decode cX4_closes 9 = .ok (.bipush 93, 2) := dk_16 93 (dk_at dksX4_closes_0 9 rfl rfl)
theorem dX4_closes_11 : decode cX4_closes 11 = .ok (.if_icmp .ne 53, 3) := dk_160 0 53 (dk_at dksX4_closes_0 11 rfl rfl)
theorem dX4_closes_14 : decode cX4_closes 14 = .ok (.aload_n 0, 1) := dk_42 (dk_at dksX4_closes_0 14 rfl rfl)
theorem dX4_closes_15 : decode cX4_closes 15 = .ok (.invokevirtual 201, 3) := dk_182 0 201 (dk_at dksX4_closes_0 15 rfl rfl)
theorem dX4_closes_18 : decode cX4_closes 18 = .ok (.ifCond .eq 46, 3) := dk_153 0 46 (dk_at dksX4_closes_0 18 rfl rfl)
theorem dX4_closes_21 : decode cX4_closes 21 = .ok (.aload_n 0, 1) := dk_42 (dk_at dksX4_closes_0 21 rfl rfl)
theorem dX4_closes_22 : decode cX4_closes 22 = .ok (.iconst 1, 1) := dk_4 (dk_at dksX4_closes_0 22 rfl rfl)
theorem dX4_closes_23 : decode cX4_closes 23 = .ok (.invokevirtual 198, 3) := dk_182 0 198 (dk_at dksX4_closes_1 0 rfl rfl)
theorem dX4_closes_26 : decode cX4_closes 26 = .ok (.aload_n 0, 1) := dk_42 (dk_at dksX4_closes_1 3 rfl rfl)
theorem dX4_closes_27 : decode cX4_closes 27 = .ok (.dup, 1) := dk_89 (dk_at dksX4_closes_1 4 rfl rfl)
theorem dX4_closes_28 : decode cX4_closes 28 = .ok (.getfield 159, 3) := dk_180 0 159 (dk_at dksX4_closes_1 5 rfl rfl)
theorem dX4_closes_31 : decode cX4_closes 31 = .ok (.iconst 1, 1) := dk_4 (dk_at dksX4_closes_1 8 rfl rfl)
theorem dX4_closes_32 : decode cX4_closes 32 = .ok (.isub, 1) := dk_100 (dk_at dksX4_closes_1 9 rfl rfl)
theorem dX4_closes_33 : decode cX4_closes 33 = .ok (.putfield 159, 3) := dk_181 0 159 (dk_at dksX4_closes_1 10 rfl rfl)
theorem dX4_closes_36 : decode cX4_closes 36 = .ok (.aload_n 0, 1) := dk_42 (dk_at dksX4_closes_1 13 rfl rfl)
theorem dX4_closes_37 : decode cX4_closes 37 = .ok (.dup, 1) := dk_89 (dk_at dksX4_closes_1 14 rfl rfl)
theorem dX4_closes_38 : decode cX4_closes 38 = .ok (.getfield 156, 3) := dk_180 0 156 (dk_at dksX4_closes_1 15 rfl rfl)
theorem dX4_closes_41 : decode cX4_closes 41 = .ok (.iconst 1, 1) := dk_4 (dk_at dksX4_closes_1 18 rfl rfl)
theorem dX4_closes_42 : decode cX4_closes 42 = .ok (.isub, 1) := dk_100 (dk_at dksX4_closes_1 19 rfl rfl)
theorem dX4_closes_43 : decode cX4_closes 43 = .ok (.putfield 156, 3) := dk_181 0 156 (dk_at dksX4_closes_1 20 rfl rfl)
theorem dX4_closes_46 : decode cX4_closes 46 = .ok (.aload_n 0, 1) := dk_42 (dk_at dksX4_closes_1 23 rfl rfl)
theorem dX4_closes_47 : decode cX4_closes 47 = .ok (.dup, 1) := dk_89 (dk_at dksX4_closes_2 0 rfl rfl)
theorem dX4_closes_48 : decode cX4_closes 48 = .ok (.getfield 96, 3) := dk_180 0 96 (dk_at dksX4_closes_2 1 rfl rfl)
theorem dX4_closes_51 : decode cX4_closes 51 = .ok (.iconst 1, 1) := dk_4 (dk_at dksX4_closes_2 4 rfl rfl)
theorem dX4_closes_52 : decode cX4_closes 52 = .ok (.iadd, 1) := dk_96 (dk_at dksX4_closes_2 5 rfl rfl)
theorem dX4_closes_53 : decode cX4_closes 53 = .ok (.putfield 96, 3) := dk_181 0 96 (dk_at dksX4_closes_2 6 rfl rfl)
theorem dX4_closes_56 : decode cX4_closes 56 = .ok (.aload_n 0, 1) := dk_42 (dk_at dksX4_closes_2 9 rfl rfl)
theorem dX4_closes_57 : decode cX4_closes 57 = .ok (.iconst 3, 1) := dk_6 (dk_at dksX4_closes_2 10 rfl rfl)
theorem dX4_closes_58 : decode cX4_closes 58 = .ok (.invokevirtual 198, 3) := dk_182 0 198 (dk_at dksX4_closes_2 11 rfl rfl)
theorem dX4_closes_61 : decode cX4_closes 61 = .ok (.goto (-56), 3) := dk_167 255 200 (dk_at dksX4_closes_2 14 rfl rfl)
theorem dX4_closes_64 : decode cX4_closes 64 = .ok (.return_, 1) := dk_177 (dk_at dksX4_closes_2 17 rfl rfl)
abbrev cX4_layDown : ByteArray := prog_19_method_19_code
def yX4_layDown : MethodName := ⟨RX4, "layDown", "(I)V"⟩
def dkwX4_layDown_3 : List UInt8 := [181, 0, 156, 167, 255, 183, 177]
abbrev dktX4_layDown_3 : List UInt8 := dkwX4_layDown_3 ++ []
def dkwX4_layDown_2 : List UInt8 := [182, 0, 166, 42, 180, 0, 29, 42, 180, 0, 159, 46, 16, 11, 160, 255, 196, 42, 89, 180, 0, 156, 4, 100]
abbrev dktX4_layDown_2 : List UInt8 := dkwX4_layDown_2 ++ dktX4_layDown_3
def dkwX4_layDown_1 : List UInt8 := [161, 0, 54, 42, 89, 180, 0, 159, 4, 100, 181, 0, 159, 42, 42, 180, 0, 29, 42, 180, 0, 159, 46, 3]
abbrev dktX4_layDown_1 : List UInt8 := dkwX4_layDown_1 ++ dktX4_layDown_2
def dkwX4_layDown_0 : List UInt8 := [42, 180, 0, 159, 158, 0, 72, 42, 180, 0, 29, 42, 180, 0, 159, 4, 100, 46, 184, 0, 162, 27]
abbrev dktX4_layDown_0 : List UInt8 := dkwX4_layDown_0 ++ dktX4_layDown_1
theorem dksX4_layDown_0 : cX4_layDown.data.toList.drop 0 = dktX4_layDown_0 := by decide +kernel
theorem dksX4_layDown_1 : cX4_layDown.data.toList.drop 22 = dktX4_layDown_1 := dk_seg dksX4_layDown_0 22 rfl rfl
theorem dksX4_layDown_2 : cX4_layDown.data.toList.drop 46 = dktX4_layDown_2 := dk_seg dksX4_layDown_1 24 rfl rfl
theorem dksX4_layDown_3 : cX4_layDown.data.toList.drop 70 = dktX4_layDown_3 := dk_seg dksX4_layDown_2 24 rfl rfl
theorem dX4_layDown_0 : decode cX4_layDown 0 = .ok (.aload_n 0, 1) := dk_42 (dk_at dksX4_layDown_0 0 rfl rfl)
theorem dX4_layDown_1 : decode cX4_layDown 1 = .ok (.getfield 159, 3) := dk_180 0 159 (dk_at dksX4_layDown_0 1 rfl rfl)
theorem dX4_layDown_4 : decode cX4_layDown 4 = .ok (.ifCond .le 72, 3) := dk_158 0 72 (dk_at dksX4_layDown_0 4 rfl rfl)
theorem dX4_layDown_7 : decode cX4_layDown 7 = .ok (.aload_n 0, 1) := dk_42 (dk_at dksX4_layDown_0 7 rfl rfl)
theorem dX4_layDown_8 : decode cX4_layDown 8 = .ok (.getfield 29, 3) := dk_180 0 29 (dk_at dksX4_layDown_0 8 rfl rfl)
theorem dX4_layDown_11 : decode cX4_layDown 11 = .ok (.aload_n 0, 1) := dk_42 (dk_at dksX4_layDown_0 11 rfl rfl)
theorem dX4_layDown_12 : decode cX4_layDown 12 = .ok (.getfield 159, 3) := dk_180 0 159 (dk_at dksX4_layDown_0 12 rfl rfl)
theorem dX4_layDown_15 : decode cX4_layDown 15 = .ok (.iconst 1, 1) := dk_4 (dk_at dksX4_layDown_0 15 rfl rfl)
theorem dX4_layDown_16 : decode cX4_layDown 16 = .ok (.isub, 1) := dk_100 (dk_at dksX4_layDown_0 16 rfl rfl)
theorem dX4_layDown_17 : decode cX4_layDown 17 = .ok (.iaload, 1) := dk_46 (dk_at dksX4_layDown_0 17 rfl rfl)
theorem dX4_layDown_18 : decode cX4_layDown 18 = .ok (.invokestatic 162, 3) := dk_184 0 162 (dk_at dksX4_layDown_0 18 rfl rfl)
theorem dX4_layDown_21 : decode cX4_layDown 21 = .ok (.iload_n 1, 1) := dk_27 (dk_at dksX4_layDown_0 21 rfl rfl)
theorem dX4_layDown_22 : decode cX4_layDown 22 = .ok (.if_icmp .lt 54, 3) := dk_161 0 54 (dk_at dksX4_layDown_1 0 rfl rfl)
theorem dX4_layDown_25 : decode cX4_layDown 25 = .ok (.aload_n 0, 1) := dk_42 (dk_at dksX4_layDown_1 3 rfl rfl)
theorem dX4_layDown_26 : decode cX4_layDown 26 = .ok (.dup, 1) := dk_89 (dk_at dksX4_layDown_1 4 rfl rfl)
theorem dX4_layDown_27 : decode cX4_layDown 27 = .ok (.getfield 159, 3) := dk_180 0 159 (dk_at dksX4_layDown_1 5 rfl rfl)
theorem dX4_layDown_30 : decode cX4_layDown 30 = .ok (.iconst 1, 1) := dk_4 (dk_at dksX4_layDown_1 8 rfl rfl)
theorem dX4_layDown_31 : decode cX4_layDown 31 = .ok (.isub, 1) := dk_100 (dk_at dksX4_layDown_1 9 rfl rfl)
theorem dX4_layDown_32 : decode cX4_layDown 32 = .ok (.putfield 159, 3) := dk_181 0 159 (dk_at dksX4_layDown_1 10 rfl rfl)
theorem dX4_layDown_35 : decode cX4_layDown 35 = .ok (.aload_n 0, 1) := dk_42 (dk_at dksX4_layDown_1 13 rfl rfl)
theorem dX4_layDown_36 : decode cX4_layDown 36 = .ok (.aload_n 0, 1) := dk_42 (dk_at dksX4_layDown_1 14 rfl rfl)
theorem dX4_layDown_37 : decode cX4_layDown 37 = .ok (.getfield 29, 3) := dk_180 0 29 (dk_at dksX4_layDown_1 15 rfl rfl)
theorem dX4_layDown_40 : decode cX4_layDown 40 = .ok (.aload_n 0, 1) := dk_42 (dk_at dksX4_layDown_1 18 rfl rfl)
theorem dX4_layDown_41 : decode cX4_layDown 41 = .ok (.getfield 159, 3) := dk_180 0 159 (dk_at dksX4_layDown_1 19 rfl rfl)
theorem dX4_layDown_44 : decode cX4_layDown 44 = .ok (.iaload, 1) := dk_46 (dk_at dksX4_layDown_1 22 rfl rfl)
theorem dX4_layDown_45 : decode cX4_layDown 45 = .ok (.iconst 0, 1) := dk_3 (dk_at dksX4_layDown_1 23 rfl rfl)
theorem dX4_layDown_46 : decode cX4_layDown 46 = .ok (.invokevirtual 166, 3) := dk_182 0 166 (dk_at dksX4_layDown_2 0 rfl rfl)
theorem dX4_layDown_49 : decode cX4_layDown 49 = .ok (.aload_n 0, 1) := dk_42 (dk_at dksX4_layDown_2 3 rfl rfl)
theorem dX4_layDown_50 : decode cX4_layDown 50 = .ok (.getfield 29, 3) := dk_180 0 29 (dk_at dksX4_layDown_2 4 rfl rfl)
theorem dX4_layDown_53 : decode cX4_layDown 53 = .ok (.aload_n 0, 1) := dk_42 (dk_at dksX4_layDown_2 7 rfl rfl)
theorem dX4_layDown_54 : decode cX4_layDown 54 = .ok (.getfield 159, 3) := dk_180 0 159 (dk_at dksX4_layDown_2 8 rfl rfl)
theorem dX4_layDown_57 : decode cX4_layDown 57 = .ok (.iaload, 1) := dk_46 (dk_at dksX4_layDown_2 11 rfl rfl)
theorem dX4_layDown_58 : decode cX4_layDown 58 = .ok (.bipush 11, 2) := dk_16 11 (dk_at dksX4_layDown_2 12 rfl rfl)
theorem dX4_layDown_60 : decode cX4_layDown 60 = .ok (.if_icmp .ne (-60), 3) := dk_160 255 196 (dk_at dksX4_layDown_2 14 rfl rfl)
theorem dX4_layDown_63 : decode cX4_layDown 63 = .ok (.aload_n 0, 1) := dk_42 (dk_at dksX4_layDown_2 17 rfl rfl)
theorem dX4_layDown_64 : decode cX4_layDown 64 = .ok (.dup, 1) := dk_89 (dk_at dksX4_layDown_2 18 rfl rfl)
theorem dX4_layDown_65 : decode cX4_layDown 65 = .ok (.getfield 156, 3) := dk_180 0 156 (dk_at dksX4_layDown_2 19 rfl rfl)
theorem dX4_layDown_68 : decode cX4_layDown 68 = .ok (.iconst 1, 1) := dk_4 (dk_at dksX4_layDown_2 22 rfl rfl)
theorem dX4_layDown_69 : decode cX4_layDown 69 = .ok (.isub, 1) := dk_100 (dk_at dksX4_layDown_2 23 rfl rfl)
theorem dX4_layDown_70 : decode cX4_layDown 70 = .ok (.putfield 156, 3) := dk_181 0 156 (dk_at dksX4_layDown_3 0 rfl rfl)
theorem dX4_layDown_73 : decode cX4_layDown 73 = .ok (.goto (-73), 3) := dk_167 255 183 (dk_at dksX4_layDown_3 3 rfl rfl)
theorem dX4_layDown_76 : decode cX4_layDown 76 = .ok (.return_, 1) := dk_177 (dk_at dksX4_layDown_3 6 rfl rfl)
abbrev cX4_strength : ByteArray := prog_19_method_18_code
def yX4_strength : MethodName := ⟨RX4, "strength", "(I)I"⟩
def dkwX4_strength_1 : List UInt8 := [160, 0, 7, 6, 167, 0, 4, 3, 172]
abbrev dktX4_strength_1 : List UInt8 := dkwX4_strength_1 ++ []
def dkwX4_strength_0 : List UInt8 := [26, 16, 13, 160, 0, 7, 4, 167, 0, 24, 26, 16, 12, 160, 0, 7, 5, 167, 0, 14, 26, 16, 11]
abbrev dktX4_strength_0 : List UInt8 := dkwX4_strength_0 ++ dktX4_strength_1
theorem dksX4_strength_0 : cX4_strength.data.toList.drop 0 = dktX4_strength_0 := by decide +kernel
theorem dksX4_strength_1 : cX4_strength.data.toList.drop 23 = dktX4_strength_1 := dk_seg dksX4_strength_0 23 rfl rfl
theorem dX4_strength_0 : decode cX4_strength 0 = .ok (.iload_n 0, 1) := dk_26 (dk_at dksX4_strength_0 0 rfl rfl)
theorem dX4_strength_1 : decode cX4_strength 1 = .ok (.bipush 13, 2) := dk_16 13 (dk_at dksX4_strength_0 1 rfl rfl)
theorem dX4_strength_3 : decode cX4_strength 3 = .ok (.if_icmp .ne 7, 3) := dk_160 0 7 (dk_at dksX4_strength_0 3 rfl rfl)
theorem dX4_strength_6 : decode cX4_strength 6 = .ok (.iconst 1, 1) := dk_4 (dk_at dksX4_strength_0 6 rfl rfl)
theorem dX4_strength_7 : decode cX4_strength 7 = .ok (.goto 24, 3) := dk_167 0 24 (dk_at dksX4_strength_0 7 rfl rfl)
theorem dX4_strength_10 : decode cX4_strength 10 = .ok (.iload_n 0, 1) := dk_26 (dk_at dksX4_strength_0 10 rfl rfl)
theorem dX4_strength_11 : decode cX4_strength 11 = .ok (.bipush 12, 2) := dk_16 12 (dk_at dksX4_strength_0 11 rfl rfl)
theorem dX4_strength_13 : decode cX4_strength 13 = .ok (.if_icmp .ne 7, 3) := dk_160 0 7 (dk_at dksX4_strength_0 13 rfl rfl)
theorem dX4_strength_16 : decode cX4_strength 16 = .ok (.iconst 2, 1) := dk_5 (dk_at dksX4_strength_0 16 rfl rfl)
theorem dX4_strength_17 : decode cX4_strength 17 = .ok (.goto 14, 3) := dk_167 0 14 (dk_at dksX4_strength_0 17 rfl rfl)
theorem dX4_strength_20 : decode cX4_strength 20 = .ok (.iload_n 0, 1) := dk_26 (dk_at dksX4_strength_0 20 rfl rfl)
theorem dX4_strength_21 : decode cX4_strength 21 = .ok (.bipush 11, 2) := dk_16 11 (dk_at dksX4_strength_0 21 rfl rfl)
theorem dX4_strength_23 : decode cX4_strength 23 = .ok (.if_icmp .ne 7, 3) := dk_160 0 7 (dk_at dksX4_strength_1 0 rfl rfl)
theorem dX4_strength_26 : decode cX4_strength 26 = .ok (.iconst 3, 1) := dk_6 (dk_at dksX4_strength_1 3 rfl rfl)
theorem dX4_strength_27 : decode cX4_strength 27 = .ok (.goto 4, 3) := dk_167 0 4 (dk_at dksX4_strength_1 4 rfl rfl)
theorem dX4_strength_30 : decode cX4_strength 30 = .ok (.iconst 0, 1) := dk_3 (dk_at dksX4_strength_1 7 rfl rfl)
theorem dX4_strength_31 : decode cX4_strength 31 = .ok (.ireturn, 1) := dk_172 (dk_at dksX4_strength_1 8 rfl rfl)
abbrev cX4_isInside : ByteArray := prog_19_method_25_code
def yX4_isInside : MethodName := ⟨RX4, "isInside", "()Z"⟩
def dkwX4_isInside_1 : List UInt8 := [132, 1, 1, 167, 255, 232, 3, 172]
abbrev dktX4_isInside_1 : List UInt8 := dkwX4_isInside_1 ++ []
def dkwX4_isInside_0 : List UInt8 := [3, 60, 27, 42, 180, 0, 159, 162, 0, 22, 42, 180, 0, 29, 27, 46, 16, 91, 160, 0, 5, 4, 172]
abbrev dktX4_isInside_0 : List UInt8 := dkwX4_isInside_0 ++ dktX4_isInside_1
theorem dksX4_isInside_0 : cX4_isInside.data.toList.drop 0 = dktX4_isInside_0 := by decide +kernel
theorem dksX4_isInside_1 : cX4_isInside.data.toList.drop 23 = dktX4_isInside_1 := dk_seg dksX4_isInside_0 23 rfl rfl
theorem dX4_isInside_0 : decode cX4_isInside 0 = .ok (.iconst 0, 1) := dk_3 (dk_at dksX4_isInside_0 0 rfl rfl)
theorem dX4_isInside_1 : decode cX4_isInside 1 = .ok (.istore_n 1, 1) := dk_60 (dk_at dksX4_isInside_0 1 rfl rfl)
theorem dX4_isInside_2 : decode cX4_isInside 2 = .ok (.iload_n 1, 1) := dk_27 (dk_at dksX4_isInside_0 2 rfl rfl)
theorem dX4_isInside_3 : decode cX4_isInside 3 = .ok (.aload_n 0, 1) := dk_42 (dk_at dksX4_isInside_0 3 rfl rfl)
theorem dX4_isInside_4 : decode cX4_isInside 4 = .ok (.getfield 159, 3) := dk_180 0 159 (dk_at dksX4_isInside_0 4 rfl rfl)
theorem dX4_isInside_7 : decode cX4_isInside 7 = .ok (.if_icmp .ge 22, 3) := dk_162 0 22 (dk_at dksX4_isInside_0 7 rfl rfl)
theorem dX4_isInside_10 : decode cX4_isInside 10 = .ok (.aload_n 0, 1) := dk_42 (dk_at dksX4_isInside_0 10 rfl rfl)
theorem dX4_isInside_11 : decode cX4_isInside 11 = .ok (.getfield 29, 3) := dk_180 0 29 (dk_at dksX4_isInside_0 11 rfl rfl)
theorem dX4_isInside_14 : decode cX4_isInside 14 = .ok (.iload_n 1, 1) := dk_27 (dk_at dksX4_isInside_0 14 rfl rfl)
theorem dX4_isInside_15 : decode cX4_isInside 15 = .ok (.iaload, 1) := dk_46 (dk_at dksX4_isInside_0 15 rfl rfl)
theorem dX4_isInside_16 : decode cX4_isInside 16 = .ok (.bipush 91, 2) := dk_16 91 (dk_at dksX4_isInside_0 16 rfl rfl)
theorem dX4_isInside_18 : decode cX4_isInside 18 = .ok (.if_icmp .ne 5, 3) := dk_160 0 5 (dk_at dksX4_isInside_0 18 rfl rfl)
theorem dX4_isInside_21 : decode cX4_isInside 21 = .ok (.iconst 1, 1) := dk_4 (dk_at dksX4_isInside_0 21 rfl rfl)
theorem dX4_isInside_22 : decode cX4_isInside 22 = .ok (.ireturn, 1) := dk_172 (dk_at dksX4_isInside_0 22 rfl rfl)
theorem dX4_isInside_23 : decode cX4_isInside 23 = .ok (.iinc 1 1, 3) := dk_132 1 1 (dk_at dksX4_isInside_1 0 rfl rfl)
theorem dX4_isInside_26 : decode cX4_isInside 26 = .ok (.goto (-24), 3) := dk_167 255 232 (dk_at dksX4_isInside_1 3 rfl rfl)
theorem dX4_isInside_29 : decode cX4_isInside 29 = .ok (.iconst 0, 1) := dk_3 (dk_at dksX4_isInside_1 6 rfl rfl)
theorem dX4_isInside_30 : decode cX4_isInside 30 = .ok (.ireturn, 1) := dk_172 (dk_at dksX4_isInside_1 7 rfl rfl)
abbrev cX4_sheet : ByteArray := prog_19_method_40_code
def yX4_sheet : MethodName := ⟨RX4, "sheet", "()I"⟩
def dkwX4_sheet_5 : List UInt8 := [5, 46, 172]
abbrev dktX4_sheet_5 : List UInt8 := dkwX4_sheet_5 ++ []
def dkwX4_sheet_4 : List UInt8 := [167, 0, 4, 3, 79, 132, 1, 1, 167, 255, 223, 42, 182, 1, 12, 42, 3, 181, 1, 15, 42, 180, 0, 39]
abbrev dktX4_sheet_4 : List UInt8 := dkwX4_sheet_4 ++ dktX4_sheet_5
def dkwX4_sheet_3 : List UInt8 := [17, 0, 176, 162, 0, 32, 42, 180, 0, 39, 27, 27, 17, 0, 145, 162, 0, 12, 42, 180, 0, 26, 27, 46]
abbrev dktX4_sheet_3 : List UInt8 := dkwX4_sheet_3 ++ dktX4_sheet_4
def dkwX4_sheet_2 : List UInt8 := [132, 1, 1, 167, 255, 238, 42, 182, 1, 9, 154, 0, 11, 16, 254, 42, 180, 0, 93, 100, 172, 3, 60, 27]
abbrev dktX4_sheet_2 : List UInt8 := dkwX4_sheet_2 ++ dktX4_sheet_3
def dkwX4_sheet_1 : List UInt8 := [132, 1, 1, 167, 255, 239, 3, 60, 27, 7, 162, 0, 19, 42, 180, 0, 26, 16, 105, 27, 96, 27, 79]
abbrev dktX4_sheet_1 : List UInt8 := dkwX4_sheet_1 ++ dktX4_sheet_2
def dkwX4_sheet_0 : List UInt8 := [42, 16, 6, 181, 0, 150, 3, 60, 27, 17, 0, 145, 162, 0, 16, 42, 180, 0, 26, 27, 3, 79]
abbrev dktX4_sheet_0 : List UInt8 := dkwX4_sheet_0 ++ dktX4_sheet_1
theorem dksX4_sheet_0 : cX4_sheet.data.toList.drop 0 = dktX4_sheet_0 := by decide +kernel
theorem dksX4_sheet_1 : cX4_sheet.data.toList.drop 22 = dktX4_sheet_1 := dk_seg dksX4_sheet_0 22 rfl rfl
theorem dksX4_sheet_2 : cX4_sheet.data.toList.drop 45 = dktX4_sheet_2 := dk_seg dksX4_sheet_1 23 rfl rfl
theorem dksX4_sheet_3 : cX4_sheet.data.toList.drop 69 = dktX4_sheet_3 := dk_seg dksX4_sheet_2 24 rfl rfl
theorem dksX4_sheet_4 : cX4_sheet.data.toList.drop 93 = dktX4_sheet_4 := dk_seg dksX4_sheet_3 24 rfl rfl
theorem dksX4_sheet_5 : cX4_sheet.data.toList.drop 117 = dktX4_sheet_5 := dk_seg dksX4_sheet_4 24 rfl rfl
theorem dX4_sheet_0 : decode cX4_sheet 0 = .ok (.aload_n 0, 1) := dk_42 (dk_at dksX4_sheet_0 0 rfl rfl)
theorem dX4_sheet_1 : decode cX4_sheet 1 = .ok (.bipush 6, 2) := dk_16 6 (dk_at dksX4_sheet_0 1 rfl rfl)
theorem dX4_sheet_3 : decode cX4_sheet 3 = .ok (.putfield 150, 3) := dk_181 0 150 (dk_at dksX4_sheet_0 3 rfl rfl)
theorem dX4_sheet_6 : decode cX4_sheet 6 = .ok (.iconst 0, 1) := dk_3 (dk_at dksX4_sheet_0 6 rfl rfl)
theorem dX4_sheet_7 : decode cX4_sheet 7 = .ok (.istore_n 1, 1) := dk_60 (dk_at dksX4_sheet_0 7 rfl rfl)
theorem dX4_sheet_8 : decode cX4_sheet 8 = .ok (.iload_n 1, 1) := dk_27 (dk_at dksX4_sheet_0 8 rfl rfl)
theorem dX4_sheet_9 : decode cX4_sheet 9 = .ok (.sipush 145, 3) := dk_17 0 145 (dk_at dksX4_sheet_0 9 rfl rfl)
theorem dX4_sheet_12 : decode cX4_sheet 12 = .ok (.if_icmp .ge 16, 3) := dk_162 0 16 (dk_at dksX4_sheet_0 12 rfl rfl)
theorem dX4_sheet_15 : decode cX4_sheet 15 = .ok (.aload_n 0, 1) := dk_42 (dk_at dksX4_sheet_0 15 rfl rfl)
theorem dX4_sheet_16 : decode cX4_sheet 16 = .ok (.getfield 26, 3) := dk_180 0 26 (dk_at dksX4_sheet_0 16 rfl rfl)
theorem dX4_sheet_19 : decode cX4_sheet 19 = .ok (.iload_n 1, 1) := dk_27 (dk_at dksX4_sheet_0 19 rfl rfl)
theorem dX4_sheet_20 : decode cX4_sheet 20 = .ok (.iconst 0, 1) := dk_3 (dk_at dksX4_sheet_0 20 rfl rfl)
theorem dX4_sheet_21 : decode cX4_sheet 21 = .ok (.iastore, 1) := dk_79 (dk_at dksX4_sheet_0 21 rfl rfl)
theorem dX4_sheet_22 : decode cX4_sheet 22 = .ok (.iinc 1 1, 3) := dk_132 1 1 (dk_at dksX4_sheet_1 0 rfl rfl)
theorem dX4_sheet_25 : decode cX4_sheet 25 = .ok (.goto (-17), 3) := dk_167 255 239 (dk_at dksX4_sheet_1 3 rfl rfl)
theorem dX4_sheet_28 : decode cX4_sheet 28 = .ok (.iconst 0, 1) := dk_3 (dk_at dksX4_sheet_1 6 rfl rfl)
theorem dX4_sheet_29 : decode cX4_sheet 29 = .ok (.istore_n 1, 1) := dk_60 (dk_at dksX4_sheet_1 7 rfl rfl)
theorem dX4_sheet_30 : decode cX4_sheet 30 = .ok (.iload_n 1, 1) := dk_27 (dk_at dksX4_sheet_1 8 rfl rfl)
theorem dX4_sheet_31 : decode cX4_sheet 31 = .ok (.iconst 4, 1) := dk_7 (dk_at dksX4_sheet_1 9 rfl rfl)
theorem dX4_sheet_32 : decode cX4_sheet 32 = .ok (.if_icmp .ge 19, 3) := dk_162 0 19 (dk_at dksX4_sheet_1 10 rfl rfl)
theorem dX4_sheet_35 : decode cX4_sheet 35 = .ok (.aload_n 0, 1) := dk_42 (dk_at dksX4_sheet_1 13 rfl rfl)
theorem dX4_sheet_36 : decode cX4_sheet 36 = .ok (.getfield 26, 3) := dk_180 0 26 (dk_at dksX4_sheet_1 14 rfl rfl)
theorem dX4_sheet_39 : decode cX4_sheet 39 = .ok (.bipush 105, 2) := dk_16 105 (dk_at dksX4_sheet_1 17 rfl rfl)
theorem dX4_sheet_41 : decode cX4_sheet 41 = .ok (.iload_n 1, 1) := dk_27 (dk_at dksX4_sheet_1 19 rfl rfl)
theorem dX4_sheet_42 : decode cX4_sheet 42 = .ok (.iadd, 1) := dk_96 (dk_at dksX4_sheet_1 20 rfl rfl)
theorem dX4_sheet_43 : decode cX4_sheet 43 = .ok (.iload_n 1, 1) := dk_27 (dk_at dksX4_sheet_1 21 rfl rfl)
theorem dX4_sheet_44 : decode cX4_sheet 44 = .ok (.iastore, 1) := dk_79 (dk_at dksX4_sheet_1 22 rfl rfl)
theorem dX4_sheet_45 : decode cX4_sheet 45 = .ok (.iinc 1 1, 3) := dk_132 1 1 (dk_at dksX4_sheet_2 0 rfl rfl)
theorem dX4_sheet_48 : decode cX4_sheet 48 = .ok (.goto (-18), 3) := dk_167 255 238 (dk_at dksX4_sheet_2 3 rfl rfl)
theorem dX4_sheet_51 : decode cX4_sheet 51 = .ok (.aload_n 0, 1) := dk_42 (dk_at dksX4_sheet_2 6 rfl rfl)
theorem dX4_sheet_52 : decode cX4_sheet 52 = .ok (.invokevirtual 265, 3) := dk_182 1 9 (dk_at dksX4_sheet_2 7 rfl rfl)
theorem dX4_sheet_55 : decode cX4_sheet 55 = .ok (.ifCond .ne 11, 3) := dk_154 0 11 (dk_at dksX4_sheet_2 10 rfl rfl)
theorem dX4_sheet_58 : decode cX4_sheet 58 = .ok (.bipush (-2), 2) := dk_16 254 (dk_at dksX4_sheet_2 13 rfl rfl)
theorem dX4_sheet_60 : decode cX4_sheet 60 = .ok (.aload_n 0, 1) := dk_42 (dk_at dksX4_sheet_2 15 rfl rfl)
theorem dX4_sheet_61 : decode cX4_sheet 61 = .ok (.getfield 93, 3) := dk_180 0 93 (dk_at dksX4_sheet_2 16 rfl rfl)
theorem dX4_sheet_64 : decode cX4_sheet 64 = .ok (.isub, 1) := dk_100 (dk_at dksX4_sheet_2 19 rfl rfl)
theorem dX4_sheet_65 : decode cX4_sheet 65 = .ok (.ireturn, 1) := dk_172 (dk_at dksX4_sheet_2 20 rfl rfl)
theorem dX4_sheet_66 : decode cX4_sheet 66 = .ok (.iconst 0, 1) := dk_3 (dk_at dksX4_sheet_2 21 rfl rfl)
theorem dX4_sheet_67 : decode cX4_sheet 67 = .ok (.istore_n 1, 1) := dk_60 (dk_at dksX4_sheet_2 22 rfl rfl)
theorem dX4_sheet_68 : decode cX4_sheet 68 = .ok (.iload_n 1, 1) := dk_27 (dk_at dksX4_sheet_2 23 rfl rfl)
theorem dX4_sheet_69 : decode cX4_sheet 69 = .ok (.sipush 176, 3) := dk_17 0 176 (dk_at dksX4_sheet_3 0 rfl rfl)
theorem dX4_sheet_72 : decode cX4_sheet 72 = .ok (.if_icmp .ge 32, 3) := dk_162 0 32 (dk_at dksX4_sheet_3 3 rfl rfl)
theorem dX4_sheet_75 : decode cX4_sheet 75 = .ok (.aload_n 0, 1) := dk_42 (dk_at dksX4_sheet_3 6 rfl rfl)
theorem dX4_sheet_76 : decode cX4_sheet 76 = .ok (.getfield 39, 3) := dk_180 0 39 (dk_at dksX4_sheet_3 7 rfl rfl)
theorem dX4_sheet_79 : decode cX4_sheet 79 = .ok (.iload_n 1, 1) := dk_27 (dk_at dksX4_sheet_3 10 rfl rfl)
theorem dX4_sheet_80 : decode cX4_sheet 80 = .ok (.iload_n 1, 1) := dk_27 (dk_at dksX4_sheet_3 11 rfl rfl)
theorem dX4_sheet_81 : decode cX4_sheet 81 = .ok (.sipush 145, 3) := dk_17 0 145 (dk_at dksX4_sheet_3 12 rfl rfl)
theorem dX4_sheet_84 : decode cX4_sheet 84 = .ok (.if_icmp .ge 12, 3) := dk_162 0 12 (dk_at dksX4_sheet_3 15 rfl rfl)
theorem dX4_sheet_87 : decode cX4_sheet 87 = .ok (.aload_n 0, 1) := dk_42 (dk_at dksX4_sheet_3 18 rfl rfl)
theorem dX4_sheet_88 : decode cX4_sheet 88 = .ok (.getfield 26, 3) := dk_180 0 26 (dk_at dksX4_sheet_3 19 rfl rfl)
theorem dX4_sheet_91 : decode cX4_sheet 91 = .ok (.iload_n 1, 1) := dk_27 (dk_at dksX4_sheet_3 22 rfl rfl)
theorem dX4_sheet_92 : decode cX4_sheet 92 = .ok (.iaload, 1) := dk_46 (dk_at dksX4_sheet_3 23 rfl rfl)
theorem dX4_sheet_93 : decode cX4_sheet 93 = .ok (.goto 4, 3) := dk_167 0 4 (dk_at dksX4_sheet_4 0 rfl rfl)
theorem dX4_sheet_96 : decode cX4_sheet 96 = .ok (.iconst 0, 1) := dk_3 (dk_at dksX4_sheet_4 3 rfl rfl)
theorem dX4_sheet_97 : decode cX4_sheet 97 = .ok (.iastore, 1) := dk_79 (dk_at dksX4_sheet_4 4 rfl rfl)
theorem dX4_sheet_98 : decode cX4_sheet 98 = .ok (.iinc 1 1, 3) := dk_132 1 1 (dk_at dksX4_sheet_4 5 rfl rfl)
theorem dX4_sheet_101 : decode cX4_sheet 101 = .ok (.goto (-33), 3) := dk_167 255 223 (dk_at dksX4_sheet_4 8 rfl rfl)
theorem dX4_sheet_104 : decode cX4_sheet 104 = .ok (.aload_n 0, 1) := dk_42 (dk_at dksX4_sheet_4 11 rfl rfl)
theorem dX4_sheet_105 : decode cX4_sheet 105 = .ok (.invokevirtual 268, 3) := dk_182 1 12 (dk_at dksX4_sheet_4 12 rfl rfl)
theorem dX4_sheet_108 : decode cX4_sheet 108 = .ok (.aload_n 0, 1) := dk_42 (dk_at dksX4_sheet_4 15 rfl rfl)
theorem dX4_sheet_109 : decode cX4_sheet 109 = .ok (.iconst 0, 1) := dk_3 (dk_at dksX4_sheet_4 16 rfl rfl)
theorem dX4_sheet_110 : decode cX4_sheet 110 = .ok (.putfield 271, 3) := dk_181 1 15 (dk_at dksX4_sheet_4 17 rfl rfl)
theorem dX4_sheet_113 : decode cX4_sheet 113 = .ok (.aload_n 0, 1) := dk_42 (dk_at dksX4_sheet_4 20 rfl rfl)
theorem dX4_sheet_114 : decode cX4_sheet 114 = .ok (.getfield 39, 3) := dk_180 0 39 (dk_at dksX4_sheet_4 21 rfl rfl)
theorem dX4_sheet_117 : decode cX4_sheet 117 = .ok (.iconst 2, 1) := dk_5 (dk_at dksX4_sheet_5 0 rfl rfl)
theorem dX4_sheet_118 : decode cX4_sheet 118 = .ok (.iaload, 1) := dk_46 (dk_at dksX4_sheet_5 1 rfl rfl)
theorem dX4_sheet_119 : decode cX4_sheet 119 = .ok (.ireturn, 1) := dk_172 (dk_at dksX4_sheet_5 2 rfl rfl)
abbrev cX4_begins : ByteArray := prog_19_method_64_code
def yX4_begins : MethodName := ⟨RX4, "begins", "()V"⟩
def dkwX4_begins_5 : List UInt8 := [180, 0, 39, 16, 109, 27, 96, 46, 79, 132, 1, 1, 167, 255, 229, 177]
abbrev dktX4_begins_5 : List UInt8 := dkwX4_begins_5 ++ []
def dkwX4_begins_4 : List UInt8 := [132, 1, 1, 167, 255, 230, 3, 60, 27, 16, 36, 162, 0, 27, 42, 180, 0, 39, 16, 50, 27, 96, 42]
abbrev dktX4_begins_4 : List UInt8 := dkwX4_begins_4 ++ dktX4_begins_5
def dkwX4_begins_3 : List UInt8 := [60, 27, 7, 162, 0, 27, 42, 180, 0, 39, 16, 46, 27, 96, 42, 180, 0, 39, 16, 105, 27, 96, 46, 79]
abbrev dktX4_begins_3 : List UInt8 := dkwX4_begins_3 ++ dktX4_begins_4
def dkwX4_begins_2 : List UInt8 := [27, 104, 96, 28, 96, 46, 167, 0, 4, 3, 79, 132, 2, 1, 167, 255, 211, 132, 1, 1, 167, 255, 198, 3]
abbrev dktX4_begins_2 : List UInt8 := dkwX4_begins_2 ++ dktX4_begins_3
def dkwX4_begins_1 : List UInt8 := [180, 0, 39, 16, 11, 16, 7, 27, 104, 96, 28, 96, 28, 6, 162, 0, 19, 42, 180, 0, 39, 16, 90, 6]
abbrev dktX4_begins_1 : List UInt8 := dkwX4_begins_1 ++ dktX4_begins_2
def dkwX4_begins_0 : List UInt8 := [42, 180, 0, 39, 16, 10, 3, 79, 3, 60, 27, 8, 162, 0, 59, 3, 61, 28, 16, 7, 162, 0, 45, 42]
abbrev dktX4_begins_0 : List UInt8 := dkwX4_begins_0 ++ dktX4_begins_1
theorem dksX4_begins_0 : cX4_begins.data.toList.drop 0 = dktX4_begins_0 := by decide +kernel
theorem dksX4_begins_1 : cX4_begins.data.toList.drop 24 = dktX4_begins_1 := dk_seg dksX4_begins_0 24 rfl rfl
theorem dksX4_begins_2 : cX4_begins.data.toList.drop 48 = dktX4_begins_2 := dk_seg dksX4_begins_1 24 rfl rfl
theorem dksX4_begins_3 : cX4_begins.data.toList.drop 72 = dktX4_begins_3 := dk_seg dksX4_begins_2 24 rfl rfl
theorem dksX4_begins_4 : cX4_begins.data.toList.drop 96 = dktX4_begins_4 := dk_seg dksX4_begins_3 24 rfl rfl
theorem dksX4_begins_5 : cX4_begins.data.toList.drop 119 = dktX4_begins_5 := dk_seg dksX4_begins_4 23 rfl rfl
theorem dX4_begins_0 : decode cX4_begins 0 = .ok (.aload_n 0, 1) := dk_42 (dk_at dksX4_begins_0 0 rfl rfl)
theorem dX4_begins_1 : decode cX4_begins 1 = .ok (.getfield 39, 3) := dk_180 0 39 (dk_at dksX4_begins_0 1 rfl rfl)
theorem dX4_begins_4 : decode cX4_begins 4 = .ok (.bipush 10, 2) := dk_16 10 (dk_at dksX4_begins_0 4 rfl rfl)
theorem dX4_begins_6 : decode cX4_begins 6 = .ok (.iconst 0, 1) := dk_3 (dk_at dksX4_begins_0 6 rfl rfl)
theorem dX4_begins_7 : decode cX4_begins 7 = .ok (.iastore, 1) := dk_79 (dk_at dksX4_begins_0 7 rfl rfl)
theorem dX4_begins_8 : decode cX4_begins 8 = .ok (.iconst 0, 1) := dk_3 (dk_at dksX4_begins_0 8 rfl rfl)
theorem dX4_begins_9 : decode cX4_begins 9 = .ok (.istore_n 1, 1) := dk_60 (dk_at dksX4_begins_0 9 rfl rfl)
theorem dX4_begins_10 : decode cX4_begins 10 = .ok (.iload_n 1, 1) := dk_27 (dk_at dksX4_begins_0 10 rfl rfl)
theorem dX4_begins_11 : decode cX4_begins 11 = .ok (.iconst 5, 1) := dk_8 (dk_at dksX4_begins_0 11 rfl rfl)
theorem dX4_begins_12 : decode cX4_begins 12 = .ok (.if_icmp .ge 59, 3) := dk_162 0 59 (dk_at dksX4_begins_0 12 rfl rfl)
theorem dX4_begins_15 : decode cX4_begins 15 = .ok (.iconst 0, 1) := dk_3 (dk_at dksX4_begins_0 15 rfl rfl)
theorem dX4_begins_16 : decode cX4_begins 16 = .ok (.istore_n 2, 1) := dk_61 (dk_at dksX4_begins_0 16 rfl rfl)
theorem dX4_begins_17 : decode cX4_begins 17 = .ok (.iload_n 2, 1) := dk_28 (dk_at dksX4_begins_0 17 rfl rfl)
theorem dX4_begins_18 : decode cX4_begins 18 = .ok (.bipush 7, 2) := dk_16 7 (dk_at dksX4_begins_0 18 rfl rfl)
theorem dX4_begins_20 : decode cX4_begins 20 = .ok (.if_icmp .ge 45, 3) := dk_162 0 45 (dk_at dksX4_begins_0 20 rfl rfl)
theorem dX4_begins_23 : decode cX4_begins 23 = .ok (.aload_n 0, 1) := dk_42 (dk_at dksX4_begins_0 23 rfl rfl)
theorem dX4_begins_24 : decode cX4_begins 24 = .ok (.getfield 39, 3) := dk_180 0 39 (dk_at dksX4_begins_1 0 rfl rfl)
theorem dX4_begins_27 : decode cX4_begins 27 = .ok (.bipush 11, 2) := dk_16 11 (dk_at dksX4_begins_1 3 rfl rfl)
theorem dX4_begins_29 : decode cX4_begins 29 = .ok (.bipush 7, 2) := dk_16 7 (dk_at dksX4_begins_1 5 rfl rfl)
theorem dX4_begins_31 : decode cX4_begins 31 = .ok (.iload_n 1, 1) := dk_27 (dk_at dksX4_begins_1 7 rfl rfl)
theorem dX4_begins_32 : decode cX4_begins 32 = .ok (.imul, 1) := dk_104 (dk_at dksX4_begins_1 8 rfl rfl)
theorem dX4_begins_33 : decode cX4_begins 33 = .ok (.iadd, 1) := dk_96 (dk_at dksX4_begins_1 9 rfl rfl)
theorem dX4_begins_34 : decode cX4_begins 34 = .ok (.iload_n 2, 1) := dk_28 (dk_at dksX4_begins_1 10 rfl rfl)
theorem dX4_begins_35 : decode cX4_begins 35 = .ok (.iadd, 1) := dk_96 (dk_at dksX4_begins_1 11 rfl rfl)
theorem dX4_begins_36 : decode cX4_begins 36 = .ok (.iload_n 2, 1) := dk_28 (dk_at dksX4_begins_1 12 rfl rfl)
theorem dX4_begins_37 : decode cX4_begins 37 = .ok (.iconst 3, 1) := dk_6 (dk_at dksX4_begins_1 13 rfl rfl)
theorem dX4_begins_38 : decode cX4_begins 38 = .ok (.if_icmp .ge 19, 3) := dk_162 0 19 (dk_at dksX4_begins_1 14 rfl rfl)
theorem dX4_begins_41 : decode cX4_begins 41 = .ok (.aload_n 0, 1) := dk_42 (dk_at dksX4_begins_1 17 rfl rfl)
theorem dX4_begins_42 : decode cX4_begins 42 = .ok (.getfield 39, 3) := dk_180 0 39 (dk_at dksX4_begins_1 18 rfl rfl)
theorem dX4_begins_45 : decode cX4_begins 45 = .ok (.bipush 90, 2) := dk_16 90 (dk_at dksX4_begins_1 21 rfl rfl)
theorem dX4_begins_47 : decode cX4_begins 47 = .ok (.iconst 3, 1) := dk_6 (dk_at dksX4_begins_1 23 rfl rfl)
theorem dX4_begins_48 : decode cX4_begins 48 = .ok (.iload_n 1, 1) := dk_27 (dk_at dksX4_begins_2 0 rfl rfl)
theorem dX4_begins_49 : decode cX4_begins 49 = .ok (.imul, 1) := dk_104 (dk_at dksX4_begins_2 1 rfl rfl)
theorem dX4_begins_50 : decode cX4_begins 50 = .ok (.iadd, 1) := dk_96 (dk_at dksX4_begins_2 2 rfl rfl)
theorem dX4_begins_51 : decode cX4_begins 51 = .ok (.iload_n 2, 1) := dk_28 (dk_at dksX4_begins_2 3 rfl rfl)
theorem dX4_begins_52 : decode cX4_begins 52 = .ok (.iadd, 1) := dk_96 (dk_at dksX4_begins_2 4 rfl rfl)
theorem dX4_begins_53 : decode cX4_begins 53 = .ok (.iaload, 1) := dk_46 (dk_at dksX4_begins_2 5 rfl rfl)
theorem dX4_begins_54 : decode cX4_begins 54 = .ok (.goto 4, 3) := dk_167 0 4 (dk_at dksX4_begins_2 6 rfl rfl)
theorem dX4_begins_57 : decode cX4_begins 57 = .ok (.iconst 0, 1) := dk_3 (dk_at dksX4_begins_2 9 rfl rfl)
theorem dX4_begins_58 : decode cX4_begins 58 = .ok (.iastore, 1) := dk_79 (dk_at dksX4_begins_2 10 rfl rfl)
theorem dX4_begins_59 : decode cX4_begins 59 = .ok (.iinc 2 1, 3) := dk_132 2 1 (dk_at dksX4_begins_2 11 rfl rfl)
theorem dX4_begins_62 : decode cX4_begins 62 = .ok (.goto (-45), 3) := dk_167 255 211 (dk_at dksX4_begins_2 14 rfl rfl)
theorem dX4_begins_65 : decode cX4_begins 65 = .ok (.iinc 1 1, 3) := dk_132 1 1 (dk_at dksX4_begins_2 17 rfl rfl)
theorem dX4_begins_68 : decode cX4_begins 68 = .ok (.goto (-58), 3) := dk_167 255 198 (dk_at dksX4_begins_2 20 rfl rfl)
theorem dX4_begins_71 : decode cX4_begins 71 = .ok (.iconst 0, 1) := dk_3 (dk_at dksX4_begins_2 23 rfl rfl)
theorem dX4_begins_72 : decode cX4_begins 72 = .ok (.istore_n 1, 1) := dk_60 (dk_at dksX4_begins_3 0 rfl rfl)
theorem dX4_begins_73 : decode cX4_begins 73 = .ok (.iload_n 1, 1) := dk_27 (dk_at dksX4_begins_3 1 rfl rfl)
theorem dX4_begins_74 : decode cX4_begins 74 = .ok (.iconst 4, 1) := dk_7 (dk_at dksX4_begins_3 2 rfl rfl)
theorem dX4_begins_75 : decode cX4_begins 75 = .ok (.if_icmp .ge 27, 3) := dk_162 0 27 (dk_at dksX4_begins_3 3 rfl rfl)
theorem dX4_begins_78 : decode cX4_begins 78 = .ok (.aload_n 0, 1) := dk_42 (dk_at dksX4_begins_3 6 rfl rfl)
theorem dX4_begins_79 : decode cX4_begins 79 = .ok (.getfield 39, 3) := dk_180 0 39 (dk_at dksX4_begins_3 7 rfl rfl)
theorem dX4_begins_82 : decode cX4_begins 82 = .ok (.bipush 46, 2) := dk_16 46 (dk_at dksX4_begins_3 10 rfl rfl)
theorem dX4_begins_84 : decode cX4_begins 84 = .ok (.iload_n 1, 1) := dk_27 (dk_at dksX4_begins_3 12 rfl rfl)
theorem dX4_begins_85 : decode cX4_begins 85 = .ok (.iadd, 1) := dk_96 (dk_at dksX4_begins_3 13 rfl rfl)
theorem dX4_begins_86 : decode cX4_begins 86 = .ok (.aload_n 0, 1) := dk_42 (dk_at dksX4_begins_3 14 rfl rfl)
theorem dX4_begins_87 : decode cX4_begins 87 = .ok (.getfield 39, 3) := dk_180 0 39 (dk_at dksX4_begins_3 15 rfl rfl)
theorem dX4_begins_90 : decode cX4_begins 90 = .ok (.bipush 105, 2) := dk_16 105 (dk_at dksX4_begins_3 18 rfl rfl)
theorem dX4_begins_92 : decode cX4_begins 92 = .ok (.iload_n 1, 1) := dk_27 (dk_at dksX4_begins_3 20 rfl rfl)
theorem dX4_begins_93 : decode cX4_begins 93 = .ok (.iadd, 1) := dk_96 (dk_at dksX4_begins_3 21 rfl rfl)
theorem dX4_begins_94 : decode cX4_begins 94 = .ok (.iaload, 1) := dk_46 (dk_at dksX4_begins_3 22 rfl rfl)
theorem dX4_begins_95 : decode cX4_begins 95 = .ok (.iastore, 1) := dk_79 (dk_at dksX4_begins_3 23 rfl rfl)
theorem dX4_begins_96 : decode cX4_begins 96 = .ok (.iinc 1 1, 3) := dk_132 1 1 (dk_at dksX4_begins_4 0 rfl rfl)
theorem dX4_begins_99 : decode cX4_begins 99 = .ok (.goto (-26), 3) := dk_167 255 230 (dk_at dksX4_begins_4 3 rfl rfl)
theorem dX4_begins_102 : decode cX4_begins 102 = .ok (.iconst 0, 1) := dk_3 (dk_at dksX4_begins_4 6 rfl rfl)
theorem dX4_begins_103 : decode cX4_begins 103 = .ok (.istore_n 1, 1) := dk_60 (dk_at dksX4_begins_4 7 rfl rfl)
theorem dX4_begins_104 : decode cX4_begins 104 = .ok (.iload_n 1, 1) := dk_27 (dk_at dksX4_begins_4 8 rfl rfl)
theorem dX4_begins_105 : decode cX4_begins 105 = .ok (.bipush 36, 2) := dk_16 36 (dk_at dksX4_begins_4 9 rfl rfl)
theorem dX4_begins_107 : decode cX4_begins 107 = .ok (.if_icmp .ge 27, 3) := dk_162 0 27 (dk_at dksX4_begins_4 11 rfl rfl)
theorem dX4_begins_110 : decode cX4_begins 110 = .ok (.aload_n 0, 1) := dk_42 (dk_at dksX4_begins_4 14 rfl rfl)
theorem dX4_begins_111 : decode cX4_begins 111 = .ok (.getfield 39, 3) := dk_180 0 39 (dk_at dksX4_begins_4 15 rfl rfl)
theorem dX4_begins_114 : decode cX4_begins 114 = .ok (.bipush 50, 2) := dk_16 50 (dk_at dksX4_begins_4 18 rfl rfl)
theorem dX4_begins_116 : decode cX4_begins 116 = .ok (.iload_n 1, 1) := dk_27 (dk_at dksX4_begins_4 20 rfl rfl)
theorem dX4_begins_117 : decode cX4_begins 117 = .ok (.iadd, 1) := dk_96 (dk_at dksX4_begins_4 21 rfl rfl)
theorem dX4_begins_118 : decode cX4_begins 118 = .ok (.aload_n 0, 1) := dk_42 (dk_at dksX4_begins_4 22 rfl rfl)
theorem dX4_begins_119 : decode cX4_begins 119 = .ok (.getfield 39, 3) := dk_180 0 39 (dk_at dksX4_begins_5 0 rfl rfl)
theorem dX4_begins_122 : decode cX4_begins 122 = .ok (.bipush 109, 2) := dk_16 109 (dk_at dksX4_begins_5 3 rfl rfl)
theorem dX4_begins_124 : decode cX4_begins 124 = .ok (.iload_n 1, 1) := dk_27 (dk_at dksX4_begins_5 5 rfl rfl)
theorem dX4_begins_125 : decode cX4_begins 125 = .ok (.iadd, 1) := dk_96 (dk_at dksX4_begins_5 6 rfl rfl)
theorem dX4_begins_126 : decode cX4_begins 126 = .ok (.iaload, 1) := dk_46 (dk_at dksX4_begins_5 7 rfl rfl)
theorem dX4_begins_127 : decode cX4_begins 127 = .ok (.iastore, 1) := dk_79 (dk_at dksX4_begins_5 8 rfl rfl)
theorem dX4_begins_128 : decode cX4_begins 128 = .ok (.iinc 1 1, 3) := dk_132 1 1 (dk_at dksX4_begins_5 9 rfl rfl)
theorem dX4_begins_131 : decode cX4_begins 131 = .ok (.goto (-27), 3) := dk_167 255 229 (dk_at dksX4_begins_5 12 rfl rfl)
theorem dX4_begins_134 : decode cX4_begins 134 = .ok (.return_, 1) := dk_177 (dk_at dksX4_begins_5 15 rfl rfl)
abbrev cX4_force : ByteArray := prog_19_method_65_code
def yX4_force : MethodName := ⟨RX4, "force", "(I)I"⟩
def dkwX4_force_1 : List UInt8 := [181, 0, 42, 28, 172]
abbrev dktX4_force_1 : List UInt8 := dkwX4_force_1 ++ []
def dkwX4_force_0 : List UInt8 := [27, 2, 159, 0, 14, 42, 27, 182, 1, 51, 154, 0, 6, 16, 254, 172, 42, 180, 0, 42, 61, 42, 27]
abbrev dktX4_force_0 : List UInt8 := dkwX4_force_0 ++ dktX4_force_1
theorem dksX4_force_0 : cX4_force.data.toList.drop 0 = dktX4_force_0 := by decide +kernel
theorem dksX4_force_1 : cX4_force.data.toList.drop 23 = dktX4_force_1 := dk_seg dksX4_force_0 23 rfl rfl
theorem dX4_force_0 : decode cX4_force 0 = .ok (.iload_n 1, 1) := dk_27 (dk_at dksX4_force_0 0 rfl rfl)
theorem dX4_force_1 : decode cX4_force 1 = .ok (.iconst (-1), 1) := dk_2 (dk_at dksX4_force_0 1 rfl rfl)
theorem dX4_force_2 : decode cX4_force 2 = .ok (.if_icmp .eq 14, 3) := dk_159 0 14 (dk_at dksX4_force_0 2 rfl rfl)
theorem dX4_force_5 : decode cX4_force 5 = .ok (.aload_n 0, 1) := dk_42 (dk_at dksX4_force_0 5 rfl rfl)
theorem dX4_force_6 : decode cX4_force 6 = .ok (.iload_n 1, 1) := dk_27 (dk_at dksX4_force_0 6 rfl rfl)
theorem dX4_force_7 : decode cX4_force 7 = .ok (.invokevirtual 307, 3) := dk_182 1 51 (dk_at dksX4_force_0 7 rfl rfl)
theorem dX4_force_10 : decode cX4_force 10 = .ok (.ifCond .ne 6, 3) := dk_154 0 6 (dk_at dksX4_force_0 10 rfl rfl)
theorem dX4_force_13 : decode cX4_force 13 = .ok (.bipush (-2), 2) := dk_16 254 (dk_at dksX4_force_0 13 rfl rfl)
theorem dX4_force_15 : decode cX4_force 15 = .ok (.ireturn, 1) := dk_172 (dk_at dksX4_force_0 15 rfl rfl)
theorem dX4_force_16 : decode cX4_force 16 = .ok (.aload_n 0, 1) := dk_42 (dk_at dksX4_force_0 16 rfl rfl)
theorem dX4_force_17 : decode cX4_force 17 = .ok (.getfield 42, 3) := dk_180 0 42 (dk_at dksX4_force_0 17 rfl rfl)
theorem dX4_force_20 : decode cX4_force 20 = .ok (.istore_n 2, 1) := dk_61 (dk_at dksX4_force_0 20 rfl rfl)
theorem dX4_force_21 : decode cX4_force 21 = .ok (.aload_n 0, 1) := dk_42 (dk_at dksX4_force_0 21 rfl rfl)
theorem dX4_force_22 : decode cX4_force 22 = .ok (.iload_n 1, 1) := dk_27 (dk_at dksX4_force_0 22 rfl rfl)
theorem dX4_force_23 : decode cX4_force 23 = .ok (.putfield 42, 3) := dk_181 0 42 (dk_at dksX4_force_1 0 rfl rfl)
theorem dX4_force_26 : decode cX4_force 26 = .ok (.iload_n 2, 1) := dk_28 (dk_at dksX4_force_1 3 rfl rfl)
theorem dX4_force_27 : decode cX4_force 27 = .ok (.ireturn, 1) := dk_172 (dk_at dksX4_force_1 4 rfl rfl)
abbrev cX4_isRule : ByteArray := prog_19_method_41_code
def yX4_isRule : MethodName := ⟨RX4, "isRule", "(I)Z"⟩
def dkwX4_isRule_0 : List UInt8 := [27, 155, 0, 15, 27, 42, 180, 1, 6, 162, 0, 7, 4, 167, 0, 4, 3, 172]
abbrev dktX4_isRule_0 : List UInt8 := dkwX4_isRule_0 ++ []
theorem dksX4_isRule_0 : cX4_isRule.data.toList.drop 0 = dktX4_isRule_0 := by decide +kernel
theorem dX4_isRule_0 : decode cX4_isRule 0 = .ok (.iload_n 1, 1) := dk_27 (dk_at dksX4_isRule_0 0 rfl rfl)
theorem dX4_isRule_1 : decode cX4_isRule 1 = .ok (.ifCond .lt 15, 3) := dk_155 0 15 (dk_at dksX4_isRule_0 1 rfl rfl)
theorem dX4_isRule_4 : decode cX4_isRule 4 = .ok (.iload_n 1, 1) := dk_27 (dk_at dksX4_isRule_0 4 rfl rfl)
theorem dX4_isRule_5 : decode cX4_isRule 5 = .ok (.aload_n 0, 1) := dk_42 (dk_at dksX4_isRule_0 5 rfl rfl)
theorem dX4_isRule_6 : decode cX4_isRule 6 = .ok (.getfield 262, 3) := dk_180 1 6 (dk_at dksX4_isRule_0 6 rfl rfl)
theorem dX4_isRule_9 : decode cX4_isRule 9 = .ok (.if_icmp .ge 7, 3) := dk_162 0 7 (dk_at dksX4_isRule_0 9 rfl rfl)
theorem dX4_isRule_12 : decode cX4_isRule 12 = .ok (.iconst 1, 1) := dk_4 (dk_at dksX4_isRule_0 12 rfl rfl)
theorem dX4_isRule_13 : decode cX4_isRule 13 = .ok (.goto 4, 3) := dk_167 0 4 (dk_at dksX4_isRule_0 13 rfl rfl)
theorem dX4_isRule_16 : decode cX4_isRule 16 = .ok (.iconst 0, 1) := dk_3 (dk_at dksX4_isRule_0 16 rfl rfl)
theorem dX4_isRule_17 : decode cX4_isRule 17 = .ok (.ireturn, 1) := dk_172 (dk_at dksX4_isRule_0 17 rfl rfl)
abbrev cX4_goer : ByteArray := prog_19_method_66_code
def yX4_goer : MethodName := ⟨RX4, "goer", "(II)I"⟩
def dkwX4_goer_5 : List UInt8 := [16, 7, 27, 104, 96, 16, 6, 96, 46, 172, 16, 254, 172]
abbrev dktX4_goer_5 : List UInt8 := dkwX4_goer_5 ++ []
def dkwX4_goer_4 : List UInt8 := [180, 0, 39, 16, 11, 16, 7, 27, 104, 96, 7, 96, 46, 167, 0, 4, 3, 172, 42, 180, 0, 39, 16, 11]
abbrev dktX4_goer_4 : List UInt8 := dkwX4_goer_4 ++ dktX4_goer_5
def dkwX4_goer_3 : List UInt8 := [42, 27, 182, 1, 44, 172, 42, 27, 182, 1, 41, 172, 42, 27, 182, 1, 41, 4, 160, 0, 20, 42]
abbrev dktX4_goer_3 : List UInt8 := dkwX4_goer_3 ++ dktX4_goer_4
def dkwX4_goer_2 : List UInt8 := [42, 27, 182, 1, 57, 153, 0, 11, 42, 27, 182, 1, 60, 167, 0, 4, 2, 172, 42, 27, 182, 1, 63, 172]
abbrev dktX4_goer_2 : List UInt8 := dkwX4_goer_2 ++ dktX4_goer_3
def dkwX4_goer_1 : List UInt8 := [170, 0, 0, 0, 0, 0, 0, 120, 0, 0, 0, 0, 0, 0, 0, 5, 0, 0, 0, 40, 0, 0, 0, 58, 0, 0, 0, 64, 0, 0, 0, 70, 0, 0, 0, 76, 0, 0, 0, 104]
abbrev dktX4_goer_1 : List UInt8 := dkwX4_goer_1 ++ dktX4_goer_2
def dkwX4_goer_0 : List UInt8 := [42, 27, 182, 1, 54, 154, 0, 6, 16, 254, 172, 28]
abbrev dktX4_goer_0 : List UInt8 := dkwX4_goer_0 ++ dktX4_goer_1
theorem dksX4_goer_0 : cX4_goer.data.toList.drop 0 = dktX4_goer_0 := by decide +kernel
theorem dksX4_goer_1 : cX4_goer.data.toList.drop 12 = dktX4_goer_1 := dk_seg dksX4_goer_0 12 rfl rfl
theorem dksX4_goer_2 : cX4_goer.data.toList.drop 52 = dktX4_goer_2 := dk_seg dksX4_goer_1 40 rfl rfl
theorem dksX4_goer_3 : cX4_goer.data.toList.drop 76 = dktX4_goer_3 := dk_seg dksX4_goer_2 24 rfl rfl
theorem dksX4_goer_4 : cX4_goer.data.toList.drop 98 = dktX4_goer_4 := dk_seg dksX4_goer_3 22 rfl rfl
theorem dksX4_goer_5 : cX4_goer.data.toList.drop 122 = dktX4_goer_5 := dk_seg dksX4_goer_4 24 rfl rfl
theorem dX4_goer_0 : decode cX4_goer 0 = .ok (.aload_n 0, 1) := dk_42 (dk_at dksX4_goer_0 0 rfl rfl)
theorem dX4_goer_1 : decode cX4_goer 1 = .ok (.iload_n 1, 1) := dk_27 (dk_at dksX4_goer_0 1 rfl rfl)
theorem dX4_goer_2 : decode cX4_goer 2 = .ok (.invokevirtual 310, 3) := dk_182 1 54 (dk_at dksX4_goer_0 2 rfl rfl)
theorem dX4_goer_5 : decode cX4_goer 5 = .ok (.ifCond .ne 6, 3) := dk_154 0 6 (dk_at dksX4_goer_0 5 rfl rfl)
theorem dX4_goer_8 : decode cX4_goer 8 = .ok (.bipush (-2), 2) := dk_16 254 (dk_at dksX4_goer_0 8 rfl rfl)
theorem dX4_goer_10 : decode cX4_goer 10 = .ok (.ireturn, 1) := dk_172 (dk_at dksX4_goer_0 10 rfl rfl)
theorem dX4_goer_11 : decode cX4_goer 11 = .ok (.iload_n 2, 1) := dk_28 (dk_at dksX4_goer_0 11 rfl rfl)
theorem dX4_goer_12 : decode cX4_goer 12 = .ok (.tableswitch 120 0 5 #[40, 58, 64, 70, 76, 104], 40) := by decide +kernel
theorem dX4_goer_52 : decode cX4_goer 52 = .ok (.aload_n 0, 1) := dk_42 (dk_at dksX4_goer_2 0 rfl rfl)
theorem dX4_goer_53 : decode cX4_goer 53 = .ok (.iload_n 1, 1) := dk_27 (dk_at dksX4_goer_2 1 rfl rfl)
theorem dX4_goer_54 : decode cX4_goer 54 = .ok (.invokevirtual 313, 3) := dk_182 1 57 (dk_at dksX4_goer_2 2 rfl rfl)
theorem dX4_goer_57 : decode cX4_goer 57 = .ok (.ifCond .eq 11, 3) := dk_153 0 11 (dk_at dksX4_goer_2 5 rfl rfl)
theorem dX4_goer_60 : decode cX4_goer 60 = .ok (.aload_n 0, 1) := dk_42 (dk_at dksX4_goer_2 8 rfl rfl)
theorem dX4_goer_61 : decode cX4_goer 61 = .ok (.iload_n 1, 1) := dk_27 (dk_at dksX4_goer_2 9 rfl rfl)
theorem dX4_goer_62 : decode cX4_goer 62 = .ok (.invokevirtual 316, 3) := dk_182 1 60 (dk_at dksX4_goer_2 10 rfl rfl)
theorem dX4_goer_65 : decode cX4_goer 65 = .ok (.goto 4, 3) := dk_167 0 4 (dk_at dksX4_goer_2 13 rfl rfl)
theorem dX4_goer_68 : decode cX4_goer 68 = .ok (.iconst (-1), 1) := dk_2 (dk_at dksX4_goer_2 16 rfl rfl)
theorem dX4_goer_69 : decode cX4_goer 69 = .ok (.ireturn, 1) := dk_172 (dk_at dksX4_goer_2 17 rfl rfl)
theorem dX4_goer_70 : decode cX4_goer 70 = .ok (.aload_n 0, 1) := dk_42 (dk_at dksX4_goer_2 18 rfl rfl)
theorem dX4_goer_71 : decode cX4_goer 71 = .ok (.iload_n 1, 1) := dk_27 (dk_at dksX4_goer_2 19 rfl rfl)
theorem dX4_goer_72 : decode cX4_goer 72 = .ok (.invokevirtual 319, 3) := dk_182 1 63 (dk_at dksX4_goer_2 20 rfl rfl)
theorem dX4_goer_75 : decode cX4_goer 75 = .ok (.ireturn, 1) := dk_172 (dk_at dksX4_goer_2 23 rfl rfl)
theorem dX4_goer_76 : decode cX4_goer 76 = .ok (.aload_n 0, 1) := dk_42 (dk_at dksX4_goer_3 0 rfl rfl)
theorem dX4_goer_77 : decode cX4_goer 77 = .ok (.iload_n 1, 1) := dk_27 (dk_at dksX4_goer_3 1 rfl rfl)
theorem dX4_goer_78 : decode cX4_goer 78 = .ok (.invokevirtual 300, 3) := dk_182 1 44 (dk_at dksX4_goer_3 2 rfl rfl)
theorem dX4_goer_81 : decode cX4_goer 81 = .ok (.ireturn, 1) := dk_172 (dk_at dksX4_goer_3 5 rfl rfl)
theorem dX4_goer_82 : decode cX4_goer 82 = .ok (.aload_n 0, 1) := dk_42 (dk_at dksX4_goer_3 6 rfl rfl)
theorem dX4_goer_83 : decode cX4_goer 83 = .ok (.iload_n 1, 1) := dk_27 (dk_at dksX4_goer_3 7 rfl rfl)
theorem dX4_goer_84 : decode cX4_goer 84 = .ok (.invokevirtual 297, 3) := dk_182 1 41 (dk_at dksX4_goer_3 8 rfl rfl)
theorem dX4_goer_87 : decode cX4_goer 87 = .ok (.ireturn, 1) := dk_172 (dk_at dksX4_goer_3 11 rfl rfl)
theorem dX4_goer_88 : decode cX4_goer 88 = .ok (.aload_n 0, 1) := dk_42 (dk_at dksX4_goer_3 12 rfl rfl)
theorem dX4_goer_89 : decode cX4_goer 89 = .ok (.iload_n 1, 1) := dk_27 (dk_at dksX4_goer_3 13 rfl rfl)
theorem dX4_goer_90 : decode cX4_goer 90 = .ok (.invokevirtual 297, 3) := dk_182 1 41 (dk_at dksX4_goer_3 14 rfl rfl)
theorem dX4_goer_93 : decode cX4_goer 93 = .ok (.iconst 1, 1) := dk_4 (dk_at dksX4_goer_3 17 rfl rfl)
theorem dX4_goer_94 : decode cX4_goer 94 = .ok (.if_icmp .ne 20, 3) := dk_160 0 20 (dk_at dksX4_goer_3 18 rfl rfl)
theorem dX4_goer_97 : decode cX4_goer 97 = .ok (.aload_n 0, 1) := dk_42 (dk_at dksX4_goer_3 21 rfl rfl)
theorem dX4_goer_98 : decode cX4_goer 98 = .ok (.getfield 39, 3) := dk_180 0 39 (dk_at dksX4_goer_4 0 rfl rfl)
theorem dX4_goer_101 : decode cX4_goer 101 = .ok (.bipush 11, 2) := dk_16 11 (dk_at dksX4_goer_4 3 rfl rfl)
theorem dX4_goer_103 : decode cX4_goer 103 = .ok (.bipush 7, 2) := dk_16 7 (dk_at dksX4_goer_4 5 rfl rfl)
theorem dX4_goer_105 : decode cX4_goer 105 = .ok (.iload_n 1, 1) := dk_27 (dk_at dksX4_goer_4 7 rfl rfl)
theorem dX4_goer_106 : decode cX4_goer 106 = .ok (.imul, 1) := dk_104 (dk_at dksX4_goer_4 8 rfl rfl)
theorem dX4_goer_107 : decode cX4_goer 107 = .ok (.iadd, 1) := dk_96 (dk_at dksX4_goer_4 9 rfl rfl)
theorem dX4_goer_108 : decode cX4_goer 108 = .ok (.iconst 4, 1) := dk_7 (dk_at dksX4_goer_4 10 rfl rfl)
theorem dX4_goer_109 : decode cX4_goer 109 = .ok (.iadd, 1) := dk_96 (dk_at dksX4_goer_4 11 rfl rfl)
theorem dX4_goer_110 : decode cX4_goer 110 = .ok (.iaload, 1) := dk_46 (dk_at dksX4_goer_4 12 rfl rfl)
theorem dX4_goer_111 : decode cX4_goer 111 = .ok (.goto 4, 3) := dk_167 0 4 (dk_at dksX4_goer_4 13 rfl rfl)
theorem dX4_goer_114 : decode cX4_goer 114 = .ok (.iconst 0, 1) := dk_3 (dk_at dksX4_goer_4 16 rfl rfl)
theorem dX4_goer_115 : decode cX4_goer 115 = .ok (.ireturn, 1) := dk_172 (dk_at dksX4_goer_4 17 rfl rfl)
theorem dX4_goer_116 : decode cX4_goer 116 = .ok (.aload_n 0, 1) := dk_42 (dk_at dksX4_goer_4 18 rfl rfl)
theorem dX4_goer_117 : decode cX4_goer 117 = .ok (.getfield 39, 3) := dk_180 0 39 (dk_at dksX4_goer_4 19 rfl rfl)
theorem dX4_goer_120 : decode cX4_goer 120 = .ok (.bipush 11, 2) := dk_16 11 (dk_at dksX4_goer_4 22 rfl rfl)
theorem dX4_goer_122 : decode cX4_goer 122 = .ok (.bipush 7, 2) := dk_16 7 (dk_at dksX4_goer_5 0 rfl rfl)
theorem dX4_goer_124 : decode cX4_goer 124 = .ok (.iload_n 1, 1) := dk_27 (dk_at dksX4_goer_5 2 rfl rfl)
theorem dX4_goer_125 : decode cX4_goer 125 = .ok (.imul, 1) := dk_104 (dk_at dksX4_goer_5 3 rfl rfl)
theorem dX4_goer_126 : decode cX4_goer 126 = .ok (.iadd, 1) := dk_96 (dk_at dksX4_goer_5 4 rfl rfl)
theorem dX4_goer_127 : decode cX4_goer 127 = .ok (.bipush 6, 2) := dk_16 6 (dk_at dksX4_goer_5 5 rfl rfl)
theorem dX4_goer_129 : decode cX4_goer 129 = .ok (.iadd, 1) := dk_96 (dk_at dksX4_goer_5 7 rfl rfl)
theorem dX4_goer_130 : decode cX4_goer 130 = .ok (.iaload, 1) := dk_46 (dk_at dksX4_goer_5 8 rfl rfl)
theorem dX4_goer_131 : decode cX4_goer 131 = .ok (.ireturn, 1) := dk_172 (dk_at dksX4_goer_5 9 rfl rfl)
theorem dX4_goer_132 : decode cX4_goer 132 = .ok (.bipush (-2), 2) := dk_16 254 (dk_at dksX4_goer_5 10 rfl rfl)
theorem dX4_goer_134 : decode cX4_goer 134 = .ok (.ireturn, 1) := dk_172 (dk_at dksX4_goer_5 12 rfl rfl)
abbrev cX4_isGoer : ByteArray := prog_19_method_49_code
def yX4_isGoer : MethodName := ⟨RX4, "isGoer", "(I)Z"⟩
def dkwX4_isGoer_0 : List UInt8 := [27, 155, 0, 17, 27, 42, 180, 0, 39, 5, 46, 162, 0, 7, 4, 167, 0, 4, 3, 172]
abbrev dktX4_isGoer_0 : List UInt8 := dkwX4_isGoer_0 ++ []
theorem dksX4_isGoer_0 : cX4_isGoer.data.toList.drop 0 = dktX4_isGoer_0 := by decide +kernel
theorem dX4_isGoer_0 : decode cX4_isGoer 0 = .ok (.iload_n 1, 1) := dk_27 (dk_at dksX4_isGoer_0 0 rfl rfl)
theorem dX4_isGoer_1 : decode cX4_isGoer 1 = .ok (.ifCond .lt 17, 3) := dk_155 0 17 (dk_at dksX4_isGoer_0 1 rfl rfl)
theorem dX4_isGoer_4 : decode cX4_isGoer 4 = .ok (.iload_n 1, 1) := dk_27 (dk_at dksX4_isGoer_0 4 rfl rfl)
theorem dX4_isGoer_5 : decode cX4_isGoer 5 = .ok (.aload_n 0, 1) := dk_42 (dk_at dksX4_isGoer_0 5 rfl rfl)
theorem dX4_isGoer_6 : decode cX4_isGoer 6 = .ok (.getfield 39, 3) := dk_180 0 39 (dk_at dksX4_isGoer_0 6 rfl rfl)
theorem dX4_isGoer_9 : decode cX4_isGoer 9 = .ok (.iconst 2, 1) := dk_5 (dk_at dksX4_isGoer_0 9 rfl rfl)
theorem dX4_isGoer_10 : decode cX4_isGoer 10 = .ok (.iaload, 1) := dk_46 (dk_at dksX4_isGoer_0 10 rfl rfl)
theorem dX4_isGoer_11 : decode cX4_isGoer 11 = .ok (.if_icmp .ge 7, 3) := dk_162 0 7 (dk_at dksX4_isGoer_0 11 rfl rfl)
theorem dX4_isGoer_14 : decode cX4_isGoer 14 = .ok (.iconst 1, 1) := dk_4 (dk_at dksX4_isGoer_0 14 rfl rfl)
theorem dX4_isGoer_15 : decode cX4_isGoer 15 = .ok (.goto 4, 3) := dk_167 0 4 (dk_at dksX4_isGoer_0 15 rfl rfl)
theorem dX4_isGoer_18 : decode cX4_isGoer 18 = .ok (.iconst 0, 1) := dk_3 (dk_at dksX4_isGoer_0 18 rfl rfl)
theorem dX4_isGoer_19 : decode cX4_isGoer 19 = .ok (.ireturn, 1) := dk_172 (dk_at dksX4_isGoer_0 19 rfl rfl)
abbrev cX4_isOn : ByteArray := prog_19_method_55_code
def yX4_isOn : MethodName := ⟨RX4, "isOn", "(I)Z"⟩
def dkwX4_isOn_0 : List UInt8 := [42, 27, 182, 1, 41, 154, 0, 7, 4, 167, 0, 4, 3, 172]
abbrev dktX4_isOn_0 : List UInt8 := dkwX4_isOn_0 ++ []
theorem dksX4_isOn_0 : cX4_isOn.data.toList.drop 0 = dktX4_isOn_0 := by decide +kernel
theorem dX4_isOn_0 : decode cX4_isOn 0 = .ok (.aload_n 0, 1) := dk_42 (dk_at dksX4_isOn_0 0 rfl rfl)
theorem dX4_isOn_1 : decode cX4_isOn 1 = .ok (.iload_n 1, 1) := dk_27 (dk_at dksX4_isOn_0 1 rfl rfl)
theorem dX4_isOn_2 : decode cX4_isOn 2 = .ok (.invokevirtual 297, 3) := dk_182 1 41 (dk_at dksX4_isOn_0 2 rfl rfl)
theorem dX4_isOn_5 : decode cX4_isOn 5 = .ok (.ifCond .ne 7, 3) := dk_154 0 7 (dk_at dksX4_isOn_0 5 rfl rfl)
theorem dX4_isOn_8 : decode cX4_isOn 8 = .ok (.iconst 1, 1) := dk_4 (dk_at dksX4_isOn_0 8 rfl rfl)
theorem dX4_isOn_9 : decode cX4_isOn 9 = .ok (.goto 4, 3) := dk_167 0 4 (dk_at dksX4_isOn_0 9 rfl rfl)
theorem dX4_isOn_12 : decode cX4_isOn 12 = .ok (.iconst 0, 1) := dk_3 (dk_at dksX4_isOn_0 12 rfl rfl)
theorem dX4_isOn_13 : decode cX4_isOn 13 = .ok (.ireturn, 1) := dk_172 (dk_at dksX4_isOn_0 13 rfl rfl)
abbrev cX4_statusOf : ByteArray := prog_19_method_54_code
def yX4_statusOf : MethodName := ⟨RX4, "statusOf", "(I)I"⟩
def dkwX4_statusOf_0 : List UInt8 := [42, 180, 0, 39, 16, 11, 16, 7, 27, 104, 96, 6, 96, 46, 172]
abbrev dktX4_statusOf_0 : List UInt8 := dkwX4_statusOf_0 ++ []
theorem dksX4_statusOf_0 : cX4_statusOf.data.toList.drop 0 = dktX4_statusOf_0 := by decide +kernel
theorem dX4_statusOf_0 : decode cX4_statusOf 0 = .ok (.aload_n 0, 1) := dk_42 (dk_at dksX4_statusOf_0 0 rfl rfl)
theorem dX4_statusOf_1 : decode cX4_statusOf 1 = .ok (.getfield 39, 3) := dk_180 0 39 (dk_at dksX4_statusOf_0 1 rfl rfl)
theorem dX4_statusOf_4 : decode cX4_statusOf 4 = .ok (.bipush 11, 2) := dk_16 11 (dk_at dksX4_statusOf_0 4 rfl rfl)
theorem dX4_statusOf_6 : decode cX4_statusOf 6 = .ok (.bipush 7, 2) := dk_16 7 (dk_at dksX4_statusOf_0 6 rfl rfl)
theorem dX4_statusOf_8 : decode cX4_statusOf 8 = .ok (.iload_n 1, 1) := dk_27 (dk_at dksX4_statusOf_0 8 rfl rfl)
theorem dX4_statusOf_9 : decode cX4_statusOf 9 = .ok (.imul, 1) := dk_104 (dk_at dksX4_statusOf_0 9 rfl rfl)
theorem dX4_statusOf_10 : decode cX4_statusOf 10 = .ok (.iadd, 1) := dk_96 (dk_at dksX4_statusOf_0 10 rfl rfl)
theorem dX4_statusOf_11 : decode cX4_statusOf 11 = .ok (.iconst 3, 1) := dk_6 (dk_at dksX4_statusOf_0 11 rfl rfl)
theorem dX4_statusOf_12 : decode cX4_statusOf 12 = .ok (.iadd, 1) := dk_96 (dk_at dksX4_statusOf_0 12 rfl rfl)
theorem dX4_statusOf_13 : decode cX4_statusOf 13 = .ok (.iaload, 1) := dk_46 (dk_at dksX4_statusOf_0 13 rfl rfl)
theorem dX4_statusOf_14 : decode cX4_statusOf 14 = .ok (.ireturn, 1) := dk_172 (dk_at dksX4_statusOf_0 14 rfl rfl)
abbrev cX4_cellOf : ByteArray := prog_19_method_51_code
def yX4_cellOf : MethodName := ⟨RX4, "cellOf", "(I)I"⟩
def dkwX4_cellOf_0 : List UInt8 := [42, 180, 0, 39, 16, 11, 16, 7, 27, 104, 96, 46, 172]
abbrev dktX4_cellOf_0 : List UInt8 := dkwX4_cellOf_0 ++ []
theorem dksX4_cellOf_0 : cX4_cellOf.data.toList.drop 0 = dktX4_cellOf_0 := by decide +kernel
theorem dX4_cellOf_0 : decode cX4_cellOf 0 = .ok (.aload_n 0, 1) := dk_42 (dk_at dksX4_cellOf_0 0 rfl rfl)
theorem dX4_cellOf_1 : decode cX4_cellOf 1 = .ok (.getfield 39, 3) := dk_180 0 39 (dk_at dksX4_cellOf_0 1 rfl rfl)
theorem dX4_cellOf_4 : decode cX4_cellOf 4 = .ok (.bipush 11, 2) := dk_16 11 (dk_at dksX4_cellOf_0 4 rfl rfl)
theorem dX4_cellOf_6 : decode cX4_cellOf 6 = .ok (.bipush 7, 2) := dk_16 7 (dk_at dksX4_cellOf_0 6 rfl rfl)
theorem dX4_cellOf_8 : decode cX4_cellOf 8 = .ok (.iload_n 1, 1) := dk_27 (dk_at dksX4_cellOf_0 8 rfl rfl)
theorem dX4_cellOf_9 : decode cX4_cellOf 9 = .ok (.imul, 1) := dk_104 (dk_at dksX4_cellOf_0 9 rfl rfl)
theorem dX4_cellOf_10 : decode cX4_cellOf 10 = .ok (.iadd, 1) := dk_96 (dk_at dksX4_cellOf_0 10 rfl rfl)
theorem dX4_cellOf_11 : decode cX4_cellOf 11 = .ok (.iaload, 1) := dk_46 (dk_at dksX4_cellOf_0 11 rfl rfl)
theorem dX4_cellOf_12 : decode cX4_cellOf 12 = .ok (.ireturn, 1) := dk_172 (dk_at dksX4_cellOf_0 12 rfl rfl)
abbrev cX4_facesOf : ByteArray := prog_19_method_52_code
def yX4_facesOf : MethodName := ⟨RX4, "facesOf", "(I)I"⟩
def dkwX4_facesOf_0 : List UInt8 := [42, 180, 0, 39, 16, 11, 16, 7, 27, 104, 96, 4, 96, 46, 172]
abbrev dktX4_facesOf_0 : List UInt8 := dkwX4_facesOf_0 ++ []
theorem dksX4_facesOf_0 : cX4_facesOf.data.toList.drop 0 = dktX4_facesOf_0 := by decide +kernel
theorem dX4_facesOf_0 : decode cX4_facesOf 0 = .ok (.aload_n 0, 1) := dk_42 (dk_at dksX4_facesOf_0 0 rfl rfl)
theorem dX4_facesOf_1 : decode cX4_facesOf 1 = .ok (.getfield 39, 3) := dk_180 0 39 (dk_at dksX4_facesOf_0 1 rfl rfl)
theorem dX4_facesOf_4 : decode cX4_facesOf 4 = .ok (.bipush 11, 2) := dk_16 11 (dk_at dksX4_facesOf_0 4 rfl rfl)
theorem dX4_facesOf_6 : decode cX4_facesOf 6 = .ok (.bipush 7, 2) := dk_16 7 (dk_at dksX4_facesOf_0 6 rfl rfl)
theorem dX4_facesOf_8 : decode cX4_facesOf 8 = .ok (.iload_n 1, 1) := dk_27 (dk_at dksX4_facesOf_0 8 rfl rfl)
theorem dX4_facesOf_9 : decode cX4_facesOf 9 = .ok (.imul, 1) := dk_104 (dk_at dksX4_facesOf_0 9 rfl rfl)
theorem dX4_facesOf_10 : decode cX4_facesOf 10 = .ok (.iadd, 1) := dk_96 (dk_at dksX4_facesOf_0 10 rfl rfl)
theorem dX4_facesOf_11 : decode cX4_facesOf 11 = .ok (.iconst 1, 1) := dk_4 (dk_at dksX4_facesOf_0 11 rfl rfl)
theorem dX4_facesOf_12 : decode cX4_facesOf 12 = .ok (.iadd, 1) := dk_96 (dk_at dksX4_facesOf_0 12 rfl rfl)
theorem dX4_facesOf_13 : decode cX4_facesOf 13 = .ok (.iaload, 1) := dk_46 (dk_at dksX4_facesOf_0 13 rfl rfl)
theorem dX4_facesOf_14 : decode cX4_facesOf 14 = .ok (.ireturn, 1) := dk_172 (dk_at dksX4_facesOf_0 14 rfl rfl)
abbrev cX4_foodOf : ByteArray := prog_19_method_53_code
def yX4_foodOf : MethodName := ⟨RX4, "foodOf", "(I)I"⟩
def dkwX4_foodOf_0 : List UInt8 := [42, 180, 0, 39, 16, 11, 16, 7, 27, 104, 96, 5, 96, 46, 172]
abbrev dktX4_foodOf_0 : List UInt8 := dkwX4_foodOf_0 ++ []
theorem dksX4_foodOf_0 : cX4_foodOf.data.toList.drop 0 = dktX4_foodOf_0 := by decide +kernel
theorem dX4_foodOf_0 : decode cX4_foodOf 0 = .ok (.aload_n 0, 1) := dk_42 (dk_at dksX4_foodOf_0 0 rfl rfl)
theorem dX4_foodOf_1 : decode cX4_foodOf 1 = .ok (.getfield 39, 3) := dk_180 0 39 (dk_at dksX4_foodOf_0 1 rfl rfl)
theorem dX4_foodOf_4 : decode cX4_foodOf 4 = .ok (.bipush 11, 2) := dk_16 11 (dk_at dksX4_foodOf_0 4 rfl rfl)
theorem dX4_foodOf_6 : decode cX4_foodOf 6 = .ok (.bipush 7, 2) := dk_16 7 (dk_at dksX4_foodOf_0 6 rfl rfl)
theorem dX4_foodOf_8 : decode cX4_foodOf 8 = .ok (.iload_n 1, 1) := dk_27 (dk_at dksX4_foodOf_0 8 rfl rfl)
theorem dX4_foodOf_9 : decode cX4_foodOf 9 = .ok (.imul, 1) := dk_104 (dk_at dksX4_foodOf_0 9 rfl rfl)
theorem dX4_foodOf_10 : decode cX4_foodOf 10 = .ok (.iadd, 1) := dk_96 (dk_at dksX4_foodOf_0 10 rfl rfl)
theorem dX4_foodOf_11 : decode cX4_foodOf 11 = .ok (.iconst 2, 1) := dk_5 (dk_at dksX4_foodOf_0 11 rfl rfl)
theorem dX4_foodOf_12 : decode cX4_foodOf 12 = .ok (.iadd, 1) := dk_96 (dk_at dksX4_foodOf_0 12 rfl rfl)
theorem dX4_foodOf_13 : decode cX4_foodOf 13 = .ok (.iaload, 1) := dk_46 (dk_at dksX4_foodOf_0 13 rfl rfl)
theorem dX4_foodOf_14 : decode cX4_foodOf 14 = .ok (.ireturn, 1) := dk_172 (dk_at dksX4_foodOf_0 14 rfl rfl)
abbrev cX4_join : ByteArray := prog_19_method_67_code
def yX4_join : MethodName := ⟨RX4, "join", "(II)I"⟩
def dkwX4_join_1 : List UInt8 := [42, 180, 0, 39, 16, 46, 27, 96, 46, 167, 0, 12, 42, 180, 0, 39, 16, 86, 27, 96, 46, 172]
abbrev dktX4_join_1 : List UInt8 := dkwX4_join_1 ++ []
def dkwX4_join_0 : List UInt8 := [42, 27, 182, 1, 66, 153, 0, 13, 28, 133, 9, 10, 184, 0, 124, 154, 0, 5, 2, 172, 28, 154, 0, 15]
abbrev dktX4_join_0 : List UInt8 := dkwX4_join_0 ++ dktX4_join_1
theorem dksX4_join_0 : cX4_join.data.toList.drop 0 = dktX4_join_0 := by decide +kernel
theorem dksX4_join_1 : cX4_join.data.toList.drop 24 = dktX4_join_1 := dk_seg dksX4_join_0 24 rfl rfl
theorem dX4_join_0 : decode cX4_join 0 = .ok (.aload_n 0, 1) := dk_42 (dk_at dksX4_join_0 0 rfl rfl)
theorem dX4_join_1 : decode cX4_join 1 = .ok (.iload_n 1, 1) := dk_27 (dk_at dksX4_join_0 1 rfl rfl)
theorem dX4_join_2 : decode cX4_join 2 = .ok (.invokevirtual 322, 3) := dk_182 1 66 (dk_at dksX4_join_0 2 rfl rfl)
theorem dX4_join_5 : decode cX4_join 5 = .ok (.ifCond .eq 13, 3) := dk_153 0 13 (dk_at dksX4_join_0 5 rfl rfl)
theorem dX4_join_8 : decode cX4_join 8 = .ok (.iload_n 2, 1) := dk_28 (dk_at dksX4_join_0 8 rfl rfl)
theorem dX4_join_9 : decode cX4_join 9 = .ok (.i2l, 1) := dk_133 (dk_at dksX4_join_0 9 rfl rfl)
theorem dX4_join_10 : decode cX4_join 10 = .ok (.lconst 0, 1) := dk_9 (dk_at dksX4_join_0 10 rfl rfl)
theorem dX4_join_11 : decode cX4_join 11 = .ok (.lconst 1, 1) := dk_10 (dk_at dksX4_join_0 11 rfl rfl)
theorem dX4_join_12 : decode cX4_join 12 = .ok (.invokestatic 124, 3) := dk_184 0 124 (dk_at dksX4_join_0 12 rfl rfl)
theorem dX4_join_15 : decode cX4_join 15 = .ok (.ifCond .ne 5, 3) := dk_154 0 5 (dk_at dksX4_join_0 15 rfl rfl)
theorem dX4_join_18 : decode cX4_join 18 = .ok (.iconst (-1), 1) := dk_2 (dk_at dksX4_join_0 18 rfl rfl)
theorem dX4_join_19 : decode cX4_join 19 = .ok (.ireturn, 1) := dk_172 (dk_at dksX4_join_0 19 rfl rfl)
theorem dX4_join_20 : decode cX4_join 20 = .ok (.iload_n 2, 1) := dk_28 (dk_at dksX4_join_0 20 rfl rfl)
theorem dX4_join_21 : decode cX4_join 21 = .ok (.ifCond .ne 15, 3) := dk_154 0 15 (dk_at dksX4_join_0 21 rfl rfl)
theorem dX4_join_24 : decode cX4_join 24 = .ok (.aload_n 0, 1) := dk_42 (dk_at dksX4_join_1 0 rfl rfl)
theorem dX4_join_25 : decode cX4_join 25 = .ok (.getfield 39, 3) := dk_180 0 39 (dk_at dksX4_join_1 1 rfl rfl)
theorem dX4_join_28 : decode cX4_join 28 = .ok (.bipush 46, 2) := dk_16 46 (dk_at dksX4_join_1 4 rfl rfl)
theorem dX4_join_30 : decode cX4_join 30 = .ok (.iload_n 1, 1) := dk_27 (dk_at dksX4_join_1 6 rfl rfl)
theorem dX4_join_31 : decode cX4_join 31 = .ok (.iadd, 1) := dk_96 (dk_at dksX4_join_1 7 rfl rfl)
theorem dX4_join_32 : decode cX4_join 32 = .ok (.iaload, 1) := dk_46 (dk_at dksX4_join_1 8 rfl rfl)
theorem dX4_join_33 : decode cX4_join 33 = .ok (.goto 12, 3) := dk_167 0 12 (dk_at dksX4_join_1 9 rfl rfl)
theorem dX4_join_36 : decode cX4_join 36 = .ok (.aload_n 0, 1) := dk_42 (dk_at dksX4_join_1 12 rfl rfl)
theorem dX4_join_37 : decode cX4_join 37 = .ok (.getfield 39, 3) := dk_180 0 39 (dk_at dksX4_join_1 13 rfl rfl)
theorem dX4_join_40 : decode cX4_join 40 = .ok (.bipush 86, 2) := dk_16 86 (dk_at dksX4_join_1 16 rfl rfl)
theorem dX4_join_42 : decode cX4_join 42 = .ok (.iload_n 1, 1) := dk_27 (dk_at dksX4_join_1 18 rfl rfl)
theorem dX4_join_43 : decode cX4_join 43 = .ok (.iadd, 1) := dk_96 (dk_at dksX4_join_1 19 rfl rfl)
theorem dX4_join_44 : decode cX4_join 44 = .ok (.iaload, 1) := dk_46 (dk_at dksX4_join_1 20 rfl rfl)
theorem dX4_join_45 : decode cX4_join 45 = .ok (.ireturn, 1) := dk_172 (dk_at dksX4_join_1 21 rfl rfl)
abbrev cX4_isEdge : ByteArray := prog_19_method_50_code
def yX4_isEdge : MethodName := ⟨RX4, "isEdge", "(I)Z"⟩
def dkwX4_isEdge_1 : List UInt8 := [172]
abbrev dktX4_isEdge_1 : List UInt8 := dkwX4_isEdge_1 ++ []
def dkwX4_isEdge_0 : List UInt8 := [42, 182, 1, 36, 153, 0, 19, 27, 133, 9, 20, 1, 39, 184, 0, 124, 153, 0, 7, 4, 167, 0, 4, 3]
abbrev dktX4_isEdge_0 : List UInt8 := dkwX4_isEdge_0 ++ dktX4_isEdge_1
theorem dksX4_isEdge_0 : cX4_isEdge.data.toList.drop 0 = dktX4_isEdge_0 := by decide +kernel
theorem dksX4_isEdge_1 : cX4_isEdge.data.toList.drop 24 = dktX4_isEdge_1 := dk_seg dksX4_isEdge_0 24 rfl rfl
theorem dX4_isEdge_0 : decode cX4_isEdge 0 = .ok (.aload_n 0, 1) := dk_42 (dk_at dksX4_isEdge_0 0 rfl rfl)
theorem dX4_isEdge_1 : decode cX4_isEdge 1 = .ok (.invokevirtual 292, 3) := dk_182 1 36 (dk_at dksX4_isEdge_0 1 rfl rfl)
theorem dX4_isEdge_4 : decode cX4_isEdge 4 = .ok (.ifCond .eq 19, 3) := dk_153 0 19 (dk_at dksX4_isEdge_0 4 rfl rfl)
theorem dX4_isEdge_7 : decode cX4_isEdge 7 = .ok (.iload_n 1, 1) := dk_27 (dk_at dksX4_isEdge_0 7 rfl rfl)
theorem dX4_isEdge_8 : decode cX4_isEdge 8 = .ok (.i2l, 1) := dk_133 (dk_at dksX4_isEdge_0 8 rfl rfl)
theorem dX4_isEdge_9 : decode cX4_isEdge 9 = .ok (.lconst 0, 1) := dk_9 (dk_at dksX4_isEdge_0 9 rfl rfl)
theorem dX4_isEdge_10 : decode cX4_isEdge 10 = .ok (.ldc2_w 295, 3) := dk_20 1 39 (dk_at dksX4_isEdge_0 10 rfl rfl)
theorem dX4_isEdge_13 : decode cX4_isEdge 13 = .ok (.invokestatic 124, 3) := dk_184 0 124 (dk_at dksX4_isEdge_0 13 rfl rfl)
theorem dX4_isEdge_16 : decode cX4_isEdge 16 = .ok (.ifCond .eq 7, 3) := dk_153 0 7 (dk_at dksX4_isEdge_0 16 rfl rfl)
theorem dX4_isEdge_19 : decode cX4_isEdge 19 = .ok (.iconst 1, 1) := dk_4 (dk_at dksX4_isEdge_0 19 rfl rfl)
theorem dX4_isEdge_20 : decode cX4_isEdge 20 = .ok (.goto 4, 3) := dk_167 0 4 (dk_at dksX4_isEdge_0 20 rfl rfl)
theorem dX4_isEdge_23 : decode cX4_isEdge 23 = .ok (.iconst 0, 1) := dk_3 (dk_at dksX4_isEdge_0 23 rfl rfl)
theorem dX4_isEdge_24 : decode cX4_isEdge 24 = .ok (.ireturn, 1) := dk_172 (dk_at dksX4_isEdge_1 0 rfl rfl)
abbrev cX4_isSheet : ByteArray := prog_19_method_46_code
def yX4_isSheet : MethodName := ⟨RX4, "isSheet", "()Z"⟩
def dkwX4_isSheet_0 : List UInt8 := [42, 180, 0, 39, 3, 46, 4, 160, 0, 7, 4, 167, 0, 4, 3, 172]
abbrev dktX4_isSheet_0 : List UInt8 := dkwX4_isSheet_0 ++ []
theorem dksX4_isSheet_0 : cX4_isSheet.data.toList.drop 0 = dktX4_isSheet_0 := by decide +kernel
theorem dX4_isSheet_0 : decode cX4_isSheet 0 = .ok (.aload_n 0, 1) := dk_42 (dk_at dksX4_isSheet_0 0 rfl rfl)
theorem dX4_isSheet_1 : decode cX4_isSheet 1 = .ok (.getfield 39, 3) := dk_180 0 39 (dk_at dksX4_isSheet_0 1 rfl rfl)
theorem dX4_isSheet_4 : decode cX4_isSheet 4 = .ok (.iconst 0, 1) := dk_3 (dk_at dksX4_isSheet_0 4 rfl rfl)
theorem dX4_isSheet_5 : decode cX4_isSheet 5 = .ok (.iaload, 1) := dk_46 (dk_at dksX4_isSheet_0 5 rfl rfl)
theorem dX4_isSheet_6 : decode cX4_isSheet 6 = .ok (.iconst 1, 1) := dk_4 (dk_at dksX4_isSheet_0 6 rfl rfl)
theorem dX4_isSheet_7 : decode cX4_isSheet 7 = .ok (.if_icmp .ne 7, 3) := dk_160 0 7 (dk_at dksX4_isSheet_0 7 rfl rfl)
theorem dX4_isSheet_10 : decode cX4_isSheet 10 = .ok (.iconst 1, 1) := dk_4 (dk_at dksX4_isSheet_0 10 rfl rfl)
theorem dX4_isSheet_11 : decode cX4_isSheet 11 = .ok (.goto 4, 3) := dk_167 0 4 (dk_at dksX4_isSheet_0 11 rfl rfl)
theorem dX4_isSheet_14 : decode cX4_isSheet 14 = .ok (.iconst 0, 1) := dk_3 (dk_at dksX4_isSheet_0 14 rfl rfl)
theorem dX4_isSheet_15 : decode cX4_isSheet 15 = .ok (.ireturn, 1) := dk_172 (dk_at dksX4_isSheet_0 15 rfl rfl)
abbrev cX4_stoneIn : ByteArray := prog_19_method_68_code
def yX4_stoneIn : MethodName := ⟨RX4, "stoneIn", "(I)I"⟩
def dkwX4_stoneIn_0 : List UInt8 := [42, 27, 182, 1, 69, 153, 0, 15, 42, 180, 0, 39, 16, 50, 27, 96, 46, 167, 0, 4, 2, 172]
abbrev dktX4_stoneIn_0 : List UInt8 := dkwX4_stoneIn_0 ++ []
theorem dksX4_stoneIn_0 : cX4_stoneIn.data.toList.drop 0 = dktX4_stoneIn_0 := by decide +kernel
theorem dX4_stoneIn_0 : decode cX4_stoneIn 0 = .ok (.aload_n 0, 1) := dk_42 (dk_at dksX4_stoneIn_0 0 rfl rfl)
theorem dX4_stoneIn_1 : decode cX4_stoneIn 1 = .ok (.iload_n 1, 1) := dk_27 (dk_at dksX4_stoneIn_0 1 rfl rfl)
theorem dX4_stoneIn_2 : decode cX4_stoneIn 2 = .ok (.invokevirtual 325, 3) := dk_182 1 69 (dk_at dksX4_stoneIn_0 2 rfl rfl)
theorem dX4_stoneIn_5 : decode cX4_stoneIn 5 = .ok (.ifCond .eq 15, 3) := dk_153 0 15 (dk_at dksX4_stoneIn_0 5 rfl rfl)
theorem dX4_stoneIn_8 : decode cX4_stoneIn 8 = .ok (.aload_n 0, 1) := dk_42 (dk_at dksX4_stoneIn_0 8 rfl rfl)
theorem dX4_stoneIn_9 : decode cX4_stoneIn 9 = .ok (.getfield 39, 3) := dk_180 0 39 (dk_at dksX4_stoneIn_0 9 rfl rfl)
theorem dX4_stoneIn_12 : decode cX4_stoneIn 12 = .ok (.bipush 50, 2) := dk_16 50 (dk_at dksX4_stoneIn_0 12 rfl rfl)
theorem dX4_stoneIn_14 : decode cX4_stoneIn 14 = .ok (.iload_n 1, 1) := dk_27 (dk_at dksX4_stoneIn_0 14 rfl rfl)
theorem dX4_stoneIn_15 : decode cX4_stoneIn 15 = .ok (.iadd, 1) := dk_96 (dk_at dksX4_stoneIn_0 15 rfl rfl)
theorem dX4_stoneIn_16 : decode cX4_stoneIn 16 = .ok (.iaload, 1) := dk_46 (dk_at dksX4_stoneIn_0 16 rfl rfl)
theorem dX4_stoneIn_17 : decode cX4_stoneIn 17 = .ok (.goto 4, 3) := dk_167 0 4 (dk_at dksX4_stoneIn_0 17 rfl rfl)
theorem dX4_stoneIn_20 : decode cX4_stoneIn 20 = .ok (.iconst (-1), 1) := dk_2 (dk_at dksX4_stoneIn_0 20 rfl rfl)
theorem dX4_stoneIn_21 : decode cX4_stoneIn 21 = .ok (.ireturn, 1) := dk_172 (dk_at dksX4_stoneIn_0 21 rfl rfl)
abbrev cX4_isCell : ByteArray := prog_19_method_48_code
def yX4_isCell : MethodName := ⟨RX4, "isCell", "(I)Z"⟩
def dkwX4_isCell_0 : List UInt8 := [27, 155, 0, 15, 27, 42, 182, 1, 33, 162, 0, 7, 4, 167, 0, 4, 3, 172]
abbrev dktX4_isCell_0 : List UInt8 := dkwX4_isCell_0 ++ []
theorem dksX4_isCell_0 : cX4_isCell.data.toList.drop 0 = dktX4_isCell_0 := by decide +kernel
theorem dX4_isCell_0 : decode cX4_isCell 0 = .ok (.iload_n 1, 1) := dk_27 (dk_at dksX4_isCell_0 0 rfl rfl)
theorem dX4_isCell_1 : decode cX4_isCell 1 = .ok (.ifCond .lt 15, 3) := dk_155 0 15 (dk_at dksX4_isCell_0 1 rfl rfl)
theorem dX4_isCell_4 : decode cX4_isCell 4 = .ok (.iload_n 1, 1) := dk_27 (dk_at dksX4_isCell_0 4 rfl rfl)
theorem dX4_isCell_5 : decode cX4_isCell 5 = .ok (.aload_n 0, 1) := dk_42 (dk_at dksX4_isCell_0 5 rfl rfl)
theorem dX4_isCell_6 : decode cX4_isCell 6 = .ok (.invokevirtual 289, 3) := dk_182 1 33 (dk_at dksX4_isCell_0 6 rfl rfl)
theorem dX4_isCell_9 : decode cX4_isCell 9 = .ok (.if_icmp .ge 7, 3) := dk_162 0 7 (dk_at dksX4_isCell_0 9 rfl rfl)
theorem dX4_isCell_12 : decode cX4_isCell 12 = .ok (.iconst 1, 1) := dk_4 (dk_at dksX4_isCell_0 12 rfl rfl)
theorem dX4_isCell_13 : decode cX4_isCell 13 = .ok (.goto 4, 3) := dk_167 0 4 (dk_at dksX4_isCell_0 13 rfl rfl)
theorem dX4_isCell_16 : decode cX4_isCell 16 = .ok (.iconst 0, 1) := dk_3 (dk_at dksX4_isCell_0 16 rfl rfl)
theorem dX4_isCell_17 : decode cX4_isCell 17 = .ok (.ireturn, 1) := dk_172 (dk_at dksX4_isCell_0 17 rfl rfl)
abbrev cX4_cells : ByteArray := prog_19_method_47_code
def yX4_cells : MethodName := ⟨RX4, "cells", "()I"⟩
def dkwX4_cells_0 : List UInt8 := [42, 180, 0, 39, 4, 46, 42, 180, 0, 39, 4, 46, 104, 172]
abbrev dktX4_cells_0 : List UInt8 := dkwX4_cells_0 ++ []
theorem dksX4_cells_0 : cX4_cells.data.toList.drop 0 = dktX4_cells_0 := by decide +kernel
theorem dX4_cells_0 : decode cX4_cells 0 = .ok (.aload_n 0, 1) := dk_42 (dk_at dksX4_cells_0 0 rfl rfl)
theorem dX4_cells_1 : decode cX4_cells 1 = .ok (.getfield 39, 3) := dk_180 0 39 (dk_at dksX4_cells_0 1 rfl rfl)
theorem dX4_cells_4 : decode cX4_cells 4 = .ok (.iconst 1, 1) := dk_4 (dk_at dksX4_cells_0 4 rfl rfl)
theorem dX4_cells_5 : decode cX4_cells 5 = .ok (.iaload, 1) := dk_46 (dk_at dksX4_cells_0 5 rfl rfl)
theorem dX4_cells_6 : decode cX4_cells 6 = .ok (.aload_n 0, 1) := dk_42 (dk_at dksX4_cells_0 6 rfl rfl)
theorem dX4_cells_7 : decode cX4_cells 7 = .ok (.getfield 39, 3) := dk_180 0 39 (dk_at dksX4_cells_0 7 rfl rfl)
theorem dX4_cells_10 : decode cX4_cells 10 = .ok (.iconst 1, 1) := dk_4 (dk_at dksX4_cells_0 10 rfl rfl)
theorem dX4_cells_11 : decode cX4_cells 11 = .ok (.iaload, 1) := dk_46 (dk_at dksX4_cells_0 11 rfl rfl)
theorem dX4_cells_12 : decode cX4_cells 12 = .ok (.imul, 1) := dk_104 (dk_at dksX4_cells_0 12 rfl rfl)
theorem dX4_cells_13 : decode cX4_cells 13 = .ok (.ireturn, 1) := dk_172 (dk_at dksX4_cells_0 13 rfl rfl)
abbrev cX4_undo : ByteArray := prog_19_method_77_code
def yX4_undo : MethodName := ⟨RX4, "undo", "()I"⟩
def dkwX4_undo_2 : List UInt8 := [46, 79, 132, 1, 1, 167, 255, 224, 42, 180, 1, 15, 172]
abbrev dktX4_undo_2 : List UInt8 := dkwX4_undo_2 ++ []
def dkwX4_undo_1 : List UInt8 := [162, 0, 32, 42, 180, 0, 39, 16, 10, 27, 96, 42, 180, 0, 46, 16, 76, 42, 180, 1, 15, 104, 27, 96]
abbrev dktX4_undo_1 : List UInt8 := dkwX4_undo_1 ++ dktX4_undo_2
def dkwX4_undo_0 : List UInt8 := [42, 180, 1, 15, 154, 0, 5, 2, 172, 42, 89, 180, 1, 15, 4, 100, 181, 1, 15, 3, 60, 27, 16, 76]
abbrev dktX4_undo_0 : List UInt8 := dkwX4_undo_0 ++ dktX4_undo_1
theorem dksX4_undo_0 : cX4_undo.data.toList.drop 0 = dktX4_undo_0 := by decide +kernel
theorem dksX4_undo_1 : cX4_undo.data.toList.drop 24 = dktX4_undo_1 := dk_seg dksX4_undo_0 24 rfl rfl
theorem dksX4_undo_2 : cX4_undo.data.toList.drop 48 = dktX4_undo_2 := dk_seg dksX4_undo_1 24 rfl rfl
theorem dX4_undo_0 : decode cX4_undo 0 = .ok (.aload_n 0, 1) := dk_42 (dk_at dksX4_undo_0 0 rfl rfl)
theorem dX4_undo_1 : decode cX4_undo 1 = .ok (.getfield 271, 3) := dk_180 1 15 (dk_at dksX4_undo_0 1 rfl rfl)
theorem dX4_undo_4 : decode cX4_undo 4 = .ok (.ifCond .ne 5, 3) := dk_154 0 5 (dk_at dksX4_undo_0 4 rfl rfl)
theorem dX4_undo_7 : decode cX4_undo 7 = .ok (.iconst (-1), 1) := dk_2 (dk_at dksX4_undo_0 7 rfl rfl)
theorem dX4_undo_8 : decode cX4_undo 8 = .ok (.ireturn, 1) := dk_172 (dk_at dksX4_undo_0 8 rfl rfl)
theorem dX4_undo_9 : decode cX4_undo 9 = .ok (.aload_n 0, 1) := dk_42 (dk_at dksX4_undo_0 9 rfl rfl)
theorem dX4_undo_10 : decode cX4_undo 10 = .ok (.dup, 1) := dk_89 (dk_at dksX4_undo_0 10 rfl rfl)
theorem dX4_undo_11 : decode cX4_undo 11 = .ok (.getfield 271, 3) := dk_180 1 15 (dk_at dksX4_undo_0 11 rfl rfl)
theorem dX4_undo_14 : decode cX4_undo 14 = .ok (.iconst 1, 1) := dk_4 (dk_at dksX4_undo_0 14 rfl rfl)
theorem dX4_undo_15 : decode cX4_undo 15 = .ok (.isub, 1) := dk_100 (dk_at dksX4_undo_0 15 rfl rfl)
theorem dX4_undo_16 : decode cX4_undo 16 = .ok (.putfield 271, 3) := dk_181 1 15 (dk_at dksX4_undo_0 16 rfl rfl)
theorem dX4_undo_19 : decode cX4_undo 19 = .ok (.iconst 0, 1) := dk_3 (dk_at dksX4_undo_0 19 rfl rfl)
theorem dX4_undo_20 : decode cX4_undo 20 = .ok (.istore_n 1, 1) := dk_60 (dk_at dksX4_undo_0 20 rfl rfl)
theorem dX4_undo_21 : decode cX4_undo 21 = .ok (.iload_n 1, 1) := dk_27 (dk_at dksX4_undo_0 21 rfl rfl)
theorem dX4_undo_22 : decode cX4_undo 22 = .ok (.bipush 76, 2) := dk_16 76 (dk_at dksX4_undo_0 22 rfl rfl)
theorem dX4_undo_24 : decode cX4_undo 24 = .ok (.if_icmp .ge 32, 3) := dk_162 0 32 (dk_at dksX4_undo_1 0 rfl rfl)
theorem dX4_undo_27 : decode cX4_undo 27 = .ok (.aload_n 0, 1) := dk_42 (dk_at dksX4_undo_1 3 rfl rfl)
theorem dX4_undo_28 : decode cX4_undo 28 = .ok (.getfield 39, 3) := dk_180 0 39 (dk_at dksX4_undo_1 4 rfl rfl)
theorem dX4_undo_31 : decode cX4_undo 31 = .ok (.bipush 10, 2) := dk_16 10 (dk_at dksX4_undo_1 7 rfl rfl)
theorem dX4_undo_33 : decode cX4_undo 33 = .ok (.iload_n 1, 1) := dk_27 (dk_at dksX4_undo_1 9 rfl rfl)
theorem dX4_undo_34 : decode cX4_undo 34 = .ok (.iadd, 1) := dk_96 (dk_at dksX4_undo_1 10 rfl rfl)
theorem dX4_undo_35 : decode cX4_undo 35 = .ok (.aload_n 0, 1) := dk_42 (dk_at dksX4_undo_1 11 rfl rfl)
theorem dX4_undo_36 : decode cX4_undo 36 = .ok (.getfield 46, 3) := dk_180 0 46 (dk_at dksX4_undo_1 12 rfl rfl)
theorem dX4_undo_39 : decode cX4_undo 39 = .ok (.bipush 76, 2) := dk_16 76 (dk_at dksX4_undo_1 15 rfl rfl)
theorem dX4_undo_41 : decode cX4_undo 41 = .ok (.aload_n 0, 1) := dk_42 (dk_at dksX4_undo_1 17 rfl rfl)
theorem dX4_undo_42 : decode cX4_undo 42 = .ok (.getfield 271, 3) := dk_180 1 15 (dk_at dksX4_undo_1 18 rfl rfl)
theorem dX4_undo_45 : decode cX4_undo 45 = .ok (.imul, 1) := dk_104 (dk_at dksX4_undo_1 21 rfl rfl)
theorem dX4_undo_46 : decode cX4_undo 46 = .ok (.iload_n 1, 1) := dk_27 (dk_at dksX4_undo_1 22 rfl rfl)
theorem dX4_undo_47 : decode cX4_undo 47 = .ok (.iadd, 1) := dk_96 (dk_at dksX4_undo_1 23 rfl rfl)
theorem dX4_undo_48 : decode cX4_undo 48 = .ok (.iaload, 1) := dk_46 (dk_at dksX4_undo_2 0 rfl rfl)
theorem dX4_undo_49 : decode cX4_undo 49 = .ok (.iastore, 1) := dk_79 (dk_at dksX4_undo_2 1 rfl rfl)
theorem dX4_undo_50 : decode cX4_undo 50 = .ok (.iinc 1 1, 3) := dk_132 1 1 (dk_at dksX4_undo_2 2 rfl rfl)
theorem dX4_undo_53 : decode cX4_undo 53 = .ok (.goto (-32), 3) := dk_167 255 224 (dk_at dksX4_undo_2 5 rfl rfl)
theorem dX4_undo_56 : decode cX4_undo 56 = .ok (.aload_n 0, 1) := dk_42 (dk_at dksX4_undo_2 8 rfl rfl)
theorem dX4_undo_57 : decode cX4_undo 57 = .ok (.getfield 271, 3) := dk_180 1 15 (dk_at dksX4_undo_2 9 rfl rfl)
theorem dX4_undo_60 : decode cX4_undo 60 = .ok (.ireturn, 1) := dk_172 (dk_at dksX4_undo_2 12 rfl rfl)
abbrev cX4_step : ByteArray := prog_19_method_78_code
def yX4_step : MethodName := ⟨RX4, "step", "()I"⟩
def dkwX4_step_1 : List UInt8 := [182, 1, 107, 42, 182, 1, 104, 42, 3, 182, 1, 110, 172]
abbrev dktX4_step_1 : List UInt8 := dkwX4_step_1 ++ []
def dkwX4_step_0 : List UInt8 := [42, 182, 1, 36, 153, 0, 16, 42, 180, 0, 39, 16, 10, 46, 17, 3, 231, 160, 0, 5, 2, 172, 42]
abbrev dktX4_step_0 : List UInt8 := dkwX4_step_0 ++ dktX4_step_1
theorem dksX4_step_0 : cX4_step.data.toList.drop 0 = dktX4_step_0 := by decide +kernel
theorem dksX4_step_1 : cX4_step.data.toList.drop 23 = dktX4_step_1 := dk_seg dksX4_step_0 23 rfl rfl
theorem dX4_step_0 : decode cX4_step 0 = .ok (.aload_n 0, 1) := dk_42 (dk_at dksX4_step_0 0 rfl rfl)
theorem dX4_step_1 : decode cX4_step 1 = .ok (.invokevirtual 292, 3) := dk_182 1 36 (dk_at dksX4_step_0 1 rfl rfl)
theorem dX4_step_4 : decode cX4_step 4 = .ok (.ifCond .eq 16, 3) := dk_153 0 16 (dk_at dksX4_step_0 4 rfl rfl)
theorem dX4_step_7 : decode cX4_step 7 = .ok (.aload_n 0, 1) := dk_42 (dk_at dksX4_step_0 7 rfl rfl)
theorem dX4_step_8 : decode cX4_step 8 = .ok (.getfield 39, 3) := dk_180 0 39 (dk_at dksX4_step_0 8 rfl rfl)
theorem dX4_step_11 : decode cX4_step 11 = .ok (.bipush 10, 2) := dk_16 10 (dk_at dksX4_step_0 11 rfl rfl)
theorem dX4_step_13 : decode cX4_step 13 = .ok (.iaload, 1) := dk_46 (dk_at dksX4_step_0 13 rfl rfl)
theorem dX4_step_14 : decode cX4_step 14 = .ok (.sipush 999, 3) := dk_17 3 231 (dk_at dksX4_step_0 14 rfl rfl)
theorem dX4_step_17 : decode cX4_step 17 = .ok (.if_icmp .ne 5, 3) := dk_160 0 5 (dk_at dksX4_step_0 17 rfl rfl)
theorem dX4_step_20 : decode cX4_step 20 = .ok (.iconst (-1), 1) := dk_2 (dk_at dksX4_step_0 20 rfl rfl)
theorem dX4_step_21 : decode cX4_step 21 = .ok (.ireturn, 1) := dk_172 (dk_at dksX4_step_0 21 rfl rfl)
theorem dX4_step_22 : decode cX4_step 22 = .ok (.aload_n 0, 1) := dk_42 (dk_at dksX4_step_0 22 rfl rfl)
theorem dX4_step_23 : decode cX4_step 23 = .ok (.invokevirtual 363, 3) := dk_182 1 107 (dk_at dksX4_step_1 0 rfl rfl)
theorem dX4_step_26 : decode cX4_step 26 = .ok (.aload_n 0, 1) := dk_42 (dk_at dksX4_step_1 3 rfl rfl)
theorem dX4_step_27 : decode cX4_step 27 = .ok (.invokevirtual 360, 3) := dk_182 1 104 (dk_at dksX4_step_1 4 rfl rfl)
theorem dX4_step_30 : decode cX4_step 30 = .ok (.aload_n 0, 1) := dk_42 (dk_at dksX4_step_1 7 rfl rfl)
theorem dX4_step_31 : decode cX4_step 31 = .ok (.iconst 0, 1) := dk_3 (dk_at dksX4_step_1 8 rfl rfl)
theorem dX4_step_32 : decode cX4_step 32 = .ok (.invokevirtual 366, 3) := dk_182 1 110 (dk_at dksX4_step_1 9 rfl rfl)
theorem dX4_step_35 : decode cX4_step 35 = .ok (.ireturn, 1) := dk_172 (dk_at dksX4_step_1 12 rfl rfl)
abbrev cX4_keepsAct : ByteArray := prog_19_method_76_code
def yX4_keepsAct : MethodName := ⟨RX4, "keepsAct", "()V"⟩
def dkwX4_keepsAct_4 : List UInt8 := [181, 1, 15, 177]
abbrev dktX4_keepsAct_4 : List UInt8 := dkwX4_keepsAct_4 ++ []
def dkwX4_keepsAct_3 : List UInt8 := [42, 180, 0, 39, 16, 10, 27, 96, 46, 79, 132, 1, 1, 167, 255, 224, 42, 89, 180, 1, 15, 4, 96]
abbrev dktX4_keepsAct_3 : List UInt8 := dkwX4_keepsAct_3 ++ dktX4_keepsAct_4
def dkwX4_keepsAct_2 : List UInt8 := [181, 1, 15, 3, 60, 27, 16, 76, 162, 0, 32, 42, 180, 0, 46, 16, 76, 42, 180, 1, 15, 104, 27, 96]
abbrev dktX4_keepsAct_2 : List UInt8 := dkwX4_keepsAct_2 ++ dktX4_keepsAct_3
def dkwX4_keepsAct_1 : List UInt8 := [16, 76, 100, 42, 180, 0, 46, 27, 46, 79, 132, 1, 1, 167, 255, 231, 42, 89, 180, 1, 15, 4, 100]
abbrev dktX4_keepsAct_1 : List UInt8 := dkwX4_keepsAct_1 ++ dktX4_keepsAct_2
def dkwX4_keepsAct_0 : List UInt8 := [42, 180, 1, 15, 16, 20, 160, 0, 44, 16, 76, 60, 27, 17, 5, 240, 162, 0, 24, 42, 180, 0, 46, 27]
abbrev dktX4_keepsAct_0 : List UInt8 := dkwX4_keepsAct_0 ++ dktX4_keepsAct_1
theorem dksX4_keepsAct_0 : cX4_keepsAct.data.toList.drop 0 = dktX4_keepsAct_0 := by decide +kernel
theorem dksX4_keepsAct_1 : cX4_keepsAct.data.toList.drop 24 = dktX4_keepsAct_1 := dk_seg dksX4_keepsAct_0 24 rfl rfl
theorem dksX4_keepsAct_2 : cX4_keepsAct.data.toList.drop 47 = dktX4_keepsAct_2 := dk_seg dksX4_keepsAct_1 23 rfl rfl
theorem dksX4_keepsAct_3 : cX4_keepsAct.data.toList.drop 71 = dktX4_keepsAct_3 := dk_seg dksX4_keepsAct_2 24 rfl rfl
theorem dksX4_keepsAct_4 : cX4_keepsAct.data.toList.drop 94 = dktX4_keepsAct_4 := dk_seg dksX4_keepsAct_3 23 rfl rfl
theorem dX4_keepsAct_0 : decode cX4_keepsAct 0 = .ok (.aload_n 0, 1) := dk_42 (dk_at dksX4_keepsAct_0 0 rfl rfl)
theorem dX4_keepsAct_1 : decode cX4_keepsAct 1 = .ok (.getfield 271, 3) := dk_180 1 15 (dk_at dksX4_keepsAct_0 1 rfl rfl)
theorem dX4_keepsAct_4 : decode cX4_keepsAct 4 = .ok (.bipush 20, 2) := dk_16 20 (dk_at dksX4_keepsAct_0 4 rfl rfl)
theorem dX4_keepsAct_6 : decode cX4_keepsAct 6 = .ok (.if_icmp .ne 44, 3) := dk_160 0 44 (dk_at dksX4_keepsAct_0 6 rfl rfl)
theorem dX4_keepsAct_9 : decode cX4_keepsAct 9 = .ok (.bipush 76, 2) := dk_16 76 (dk_at dksX4_keepsAct_0 9 rfl rfl)
theorem dX4_keepsAct_11 : decode cX4_keepsAct 11 = .ok (.istore_n 1, 1) := dk_60 (dk_at dksX4_keepsAct_0 11 rfl rfl)
theorem dX4_keepsAct_12 : decode cX4_keepsAct 12 = .ok (.iload_n 1, 1) := dk_27 (dk_at dksX4_keepsAct_0 12 rfl rfl)
theorem dX4_keepsAct_13 : decode cX4_keepsAct 13 = .ok (.sipush 1520, 3) := dk_17 5 240 (dk_at dksX4_keepsAct_0 13 rfl rfl)
theorem dX4_keepsAct_16 : decode cX4_keepsAct 16 = .ok (.if_icmp .ge 24, 3) := dk_162 0 24 (dk_at dksX4_keepsAct_0 16 rfl rfl)
theorem dX4_keepsAct_19 : decode cX4_keepsAct 19 = .ok (.aload_n 0, 1) := dk_42 (dk_at dksX4_keepsAct_0 19 rfl rfl)
theorem dX4_keepsAct_20 : decode cX4_keepsAct 20 = .ok (.getfield 46, 3) := dk_180 0 46 (dk_at dksX4_keepsAct_0 20 rfl rfl)
theorem dX4_keepsAct_23 : decode cX4_keepsAct 23 = .ok (.iload_n 1, 1) := dk_27 (dk_at dksX4_keepsAct_0 23 rfl rfl)
theorem dX4_keepsAct_24 : decode cX4_keepsAct 24 = .ok (.bipush 76, 2) := dk_16 76 (dk_at dksX4_keepsAct_1 0 rfl rfl)
theorem dX4_keepsAct_26 : decode cX4_keepsAct 26 = .ok (.isub, 1) := dk_100 (dk_at dksX4_keepsAct_1 2 rfl rfl)
theorem dX4_keepsAct_27 : decode cX4_keepsAct 27 = .ok (.aload_n 0, 1) := dk_42 (dk_at dksX4_keepsAct_1 3 rfl rfl)
theorem dX4_keepsAct_28 : decode cX4_keepsAct 28 = .ok (.getfield 46, 3) := dk_180 0 46 (dk_at dksX4_keepsAct_1 4 rfl rfl)
theorem dX4_keepsAct_31 : decode cX4_keepsAct 31 = .ok (.iload_n 1, 1) := dk_27 (dk_at dksX4_keepsAct_1 7 rfl rfl)
theorem dX4_keepsAct_32 : decode cX4_keepsAct 32 = .ok (.iaload, 1) := dk_46 (dk_at dksX4_keepsAct_1 8 rfl rfl)
theorem dX4_keepsAct_33 : decode cX4_keepsAct 33 = .ok (.iastore, 1) := dk_79 (dk_at dksX4_keepsAct_1 9 rfl rfl)
theorem dX4_keepsAct_34 : decode cX4_keepsAct 34 = .ok (.iinc 1 1, 3) := dk_132 1 1 (dk_at dksX4_keepsAct_1 10 rfl rfl)
theorem dX4_keepsAct_37 : decode cX4_keepsAct 37 = .ok (.goto (-25), 3) := dk_167 255 231 (dk_at dksX4_keepsAct_1 13 rfl rfl)
theorem dX4_keepsAct_40 : decode cX4_keepsAct 40 = .ok (.aload_n 0, 1) := dk_42 (dk_at dksX4_keepsAct_1 16 rfl rfl)
theorem dX4_keepsAct_41 : decode cX4_keepsAct 41 = .ok (.dup, 1) := dk_89 (dk_at dksX4_keepsAct_1 17 rfl rfl)
theorem dX4_keepsAct_42 : decode cX4_keepsAct 42 = .ok (.getfield 271, 3) := dk_180 1 15 (dk_at dksX4_keepsAct_1 18 rfl rfl)
theorem dX4_keepsAct_45 : decode cX4_keepsAct 45 = .ok (.iconst 1, 1) := dk_4 (dk_at dksX4_keepsAct_1 21 rfl rfl)
theorem dX4_keepsAct_46 : decode cX4_keepsAct 46 = .ok (.isub, 1) := dk_100 (dk_at dksX4_keepsAct_1 22 rfl rfl)
theorem dX4_keepsAct_47 : decode cX4_keepsAct 47 = .ok (.putfield 271, 3) := dk_181 1 15 (dk_at dksX4_keepsAct_2 0 rfl rfl)
theorem dX4_keepsAct_50 : decode cX4_keepsAct 50 = .ok (.iconst 0, 1) := dk_3 (dk_at dksX4_keepsAct_2 3 rfl rfl)
theorem dX4_keepsAct_51 : decode cX4_keepsAct 51 = .ok (.istore_n 1, 1) := dk_60 (dk_at dksX4_keepsAct_2 4 rfl rfl)
theorem dX4_keepsAct_52 : decode cX4_keepsAct 52 = .ok (.iload_n 1, 1) := dk_27 (dk_at dksX4_keepsAct_2 5 rfl rfl)
theorem dX4_keepsAct_53 : decode cX4_keepsAct 53 = .ok (.bipush 76, 2) := dk_16 76 (dk_at dksX4_keepsAct_2 6 rfl rfl)
theorem dX4_keepsAct_55 : decode cX4_keepsAct 55 = .ok (.if_icmp .ge 32, 3) := dk_162 0 32 (dk_at dksX4_keepsAct_2 8 rfl rfl)
theorem dX4_keepsAct_58 : decode cX4_keepsAct 58 = .ok (.aload_n 0, 1) := dk_42 (dk_at dksX4_keepsAct_2 11 rfl rfl)
theorem dX4_keepsAct_59 : decode cX4_keepsAct 59 = .ok (.getfield 46, 3) := dk_180 0 46 (dk_at dksX4_keepsAct_2 12 rfl rfl)
theorem dX4_keepsAct_62 : decode cX4_keepsAct 62 = .ok (.bipush 76, 2) := dk_16 76 (dk_at dksX4_keepsAct_2 15 rfl rfl)
theorem dX4_keepsAct_64 : decode cX4_keepsAct 64 = .ok (.aload_n 0, 1) := dk_42 (dk_at dksX4_keepsAct_2 17 rfl rfl)
theorem dX4_keepsAct_65 : decode cX4_keepsAct 65 = .ok (.getfield 271, 3) := dk_180 1 15 (dk_at dksX4_keepsAct_2 18 rfl rfl)
theorem dX4_keepsAct_68 : decode cX4_keepsAct 68 = .ok (.imul, 1) := dk_104 (dk_at dksX4_keepsAct_2 21 rfl rfl)
theorem dX4_keepsAct_69 : decode cX4_keepsAct 69 = .ok (.iload_n 1, 1) := dk_27 (dk_at dksX4_keepsAct_2 22 rfl rfl)
theorem dX4_keepsAct_70 : decode cX4_keepsAct 70 = .ok (.iadd, 1) := dk_96 (dk_at dksX4_keepsAct_2 23 rfl rfl)
theorem dX4_keepsAct_71 : decode cX4_keepsAct 71 = .ok (.aload_n 0, 1) := dk_42 (dk_at dksX4_keepsAct_3 0 rfl rfl)
theorem dX4_keepsAct_72 : decode cX4_keepsAct 72 = .ok (.getfield 39, 3) := dk_180 0 39 (dk_at dksX4_keepsAct_3 1 rfl rfl)
theorem dX4_keepsAct_75 : decode cX4_keepsAct 75 = .ok (.bipush 10, 2) := dk_16 10 (dk_at dksX4_keepsAct_3 4 rfl rfl)
theorem dX4_keepsAct_77 : decode cX4_keepsAct 77 = .ok (.iload_n 1, 1) := dk_27 (dk_at dksX4_keepsAct_3 6 rfl rfl)
theorem dX4_keepsAct_78 : decode cX4_keepsAct 78 = .ok (.iadd, 1) := dk_96 (dk_at dksX4_keepsAct_3 7 rfl rfl)
theorem dX4_keepsAct_79 : decode cX4_keepsAct 79 = .ok (.iaload, 1) := dk_46 (dk_at dksX4_keepsAct_3 8 rfl rfl)
theorem dX4_keepsAct_80 : decode cX4_keepsAct 80 = .ok (.iastore, 1) := dk_79 (dk_at dksX4_keepsAct_3 9 rfl rfl)
theorem dX4_keepsAct_81 : decode cX4_keepsAct 81 = .ok (.iinc 1 1, 3) := dk_132 1 1 (dk_at dksX4_keepsAct_3 10 rfl rfl)
theorem dX4_keepsAct_84 : decode cX4_keepsAct 84 = .ok (.goto (-32), 3) := dk_167 255 224 (dk_at dksX4_keepsAct_3 13 rfl rfl)
theorem dX4_keepsAct_87 : decode cX4_keepsAct 87 = .ok (.aload_n 0, 1) := dk_42 (dk_at dksX4_keepsAct_3 16 rfl rfl)
theorem dX4_keepsAct_88 : decode cX4_keepsAct 88 = .ok (.dup, 1) := dk_89 (dk_at dksX4_keepsAct_3 17 rfl rfl)
theorem dX4_keepsAct_89 : decode cX4_keepsAct 89 = .ok (.getfield 271, 3) := dk_180 1 15 (dk_at dksX4_keepsAct_3 18 rfl rfl)
theorem dX4_keepsAct_92 : decode cX4_keepsAct 92 = .ok (.iconst 1, 1) := dk_4 (dk_at dksX4_keepsAct_3 21 rfl rfl)
theorem dX4_keepsAct_93 : decode cX4_keepsAct 93 = .ok (.iadd, 1) := dk_96 (dk_at dksX4_keepsAct_3 22 rfl rfl)
theorem dX4_keepsAct_94 : decode cX4_keepsAct 94 = .ok (.putfield 271, 3) := dk_181 1 15 (dk_at dksX4_keepsAct_4 0 rfl rfl)
theorem dX4_keepsAct_97 : decode cX4_keepsAct 97 = .ok (.return_, 1) := dk_177 (dk_at dksX4_keepsAct_4 3 rfl rfl)
abbrev cX4_passes : ByteArray := prog_19_method_74_code
def yX4_passes : MethodName := ⟨RX4, "passes", "()V"⟩
def dkwX4_passes_2 : List UInt8 := [167, 255, 213, 42, 180, 0, 39, 16, 10, 92, 46, 4, 96, 79, 177]
abbrev dktX4_passes_2 : List UInt8 := dkwX4_passes_2 ++ []
def dkwX4_passes_1 : List UInt8 := [182, 1, 98, 167, 0, 17, 42, 27, 182, 1, 41, 4, 160, 0, 8, 42, 27, 182, 1, 101, 132, 1, 1]
abbrev dktX4_passes_1 : List UInt8 := dkwX4_passes_1 ++ dktX4_passes_2
def dkwX4_passes_0 : List UInt8 := [3, 60, 27, 42, 180, 0, 39, 5, 46, 162, 0, 39, 42, 27, 182, 1, 57, 153, 0, 11, 42, 27]
abbrev dktX4_passes_0 : List UInt8 := dkwX4_passes_0 ++ dktX4_passes_1
theorem dksX4_passes_0 : cX4_passes.data.toList.drop 0 = dktX4_passes_0 := by decide +kernel
theorem dksX4_passes_1 : cX4_passes.data.toList.drop 22 = dktX4_passes_1 := dk_seg dksX4_passes_0 22 rfl rfl
theorem dksX4_passes_2 : cX4_passes.data.toList.drop 45 = dktX4_passes_2 := dk_seg dksX4_passes_1 23 rfl rfl
theorem dX4_passes_0 : decode cX4_passes 0 = .ok (.iconst 0, 1) := dk_3 (dk_at dksX4_passes_0 0 rfl rfl)
theorem dX4_passes_1 : decode cX4_passes 1 = .ok (.istore_n 1, 1) := dk_60 (dk_at dksX4_passes_0 1 rfl rfl)
theorem dX4_passes_2 : decode cX4_passes 2 = .ok (.iload_n 1, 1) := dk_27 (dk_at dksX4_passes_0 2 rfl rfl)
theorem dX4_passes_3 : decode cX4_passes 3 = .ok (.aload_n 0, 1) := dk_42 (dk_at dksX4_passes_0 3 rfl rfl)
theorem dX4_passes_4 : decode cX4_passes 4 = .ok (.getfield 39, 3) := dk_180 0 39 (dk_at dksX4_passes_0 4 rfl rfl)
theorem dX4_passes_7 : decode cX4_passes 7 = .ok (.iconst 2, 1) := dk_5 (dk_at dksX4_passes_0 7 rfl rfl)
theorem dX4_passes_8 : decode cX4_passes 8 = .ok (.iaload, 1) := dk_46 (dk_at dksX4_passes_0 8 rfl rfl)
theorem dX4_passes_9 : decode cX4_passes 9 = .ok (.if_icmp .ge 39, 3) := dk_162 0 39 (dk_at dksX4_passes_0 9 rfl rfl)
theorem dX4_passes_12 : decode cX4_passes 12 = .ok (.aload_n 0, 1) := dk_42 (dk_at dksX4_passes_0 12 rfl rfl)
theorem dX4_passes_13 : decode cX4_passes 13 = .ok (.iload_n 1, 1) := dk_27 (dk_at dksX4_passes_0 13 rfl rfl)
theorem dX4_passes_14 : decode cX4_passes 14 = .ok (.invokevirtual 313, 3) := dk_182 1 57 (dk_at dksX4_passes_0 14 rfl rfl)
theorem dX4_passes_17 : decode cX4_passes 17 = .ok (.ifCond .eq 11, 3) := dk_153 0 11 (dk_at dksX4_passes_0 17 rfl rfl)
theorem dX4_passes_20 : decode cX4_passes 20 = .ok (.aload_n 0, 1) := dk_42 (dk_at dksX4_passes_0 20 rfl rfl)
theorem dX4_passes_21 : decode cX4_passes 21 = .ok (.iload_n 1, 1) := dk_27 (dk_at dksX4_passes_0 21 rfl rfl)
theorem dX4_passes_22 : decode cX4_passes 22 = .ok (.invokevirtual 354, 3) := dk_182 1 98 (dk_at dksX4_passes_1 0 rfl rfl)
theorem dX4_passes_25 : decode cX4_passes 25 = .ok (.goto 17, 3) := dk_167 0 17 (dk_at dksX4_passes_1 3 rfl rfl)
theorem dX4_passes_28 : decode cX4_passes 28 = .ok (.aload_n 0, 1) := dk_42 (dk_at dksX4_passes_1 6 rfl rfl)
theorem dX4_passes_29 : decode cX4_passes 29 = .ok (.iload_n 1, 1) := dk_27 (dk_at dksX4_passes_1 7 rfl rfl)
theorem dX4_passes_30 : decode cX4_passes 30 = .ok (.invokevirtual 297, 3) := dk_182 1 41 (dk_at dksX4_passes_1 8 rfl rfl)
theorem dX4_passes_33 : decode cX4_passes 33 = .ok (.iconst 1, 1) := dk_4 (dk_at dksX4_passes_1 11 rfl rfl)
theorem dX4_passes_34 : decode cX4_passes 34 = .ok (.if_icmp .ne 8, 3) := dk_160 0 8 (dk_at dksX4_passes_1 12 rfl rfl)
theorem dX4_passes_37 : decode cX4_passes 37 = .ok (.aload_n 0, 1) := dk_42 (dk_at dksX4_passes_1 15 rfl rfl)
theorem dX4_passes_38 : decode cX4_passes 38 = .ok (.iload_n 1, 1) := dk_27 (dk_at dksX4_passes_1 16 rfl rfl)
theorem dX4_passes_39 : decode cX4_passes 39 = .ok (.invokevirtual 357, 3) := dk_182 1 101 (dk_at dksX4_passes_1 17 rfl rfl)
theorem dX4_passes_42 : decode cX4_passes 42 = .ok (.iinc 1 1, 3) := dk_132 1 1 (dk_at dksX4_passes_1 20 rfl rfl)
theorem dX4_passes_45 : decode cX4_passes 45 = .ok (.goto (-43), 3) := dk_167 255 213 (dk_at dksX4_passes_2 0 rfl rfl)
theorem dX4_passes_48 : decode cX4_passes 48 = .ok (.aload_n 0, 1) := dk_42 (dk_at dksX4_passes_2 3 rfl rfl)
theorem dX4_passes_49 : decode cX4_passes 49 = .ok (.getfield 39, 3) := dk_180 0 39 (dk_at dksX4_passes_2 4 rfl rfl)
theorem dX4_passes_52 : decode cX4_passes 52 = .ok (.bipush 10, 2) := dk_16 10 (dk_at dksX4_passes_2 7 rfl rfl)
theorem dX4_passes_54 : decode cX4_passes 54 = .ok (.dup2, 1) := dk_92 (dk_at dksX4_passes_2 9 rfl rfl)
theorem dX4_passes_55 : decode cX4_passes 55 = .ok (.iaload, 1) := dk_46 (dk_at dksX4_passes_2 10 rfl rfl)
theorem dX4_passes_56 : decode cX4_passes 56 = .ok (.iconst 1, 1) := dk_4 (dk_at dksX4_passes_2 11 rfl rfl)
theorem dX4_passes_57 : decode cX4_passes 57 = .ok (.iadd, 1) := dk_96 (dk_at dksX4_passes_2 12 rfl rfl)
theorem dX4_passes_58 : decode cX4_passes 58 = .ok (.iastore, 1) := dk_79 (dk_at dksX4_passes_2 13 rfl rfl)
theorem dX4_passes_59 : decode cX4_passes 59 = .ok (.return_, 1) := dk_177 (dk_at dksX4_passes_2 14 rfl rfl)
abbrev cX4_walks : ByteArray := prog_19_method_71_code
def yX4_walks : MethodName := ⟨RX4, "walks", "(I)V"⟩
def dkwX4_walks_6 : List UInt8 := [29, 79, 177]
abbrev dktX4_walks_6 : List UInt8 := dkwX4_walks_6 ++ []
def dkwX4_walks_5 : List UInt8 := [16, 6, 96, 92, 46, 4, 96, 79, 167, 0, 18, 42, 29, 182, 1, 79, 154, 0, 10, 42, 180, 0, 39, 28]
abbrev dktX4_walks_5 : List UInt8 := dkwX4_walks_5 ++ dktX4_walks_6
def dkwX4_walks_4 : List UInt8 := [42, 42, 180, 0, 39, 28, 46, 42, 180, 0, 39, 28, 4, 96, 46, 182, 1, 89, 79, 42, 180, 0, 39, 28]
abbrev dktX4_walks_4 : List UInt8 := dkwX4_walks_4 ++ dktX4_walks_5
def dkwX4_walks_3 : List UInt8 := [42, 180, 0, 39, 16, 86, 42, 180, 0, 39, 28, 4, 96, 46, 96, 46, 79, 42, 180, 0, 39, 28, 8, 96]
abbrev dktX4_walks_3 : List UInt8 := dkwX4_walks_3 ++ dktX4_walks_4
def dkwX4_walks_2 : List UInt8 := [182, 1, 76, 62, 29, 156, 0, 78, 42, 180, 0, 39, 28, 6, 96, 4, 79, 42, 180, 0, 39, 28, 7, 96]
abbrev dktX4_walks_2 : List UInt8 := dkwX4_walks_2 ++ dktX4_walks_3
def dkwX4_walks_1 : List UInt8 := [27, 182, 1, 86, 96, 7, 112, 79, 42, 42, 180, 0, 39, 28, 46, 42, 180, 0, 39, 28, 4, 96, 46]
abbrev dktX4_walks_1 : List UInt8 := dkwX4_walks_1 ++ dktX4_walks_2
def dkwX4_walks_0 : List UInt8 := [16, 11, 16, 7, 27, 104, 96, 61, 42, 180, 0, 39, 28, 4, 96, 42, 180, 0, 39, 28, 4, 96, 46, 42]
abbrev dktX4_walks_0 : List UInt8 := dkwX4_walks_0 ++ dktX4_walks_1
theorem dksX4_walks_0 : cX4_walks.data.toList.drop 0 = dktX4_walks_0 := by decide +kernel
theorem dksX4_walks_1 : cX4_walks.data.toList.drop 24 = dktX4_walks_1 := dk_seg dksX4_walks_0 24 rfl rfl
theorem dksX4_walks_2 : cX4_walks.data.toList.drop 47 = dktX4_walks_2 := dk_seg dksX4_walks_1 23 rfl rfl
theorem dksX4_walks_3 : cX4_walks.data.toList.drop 71 = dktX4_walks_3 := dk_seg dksX4_walks_2 24 rfl rfl
theorem dksX4_walks_4 : cX4_walks.data.toList.drop 95 = dktX4_walks_4 := dk_seg dksX4_walks_3 24 rfl rfl
theorem dksX4_walks_5 : cX4_walks.data.toList.drop 119 = dktX4_walks_5 := dk_seg dksX4_walks_4 24 rfl rfl
theorem dksX4_walks_6 : cX4_walks.data.toList.drop 143 = dktX4_walks_6 := dk_seg dksX4_walks_5 24 rfl rfl
theorem dX4_walks_0 : decode cX4_walks 0 = .ok (.bipush 11, 2) := dk_16 11 (dk_at dksX4_walks_0 0 rfl rfl)
theorem dX4_walks_2 : decode cX4_walks 2 = .ok (.bipush 7, 2) := dk_16 7 (dk_at dksX4_walks_0 2 rfl rfl)
theorem dX4_walks_4 : decode cX4_walks 4 = .ok (.iload_n 1, 1) := dk_27 (dk_at dksX4_walks_0 4 rfl rfl)
theorem dX4_walks_5 : decode cX4_walks 5 = .ok (.imul, 1) := dk_104 (dk_at dksX4_walks_0 5 rfl rfl)
theorem dX4_walks_6 : decode cX4_walks 6 = .ok (.iadd, 1) := dk_96 (dk_at dksX4_walks_0 6 rfl rfl)
theorem dX4_walks_7 : decode cX4_walks 7 = .ok (.istore_n 2, 1) := dk_61 (dk_at dksX4_walks_0 7 rfl rfl)
theorem dX4_walks_8 : decode cX4_walks 8 = .ok (.aload_n 0, 1) := dk_42 (dk_at dksX4_walks_0 8 rfl rfl)
theorem dX4_walks_9 : decode cX4_walks 9 = .ok (.getfield 39, 3) := dk_180 0 39 (dk_at dksX4_walks_0 9 rfl rfl)
theorem dX4_walks_12 : decode cX4_walks 12 = .ok (.iload_n 2, 1) := dk_28 (dk_at dksX4_walks_0 12 rfl rfl)
theorem dX4_walks_13 : decode cX4_walks 13 = .ok (.iconst 1, 1) := dk_4 (dk_at dksX4_walks_0 13 rfl rfl)
theorem dX4_walks_14 : decode cX4_walks 14 = .ok (.iadd, 1) := dk_96 (dk_at dksX4_walks_0 14 rfl rfl)
theorem dX4_walks_15 : decode cX4_walks 15 = .ok (.aload_n 0, 1) := dk_42 (dk_at dksX4_walks_0 15 rfl rfl)
theorem dX4_walks_16 : decode cX4_walks 16 = .ok (.getfield 39, 3) := dk_180 0 39 (dk_at dksX4_walks_0 16 rfl rfl)
theorem dX4_walks_19 : decode cX4_walks 19 = .ok (.iload_n 2, 1) := dk_28 (dk_at dksX4_walks_0 19 rfl rfl)
theorem dX4_walks_20 : decode cX4_walks 20 = .ok (.iconst 1, 1) := dk_4 (dk_at dksX4_walks_0 20 rfl rfl)
theorem dX4_walks_21 : decode cX4_walks 21 = .ok (.iadd, 1) := dk_96 (dk_at dksX4_walks_0 21 rfl rfl)
theorem dX4_walks_22 : decode cX4_walks 22 = .ok (.iaload, 1) := dk_46 (dk_at dksX4_walks_0 22 rfl rfl)
theorem dX4_walks_23 : decode cX4_walks 23 = .ok (.aload_n 0, 1) := dk_42 (dk_at dksX4_walks_0 23 rfl rfl)
theorem dX4_walks_24 : decode cX4_walks 24 = .ok (.iload_n 1, 1) := dk_27 (dk_at dksX4_walks_1 0 rfl rfl)
theorem dX4_walks_25 : decode cX4_walks 25 = .ok (.invokevirtual 342, 3) := dk_182 1 86 (dk_at dksX4_walks_1 1 rfl rfl)
theorem dX4_walks_28 : decode cX4_walks 28 = .ok (.iadd, 1) := dk_96 (dk_at dksX4_walks_1 4 rfl rfl)
theorem dX4_walks_29 : decode cX4_walks 29 = .ok (.iconst 4, 1) := dk_7 (dk_at dksX4_walks_1 5 rfl rfl)
theorem dX4_walks_30 : decode cX4_walks 30 = .ok (.irem, 1) := dk_112 (dk_at dksX4_walks_1 6 rfl rfl)
theorem dX4_walks_31 : decode cX4_walks 31 = .ok (.iastore, 1) := dk_79 (dk_at dksX4_walks_1 7 rfl rfl)
theorem dX4_walks_32 : decode cX4_walks 32 = .ok (.aload_n 0, 1) := dk_42 (dk_at dksX4_walks_1 8 rfl rfl)
theorem dX4_walks_33 : decode cX4_walks 33 = .ok (.aload_n 0, 1) := dk_42 (dk_at dksX4_walks_1 9 rfl rfl)
theorem dX4_walks_34 : decode cX4_walks 34 = .ok (.getfield 39, 3) := dk_180 0 39 (dk_at dksX4_walks_1 10 rfl rfl)
theorem dX4_walks_37 : decode cX4_walks 37 = .ok (.iload_n 2, 1) := dk_28 (dk_at dksX4_walks_1 13 rfl rfl)
theorem dX4_walks_38 : decode cX4_walks 38 = .ok (.iaload, 1) := dk_46 (dk_at dksX4_walks_1 14 rfl rfl)
theorem dX4_walks_39 : decode cX4_walks 39 = .ok (.aload_n 0, 1) := dk_42 (dk_at dksX4_walks_1 15 rfl rfl)
theorem dX4_walks_40 : decode cX4_walks 40 = .ok (.getfield 39, 3) := dk_180 0 39 (dk_at dksX4_walks_1 16 rfl rfl)
theorem dX4_walks_43 : decode cX4_walks 43 = .ok (.iload_n 2, 1) := dk_28 (dk_at dksX4_walks_1 19 rfl rfl)
theorem dX4_walks_44 : decode cX4_walks 44 = .ok (.iconst 1, 1) := dk_4 (dk_at dksX4_walks_1 20 rfl rfl)
theorem dX4_walks_45 : decode cX4_walks 45 = .ok (.iadd, 1) := dk_96 (dk_at dksX4_walks_1 21 rfl rfl)
theorem dX4_walks_46 : decode cX4_walks 46 = .ok (.iaload, 1) := dk_46 (dk_at dksX4_walks_1 22 rfl rfl)
theorem dX4_walks_47 : decode cX4_walks 47 = .ok (.invokevirtual 332, 3) := dk_182 1 76 (dk_at dksX4_walks_2 0 rfl rfl)
theorem dX4_walks_50 : decode cX4_walks 50 = .ok (.istore_n 3, 1) := dk_62 (dk_at dksX4_walks_2 3 rfl rfl)
theorem dX4_walks_51 : decode cX4_walks 51 = .ok (.iload_n 3, 1) := dk_29 (dk_at dksX4_walks_2 4 rfl rfl)
theorem dX4_walks_52 : decode cX4_walks 52 = .ok (.ifCond .ge 78, 3) := dk_156 0 78 (dk_at dksX4_walks_2 5 rfl rfl)
theorem dX4_walks_55 : decode cX4_walks 55 = .ok (.aload_n 0, 1) := dk_42 (dk_at dksX4_walks_2 8 rfl rfl)
theorem dX4_walks_56 : decode cX4_walks 56 = .ok (.getfield 39, 3) := dk_180 0 39 (dk_at dksX4_walks_2 9 rfl rfl)
theorem dX4_walks_59 : decode cX4_walks 59 = .ok (.iload_n 2, 1) := dk_28 (dk_at dksX4_walks_2 12 rfl rfl)
theorem dX4_walks_60 : decode cX4_walks 60 = .ok (.iconst 3, 1) := dk_6 (dk_at dksX4_walks_2 13 rfl rfl)
theorem dX4_walks_61 : decode cX4_walks 61 = .ok (.iadd, 1) := dk_96 (dk_at dksX4_walks_2 14 rfl rfl)
theorem dX4_walks_62 : decode cX4_walks 62 = .ok (.iconst 1, 1) := dk_4 (dk_at dksX4_walks_2 15 rfl rfl)
theorem dX4_walks_63 : decode cX4_walks 63 = .ok (.iastore, 1) := dk_79 (dk_at dksX4_walks_2 16 rfl rfl)
theorem dX4_walks_64 : decode cX4_walks 64 = .ok (.aload_n 0, 1) := dk_42 (dk_at dksX4_walks_2 17 rfl rfl)
theorem dX4_walks_65 : decode cX4_walks 65 = .ok (.getfield 39, 3) := dk_180 0 39 (dk_at dksX4_walks_2 18 rfl rfl)
theorem dX4_walks_68 : decode cX4_walks 68 = .ok (.iload_n 2, 1) := dk_28 (dk_at dksX4_walks_2 21 rfl rfl)
theorem dX4_walks_69 : decode cX4_walks 69 = .ok (.iconst 4, 1) := dk_7 (dk_at dksX4_walks_2 22 rfl rfl)
theorem dX4_walks_70 : decode cX4_walks 70 = .ok (.iadd, 1) := dk_96 (dk_at dksX4_walks_2 23 rfl rfl)
theorem dX4_walks_71 : decode cX4_walks 71 = .ok (.aload_n 0, 1) := dk_42 (dk_at dksX4_walks_3 0 rfl rfl)
theorem dX4_walks_72 : decode cX4_walks 72 = .ok (.getfield 39, 3) := dk_180 0 39 (dk_at dksX4_walks_3 1 rfl rfl)
theorem dX4_walks_75 : decode cX4_walks 75 = .ok (.bipush 86, 2) := dk_16 86 (dk_at dksX4_walks_3 4 rfl rfl)
theorem dX4_walks_77 : decode cX4_walks 77 = .ok (.aload_n 0, 1) := dk_42 (dk_at dksX4_walks_3 6 rfl rfl)
theorem dX4_walks_78 : decode cX4_walks 78 = .ok (.getfield 39, 3) := dk_180 0 39 (dk_at dksX4_walks_3 7 rfl rfl)
theorem dX4_walks_81 : decode cX4_walks 81 = .ok (.iload_n 2, 1) := dk_28 (dk_at dksX4_walks_3 10 rfl rfl)
theorem dX4_walks_82 : decode cX4_walks 82 = .ok (.iconst 1, 1) := dk_4 (dk_at dksX4_walks_3 11 rfl rfl)
theorem dX4_walks_83 : decode cX4_walks 83 = .ok (.iadd, 1) := dk_96 (dk_at dksX4_walks_3 12 rfl rfl)
theorem dX4_walks_84 : decode cX4_walks 84 = .ok (.iaload, 1) := dk_46 (dk_at dksX4_walks_3 13 rfl rfl)
theorem dX4_walks_85 : decode cX4_walks 85 = .ok (.iadd, 1) := dk_96 (dk_at dksX4_walks_3 14 rfl rfl)
theorem dX4_walks_86 : decode cX4_walks 86 = .ok (.iaload, 1) := dk_46 (dk_at dksX4_walks_3 15 rfl rfl)
theorem dX4_walks_87 : decode cX4_walks 87 = .ok (.iastore, 1) := dk_79 (dk_at dksX4_walks_3 16 rfl rfl)
theorem dX4_walks_88 : decode cX4_walks 88 = .ok (.aload_n 0, 1) := dk_42 (dk_at dksX4_walks_3 17 rfl rfl)
theorem dX4_walks_89 : decode cX4_walks 89 = .ok (.getfield 39, 3) := dk_180 0 39 (dk_at dksX4_walks_3 18 rfl rfl)
theorem dX4_walks_92 : decode cX4_walks 92 = .ok (.iload_n 2, 1) := dk_28 (dk_at dksX4_walks_3 21 rfl rfl)
theorem dX4_walks_93 : decode cX4_walks 93 = .ok (.iconst 5, 1) := dk_8 (dk_at dksX4_walks_3 22 rfl rfl)
theorem dX4_walks_94 : decode cX4_walks 94 = .ok (.iadd, 1) := dk_96 (dk_at dksX4_walks_3 23 rfl rfl)
theorem dX4_walks_95 : decode cX4_walks 95 = .ok (.aload_n 0, 1) := dk_42 (dk_at dksX4_walks_4 0 rfl rfl)
theorem dX4_walks_96 : decode cX4_walks 96 = .ok (.aload_n 0, 1) := dk_42 (dk_at dksX4_walks_4 1 rfl rfl)
theorem dX4_walks_97 : decode cX4_walks 97 = .ok (.getfield 39, 3) := dk_180 0 39 (dk_at dksX4_walks_4 2 rfl rfl)
theorem dX4_walks_100 : decode cX4_walks 100 = .ok (.iload_n 2, 1) := dk_28 (dk_at dksX4_walks_4 5 rfl rfl)
theorem dX4_walks_101 : decode cX4_walks 101 = .ok (.iaload, 1) := dk_46 (dk_at dksX4_walks_4 6 rfl rfl)
theorem dX4_walks_102 : decode cX4_walks 102 = .ok (.aload_n 0, 1) := dk_42 (dk_at dksX4_walks_4 7 rfl rfl)
theorem dX4_walks_103 : decode cX4_walks 103 = .ok (.getfield 39, 3) := dk_180 0 39 (dk_at dksX4_walks_4 8 rfl rfl)
theorem dX4_walks_106 : decode cX4_walks 106 = .ok (.iload_n 2, 1) := dk_28 (dk_at dksX4_walks_4 11 rfl rfl)
theorem dX4_walks_107 : decode cX4_walks 107 = .ok (.iconst 1, 1) := dk_4 (dk_at dksX4_walks_4 12 rfl rfl)
theorem dX4_walks_108 : decode cX4_walks 108 = .ok (.iadd, 1) := dk_96 (dk_at dksX4_walks_4 13 rfl rfl)
theorem dX4_walks_109 : decode cX4_walks 109 = .ok (.iaload, 1) := dk_46 (dk_at dksX4_walks_4 14 rfl rfl)
theorem dX4_walks_110 : decode cX4_walks 110 = .ok (.invokevirtual 345, 3) := dk_182 1 89 (dk_at dksX4_walks_4 15 rfl rfl)
theorem dX4_walks_113 : decode cX4_walks 113 = .ok (.iastore, 1) := dk_79 (dk_at dksX4_walks_4 18 rfl rfl)
theorem dX4_walks_114 : decode cX4_walks 114 = .ok (.aload_n 0, 1) := dk_42 (dk_at dksX4_walks_4 19 rfl rfl)
theorem dX4_walks_115 : decode cX4_walks 115 = .ok (.getfield 39, 3) := dk_180 0 39 (dk_at dksX4_walks_4 20 rfl rfl)
theorem dX4_walks_118 : decode cX4_walks 118 = .ok (.iload_n 2, 1) := dk_28 (dk_at dksX4_walks_4 23 rfl rfl)
theorem dX4_walks_119 : decode cX4_walks 119 = .ok (.bipush 6, 2) := dk_16 6 (dk_at dksX4_walks_5 0 rfl rfl)
theorem dX4_walks_121 : decode cX4_walks 121 = .ok (.iadd, 1) := dk_96 (dk_at dksX4_walks_5 2 rfl rfl)
theorem dX4_walks_122 : decode cX4_walks 122 = .ok (.dup2, 1) := dk_92 (dk_at dksX4_walks_5 3 rfl rfl)
theorem dX4_walks_123 : decode cX4_walks 123 = .ok (.iaload, 1) := dk_46 (dk_at dksX4_walks_5 4 rfl rfl)
theorem dX4_walks_124 : decode cX4_walks 124 = .ok (.iconst 1, 1) := dk_4 (dk_at dksX4_walks_5 5 rfl rfl)
theorem dX4_walks_125 : decode cX4_walks 125 = .ok (.iadd, 1) := dk_96 (dk_at dksX4_walks_5 6 rfl rfl)
theorem dX4_walks_126 : decode cX4_walks 126 = .ok (.iastore, 1) := dk_79 (dk_at dksX4_walks_5 7 rfl rfl)
theorem dX4_walks_127 : decode cX4_walks 127 = .ok (.goto 18, 3) := dk_167 0 18 (dk_at dksX4_walks_5 8 rfl rfl)
theorem dX4_walks_130 : decode cX4_walks 130 = .ok (.aload_n 0, 1) := dk_42 (dk_at dksX4_walks_5 11 rfl rfl)
theorem dX4_walks_131 : decode cX4_walks 131 = .ok (.iload_n 3, 1) := dk_29 (dk_at dksX4_walks_5 12 rfl rfl)
theorem dX4_walks_132 : decode cX4_walks 132 = .ok (.invokevirtual 335, 3) := dk_182 1 79 (dk_at dksX4_walks_5 13 rfl rfl)
theorem dX4_walks_135 : decode cX4_walks 135 = .ok (.ifCond .ne 10, 3) := dk_154 0 10 (dk_at dksX4_walks_5 16 rfl rfl)
theorem dX4_walks_138 : decode cX4_walks 138 = .ok (.aload_n 0, 1) := dk_42 (dk_at dksX4_walks_5 19 rfl rfl)
theorem dX4_walks_139 : decode cX4_walks 139 = .ok (.getfield 39, 3) := dk_180 0 39 (dk_at dksX4_walks_5 20 rfl rfl)
theorem dX4_walks_142 : decode cX4_walks 142 = .ok (.iload_n 2, 1) := dk_28 (dk_at dksX4_walks_5 23 rfl rfl)
theorem dX4_walks_143 : decode cX4_walks 143 = .ok (.iload_n 3, 1) := dk_29 (dk_at dksX4_walks_6 0 rfl rfl)
theorem dX4_walks_144 : decode cX4_walks 144 = .ok (.iastore, 1) := dk_79 (dk_at dksX4_walks_6 1 rfl rfl)
theorem dX4_walks_145 : decode cX4_walks 145 = .ok (.return_, 1) := dk_177 (dk_at dksX4_walks_6 2 rfl rfl)
abbrev cX4_quartersOf : ByteArray := prog_19_method_70_code
def yX4_quartersOf : MethodName := ⟨RX4, "quartersOf", "(I)I"⟩
def dkwX4_quartersOf_11 : List UInt8 := [20, 1, 39, 127, 136, 172]
abbrev dktX4_quartersOf_11 : List UInt8 := dkwX4_quartersOf_11 ++ []
def dkwX4_quartersOf_10 : List UInt8 := [180, 0, 36, 16, 10, 42, 180, 0, 39, 16, 10, 46, 133, 80, 42, 42, 180, 0, 42, 182, 1, 82]
abbrev dktX4_quartersOf_10 : List UInt8 := dkwX4_quartersOf_10 ++ dktX4_quartersOf_11
def dkwX4_quartersOf_9 : List UInt8 := [180, 0, 36, 16, 9, 42, 180, 0, 39, 16, 11, 16, 7, 27, 104, 96, 16, 6, 96, 46, 133, 80, 42]
abbrev dktX4_quartersOf_9 : List UInt8 := dkwX4_quartersOf_9 ++ dktX4_quartersOf_10
def dkwX4_quartersOf_8 : List UInt8 := [182, 1, 79, 153, 0, 7, 10, 167, 0, 4, 9, 80, 42, 180, 0, 36, 16, 8, 21, 4, 133, 80, 42]
abbrev dktX4_quartersOf_8 : List UInt8 := dkwX4_quartersOf_8 ++ dktX4_quartersOf_9
def dkwX4_quartersOf_7 : List UInt8 := [28, 42, 27, 182, 1, 63, 182, 1, 47, 133, 80, 42, 180, 0, 36, 16, 7, 29, 155, 0, 15, 42, 29]
abbrev dktX4_quartersOf_7 : List UInt8 := dkwX4_quartersOf_7 ++ dktX4_quartersOf_8
def dkwX4_quartersOf_6 : List UInt8 := [182, 1, 63, 133, 80, 42, 180, 0, 36, 8, 42, 27, 182, 1, 44, 133, 80, 42, 180, 0, 36, 16, 6, 42]
abbrev dktX4_quartersOf_6 : List UInt8 := dkwX4_quartersOf_6 ++ dktX4_quartersOf_7
def dkwX4_quartersOf_5 : List UInt8 := [42, 180, 0, 36, 6, 28, 42, 180, 0, 39, 4, 46, 112, 133, 80, 42, 180, 0, 36, 7, 42, 27]
abbrev dktX4_quartersOf_5 : List UInt8 := dkwX4_quartersOf_5 ++ dktX4_quartersOf_6
def dkwX4_quartersOf_4 : List UInt8 := [80, 42, 180, 0, 36, 4, 28, 133, 80, 42, 180, 0, 36, 5, 28, 42, 180, 0, 39, 4, 46, 108, 133, 80]
abbrev dktX4_quartersOf_4 : List UInt8 := dkwX4_quartersOf_4 ++ dktX4_quartersOf_5
def dkwX4_quartersOf_3 : List UInt8 := [160, 0, 7, 4, 167, 0, 4, 3, 96, 54, 4, 132, 5, 1, 167, 255, 207, 42, 180, 0, 36, 3, 27, 133]
abbrev dktX4_quartersOf_3 : List UInt8 := dkwX4_quartersOf_3 ++ dktX4_quartersOf_4
def dkwX4_quartersOf_2 : List UInt8 := [21, 5, 27, 159, 0, 26, 42, 21, 5, 182, 1, 57, 153, 0, 17, 42, 21, 5, 182, 1, 60, 28]
abbrev dktX4_quartersOf_2 : List UInt8 := dkwX4_quartersOf_2 ++ dktX4_quartersOf_3
def dkwX4_quartersOf_1 : List UInt8 := [182, 1, 76, 62, 3, 54, 4, 3, 54, 5, 21, 5, 42, 180, 0, 39, 5, 46, 162, 0, 44, 21, 4]
abbrev dktX4_quartersOf_1 : List UInt8 := dkwX4_quartersOf_1 ++ dktX4_quartersOf_2
def dkwX4_quartersOf_0 : List UInt8 := [42, 180, 0, 42, 156, 0, 5, 3, 172, 42, 27, 182, 1, 60, 61, 42, 28, 42, 27, 182, 1, 63]
abbrev dktX4_quartersOf_0 : List UInt8 := dkwX4_quartersOf_0 ++ dktX4_quartersOf_1
theorem dksX4_quartersOf_0 : cX4_quartersOf.data.toList.drop 0 = dktX4_quartersOf_0 := by decide +kernel
theorem dksX4_quartersOf_1 : cX4_quartersOf.data.toList.drop 22 = dktX4_quartersOf_1 := dk_seg dksX4_quartersOf_0 22 rfl rfl
theorem dksX4_quartersOf_2 : cX4_quartersOf.data.toList.drop 45 = dktX4_quartersOf_2 := dk_seg dksX4_quartersOf_1 23 rfl rfl
theorem dksX4_quartersOf_3 : cX4_quartersOf.data.toList.drop 67 = dktX4_quartersOf_3 := dk_seg dksX4_quartersOf_2 22 rfl rfl
theorem dksX4_quartersOf_4 : cX4_quartersOf.data.toList.drop 91 = dktX4_quartersOf_4 := dk_seg dksX4_quartersOf_3 24 rfl rfl
theorem dksX4_quartersOf_5 : cX4_quartersOf.data.toList.drop 115 = dktX4_quartersOf_5 := dk_seg dksX4_quartersOf_4 24 rfl rfl
theorem dksX4_quartersOf_6 : cX4_quartersOf.data.toList.drop 137 = dktX4_quartersOf_6 := dk_seg dksX4_quartersOf_5 22 rfl rfl
theorem dksX4_quartersOf_7 : cX4_quartersOf.data.toList.drop 161 = dktX4_quartersOf_7 := dk_seg dksX4_quartersOf_6 24 rfl rfl
theorem dksX4_quartersOf_8 : cX4_quartersOf.data.toList.drop 184 = dktX4_quartersOf_8 := dk_seg dksX4_quartersOf_7 23 rfl rfl
theorem dksX4_quartersOf_9 : cX4_quartersOf.data.toList.drop 207 = dktX4_quartersOf_9 := dk_seg dksX4_quartersOf_8 23 rfl rfl
theorem dksX4_quartersOf_10 : cX4_quartersOf.data.toList.drop 230 = dktX4_quartersOf_10 := dk_seg dksX4_quartersOf_9 23 rfl rfl
theorem dksX4_quartersOf_11 : cX4_quartersOf.data.toList.drop 252 = dktX4_quartersOf_11 := dk_seg dksX4_quartersOf_10 22 rfl rfl
theorem dX4_quartersOf_0 : decode cX4_quartersOf 0 = .ok (.aload_n 0, 1) := dk_42 (dk_at dksX4_quartersOf_0 0 rfl rfl)
theorem dX4_quartersOf_1 : decode cX4_quartersOf 1 = .ok (.getfield 42, 3) := dk_180 0 42 (dk_at dksX4_quartersOf_0 1 rfl rfl)
theorem dX4_quartersOf_4 : decode cX4_quartersOf 4 = .ok (.ifCond .ge 5, 3) := dk_156 0 5 (dk_at dksX4_quartersOf_0 4 rfl rfl)
theorem dX4_quartersOf_7 : decode cX4_quartersOf 7 = .ok (.iconst 0, 1) := dk_3 (dk_at dksX4_quartersOf_0 7 rfl rfl)
theorem dX4_quartersOf_8 : decode cX4_quartersOf 8 = .ok (.ireturn, 1) := dk_172 (dk_at dksX4_quartersOf_0 8 rfl rfl)
theorem dX4_quartersOf_9 : decode cX4_quartersOf 9 = .ok (.aload_n 0, 1) := dk_42 (dk_at dksX4_quartersOf_0 9 rfl rfl)
theorem dX4_quartersOf_10 : decode cX4_quartersOf 10 = .ok (.iload_n 1, 1) := dk_27 (dk_at dksX4_quartersOf_0 10 rfl rfl)
theorem dX4_quartersOf_11 : decode cX4_quartersOf 11 = .ok (.invokevirtual 316, 3) := dk_182 1 60 (dk_at dksX4_quartersOf_0 11 rfl rfl)
theorem dX4_quartersOf_14 : decode cX4_quartersOf 14 = .ok (.istore_n 2, 1) := dk_61 (dk_at dksX4_quartersOf_0 14 rfl rfl)
theorem dX4_quartersOf_15 : decode cX4_quartersOf 15 = .ok (.aload_n 0, 1) := dk_42 (dk_at dksX4_quartersOf_0 15 rfl rfl)
theorem dX4_quartersOf_16 : decode cX4_quartersOf 16 = .ok (.iload_n 2, 1) := dk_28 (dk_at dksX4_quartersOf_0 16 rfl rfl)
theorem dX4_quartersOf_17 : decode cX4_quartersOf 17 = .ok (.aload_n 0, 1) := dk_42 (dk_at dksX4_quartersOf_0 17 rfl rfl)
theorem dX4_quartersOf_18 : decode cX4_quartersOf 18 = .ok (.iload_n 1, 1) := dk_27 (dk_at dksX4_quartersOf_0 18 rfl rfl)
theorem dX4_quartersOf_19 : decode cX4_quartersOf 19 = .ok (.invokevirtual 319, 3) := dk_182 1 63 (dk_at dksX4_quartersOf_0 19 rfl rfl)
theorem dX4_quartersOf_22 : decode cX4_quartersOf 22 = .ok (.invokevirtual 332, 3) := dk_182 1 76 (dk_at dksX4_quartersOf_1 0 rfl rfl)
theorem dX4_quartersOf_25 : decode cX4_quartersOf 25 = .ok (.istore_n 3, 1) := dk_62 (dk_at dksX4_quartersOf_1 3 rfl rfl)
theorem dX4_quartersOf_26 : decode cX4_quartersOf 26 = .ok (.iconst 0, 1) := dk_3 (dk_at dksX4_quartersOf_1 4 rfl rfl)
theorem dX4_quartersOf_27 : decode cX4_quartersOf 27 = .ok (.istore 4, 2) := dk_54 4 (dk_at dksX4_quartersOf_1 5 rfl rfl)
theorem dX4_quartersOf_29 : decode cX4_quartersOf 29 = .ok (.iconst 0, 1) := dk_3 (dk_at dksX4_quartersOf_1 7 rfl rfl)
theorem dX4_quartersOf_30 : decode cX4_quartersOf 30 = .ok (.istore 5, 2) := dk_54 5 (dk_at dksX4_quartersOf_1 8 rfl rfl)
theorem dX4_quartersOf_32 : decode cX4_quartersOf 32 = .ok (.iload 5, 2) := dk_21 5 (dk_at dksX4_quartersOf_1 10 rfl rfl)
theorem dX4_quartersOf_34 : decode cX4_quartersOf 34 = .ok (.aload_n 0, 1) := dk_42 (dk_at dksX4_quartersOf_1 12 rfl rfl)
theorem dX4_quartersOf_35 : decode cX4_quartersOf 35 = .ok (.getfield 39, 3) := dk_180 0 39 (dk_at dksX4_quartersOf_1 13 rfl rfl)
theorem dX4_quartersOf_38 : decode cX4_quartersOf 38 = .ok (.iconst 2, 1) := dk_5 (dk_at dksX4_quartersOf_1 16 rfl rfl)
theorem dX4_quartersOf_39 : decode cX4_quartersOf 39 = .ok (.iaload, 1) := dk_46 (dk_at dksX4_quartersOf_1 17 rfl rfl)
theorem dX4_quartersOf_40 : decode cX4_quartersOf 40 = .ok (.if_icmp .ge 44, 3) := dk_162 0 44 (dk_at dksX4_quartersOf_1 18 rfl rfl)
theorem dX4_quartersOf_43 : decode cX4_quartersOf 43 = .ok (.iload 4, 2) := dk_21 4 (dk_at dksX4_quartersOf_1 21 rfl rfl)
theorem dX4_quartersOf_45 : decode cX4_quartersOf 45 = .ok (.iload 5, 2) := dk_21 5 (dk_at dksX4_quartersOf_2 0 rfl rfl)
theorem dX4_quartersOf_47 : decode cX4_quartersOf 47 = .ok (.iload_n 1, 1) := dk_27 (dk_at dksX4_quartersOf_2 2 rfl rfl)
theorem dX4_quartersOf_48 : decode cX4_quartersOf 48 = .ok (.if_icmp .eq 26, 3) := dk_159 0 26 (dk_at dksX4_quartersOf_2 3 rfl rfl)
theorem dX4_quartersOf_51 : decode cX4_quartersOf 51 = .ok (.aload_n 0, 1) := dk_42 (dk_at dksX4_quartersOf_2 6 rfl rfl)
theorem dX4_quartersOf_52 : decode cX4_quartersOf 52 = .ok (.iload 5, 2) := dk_21 5 (dk_at dksX4_quartersOf_2 7 rfl rfl)
theorem dX4_quartersOf_54 : decode cX4_quartersOf 54 = .ok (.invokevirtual 313, 3) := dk_182 1 57 (dk_at dksX4_quartersOf_2 9 rfl rfl)
theorem dX4_quartersOf_57 : decode cX4_quartersOf 57 = .ok (.ifCond .eq 17, 3) := dk_153 0 17 (dk_at dksX4_quartersOf_2 12 rfl rfl)
theorem dX4_quartersOf_60 : decode cX4_quartersOf 60 = .ok (.aload_n 0, 1) := dk_42 (dk_at dksX4_quartersOf_2 15 rfl rfl)
theorem dX4_quartersOf_61 : decode cX4_quartersOf 61 = .ok (.iload 5, 2) := dk_21 5 (dk_at dksX4_quartersOf_2 16 rfl rfl)
theorem dX4_quartersOf_63 : decode cX4_quartersOf 63 = .ok (.invokevirtual 316, 3) := dk_182 1 60 (dk_at dksX4_quartersOf_2 18 rfl rfl)
theorem dX4_quartersOf_66 : decode cX4_quartersOf 66 = .ok (.iload_n 2, 1) := dk_28 (dk_at dksX4_quartersOf_2 21 rfl rfl)
theorem dX4_quartersOf_67 : decode cX4_quartersOf 67 = .ok (.if_icmp .ne 7, 3) := dk_160 0 7 (dk_at dksX4_quartersOf_3 0 rfl rfl)
theorem dX4_quartersOf_70 : decode cX4_quartersOf 70 = .ok (.iconst 1, 1) := dk_4 (dk_at dksX4_quartersOf_3 3 rfl rfl)
theorem dX4_quartersOf_71 : decode cX4_quartersOf 71 = .ok (.goto 4, 3) := dk_167 0 4 (dk_at dksX4_quartersOf_3 4 rfl rfl)
theorem dX4_quartersOf_74 : decode cX4_quartersOf 74 = .ok (.iconst 0, 1) := dk_3 (dk_at dksX4_quartersOf_3 7 rfl rfl)
theorem dX4_quartersOf_75 : decode cX4_quartersOf 75 = .ok (.iadd, 1) := dk_96 (dk_at dksX4_quartersOf_3 8 rfl rfl)
theorem dX4_quartersOf_76 : decode cX4_quartersOf 76 = .ok (.istore 4, 2) := dk_54 4 (dk_at dksX4_quartersOf_3 9 rfl rfl)
theorem dX4_quartersOf_78 : decode cX4_quartersOf 78 = .ok (.iinc 5 1, 3) := dk_132 5 1 (dk_at dksX4_quartersOf_3 11 rfl rfl)
theorem dX4_quartersOf_81 : decode cX4_quartersOf 81 = .ok (.goto (-49), 3) := dk_167 255 207 (dk_at dksX4_quartersOf_3 14 rfl rfl)
theorem dX4_quartersOf_84 : decode cX4_quartersOf 84 = .ok (.aload_n 0, 1) := dk_42 (dk_at dksX4_quartersOf_3 17 rfl rfl)
theorem dX4_quartersOf_85 : decode cX4_quartersOf 85 = .ok (.getfield 36, 3) := dk_180 0 36 (dk_at dksX4_quartersOf_3 18 rfl rfl)
theorem dX4_quartersOf_88 : decode cX4_quartersOf 88 = .ok (.iconst 0, 1) := dk_3 (dk_at dksX4_quartersOf_3 21 rfl rfl)
theorem dX4_quartersOf_89 : decode cX4_quartersOf 89 = .ok (.iload_n 1, 1) := dk_27 (dk_at dksX4_quartersOf_3 22 rfl rfl)
theorem dX4_quartersOf_90 : decode cX4_quartersOf 90 = .ok (.i2l, 1) := dk_133 (dk_at dksX4_quartersOf_3 23 rfl rfl)
theorem dX4_quartersOf_91 : decode cX4_quartersOf 91 = .ok (.lastore, 1) := dk_80 (dk_at dksX4_quartersOf_4 0 rfl rfl)
theorem dX4_quartersOf_92 : decode cX4_quartersOf 92 = .ok (.aload_n 0, 1) := dk_42 (dk_at dksX4_quartersOf_4 1 rfl rfl)
theorem dX4_quartersOf_93 : decode cX4_quartersOf 93 = .ok (.getfield 36, 3) := dk_180 0 36 (dk_at dksX4_quartersOf_4 2 rfl rfl)
theorem dX4_quartersOf_96 : decode cX4_quartersOf 96 = .ok (.iconst 1, 1) := dk_4 (dk_at dksX4_quartersOf_4 5 rfl rfl)
theorem dX4_quartersOf_97 : decode cX4_quartersOf 97 = .ok (.iload_n 2, 1) := dk_28 (dk_at dksX4_quartersOf_4 6 rfl rfl)
theorem dX4_quartersOf_98 : decode cX4_quartersOf 98 = .ok (.i2l, 1) := dk_133 (dk_at dksX4_quartersOf_4 7 rfl rfl)
theorem dX4_quartersOf_99 : decode cX4_quartersOf 99 = .ok (.lastore, 1) := dk_80 (dk_at dksX4_quartersOf_4 8 rfl rfl)
theorem dX4_quartersOf_100 : decode cX4_quartersOf 100 = .ok (.aload_n 0, 1) := dk_42 (dk_at dksX4_quartersOf_4 9 rfl rfl)
theorem dX4_quartersOf_101 : decode cX4_quartersOf 101 = .ok (.getfield 36, 3) := dk_180 0 36 (dk_at dksX4_quartersOf_4 10 rfl rfl)
theorem dX4_quartersOf_104 : decode cX4_quartersOf 104 = .ok (.iconst 2, 1) := dk_5 (dk_at dksX4_quartersOf_4 13 rfl rfl)
theorem dX4_quartersOf_105 : decode cX4_quartersOf 105 = .ok (.iload_n 2, 1) := dk_28 (dk_at dksX4_quartersOf_4 14 rfl rfl)
theorem dX4_quartersOf_106 : decode cX4_quartersOf 106 = .ok (.aload_n 0, 1) := dk_42 (dk_at dksX4_quartersOf_4 15 rfl rfl)
theorem dX4_quartersOf_107 : decode cX4_quartersOf 107 = .ok (.getfield 39, 3) := dk_180 0 39 (dk_at dksX4_quartersOf_4 16 rfl rfl)
theorem dX4_quartersOf_110 : decode cX4_quartersOf 110 = .ok (.iconst 1, 1) := dk_4 (dk_at dksX4_quartersOf_4 19 rfl rfl)
theorem dX4_quartersOf_111 : decode cX4_quartersOf 111 = .ok (.iaload, 1) := dk_46 (dk_at dksX4_quartersOf_4 20 rfl rfl)
theorem dX4_quartersOf_112 : decode cX4_quartersOf 112 = .ok (.idiv, 1) := dk_108 (dk_at dksX4_quartersOf_4 21 rfl rfl)
theorem dX4_quartersOf_113 : decode cX4_quartersOf 113 = .ok (.i2l, 1) := dk_133 (dk_at dksX4_quartersOf_4 22 rfl rfl)
theorem dX4_quartersOf_114 : decode cX4_quartersOf 114 = .ok (.lastore, 1) := dk_80 (dk_at dksX4_quartersOf_4 23 rfl rfl)
theorem dX4_quartersOf_115 : decode cX4_quartersOf 115 = .ok (.aload_n 0, 1) := dk_42 (dk_at dksX4_quartersOf_5 0 rfl rfl)
theorem dX4_quartersOf_116 : decode cX4_quartersOf 116 = .ok (.getfield 36, 3) := dk_180 0 36 (dk_at dksX4_quartersOf_5 1 rfl rfl)
theorem dX4_quartersOf_119 : decode cX4_quartersOf 119 = .ok (.iconst 3, 1) := dk_6 (dk_at dksX4_quartersOf_5 4 rfl rfl)
theorem dX4_quartersOf_120 : decode cX4_quartersOf 120 = .ok (.iload_n 2, 1) := dk_28 (dk_at dksX4_quartersOf_5 5 rfl rfl)
theorem dX4_quartersOf_121 : decode cX4_quartersOf 121 = .ok (.aload_n 0, 1) := dk_42 (dk_at dksX4_quartersOf_5 6 rfl rfl)
theorem dX4_quartersOf_122 : decode cX4_quartersOf 122 = .ok (.getfield 39, 3) := dk_180 0 39 (dk_at dksX4_quartersOf_5 7 rfl rfl)
theorem dX4_quartersOf_125 : decode cX4_quartersOf 125 = .ok (.iconst 1, 1) := dk_4 (dk_at dksX4_quartersOf_5 10 rfl rfl)
theorem dX4_quartersOf_126 : decode cX4_quartersOf 126 = .ok (.iaload, 1) := dk_46 (dk_at dksX4_quartersOf_5 11 rfl rfl)
theorem dX4_quartersOf_127 : decode cX4_quartersOf 127 = .ok (.irem, 1) := dk_112 (dk_at dksX4_quartersOf_5 12 rfl rfl)
theorem dX4_quartersOf_128 : decode cX4_quartersOf 128 = .ok (.i2l, 1) := dk_133 (dk_at dksX4_quartersOf_5 13 rfl rfl)
theorem dX4_quartersOf_129 : decode cX4_quartersOf 129 = .ok (.lastore, 1) := dk_80 (dk_at dksX4_quartersOf_5 14 rfl rfl)
theorem dX4_quartersOf_130 : decode cX4_quartersOf 130 = .ok (.aload_n 0, 1) := dk_42 (dk_at dksX4_quartersOf_5 15 rfl rfl)
theorem dX4_quartersOf_131 : decode cX4_quartersOf 131 = .ok (.getfield 36, 3) := dk_180 0 36 (dk_at dksX4_quartersOf_5 16 rfl rfl)
theorem dX4_quartersOf_134 : decode cX4_quartersOf 134 = .ok (.iconst 4, 1) := dk_7 (dk_at dksX4_quartersOf_5 19 rfl rfl)
theorem dX4_quartersOf_135 : decode cX4_quartersOf 135 = .ok (.aload_n 0, 1) := dk_42 (dk_at dksX4_quartersOf_5 20 rfl rfl)
theorem dX4_quartersOf_136 : decode cX4_quartersOf 136 = .ok (.iload_n 1, 1) := dk_27 (dk_at dksX4_quartersOf_5 21 rfl rfl)
theorem dX4_quartersOf_137 : decode cX4_quartersOf 137 = .ok (.invokevirtual 319, 3) := dk_182 1 63 (dk_at dksX4_quartersOf_6 0 rfl rfl)
theorem dX4_quartersOf_140 : decode cX4_quartersOf 140 = .ok (.i2l, 1) := dk_133 (dk_at dksX4_quartersOf_6 3 rfl rfl)
theorem dX4_quartersOf_141 : decode cX4_quartersOf 141 = .ok (.lastore, 1) := dk_80 (dk_at dksX4_quartersOf_6 4 rfl rfl)
theorem dX4_quartersOf_142 : decode cX4_quartersOf 142 = .ok (.aload_n 0, 1) := dk_42 (dk_at dksX4_quartersOf_6 5 rfl rfl)
theorem dX4_quartersOf_143 : decode cX4_quartersOf 143 = .ok (.getfield 36, 3) := dk_180 0 36 (dk_at dksX4_quartersOf_6 6 rfl rfl)
theorem dX4_quartersOf_146 : decode cX4_quartersOf 146 = .ok (.iconst 5, 1) := dk_8 (dk_at dksX4_quartersOf_6 9 rfl rfl)
theorem dX4_quartersOf_147 : decode cX4_quartersOf 147 = .ok (.aload_n 0, 1) := dk_42 (dk_at dksX4_quartersOf_6 10 rfl rfl)
theorem dX4_quartersOf_148 : decode cX4_quartersOf 148 = .ok (.iload_n 1, 1) := dk_27 (dk_at dksX4_quartersOf_6 11 rfl rfl)
theorem dX4_quartersOf_149 : decode cX4_quartersOf 149 = .ok (.invokevirtual 300, 3) := dk_182 1 44 (dk_at dksX4_quartersOf_6 12 rfl rfl)
theorem dX4_quartersOf_152 : decode cX4_quartersOf 152 = .ok (.i2l, 1) := dk_133 (dk_at dksX4_quartersOf_6 15 rfl rfl)
theorem dX4_quartersOf_153 : decode cX4_quartersOf 153 = .ok (.lastore, 1) := dk_80 (dk_at dksX4_quartersOf_6 16 rfl rfl)
theorem dX4_quartersOf_154 : decode cX4_quartersOf 154 = .ok (.aload_n 0, 1) := dk_42 (dk_at dksX4_quartersOf_6 17 rfl rfl)
theorem dX4_quartersOf_155 : decode cX4_quartersOf 155 = .ok (.getfield 36, 3) := dk_180 0 36 (dk_at dksX4_quartersOf_6 18 rfl rfl)
theorem dX4_quartersOf_158 : decode cX4_quartersOf 158 = .ok (.bipush 6, 2) := dk_16 6 (dk_at dksX4_quartersOf_6 21 rfl rfl)
theorem dX4_quartersOf_160 : decode cX4_quartersOf 160 = .ok (.aload_n 0, 1) := dk_42 (dk_at dksX4_quartersOf_6 23 rfl rfl)
theorem dX4_quartersOf_161 : decode cX4_quartersOf 161 = .ok (.iload_n 2, 1) := dk_28 (dk_at dksX4_quartersOf_7 0 rfl rfl)
theorem dX4_quartersOf_162 : decode cX4_quartersOf 162 = .ok (.aload_n 0, 1) := dk_42 (dk_at dksX4_quartersOf_7 1 rfl rfl)
theorem dX4_quartersOf_163 : decode cX4_quartersOf 163 = .ok (.iload_n 1, 1) := dk_27 (dk_at dksX4_quartersOf_7 2 rfl rfl)
theorem dX4_quartersOf_164 : decode cX4_quartersOf 164 = .ok (.invokevirtual 319, 3) := dk_182 1 63 (dk_at dksX4_quartersOf_7 3 rfl rfl)
theorem dX4_quartersOf_167 : decode cX4_quartersOf 167 = .ok (.invokevirtual 303, 3) := dk_182 1 47 (dk_at dksX4_quartersOf_7 6 rfl rfl)
theorem dX4_quartersOf_170 : decode cX4_quartersOf 170 = .ok (.i2l, 1) := dk_133 (dk_at dksX4_quartersOf_7 9 rfl rfl)
theorem dX4_quartersOf_171 : decode cX4_quartersOf 171 = .ok (.lastore, 1) := dk_80 (dk_at dksX4_quartersOf_7 10 rfl rfl)
theorem dX4_quartersOf_172 : decode cX4_quartersOf 172 = .ok (.aload_n 0, 1) := dk_42 (dk_at dksX4_quartersOf_7 11 rfl rfl)
theorem dX4_quartersOf_173 : decode cX4_quartersOf 173 = .ok (.getfield 36, 3) := dk_180 0 36 (dk_at dksX4_quartersOf_7 12 rfl rfl)
theorem dX4_quartersOf_176 : decode cX4_quartersOf 176 = .ok (.bipush 7, 2) := dk_16 7 (dk_at dksX4_quartersOf_7 15 rfl rfl)
theorem dX4_quartersOf_178 : decode cX4_quartersOf 178 = .ok (.iload_n 3, 1) := dk_29 (dk_at dksX4_quartersOf_7 17 rfl rfl)
theorem dX4_quartersOf_179 : decode cX4_quartersOf 179 = .ok (.ifCond .lt 15, 3) := dk_155 0 15 (dk_at dksX4_quartersOf_7 18 rfl rfl)
theorem dX4_quartersOf_182 : decode cX4_quartersOf 182 = .ok (.aload_n 0, 1) := dk_42 (dk_at dksX4_quartersOf_7 21 rfl rfl)
theorem dX4_quartersOf_183 : decode cX4_quartersOf 183 = .ok (.iload_n 3, 1) := dk_29 (dk_at dksX4_quartersOf_7 22 rfl rfl)
theorem dX4_quartersOf_184 : decode cX4_quartersOf 184 = .ok (.invokevirtual 335, 3) := dk_182 1 79 (dk_at dksX4_quartersOf_8 0 rfl rfl)
theorem dX4_quartersOf_187 : decode cX4_quartersOf 187 = .ok (.ifCond .eq 7, 3) := dk_153 0 7 (dk_at dksX4_quartersOf_8 3 rfl rfl)
theorem dX4_quartersOf_190 : decode cX4_quartersOf 190 = .ok (.lconst 1, 1) := dk_10 (dk_at dksX4_quartersOf_8 6 rfl rfl)
theorem dX4_quartersOf_191 : decode cX4_quartersOf 191 = .ok (.goto 4, 3) := dk_167 0 4 (dk_at dksX4_quartersOf_8 7 rfl rfl)
theorem dX4_quartersOf_194 : decode cX4_quartersOf 194 = .ok (.lconst 0, 1) := dk_9 (dk_at dksX4_quartersOf_8 10 rfl rfl)
theorem dX4_quartersOf_195 : decode cX4_quartersOf 195 = .ok (.lastore, 1) := dk_80 (dk_at dksX4_quartersOf_8 11 rfl rfl)
theorem dX4_quartersOf_196 : decode cX4_quartersOf 196 = .ok (.aload_n 0, 1) := dk_42 (dk_at dksX4_quartersOf_8 12 rfl rfl)
theorem dX4_quartersOf_197 : decode cX4_quartersOf 197 = .ok (.getfield 36, 3) := dk_180 0 36 (dk_at dksX4_quartersOf_8 13 rfl rfl)
theorem dX4_quartersOf_200 : decode cX4_quartersOf 200 = .ok (.bipush 8, 2) := dk_16 8 (dk_at dksX4_quartersOf_8 16 rfl rfl)
theorem dX4_quartersOf_202 : decode cX4_quartersOf 202 = .ok (.iload 4, 2) := dk_21 4 (dk_at dksX4_quartersOf_8 18 rfl rfl)
theorem dX4_quartersOf_204 : decode cX4_quartersOf 204 = .ok (.i2l, 1) := dk_133 (dk_at dksX4_quartersOf_8 20 rfl rfl)
theorem dX4_quartersOf_205 : decode cX4_quartersOf 205 = .ok (.lastore, 1) := dk_80 (dk_at dksX4_quartersOf_8 21 rfl rfl)
theorem dX4_quartersOf_206 : decode cX4_quartersOf 206 = .ok (.aload_n 0, 1) := dk_42 (dk_at dksX4_quartersOf_8 22 rfl rfl)
theorem dX4_quartersOf_207 : decode cX4_quartersOf 207 = .ok (.getfield 36, 3) := dk_180 0 36 (dk_at dksX4_quartersOf_9 0 rfl rfl)
theorem dX4_quartersOf_210 : decode cX4_quartersOf 210 = .ok (.bipush 9, 2) := dk_16 9 (dk_at dksX4_quartersOf_9 3 rfl rfl)
theorem dX4_quartersOf_212 : decode cX4_quartersOf 212 = .ok (.aload_n 0, 1) := dk_42 (dk_at dksX4_quartersOf_9 5 rfl rfl)
theorem dX4_quartersOf_213 : decode cX4_quartersOf 213 = .ok (.getfield 39, 3) := dk_180 0 39 (dk_at dksX4_quartersOf_9 6 rfl rfl)
theorem dX4_quartersOf_216 : decode cX4_quartersOf 216 = .ok (.bipush 11, 2) := dk_16 11 (dk_at dksX4_quartersOf_9 9 rfl rfl)
theorem dX4_quartersOf_218 : decode cX4_quartersOf 218 = .ok (.bipush 7, 2) := dk_16 7 (dk_at dksX4_quartersOf_9 11 rfl rfl)
theorem dX4_quartersOf_220 : decode cX4_quartersOf 220 = .ok (.iload_n 1, 1) := dk_27 (dk_at dksX4_quartersOf_9 13 rfl rfl)
theorem dX4_quartersOf_221 : decode cX4_quartersOf 221 = .ok (.imul, 1) := dk_104 (dk_at dksX4_quartersOf_9 14 rfl rfl)
theorem dX4_quartersOf_222 : decode cX4_quartersOf 222 = .ok (.iadd, 1) := dk_96 (dk_at dksX4_quartersOf_9 15 rfl rfl)
theorem dX4_quartersOf_223 : decode cX4_quartersOf 223 = .ok (.bipush 6, 2) := dk_16 6 (dk_at dksX4_quartersOf_9 16 rfl rfl)
theorem dX4_quartersOf_225 : decode cX4_quartersOf 225 = .ok (.iadd, 1) := dk_96 (dk_at dksX4_quartersOf_9 18 rfl rfl)
theorem dX4_quartersOf_226 : decode cX4_quartersOf 226 = .ok (.iaload, 1) := dk_46 (dk_at dksX4_quartersOf_9 19 rfl rfl)
theorem dX4_quartersOf_227 : decode cX4_quartersOf 227 = .ok (.i2l, 1) := dk_133 (dk_at dksX4_quartersOf_9 20 rfl rfl)
theorem dX4_quartersOf_228 : decode cX4_quartersOf 228 = .ok (.lastore, 1) := dk_80 (dk_at dksX4_quartersOf_9 21 rfl rfl)
theorem dX4_quartersOf_229 : decode cX4_quartersOf 229 = .ok (.aload_n 0, 1) := dk_42 (dk_at dksX4_quartersOf_9 22 rfl rfl)
theorem dX4_quartersOf_230 : decode cX4_quartersOf 230 = .ok (.getfield 36, 3) := dk_180 0 36 (dk_at dksX4_quartersOf_10 0 rfl rfl)
theorem dX4_quartersOf_233 : decode cX4_quartersOf 233 = .ok (.bipush 10, 2) := dk_16 10 (dk_at dksX4_quartersOf_10 3 rfl rfl)
theorem dX4_quartersOf_235 : decode cX4_quartersOf 235 = .ok (.aload_n 0, 1) := dk_42 (dk_at dksX4_quartersOf_10 5 rfl rfl)
theorem dX4_quartersOf_236 : decode cX4_quartersOf 236 = .ok (.getfield 39, 3) := dk_180 0 39 (dk_at dksX4_quartersOf_10 6 rfl rfl)
theorem dX4_quartersOf_239 : decode cX4_quartersOf 239 = .ok (.bipush 10, 2) := dk_16 10 (dk_at dksX4_quartersOf_10 9 rfl rfl)
theorem dX4_quartersOf_241 : decode cX4_quartersOf 241 = .ok (.iaload, 1) := dk_46 (dk_at dksX4_quartersOf_10 11 rfl rfl)
theorem dX4_quartersOf_242 : decode cX4_quartersOf 242 = .ok (.i2l, 1) := dk_133 (dk_at dksX4_quartersOf_10 12 rfl rfl)
theorem dX4_quartersOf_243 : decode cX4_quartersOf 243 = .ok (.lastore, 1) := dk_80 (dk_at dksX4_quartersOf_10 13 rfl rfl)
theorem dX4_quartersOf_244 : decode cX4_quartersOf 244 = .ok (.aload_n 0, 1) := dk_42 (dk_at dksX4_quartersOf_10 14 rfl rfl)
theorem dX4_quartersOf_245 : decode cX4_quartersOf 245 = .ok (.aload_n 0, 1) := dk_42 (dk_at dksX4_quartersOf_10 15 rfl rfl)
theorem dX4_quartersOf_246 : decode cX4_quartersOf 246 = .ok (.getfield 42, 3) := dk_180 0 42 (dk_at dksX4_quartersOf_10 16 rfl rfl)
theorem dX4_quartersOf_249 : decode cX4_quartersOf 249 = .ok (.invokevirtual 338, 3) := dk_182 1 82 (dk_at dksX4_quartersOf_10 19 rfl rfl)
theorem dX4_quartersOf_252 : decode cX4_quartersOf 252 = .ok (.ldc2_w 295, 3) := dk_20 1 39 (dk_at dksX4_quartersOf_11 0 rfl rfl)
theorem dX4_quartersOf_255 : decode cX4_quartersOf 255 = .ok (.land, 1) := dk_127 (dk_at dksX4_quartersOf_11 3 rfl rfl)
theorem dX4_quartersOf_256 : decode cX4_quartersOf 256 = .ok (.l2i, 1) := dk_136 (dk_at dksX4_quartersOf_11 4 rfl rfl)
theorem dX4_quartersOf_257 : decode cX4_quartersOf 257 = .ok (.ireturn, 1) := dk_172 (dk_at dksX4_quartersOf_11 5 rfl rfl)
abbrev cX4_nextOf : ByteArray := prog_19_method_60_code
def yX4_nextOf : MethodName := ⟨RX4, "nextOf", "(II)I"⟩
def dkwX4_nextOf_2 : List UInt8 := [4, 46, 96, 167, 0, 6, 27, 4, 100, 172]
abbrev dktX4_nextOf_2 : List UInt8 := dkwX4_nextOf_2 ++ []
def dkwX4_nextOf_1 : List UInt8 := [167, 0, 33, 28, 4, 160, 0, 9, 27, 4, 96, 167, 0, 22, 28, 5, 160, 0, 14, 27, 42, 180, 0, 39]
abbrev dktX4_nextOf_1 : List UInt8 := dkwX4_nextOf_1 ++ dktX4_nextOf_2
def dkwX4_nextOf_0 : List UInt8 := [42, 27, 28, 182, 1, 47, 154, 0, 5, 2, 172, 28, 154, 0, 14, 27, 42, 180, 0, 39, 4, 46, 100]
abbrev dktX4_nextOf_0 : List UInt8 := dkwX4_nextOf_0 ++ dktX4_nextOf_1
theorem dksX4_nextOf_0 : cX4_nextOf.data.toList.drop 0 = dktX4_nextOf_0 := by decide +kernel
theorem dksX4_nextOf_1 : cX4_nextOf.data.toList.drop 23 = dktX4_nextOf_1 := dk_seg dksX4_nextOf_0 23 rfl rfl
theorem dksX4_nextOf_2 : cX4_nextOf.data.toList.drop 47 = dktX4_nextOf_2 := dk_seg dksX4_nextOf_1 24 rfl rfl
theorem dX4_nextOf_0 : decode cX4_nextOf 0 = .ok (.aload_n 0, 1) := dk_42 (dk_at dksX4_nextOf_0 0 rfl rfl)
theorem dX4_nextOf_1 : decode cX4_nextOf 1 = .ok (.iload_n 1, 1) := dk_27 (dk_at dksX4_nextOf_0 1 rfl rfl)
theorem dX4_nextOf_2 : decode cX4_nextOf 2 = .ok (.iload_n 2, 1) := dk_28 (dk_at dksX4_nextOf_0 2 rfl rfl)
theorem dX4_nextOf_3 : decode cX4_nextOf 3 = .ok (.invokevirtual 303, 3) := dk_182 1 47 (dk_at dksX4_nextOf_0 3 rfl rfl)
theorem dX4_nextOf_6 : decode cX4_nextOf 6 = .ok (.ifCond .ne 5, 3) := dk_154 0 5 (dk_at dksX4_nextOf_0 6 rfl rfl)
theorem dX4_nextOf_9 : decode cX4_nextOf 9 = .ok (.iconst (-1), 1) := dk_2 (dk_at dksX4_nextOf_0 9 rfl rfl)
theorem dX4_nextOf_10 : decode cX4_nextOf 10 = .ok (.ireturn, 1) := dk_172 (dk_at dksX4_nextOf_0 10 rfl rfl)
theorem dX4_nextOf_11 : decode cX4_nextOf 11 = .ok (.iload_n 2, 1) := dk_28 (dk_at dksX4_nextOf_0 11 rfl rfl)
theorem dX4_nextOf_12 : decode cX4_nextOf 12 = .ok (.ifCond .ne 14, 3) := dk_154 0 14 (dk_at dksX4_nextOf_0 12 rfl rfl)
theorem dX4_nextOf_15 : decode cX4_nextOf 15 = .ok (.iload_n 1, 1) := dk_27 (dk_at dksX4_nextOf_0 15 rfl rfl)
theorem dX4_nextOf_16 : decode cX4_nextOf 16 = .ok (.aload_n 0, 1) := dk_42 (dk_at dksX4_nextOf_0 16 rfl rfl)
theorem dX4_nextOf_17 : decode cX4_nextOf 17 = .ok (.getfield 39, 3) := dk_180 0 39 (dk_at dksX4_nextOf_0 17 rfl rfl)
theorem dX4_nextOf_20 : decode cX4_nextOf 20 = .ok (.iconst 1, 1) := dk_4 (dk_at dksX4_nextOf_0 20 rfl rfl)
theorem dX4_nextOf_21 : decode cX4_nextOf 21 = .ok (.iaload, 1) := dk_46 (dk_at dksX4_nextOf_0 21 rfl rfl)
theorem dX4_nextOf_22 : decode cX4_nextOf 22 = .ok (.isub, 1) := dk_100 (dk_at dksX4_nextOf_0 22 rfl rfl)
theorem dX4_nextOf_23 : decode cX4_nextOf 23 = .ok (.goto 33, 3) := dk_167 0 33 (dk_at dksX4_nextOf_1 0 rfl rfl)
theorem dX4_nextOf_26 : decode cX4_nextOf 26 = .ok (.iload_n 2, 1) := dk_28 (dk_at dksX4_nextOf_1 3 rfl rfl)
theorem dX4_nextOf_27 : decode cX4_nextOf 27 = .ok (.iconst 1, 1) := dk_4 (dk_at dksX4_nextOf_1 4 rfl rfl)
theorem dX4_nextOf_28 : decode cX4_nextOf 28 = .ok (.if_icmp .ne 9, 3) := dk_160 0 9 (dk_at dksX4_nextOf_1 5 rfl rfl)
theorem dX4_nextOf_31 : decode cX4_nextOf 31 = .ok (.iload_n 1, 1) := dk_27 (dk_at dksX4_nextOf_1 8 rfl rfl)
theorem dX4_nextOf_32 : decode cX4_nextOf 32 = .ok (.iconst 1, 1) := dk_4 (dk_at dksX4_nextOf_1 9 rfl rfl)
theorem dX4_nextOf_33 : decode cX4_nextOf 33 = .ok (.iadd, 1) := dk_96 (dk_at dksX4_nextOf_1 10 rfl rfl)
theorem dX4_nextOf_34 : decode cX4_nextOf 34 = .ok (.goto 22, 3) := dk_167 0 22 (dk_at dksX4_nextOf_1 11 rfl rfl)
theorem dX4_nextOf_37 : decode cX4_nextOf 37 = .ok (.iload_n 2, 1) := dk_28 (dk_at dksX4_nextOf_1 14 rfl rfl)
theorem dX4_nextOf_38 : decode cX4_nextOf 38 = .ok (.iconst 2, 1) := dk_5 (dk_at dksX4_nextOf_1 15 rfl rfl)
theorem dX4_nextOf_39 : decode cX4_nextOf 39 = .ok (.if_icmp .ne 14, 3) := dk_160 0 14 (dk_at dksX4_nextOf_1 16 rfl rfl)
theorem dX4_nextOf_42 : decode cX4_nextOf 42 = .ok (.iload_n 1, 1) := dk_27 (dk_at dksX4_nextOf_1 19 rfl rfl)
theorem dX4_nextOf_43 : decode cX4_nextOf 43 = .ok (.aload_n 0, 1) := dk_42 (dk_at dksX4_nextOf_1 20 rfl rfl)
theorem dX4_nextOf_44 : decode cX4_nextOf 44 = .ok (.getfield 39, 3) := dk_180 0 39 (dk_at dksX4_nextOf_1 21 rfl rfl)
theorem dX4_nextOf_47 : decode cX4_nextOf 47 = .ok (.iconst 1, 1) := dk_4 (dk_at dksX4_nextOf_2 0 rfl rfl)
theorem dX4_nextOf_48 : decode cX4_nextOf 48 = .ok (.iaload, 1) := dk_46 (dk_at dksX4_nextOf_2 1 rfl rfl)
theorem dX4_nextOf_49 : decode cX4_nextOf 49 = .ok (.iadd, 1) := dk_96 (dk_at dksX4_nextOf_2 2 rfl rfl)
theorem dX4_nextOf_50 : decode cX4_nextOf 50 = .ok (.goto 6, 3) := dk_167 0 6 (dk_at dksX4_nextOf_2 3 rfl rfl)
theorem dX4_nextOf_53 : decode cX4_nextOf 53 = .ok (.iload_n 1, 1) := dk_27 (dk_at dksX4_nextOf_2 6 rfl rfl)
theorem dX4_nextOf_54 : decode cX4_nextOf 54 = .ok (.iconst 1, 1) := dk_4 (dk_at dksX4_nextOf_2 7 rfl rfl)
theorem dX4_nextOf_55 : decode cX4_nextOf 55 = .ok (.isub, 1) := dk_100 (dk_at dksX4_nextOf_2 8 rfl rfl)
theorem dX4_nextOf_56 : decode cX4_nextOf 56 = .ok (.ireturn, 1) := dk_172 (dk_at dksX4_nextOf_2 9 rfl rfl)
abbrev cX4_marginOf : ByteArray := prog_19_method_59_code
def yX4_marginOf : MethodName := ⟨RX4, "marginOf", "(II)I"⟩
def dkwX4_marginOf_2 : List UInt8 := [27, 29, 108, 172, 29, 4, 100, 27, 29, 112, 100, 172, 29, 4, 100, 27, 29, 108, 100, 172, 27, 29, 112, 172]
abbrev dktX4_marginOf_2 : List UInt8 := dkwX4_marginOf_2 ++ []
def dkwX4_marginOf_1 : List UInt8 := [170, 0, 0, 0, 0, 0, 0, 48, 0, 0, 0, 0, 0, 0, 0, 2, 0, 0, 0, 28, 0, 0, 0, 32, 0, 0, 0, 40]
abbrev dktX4_marginOf_1 : List UInt8 := dkwX4_marginOf_1 ++ dktX4_marginOf_2
def dkwX4_marginOf_0 : List UInt8 := [42, 180, 0, 39, 4, 46, 62, 28]
abbrev dktX4_marginOf_0 : List UInt8 := dkwX4_marginOf_0 ++ dktX4_marginOf_1
theorem dksX4_marginOf_0 : cX4_marginOf.data.toList.drop 0 = dktX4_marginOf_0 := by decide +kernel
theorem dksX4_marginOf_1 : cX4_marginOf.data.toList.drop 8 = dktX4_marginOf_1 := dk_seg dksX4_marginOf_0 8 rfl rfl
theorem dksX4_marginOf_2 : cX4_marginOf.data.toList.drop 36 = dktX4_marginOf_2 := dk_seg dksX4_marginOf_1 28 rfl rfl
theorem dX4_marginOf_0 : decode cX4_marginOf 0 = .ok (.aload_n 0, 1) := dk_42 (dk_at dksX4_marginOf_0 0 rfl rfl)
theorem dX4_marginOf_1 : decode cX4_marginOf 1 = .ok (.getfield 39, 3) := dk_180 0 39 (dk_at dksX4_marginOf_0 1 rfl rfl)
theorem dX4_marginOf_4 : decode cX4_marginOf 4 = .ok (.iconst 1, 1) := dk_4 (dk_at dksX4_marginOf_0 4 rfl rfl)
theorem dX4_marginOf_5 : decode cX4_marginOf 5 = .ok (.iaload, 1) := dk_46 (dk_at dksX4_marginOf_0 5 rfl rfl)
theorem dX4_marginOf_6 : decode cX4_marginOf 6 = .ok (.istore_n 3, 1) := dk_62 (dk_at dksX4_marginOf_0 6 rfl rfl)
theorem dX4_marginOf_7 : decode cX4_marginOf 7 = .ok (.iload_n 2, 1) := dk_28 (dk_at dksX4_marginOf_0 7 rfl rfl)
theorem dX4_marginOf_8 : decode cX4_marginOf 8 = .ok (.tableswitch 48 0 2 #[28, 32, 40], 28) := by decide +kernel
theorem dX4_marginOf_36 : decode cX4_marginOf 36 = .ok (.iload_n 1, 1) := dk_27 (dk_at dksX4_marginOf_2 0 rfl rfl)
theorem dX4_marginOf_37 : decode cX4_marginOf 37 = .ok (.iload_n 3, 1) := dk_29 (dk_at dksX4_marginOf_2 1 rfl rfl)
theorem dX4_marginOf_38 : decode cX4_marginOf 38 = .ok (.idiv, 1) := dk_108 (dk_at dksX4_marginOf_2 2 rfl rfl)
theorem dX4_marginOf_39 : decode cX4_marginOf 39 = .ok (.ireturn, 1) := dk_172 (dk_at dksX4_marginOf_2 3 rfl rfl)
theorem dX4_marginOf_40 : decode cX4_marginOf 40 = .ok (.iload_n 3, 1) := dk_29 (dk_at dksX4_marginOf_2 4 rfl rfl)
theorem dX4_marginOf_41 : decode cX4_marginOf 41 = .ok (.iconst 1, 1) := dk_4 (dk_at dksX4_marginOf_2 5 rfl rfl)
theorem dX4_marginOf_42 : decode cX4_marginOf 42 = .ok (.isub, 1) := dk_100 (dk_at dksX4_marginOf_2 6 rfl rfl)
theorem dX4_marginOf_43 : decode cX4_marginOf 43 = .ok (.iload_n 1, 1) := dk_27 (dk_at dksX4_marginOf_2 7 rfl rfl)
theorem dX4_marginOf_44 : decode cX4_marginOf 44 = .ok (.iload_n 3, 1) := dk_29 (dk_at dksX4_marginOf_2 8 rfl rfl)
theorem dX4_marginOf_45 : decode cX4_marginOf 45 = .ok (.irem, 1) := dk_112 (dk_at dksX4_marginOf_2 9 rfl rfl)
theorem dX4_marginOf_46 : decode cX4_marginOf 46 = .ok (.isub, 1) := dk_100 (dk_at dksX4_marginOf_2 10 rfl rfl)
theorem dX4_marginOf_47 : decode cX4_marginOf 47 = .ok (.ireturn, 1) := dk_172 (dk_at dksX4_marginOf_2 11 rfl rfl)
theorem dX4_marginOf_48 : decode cX4_marginOf 48 = .ok (.iload_n 3, 1) := dk_29 (dk_at dksX4_marginOf_2 12 rfl rfl)
theorem dX4_marginOf_49 : decode cX4_marginOf 49 = .ok (.iconst 1, 1) := dk_4 (dk_at dksX4_marginOf_2 13 rfl rfl)
theorem dX4_marginOf_50 : decode cX4_marginOf 50 = .ok (.isub, 1) := dk_100 (dk_at dksX4_marginOf_2 14 rfl rfl)
theorem dX4_marginOf_51 : decode cX4_marginOf 51 = .ok (.iload_n 1, 1) := dk_27 (dk_at dksX4_marginOf_2 15 rfl rfl)
theorem dX4_marginOf_52 : decode cX4_marginOf 52 = .ok (.iload_n 3, 1) := dk_29 (dk_at dksX4_marginOf_2 16 rfl rfl)
theorem dX4_marginOf_53 : decode cX4_marginOf 53 = .ok (.idiv, 1) := dk_108 (dk_at dksX4_marginOf_2 17 rfl rfl)
theorem dX4_marginOf_54 : decode cX4_marginOf 54 = .ok (.isub, 1) := dk_100 (dk_at dksX4_marginOf_2 18 rfl rfl)
theorem dX4_marginOf_55 : decode cX4_marginOf 55 = .ok (.ireturn, 1) := dk_172 (dk_at dksX4_marginOf_2 19 rfl rfl)
theorem dX4_marginOf_56 : decode cX4_marginOf 56 = .ok (.iload_n 1, 1) := dk_27 (dk_at dksX4_marginOf_2 20 rfl rfl)
theorem dX4_marginOf_57 : decode cX4_marginOf 57 = .ok (.iload_n 3, 1) := dk_29 (dk_at dksX4_marginOf_2 21 rfl rfl)
theorem dX4_marginOf_58 : decode cX4_marginOf 58 = .ok (.irem, 1) := dk_112 (dk_at dksX4_marginOf_2 22 rfl rfl)
theorem dX4_marginOf_59 : decode cX4_marginOf 59 = .ok (.ireturn, 1) := dk_172 (dk_at dksX4_marginOf_2 23 rfl rfl)
abbrev cX4_isStone : ByteArray := prog_19_method_63_code
def yX4_isStone : MethodName := ⟨RX4, "isStone", "(I)Z"⟩
def dkwX4_isStone_0 : List UInt8 := [42, 180, 0, 39, 16, 50, 27, 96, 46, 4, 160, 0, 7, 4, 167, 0, 4, 3, 172]
abbrev dktX4_isStone_0 : List UInt8 := dkwX4_isStone_0 ++ []
theorem dksX4_isStone_0 : cX4_isStone.data.toList.drop 0 = dktX4_isStone_0 := by decide +kernel
theorem dX4_isStone_0 : decode cX4_isStone 0 = .ok (.aload_n 0, 1) := dk_42 (dk_at dksX4_isStone_0 0 rfl rfl)
theorem dX4_isStone_1 : decode cX4_isStone 1 = .ok (.getfield 39, 3) := dk_180 0 39 (dk_at dksX4_isStone_0 1 rfl rfl)
theorem dX4_isStone_4 : decode cX4_isStone 4 = .ok (.bipush 50, 2) := dk_16 50 (dk_at dksX4_isStone_0 4 rfl rfl)
theorem dX4_isStone_6 : decode cX4_isStone 6 = .ok (.iload_n 1, 1) := dk_27 (dk_at dksX4_isStone_0 6 rfl rfl)
theorem dX4_isStone_7 : decode cX4_isStone 7 = .ok (.iadd, 1) := dk_96 (dk_at dksX4_isStone_0 7 rfl rfl)
theorem dX4_isStone_8 : decode cX4_isStone 8 = .ok (.iaload, 1) := dk_46 (dk_at dksX4_isStone_0 8 rfl rfl)
theorem dX4_isStone_9 : decode cX4_isStone 9 = .ok (.iconst 1, 1) := dk_4 (dk_at dksX4_isStone_0 9 rfl rfl)
theorem dX4_isStone_10 : decode cX4_isStone 10 = .ok (.if_icmp .ne 7, 3) := dk_160 0 7 (dk_at dksX4_isStone_0 10 rfl rfl)
theorem dX4_isStone_13 : decode cX4_isStone 13 = .ok (.iconst 1, 1) := dk_4 (dk_at dksX4_isStone_0 13 rfl rfl)
theorem dX4_isStone_14 : decode cX4_isStone 14 = .ok (.goto 4, 3) := dk_167 0 4 (dk_at dksX4_isStone_0 14 rfl rfl)
theorem dX4_isStone_17 : decode cX4_isStone 17 = .ok (.iconst 0, 1) := dk_3 (dk_at dksX4_isStone_0 17 rfl rfl)
theorem dX4_isStone_18 : decode cX4_isStone 18 = .ok (.ireturn, 1) := dk_172 (dk_at dksX4_isStone_0 18 rfl rfl)
abbrev cX4_summedBy : ByteArray := prog_19_method_69_code
def yX4_summedBy : MethodName := ⟨RX4, "summedBy", "(I)J"⟩
def dkwX4_summedBy_3 : List UInt8 := [29, 4, 96, 46, 182, 1, 72, 173, 132, 2, 1, 167, 255, 177, 9, 173]
abbrev dktX4_summedBy_3 : List UInt8 := dkwX4_summedBy_3 ++ []
def dkwX4_summedBy_2 : List UInt8 := [29, 6, 96, 46, 182, 1, 72, 10, 148, 154, 0, 23, 42, 27, 42, 180, 0, 20, 29, 46, 42, 180, 0, 20]
abbrev dktX4_summedBy_2 : List UInt8 := dkwX4_summedBy_2 ++ dktX4_summedBy_3
def dkwX4_summedBy_1 : List UInt8 := [180, 0, 20, 29, 5, 96, 46, 155, 0, 29, 42, 27, 42, 180, 0, 20, 29, 5, 96, 46, 42, 180, 0, 20]
abbrev dktX4_summedBy_1 : List UInt8 := dkwX4_summedBy_1 ++ dktX4_summedBy_2
def dkwX4_summedBy_0 : List UInt8 := [3, 61, 28, 42, 180, 0, 23, 27, 46, 162, 0, 75, 16, 48, 27, 104, 7, 28, 104, 96, 62, 42]
abbrev dktX4_summedBy_0 : List UInt8 := dkwX4_summedBy_0 ++ dktX4_summedBy_1
theorem dksX4_summedBy_0 : cX4_summedBy.data.toList.drop 0 = dktX4_summedBy_0 := by decide +kernel
theorem dksX4_summedBy_1 : cX4_summedBy.data.toList.drop 22 = dktX4_summedBy_1 := dk_seg dksX4_summedBy_0 22 rfl rfl
theorem dksX4_summedBy_2 : cX4_summedBy.data.toList.drop 46 = dktX4_summedBy_2 := dk_seg dksX4_summedBy_1 24 rfl rfl
theorem dksX4_summedBy_3 : cX4_summedBy.data.toList.drop 70 = dktX4_summedBy_3 := dk_seg dksX4_summedBy_2 24 rfl rfl
theorem dX4_summedBy_0 : decode cX4_summedBy 0 = .ok (.iconst 0, 1) := dk_3 (dk_at dksX4_summedBy_0 0 rfl rfl)
theorem dX4_summedBy_1 : decode cX4_summedBy 1 = .ok (.istore_n 2, 1) := dk_61 (dk_at dksX4_summedBy_0 1 rfl rfl)
theorem dX4_summedBy_2 : decode cX4_summedBy 2 = .ok (.iload_n 2, 1) := dk_28 (dk_at dksX4_summedBy_0 2 rfl rfl)
theorem dX4_summedBy_3 : decode cX4_summedBy 3 = .ok (.aload_n 0, 1) := dk_42 (dk_at dksX4_summedBy_0 3 rfl rfl)
theorem dX4_summedBy_4 : decode cX4_summedBy 4 = .ok (.getfield 23, 3) := dk_180 0 23 (dk_at dksX4_summedBy_0 4 rfl rfl)
theorem dX4_summedBy_7 : decode cX4_summedBy 7 = .ok (.iload_n 1, 1) := dk_27 (dk_at dksX4_summedBy_0 7 rfl rfl)
theorem dX4_summedBy_8 : decode cX4_summedBy 8 = .ok (.iaload, 1) := dk_46 (dk_at dksX4_summedBy_0 8 rfl rfl)
theorem dX4_summedBy_9 : decode cX4_summedBy 9 = .ok (.if_icmp .ge 75, 3) := dk_162 0 75 (dk_at dksX4_summedBy_0 9 rfl rfl)
theorem dX4_summedBy_12 : decode cX4_summedBy 12 = .ok (.bipush 48, 2) := dk_16 48 (dk_at dksX4_summedBy_0 12 rfl rfl)
theorem dX4_summedBy_14 : decode cX4_summedBy 14 = .ok (.iload_n 1, 1) := dk_27 (dk_at dksX4_summedBy_0 14 rfl rfl)
theorem dX4_summedBy_15 : decode cX4_summedBy 15 = .ok (.imul, 1) := dk_104 (dk_at dksX4_summedBy_0 15 rfl rfl)
theorem dX4_summedBy_16 : decode cX4_summedBy 16 = .ok (.iconst 4, 1) := dk_7 (dk_at dksX4_summedBy_0 16 rfl rfl)
theorem dX4_summedBy_17 : decode cX4_summedBy 17 = .ok (.iload_n 2, 1) := dk_28 (dk_at dksX4_summedBy_0 17 rfl rfl)
theorem dX4_summedBy_18 : decode cX4_summedBy 18 = .ok (.imul, 1) := dk_104 (dk_at dksX4_summedBy_0 18 rfl rfl)
theorem dX4_summedBy_19 : decode cX4_summedBy 19 = .ok (.iadd, 1) := dk_96 (dk_at dksX4_summedBy_0 19 rfl rfl)
theorem dX4_summedBy_20 : decode cX4_summedBy 20 = .ok (.istore_n 3, 1) := dk_62 (dk_at dksX4_summedBy_0 20 rfl rfl)
theorem dX4_summedBy_21 : decode cX4_summedBy 21 = .ok (.aload_n 0, 1) := dk_42 (dk_at dksX4_summedBy_0 21 rfl rfl)
theorem dX4_summedBy_22 : decode cX4_summedBy 22 = .ok (.getfield 20, 3) := dk_180 0 20 (dk_at dksX4_summedBy_1 0 rfl rfl)
theorem dX4_summedBy_25 : decode cX4_summedBy 25 = .ok (.iload_n 3, 1) := dk_29 (dk_at dksX4_summedBy_1 3 rfl rfl)
theorem dX4_summedBy_26 : decode cX4_summedBy 26 = .ok (.iconst 2, 1) := dk_5 (dk_at dksX4_summedBy_1 4 rfl rfl)
theorem dX4_summedBy_27 : decode cX4_summedBy 27 = .ok (.iadd, 1) := dk_96 (dk_at dksX4_summedBy_1 5 rfl rfl)
theorem dX4_summedBy_28 : decode cX4_summedBy 28 = .ok (.iaload, 1) := dk_46 (dk_at dksX4_summedBy_1 6 rfl rfl)
theorem dX4_summedBy_29 : decode cX4_summedBy 29 = .ok (.ifCond .lt 29, 3) := dk_155 0 29 (dk_at dksX4_summedBy_1 7 rfl rfl)
theorem dX4_summedBy_32 : decode cX4_summedBy 32 = .ok (.aload_n 0, 1) := dk_42 (dk_at dksX4_summedBy_1 10 rfl rfl)
theorem dX4_summedBy_33 : decode cX4_summedBy 33 = .ok (.iload_n 1, 1) := dk_27 (dk_at dksX4_summedBy_1 11 rfl rfl)
theorem dX4_summedBy_34 : decode cX4_summedBy 34 = .ok (.aload_n 0, 1) := dk_42 (dk_at dksX4_summedBy_1 12 rfl rfl)
theorem dX4_summedBy_35 : decode cX4_summedBy 35 = .ok (.getfield 20, 3) := dk_180 0 20 (dk_at dksX4_summedBy_1 13 rfl rfl)
theorem dX4_summedBy_38 : decode cX4_summedBy 38 = .ok (.iload_n 3, 1) := dk_29 (dk_at dksX4_summedBy_1 16 rfl rfl)
theorem dX4_summedBy_39 : decode cX4_summedBy 39 = .ok (.iconst 2, 1) := dk_5 (dk_at dksX4_summedBy_1 17 rfl rfl)
theorem dX4_summedBy_40 : decode cX4_summedBy 40 = .ok (.iadd, 1) := dk_96 (dk_at dksX4_summedBy_1 18 rfl rfl)
theorem dX4_summedBy_41 : decode cX4_summedBy 41 = .ok (.iaload, 1) := dk_46 (dk_at dksX4_summedBy_1 19 rfl rfl)
theorem dX4_summedBy_42 : decode cX4_summedBy 42 = .ok (.aload_n 0, 1) := dk_42 (dk_at dksX4_summedBy_1 20 rfl rfl)
theorem dX4_summedBy_43 : decode cX4_summedBy 43 = .ok (.getfield 20, 3) := dk_180 0 20 (dk_at dksX4_summedBy_1 21 rfl rfl)
theorem dX4_summedBy_46 : decode cX4_summedBy 46 = .ok (.iload_n 3, 1) := dk_29 (dk_at dksX4_summedBy_2 0 rfl rfl)
theorem dX4_summedBy_47 : decode cX4_summedBy 47 = .ok (.iconst 3, 1) := dk_6 (dk_at dksX4_summedBy_2 1 rfl rfl)
theorem dX4_summedBy_48 : decode cX4_summedBy 48 = .ok (.iadd, 1) := dk_96 (dk_at dksX4_summedBy_2 2 rfl rfl)
theorem dX4_summedBy_49 : decode cX4_summedBy 49 = .ok (.iaload, 1) := dk_46 (dk_at dksX4_summedBy_2 3 rfl rfl)
theorem dX4_summedBy_50 : decode cX4_summedBy 50 = .ok (.invokevirtual 328, 3) := dk_182 1 72 (dk_at dksX4_summedBy_2 4 rfl rfl)
theorem dX4_summedBy_53 : decode cX4_summedBy 53 = .ok (.lconst 1, 1) := dk_10 (dk_at dksX4_summedBy_2 7 rfl rfl)
theorem dX4_summedBy_54 : decode cX4_summedBy 54 = .ok (.lcmp, 1) := dk_148 (dk_at dksX4_summedBy_2 8 rfl rfl)
theorem dX4_summedBy_55 : decode cX4_summedBy 55 = .ok (.ifCond .ne 23, 3) := dk_154 0 23 (dk_at dksX4_summedBy_2 9 rfl rfl)
theorem dX4_summedBy_58 : decode cX4_summedBy 58 = .ok (.aload_n 0, 1) := dk_42 (dk_at dksX4_summedBy_2 12 rfl rfl)
theorem dX4_summedBy_59 : decode cX4_summedBy 59 = .ok (.iload_n 1, 1) := dk_27 (dk_at dksX4_summedBy_2 13 rfl rfl)
theorem dX4_summedBy_60 : decode cX4_summedBy 60 = .ok (.aload_n 0, 1) := dk_42 (dk_at dksX4_summedBy_2 14 rfl rfl)
theorem dX4_summedBy_61 : decode cX4_summedBy 61 = .ok (.getfield 20, 3) := dk_180 0 20 (dk_at dksX4_summedBy_2 15 rfl rfl)
theorem dX4_summedBy_64 : decode cX4_summedBy 64 = .ok (.iload_n 3, 1) := dk_29 (dk_at dksX4_summedBy_2 18 rfl rfl)
theorem dX4_summedBy_65 : decode cX4_summedBy 65 = .ok (.iaload, 1) := dk_46 (dk_at dksX4_summedBy_2 19 rfl rfl)
theorem dX4_summedBy_66 : decode cX4_summedBy 66 = .ok (.aload_n 0, 1) := dk_42 (dk_at dksX4_summedBy_2 20 rfl rfl)
theorem dX4_summedBy_67 : decode cX4_summedBy 67 = .ok (.getfield 20, 3) := dk_180 0 20 (dk_at dksX4_summedBy_2 21 rfl rfl)
theorem dX4_summedBy_70 : decode cX4_summedBy 70 = .ok (.iload_n 3, 1) := dk_29 (dk_at dksX4_summedBy_3 0 rfl rfl)
theorem dX4_summedBy_71 : decode cX4_summedBy 71 = .ok (.iconst 1, 1) := dk_4 (dk_at dksX4_summedBy_3 1 rfl rfl)
theorem dX4_summedBy_72 : decode cX4_summedBy 72 = .ok (.iadd, 1) := dk_96 (dk_at dksX4_summedBy_3 2 rfl rfl)
theorem dX4_summedBy_73 : decode cX4_summedBy 73 = .ok (.iaload, 1) := dk_46 (dk_at dksX4_summedBy_3 3 rfl rfl)
theorem dX4_summedBy_74 : decode cX4_summedBy 74 = .ok (.invokevirtual 328, 3) := dk_182 1 72 (dk_at dksX4_summedBy_3 4 rfl rfl)
theorem dX4_summedBy_77 : decode cX4_summedBy 77 = .ok (.lreturn, 1) := dk_173 (dk_at dksX4_summedBy_3 7 rfl rfl)
theorem dX4_summedBy_78 : decode cX4_summedBy 78 = .ok (.iinc 2 1, 3) := dk_132 2 1 (dk_at dksX4_summedBy_3 8 rfl rfl)
theorem dX4_summedBy_81 : decode cX4_summedBy 81 = .ok (.goto (-79), 3) := dk_167 255 177 (dk_at dksX4_summedBy_3 11 rfl rfl)
theorem dX4_summedBy_84 : decode cX4_summedBy 84 = .ok (.lconst 0, 1) := dk_9 (dk_at dksX4_summedBy_3 14 rfl rfl)
theorem dX4_summedBy_85 : decode cX4_summedBy 85 = .ok (.lreturn, 1) := dk_173 (dk_at dksX4_summedBy_3 15 rfl rfl)
abbrev cX4_reckons : ByteArray := prog_19_method_45_code
def yX4_reckons : MethodName := ⟨RX4, "reckons", "(III)J"⟩
def dkwX4_reckons_5 : List UInt8 := [21, 5, 22, 9, 22, 7, 184, 1, 29, 182, 1, 21, 132, 4, 1, 167, 255, 132, 42, 182, 1, 25, 173]
abbrev dktX4_reckons_5 : List UInt8 := dkwX4_reckons_5 ++ []
def dkwX4_reckons_4 : List UInt8 := [182, 1, 25, 101, 182, 1, 21, 167, 0, 28, 42, 182, 1, 25, 55, 7, 42, 182, 1, 25, 55, 9, 42]
abbrev dktX4_reckons_4 : List UInt8 := dkwX4_reckons_4 ++ dktX4_reckons_5
def dkwX4_reckons_3 : List UInt8 := [42, 180, 0, 36, 21, 6, 47, 182, 1, 21, 167, 0, 48, 21, 5, 16, 11, 160, 0, 16, 42, 10, 42]
abbrev dktX4_reckons_3 : List UInt8 := dkwX4_reckons_3 ++ dktX4_reckons_4
def dkwX4_reckons_2 : List UInt8 := [54, 6, 21, 5, 154, 0, 13, 42, 21, 6, 133, 182, 1, 21, 167, 0, 68, 21, 5, 4, 160, 0, 17, 42]
abbrev dktX4_reckons_2 : List UInt8 := dkwX4_reckons_2 ++ dktX4_reckons_3
def dkwX4_reckons_1 : List UInt8 := [21, 4, 96, 46, 16, 15, 126, 54, 5, 42, 180, 0, 13, 17, 1, 144, 27, 104, 21, 4, 96, 46, 7, 122]
abbrev dktX4_reckons_1 : List UInt8 := dkwX4_reckons_1 ++ dktX4_reckons_2
def dkwX4_reckons_0 : List UInt8 := [42, 3, 181, 1, 18, 28, 54, 4, 21, 4, 29, 162, 0, 124, 42, 180, 0, 13, 17, 1, 144, 27, 104]
abbrev dktX4_reckons_0 : List UInt8 := dkwX4_reckons_0 ++ dktX4_reckons_1
theorem dksX4_reckons_0 : cX4_reckons.data.toList.drop 0 = dktX4_reckons_0 := by decide +kernel
theorem dksX4_reckons_1 : cX4_reckons.data.toList.drop 23 = dktX4_reckons_1 := dk_seg dksX4_reckons_0 23 rfl rfl
theorem dksX4_reckons_2 : cX4_reckons.data.toList.drop 47 = dktX4_reckons_2 := dk_seg dksX4_reckons_1 24 rfl rfl
theorem dksX4_reckons_3 : cX4_reckons.data.toList.drop 71 = dktX4_reckons_3 := dk_seg dksX4_reckons_2 24 rfl rfl
theorem dksX4_reckons_4 : cX4_reckons.data.toList.drop 94 = dktX4_reckons_4 := dk_seg dksX4_reckons_3 23 rfl rfl
theorem dksX4_reckons_5 : cX4_reckons.data.toList.drop 117 = dktX4_reckons_5 := dk_seg dksX4_reckons_4 23 rfl rfl
theorem dX4_reckons_0 : decode cX4_reckons 0 = .ok (.aload_n 0, 1) := dk_42 (dk_at dksX4_reckons_0 0 rfl rfl)
theorem dX4_reckons_1 : decode cX4_reckons 1 = .ok (.iconst 0, 1) := dk_3 (dk_at dksX4_reckons_0 1 rfl rfl)
theorem dX4_reckons_2 : decode cX4_reckons 2 = .ok (.putfield 274, 3) := dk_181 1 18 (dk_at dksX4_reckons_0 2 rfl rfl)
theorem dX4_reckons_5 : decode cX4_reckons 5 = .ok (.iload_n 2, 1) := dk_28 (dk_at dksX4_reckons_0 5 rfl rfl)
theorem dX4_reckons_6 : decode cX4_reckons 6 = .ok (.istore 4, 2) := dk_54 4 (dk_at dksX4_reckons_0 6 rfl rfl)
theorem dX4_reckons_8 : decode cX4_reckons 8 = .ok (.iload 4, 2) := dk_21 4 (dk_at dksX4_reckons_0 8 rfl rfl)
theorem dX4_reckons_10 : decode cX4_reckons 10 = .ok (.iload_n 3, 1) := dk_29 (dk_at dksX4_reckons_0 10 rfl rfl)
theorem dX4_reckons_11 : decode cX4_reckons 11 = .ok (.if_icmp .ge 124, 3) := dk_162 0 124 (dk_at dksX4_reckons_0 11 rfl rfl)
theorem dX4_reckons_14 : decode cX4_reckons 14 = .ok (.aload_n 0, 1) := dk_42 (dk_at dksX4_reckons_0 14 rfl rfl)
theorem dX4_reckons_15 : decode cX4_reckons 15 = .ok (.getfield 13, 3) := dk_180 0 13 (dk_at dksX4_reckons_0 15 rfl rfl)
theorem dX4_reckons_18 : decode cX4_reckons 18 = .ok (.sipush 400, 3) := dk_17 1 144 (dk_at dksX4_reckons_0 18 rfl rfl)
theorem dX4_reckons_21 : decode cX4_reckons 21 = .ok (.iload_n 1, 1) := dk_27 (dk_at dksX4_reckons_0 21 rfl rfl)
theorem dX4_reckons_22 : decode cX4_reckons 22 = .ok (.imul, 1) := dk_104 (dk_at dksX4_reckons_0 22 rfl rfl)
theorem dX4_reckons_23 : decode cX4_reckons 23 = .ok (.iload 4, 2) := dk_21 4 (dk_at dksX4_reckons_1 0 rfl rfl)
theorem dX4_reckons_25 : decode cX4_reckons 25 = .ok (.iadd, 1) := dk_96 (dk_at dksX4_reckons_1 2 rfl rfl)
theorem dX4_reckons_26 : decode cX4_reckons 26 = .ok (.iaload, 1) := dk_46 (dk_at dksX4_reckons_1 3 rfl rfl)
theorem dX4_reckons_27 : decode cX4_reckons 27 = .ok (.bipush 15, 2) := dk_16 15 (dk_at dksX4_reckons_1 4 rfl rfl)
theorem dX4_reckons_29 : decode cX4_reckons 29 = .ok (.iand, 1) := dk_126 (dk_at dksX4_reckons_1 6 rfl rfl)
theorem dX4_reckons_30 : decode cX4_reckons 30 = .ok (.istore 5, 2) := dk_54 5 (dk_at dksX4_reckons_1 7 rfl rfl)
theorem dX4_reckons_32 : decode cX4_reckons 32 = .ok (.aload_n 0, 1) := dk_42 (dk_at dksX4_reckons_1 9 rfl rfl)
theorem dX4_reckons_33 : decode cX4_reckons 33 = .ok (.getfield 13, 3) := dk_180 0 13 (dk_at dksX4_reckons_1 10 rfl rfl)
theorem dX4_reckons_36 : decode cX4_reckons 36 = .ok (.sipush 400, 3) := dk_17 1 144 (dk_at dksX4_reckons_1 13 rfl rfl)
theorem dX4_reckons_39 : decode cX4_reckons 39 = .ok (.iload_n 1, 1) := dk_27 (dk_at dksX4_reckons_1 16 rfl rfl)
theorem dX4_reckons_40 : decode cX4_reckons 40 = .ok (.imul, 1) := dk_104 (dk_at dksX4_reckons_1 17 rfl rfl)
theorem dX4_reckons_41 : decode cX4_reckons 41 = .ok (.iload 4, 2) := dk_21 4 (dk_at dksX4_reckons_1 18 rfl rfl)
theorem dX4_reckons_43 : decode cX4_reckons 43 = .ok (.iadd, 1) := dk_96 (dk_at dksX4_reckons_1 20 rfl rfl)
theorem dX4_reckons_44 : decode cX4_reckons 44 = .ok (.iaload, 1) := dk_46 (dk_at dksX4_reckons_1 21 rfl rfl)
theorem dX4_reckons_45 : decode cX4_reckons 45 = .ok (.iconst 4, 1) := dk_7 (dk_at dksX4_reckons_1 22 rfl rfl)
theorem dX4_reckons_46 : decode cX4_reckons 46 = .ok (.ishr, 1) := dk_122 (dk_at dksX4_reckons_1 23 rfl rfl)
theorem dX4_reckons_47 : decode cX4_reckons 47 = .ok (.istore 6, 2) := dk_54 6 (dk_at dksX4_reckons_2 0 rfl rfl)
theorem dX4_reckons_49 : decode cX4_reckons 49 = .ok (.iload 5, 2) := dk_21 5 (dk_at dksX4_reckons_2 2 rfl rfl)
theorem dX4_reckons_51 : decode cX4_reckons 51 = .ok (.ifCond .ne 13, 3) := dk_154 0 13 (dk_at dksX4_reckons_2 4 rfl rfl)
theorem dX4_reckons_54 : decode cX4_reckons 54 = .ok (.aload_n 0, 1) := dk_42 (dk_at dksX4_reckons_2 7 rfl rfl)
theorem dX4_reckons_55 : decode cX4_reckons 55 = .ok (.iload 6, 2) := dk_21 6 (dk_at dksX4_reckons_2 8 rfl rfl)
theorem dX4_reckons_57 : decode cX4_reckons 57 = .ok (.i2l, 1) := dk_133 (dk_at dksX4_reckons_2 10 rfl rfl)
theorem dX4_reckons_58 : decode cX4_reckons 58 = .ok (.invokevirtual 277, 3) := dk_182 1 21 (dk_at dksX4_reckons_2 11 rfl rfl)
theorem dX4_reckons_61 : decode cX4_reckons 61 = .ok (.goto 68, 3) := dk_167 0 68 (dk_at dksX4_reckons_2 14 rfl rfl)
theorem dX4_reckons_64 : decode cX4_reckons 64 = .ok (.iload 5, 2) := dk_21 5 (dk_at dksX4_reckons_2 17 rfl rfl)
theorem dX4_reckons_66 : decode cX4_reckons 66 = .ok (.iconst 1, 1) := dk_4 (dk_at dksX4_reckons_2 19 rfl rfl)
theorem dX4_reckons_67 : decode cX4_reckons 67 = .ok (.if_icmp .ne 17, 3) := dk_160 0 17 (dk_at dksX4_reckons_2 20 rfl rfl)
theorem dX4_reckons_70 : decode cX4_reckons 70 = .ok (.aload_n 0, 1) := dk_42 (dk_at dksX4_reckons_2 23 rfl rfl)
theorem dX4_reckons_71 : decode cX4_reckons 71 = .ok (.aload_n 0, 1) := dk_42 (dk_at dksX4_reckons_3 0 rfl rfl)
theorem dX4_reckons_72 : decode cX4_reckons 72 = .ok (.getfield 36, 3) := dk_180 0 36 (dk_at dksX4_reckons_3 1 rfl rfl)
theorem dX4_reckons_75 : decode cX4_reckons 75 = .ok (.iload 6, 2) := dk_21 6 (dk_at dksX4_reckons_3 4 rfl rfl)
theorem dX4_reckons_77 : decode cX4_reckons 77 = .ok (.laload, 1) := dk_47 (dk_at dksX4_reckons_3 6 rfl rfl)
theorem dX4_reckons_78 : decode cX4_reckons 78 = .ok (.invokevirtual 277, 3) := dk_182 1 21 (dk_at dksX4_reckons_3 7 rfl rfl)
theorem dX4_reckons_81 : decode cX4_reckons 81 = .ok (.goto 48, 3) := dk_167 0 48 (dk_at dksX4_reckons_3 10 rfl rfl)
theorem dX4_reckons_84 : decode cX4_reckons 84 = .ok (.iload 5, 2) := dk_21 5 (dk_at dksX4_reckons_3 13 rfl rfl)
theorem dX4_reckons_86 : decode cX4_reckons 86 = .ok (.bipush 11, 2) := dk_16 11 (dk_at dksX4_reckons_3 15 rfl rfl)
theorem dX4_reckons_88 : decode cX4_reckons 88 = .ok (.if_icmp .ne 16, 3) := dk_160 0 16 (dk_at dksX4_reckons_3 17 rfl rfl)
theorem dX4_reckons_91 : decode cX4_reckons 91 = .ok (.aload_n 0, 1) := dk_42 (dk_at dksX4_reckons_3 20 rfl rfl)
theorem dX4_reckons_92 : decode cX4_reckons 92 = .ok (.lconst 1, 1) := dk_10 (dk_at dksX4_reckons_3 21 rfl rfl)
theorem dX4_reckons_93 : decode cX4_reckons 93 = .ok (.aload_n 0, 1) := dk_42 (dk_at dksX4_reckons_3 22 rfl rfl)
theorem dX4_reckons_94 : decode cX4_reckons 94 = .ok (.invokevirtual 281, 3) := dk_182 1 25 (dk_at dksX4_reckons_4 0 rfl rfl)
theorem dX4_reckons_97 : decode cX4_reckons 97 = .ok (.lsub, 1) := dk_101 (dk_at dksX4_reckons_4 3 rfl rfl)
theorem dX4_reckons_98 : decode cX4_reckons 98 = .ok (.invokevirtual 277, 3) := dk_182 1 21 (dk_at dksX4_reckons_4 4 rfl rfl)
theorem dX4_reckons_101 : decode cX4_reckons 101 = .ok (.goto 28, 3) := dk_167 0 28 (dk_at dksX4_reckons_4 7 rfl rfl)
theorem dX4_reckons_104 : decode cX4_reckons 104 = .ok (.aload_n 0, 1) := dk_42 (dk_at dksX4_reckons_4 10 rfl rfl)
theorem dX4_reckons_105 : decode cX4_reckons 105 = .ok (.invokevirtual 281, 3) := dk_182 1 25 (dk_at dksX4_reckons_4 11 rfl rfl)
theorem dX4_reckons_108 : decode cX4_reckons 108 = .ok (.lstore 7, 2) := dk_55 7 (dk_at dksX4_reckons_4 14 rfl rfl)
theorem dX4_reckons_110 : decode cX4_reckons 110 = .ok (.aload_n 0, 1) := dk_42 (dk_at dksX4_reckons_4 16 rfl rfl)
theorem dX4_reckons_111 : decode cX4_reckons 111 = .ok (.invokevirtual 281, 3) := dk_182 1 25 (dk_at dksX4_reckons_4 17 rfl rfl)
theorem dX4_reckons_114 : decode cX4_reckons 114 = .ok (.lstore 9, 2) := dk_55 9 (dk_at dksX4_reckons_4 20 rfl rfl)
theorem dX4_reckons_116 : decode cX4_reckons 116 = .ok (.aload_n 0, 1) := dk_42 (dk_at dksX4_reckons_4 22 rfl rfl)
theorem dX4_reckons_117 : decode cX4_reckons 117 = .ok (.iload 5, 2) := dk_21 5 (dk_at dksX4_reckons_5 0 rfl rfl)
theorem dX4_reckons_119 : decode cX4_reckons 119 = .ok (.lload 9, 2) := dk_22 9 (dk_at dksX4_reckons_5 2 rfl rfl)
theorem dX4_reckons_121 : decode cX4_reckons 121 = .ok (.lload 7, 2) := dk_22 7 (dk_at dksX4_reckons_5 4 rfl rfl)
theorem dX4_reckons_123 : decode cX4_reckons 123 = .ok (.invokestatic 285, 3) := dk_184 1 29 (dk_at dksX4_reckons_5 6 rfl rfl)
theorem dX4_reckons_126 : decode cX4_reckons 126 = .ok (.invokevirtual 277, 3) := dk_182 1 21 (dk_at dksX4_reckons_5 9 rfl rfl)
theorem dX4_reckons_129 : decode cX4_reckons 129 = .ok (.iinc 4 1, 3) := dk_132 4 1 (dk_at dksX4_reckons_5 12 rfl rfl)
theorem dX4_reckons_132 : decode cX4_reckons 132 = .ok (.goto (-124), 3) := dk_167 255 132 (dk_at dksX4_reckons_5 15 rfl rfl)
theorem dX4_reckons_135 : decode cX4_reckons 135 = .ok (.aload_n 0, 1) := dk_42 (dk_at dksX4_reckons_5 18 rfl rfl)
theorem dX4_reckons_136 : decode cX4_reckons 136 = .ok (.invokevirtual 281, 3) := dk_182 1 25 (dk_at dksX4_reckons_5 19 rfl rfl)
theorem dX4_reckons_139 : decode cX4_reckons 139 = .ok (.lreturn, 1) := dk_173 (dk_at dksX4_reckons_5 22 rfl rfl)
abbrev cX4_push : ByteArray := prog_19_method_42_code
def yX4_push : MethodName := ⟨RX4, "push", "(J)V"⟩
def dkwX4_push_0 : List UInt8 := [42, 180, 0, 32, 42, 180, 1, 18, 31, 80, 42, 89, 180, 1, 18, 4, 96, 181, 1, 18, 177]
abbrev dktX4_push_0 : List UInt8 := dkwX4_push_0 ++ []
theorem dksX4_push_0 : cX4_push.data.toList.drop 0 = dktX4_push_0 := by decide +kernel
theorem dX4_push_0 : decode cX4_push 0 = .ok (.aload_n 0, 1) := dk_42 (dk_at dksX4_push_0 0 rfl rfl)
theorem dX4_push_1 : decode cX4_push 1 = .ok (.getfield 32, 3) := dk_180 0 32 (dk_at dksX4_push_0 1 rfl rfl)
theorem dX4_push_4 : decode cX4_push 4 = .ok (.aload_n 0, 1) := dk_42 (dk_at dksX4_push_0 4 rfl rfl)
theorem dX4_push_5 : decode cX4_push 5 = .ok (.getfield 274, 3) := dk_180 1 18 (dk_at dksX4_push_0 5 rfl rfl)
theorem dX4_push_8 : decode cX4_push 8 = .ok (.lload_n 1, 1) := dk_31 (dk_at dksX4_push_0 8 rfl rfl)
theorem dX4_push_9 : decode cX4_push 9 = .ok (.lastore, 1) := dk_80 (dk_at dksX4_push_0 9 rfl rfl)
theorem dX4_push_10 : decode cX4_push 10 = .ok (.aload_n 0, 1) := dk_42 (dk_at dksX4_push_0 10 rfl rfl)
theorem dX4_push_11 : decode cX4_push 11 = .ok (.dup, 1) := dk_89 (dk_at dksX4_push_0 11 rfl rfl)
theorem dX4_push_12 : decode cX4_push 12 = .ok (.getfield 274, 3) := dk_180 1 18 (dk_at dksX4_push_0 12 rfl rfl)
theorem dX4_push_15 : decode cX4_push 15 = .ok (.iconst 1, 1) := dk_4 (dk_at dksX4_push_0 15 rfl rfl)
theorem dX4_push_16 : decode cX4_push 16 = .ok (.iadd, 1) := dk_96 (dk_at dksX4_push_0 16 rfl rfl)
theorem dX4_push_17 : decode cX4_push 17 = .ok (.putfield 274, 3) := dk_181 1 18 (dk_at dksX4_push_0 17 rfl rfl)
theorem dX4_push_20 : decode cX4_push 20 = .ok (.return_, 1) := dk_177 (dk_at dksX4_push_0 20 rfl rfl)
abbrev cX4_pop : ByteArray := prog_19_method_43_code
def yX4_pop : MethodName := ⟨RX4, "pop", "()J"⟩
def dkwX4_pop_0 : List UInt8 := [42, 89, 180, 1, 18, 4, 100, 181, 1, 18, 42, 180, 0, 32, 42, 180, 1, 18, 47, 173]
abbrev dktX4_pop_0 : List UInt8 := dkwX4_pop_0 ++ []
theorem dksX4_pop_0 : cX4_pop.data.toList.drop 0 = dktX4_pop_0 := by decide +kernel
theorem dX4_pop_0 : decode cX4_pop 0 = .ok (.aload_n 0, 1) := dk_42 (dk_at dksX4_pop_0 0 rfl rfl)
theorem dX4_pop_1 : decode cX4_pop 1 = .ok (.dup, 1) := dk_89 (dk_at dksX4_pop_0 1 rfl rfl)
theorem dX4_pop_2 : decode cX4_pop 2 = .ok (.getfield 274, 3) := dk_180 1 18 (dk_at dksX4_pop_0 2 rfl rfl)
theorem dX4_pop_5 : decode cX4_pop 5 = .ok (.iconst 1, 1) := dk_4 (dk_at dksX4_pop_0 5 rfl rfl)
theorem dX4_pop_6 : decode cX4_pop 6 = .ok (.isub, 1) := dk_100 (dk_at dksX4_pop_0 6 rfl rfl)
theorem dX4_pop_7 : decode cX4_pop 7 = .ok (.putfield 274, 3) := dk_181 1 18 (dk_at dksX4_pop_0 7 rfl rfl)
theorem dX4_pop_10 : decode cX4_pop 10 = .ok (.aload_n 0, 1) := dk_42 (dk_at dksX4_pop_0 10 rfl rfl)
theorem dX4_pop_11 : decode cX4_pop 11 = .ok (.getfield 32, 3) := dk_180 0 32 (dk_at dksX4_pop_0 11 rfl rfl)
theorem dX4_pop_14 : decode cX4_pop 14 = .ok (.aload_n 0, 1) := dk_42 (dk_at dksX4_pop_0 14 rfl rfl)
theorem dX4_pop_15 : decode cX4_pop 15 = .ok (.getfield 274, 3) := dk_180 1 18 (dk_at dksX4_pop_0 15 rfl rfl)
theorem dX4_pop_18 : decode cX4_pop 18 = .ok (.laload, 1) := dk_47 (dk_at dksX4_pop_0 18 rfl rfl)
theorem dX4_pop_19 : decode cX4_pop 19 = .ok (.lreturn, 1) := dk_173 (dk_at dksX4_pop_0 19 rfl rfl)
abbrev cX4_one : ByteArray := prog_19_method_44_code
def yX4_one : MethodName := ⟨RX4, "one", "(IJJ)J"⟩
def dkwX4_one_6 : List UInt8 := [167, 0, 4, 9, 173, 31, 33, 127, 173, 31, 33, 129, 173]
abbrev dktX4_one_6 : List UInt8 := dkwX4_one_6 ++ []
def dkwX4_one_5 : List UInt8 := [167, 0, 4, 9, 173, 31, 33, 148, 155, 0, 7, 10, 167, 0, 4, 9, 173, 31, 33, 148, 158, 0, 7, 10]
abbrev dktX4_one_5 : List UInt8 := dkwX4_one_5 ++ dktX4_one_6
def dkwX4_one_4 : List UInt8 := [167, 0, 4, 9, 173, 31, 33, 148, 157, 0, 7, 10, 167, 0, 4, 9, 173, 31, 33, 148, 154, 0, 7, 10]
abbrev dktX4_one_4 : List UInt8 := dkwX4_one_4 ++ dktX4_one_5
def dkwX4_one_3 : List UInt8 := [109, 173, 33, 9, 148, 154, 0, 7, 9, 167, 0, 6, 31, 33, 113, 173, 31, 33, 148, 156, 0, 7, 10]
abbrev dktX4_one_3 : List UInt8 := dkwX4_one_3 ++ dktX4_one_4
def dkwX4_one_2 : List UInt8 := [31, 33, 97, 173, 31, 33, 101, 173, 31, 33, 105, 173, 33, 9, 148, 154, 0, 7, 9, 167, 0, 6, 31, 33]
abbrev dktX4_one_2 : List UInt8 := dkwX4_one_2 ++ dktX4_one_3
def dkwX4_one_1 : List UInt8 := [170, 0, 0, 0, 0, 0, 171, 0, 0, 0, 2, 0, 0, 0, 14, 0, 0, 0, 67, 0, 0, 0, 71, 0, 0, 0, 75, 0, 0, 0, 79, 0, 0, 0, 107, 0, 0, 0, 119, 0, 0, 0, 131, 0, 0, 0, 143, 0, 0, 0, 155, 0, 0, 0, 171, 0, 0, 0, 167, 0, 0, 0, 171, 0, 0, 0, 93]
abbrev dktX4_one_1 : List UInt8 := dkwX4_one_1 ++ dktX4_one_2
def dkwX4_one_0 : List UInt8 := [26]
abbrev dktX4_one_0 : List UInt8 := dkwX4_one_0 ++ dktX4_one_1
theorem dksX4_one_0 : cX4_one.data.toList.drop 0 = dktX4_one_0 := by decide +kernel
theorem dksX4_one_1 : cX4_one.data.toList.drop 1 = dktX4_one_1 := dk_seg dksX4_one_0 1 rfl rfl
theorem dksX4_one_2 : cX4_one.data.toList.drop 68 = dktX4_one_2 := dk_seg dksX4_one_1 67 rfl rfl
theorem dksX4_one_3 : cX4_one.data.toList.drop 92 = dktX4_one_3 := dk_seg dksX4_one_2 24 rfl rfl
theorem dksX4_one_4 : cX4_one.data.toList.drop 115 = dktX4_one_4 := dk_seg dksX4_one_3 23 rfl rfl
theorem dksX4_one_5 : cX4_one.data.toList.drop 139 = dktX4_one_5 := dk_seg dksX4_one_4 24 rfl rfl
theorem dksX4_one_6 : cX4_one.data.toList.drop 163 = dktX4_one_6 := dk_seg dksX4_one_5 24 rfl rfl
theorem dX4_one_0 : decode cX4_one 0 = .ok (.iload_n 0, 1) := dk_26 (dk_at dksX4_one_0 0 rfl rfl)
theorem dX4_one_1 : decode cX4_one 1 = .ok (.tableswitch 171 2 14 #[67, 71, 75, 79, 107, 119, 131, 143, 155, 171, 167, 171, 93], 67) := by decide +kernel
theorem dX4_one_68 : decode cX4_one 68 = .ok (.lload_n 1, 1) := dk_31 (dk_at dksX4_one_2 0 rfl rfl)
theorem dX4_one_69 : decode cX4_one 69 = .ok (.lload_n 3, 1) := dk_33 (dk_at dksX4_one_2 1 rfl rfl)
theorem dX4_one_70 : decode cX4_one 70 = .ok (.ladd, 1) := dk_97 (dk_at dksX4_one_2 2 rfl rfl)
theorem dX4_one_71 : decode cX4_one 71 = .ok (.lreturn, 1) := dk_173 (dk_at dksX4_one_2 3 rfl rfl)
theorem dX4_one_72 : decode cX4_one 72 = .ok (.lload_n 1, 1) := dk_31 (dk_at dksX4_one_2 4 rfl rfl)
theorem dX4_one_73 : decode cX4_one 73 = .ok (.lload_n 3, 1) := dk_33 (dk_at dksX4_one_2 5 rfl rfl)
theorem dX4_one_74 : decode cX4_one 74 = .ok (.lsub, 1) := dk_101 (dk_at dksX4_one_2 6 rfl rfl)
theorem dX4_one_75 : decode cX4_one 75 = .ok (.lreturn, 1) := dk_173 (dk_at dksX4_one_2 7 rfl rfl)
theorem dX4_one_76 : decode cX4_one 76 = .ok (.lload_n 1, 1) := dk_31 (dk_at dksX4_one_2 8 rfl rfl)
theorem dX4_one_77 : decode cX4_one 77 = .ok (.lload_n 3, 1) := dk_33 (dk_at dksX4_one_2 9 rfl rfl)
theorem dX4_one_78 : decode cX4_one 78 = .ok (.lmul, 1) := dk_105 (dk_at dksX4_one_2 10 rfl rfl)
theorem dX4_one_79 : decode cX4_one 79 = .ok (.lreturn, 1) := dk_173 (dk_at dksX4_one_2 11 rfl rfl)
theorem dX4_one_80 : decode cX4_one 80 = .ok (.lload_n 3, 1) := dk_33 (dk_at dksX4_one_2 12 rfl rfl)
theorem dX4_one_81 : decode cX4_one 81 = .ok (.lconst 0, 1) := dk_9 (dk_at dksX4_one_2 13 rfl rfl)
theorem dX4_one_82 : decode cX4_one 82 = .ok (.lcmp, 1) := dk_148 (dk_at dksX4_one_2 14 rfl rfl)
theorem dX4_one_83 : decode cX4_one 83 = .ok (.ifCond .ne 7, 3) := dk_154 0 7 (dk_at dksX4_one_2 15 rfl rfl)
theorem dX4_one_86 : decode cX4_one 86 = .ok (.lconst 0, 1) := dk_9 (dk_at dksX4_one_2 18 rfl rfl)
theorem dX4_one_87 : decode cX4_one 87 = .ok (.goto 6, 3) := dk_167 0 6 (dk_at dksX4_one_2 19 rfl rfl)
theorem dX4_one_90 : decode cX4_one 90 = .ok (.lload_n 1, 1) := dk_31 (dk_at dksX4_one_2 22 rfl rfl)
theorem dX4_one_91 : decode cX4_one 91 = .ok (.lload_n 3, 1) := dk_33 (dk_at dksX4_one_2 23 rfl rfl)
theorem dX4_one_92 : decode cX4_one 92 = .ok (.ldiv, 1) := dk_109 (dk_at dksX4_one_3 0 rfl rfl)
theorem dX4_one_93 : decode cX4_one 93 = .ok (.lreturn, 1) := dk_173 (dk_at dksX4_one_3 1 rfl rfl)
theorem dX4_one_94 : decode cX4_one 94 = .ok (.lload_n 3, 1) := dk_33 (dk_at dksX4_one_3 2 rfl rfl)
theorem dX4_one_95 : decode cX4_one 95 = .ok (.lconst 0, 1) := dk_9 (dk_at dksX4_one_3 3 rfl rfl)
theorem dX4_one_96 : decode cX4_one 96 = .ok (.lcmp, 1) := dk_148 (dk_at dksX4_one_3 4 rfl rfl)
theorem dX4_one_97 : decode cX4_one 97 = .ok (.ifCond .ne 7, 3) := dk_154 0 7 (dk_at dksX4_one_3 5 rfl rfl)
theorem dX4_one_100 : decode cX4_one 100 = .ok (.lconst 0, 1) := dk_9 (dk_at dksX4_one_3 8 rfl rfl)
theorem dX4_one_101 : decode cX4_one 101 = .ok (.goto 6, 3) := dk_167 0 6 (dk_at dksX4_one_3 9 rfl rfl)
theorem dX4_one_104 : decode cX4_one 104 = .ok (.lload_n 1, 1) := dk_31 (dk_at dksX4_one_3 12 rfl rfl)
theorem dX4_one_105 : decode cX4_one 105 = .ok (.lload_n 3, 1) := dk_33 (dk_at dksX4_one_3 13 rfl rfl)
theorem dX4_one_106 : decode cX4_one 106 = .ok (.lrem, 1) := dk_113 (dk_at dksX4_one_3 14 rfl rfl)
theorem dX4_one_107 : decode cX4_one 107 = .ok (.lreturn, 1) := dk_173 (dk_at dksX4_one_3 15 rfl rfl)
theorem dX4_one_108 : decode cX4_one 108 = .ok (.lload_n 1, 1) := dk_31 (dk_at dksX4_one_3 16 rfl rfl)
theorem dX4_one_109 : decode cX4_one 109 = .ok (.lload_n 3, 1) := dk_33 (dk_at dksX4_one_3 17 rfl rfl)
theorem dX4_one_110 : decode cX4_one 110 = .ok (.lcmp, 1) := dk_148 (dk_at dksX4_one_3 18 rfl rfl)
theorem dX4_one_111 : decode cX4_one 111 = .ok (.ifCond .ge 7, 3) := dk_156 0 7 (dk_at dksX4_one_3 19 rfl rfl)
theorem dX4_one_114 : decode cX4_one 114 = .ok (.lconst 1, 1) := dk_10 (dk_at dksX4_one_3 22 rfl rfl)
theorem dX4_one_115 : decode cX4_one 115 = .ok (.goto 4, 3) := dk_167 0 4 (dk_at dksX4_one_4 0 rfl rfl)
theorem dX4_one_118 : decode cX4_one 118 = .ok (.lconst 0, 1) := dk_9 (dk_at dksX4_one_4 3 rfl rfl)
theorem dX4_one_119 : decode cX4_one 119 = .ok (.lreturn, 1) := dk_173 (dk_at dksX4_one_4 4 rfl rfl)
theorem dX4_one_120 : decode cX4_one 120 = .ok (.lload_n 1, 1) := dk_31 (dk_at dksX4_one_4 5 rfl rfl)
theorem dX4_one_121 : decode cX4_one 121 = .ok (.lload_n 3, 1) := dk_33 (dk_at dksX4_one_4 6 rfl rfl)
theorem dX4_one_122 : decode cX4_one 122 = .ok (.lcmp, 1) := dk_148 (dk_at dksX4_one_4 7 rfl rfl)
theorem dX4_one_123 : decode cX4_one 123 = .ok (.ifCond .gt 7, 3) := dk_157 0 7 (dk_at dksX4_one_4 8 rfl rfl)
theorem dX4_one_126 : decode cX4_one 126 = .ok (.lconst 1, 1) := dk_10 (dk_at dksX4_one_4 11 rfl rfl)
theorem dX4_one_127 : decode cX4_one 127 = .ok (.goto 4, 3) := dk_167 0 4 (dk_at dksX4_one_4 12 rfl rfl)
theorem dX4_one_130 : decode cX4_one 130 = .ok (.lconst 0, 1) := dk_9 (dk_at dksX4_one_4 15 rfl rfl)
theorem dX4_one_131 : decode cX4_one 131 = .ok (.lreturn, 1) := dk_173 (dk_at dksX4_one_4 16 rfl rfl)
theorem dX4_one_132 : decode cX4_one 132 = .ok (.lload_n 1, 1) := dk_31 (dk_at dksX4_one_4 17 rfl rfl)
theorem dX4_one_133 : decode cX4_one 133 = .ok (.lload_n 3, 1) := dk_33 (dk_at dksX4_one_4 18 rfl rfl)
theorem dX4_one_134 : decode cX4_one 134 = .ok (.lcmp, 1) := dk_148 (dk_at dksX4_one_4 19 rfl rfl)
theorem dX4_one_135 : decode cX4_one 135 = .ok (.ifCond .ne 7, 3) := dk_154 0 7 (dk_at dksX4_one_4 20 rfl rfl)
theorem dX4_one_138 : decode cX4_one 138 = .ok (.lconst 1, 1) := dk_10 (dk_at dksX4_one_4 23 rfl rfl)
theorem dX4_one_139 : decode cX4_one 139 = .ok (.goto 4, 3) := dk_167 0 4 (dk_at dksX4_one_5 0 rfl rfl)
theorem dX4_one_142 : decode cX4_one 142 = .ok (.lconst 0, 1) := dk_9 (dk_at dksX4_one_5 3 rfl rfl)
theorem dX4_one_143 : decode cX4_one 143 = .ok (.lreturn, 1) := dk_173 (dk_at dksX4_one_5 4 rfl rfl)
theorem dX4_one_144 : decode cX4_one 144 = .ok (.lload_n 1, 1) := dk_31 (dk_at dksX4_one_5 5 rfl rfl)
theorem dX4_one_145 : decode cX4_one 145 = .ok (.lload_n 3, 1) := dk_33 (dk_at dksX4_one_5 6 rfl rfl)
theorem dX4_one_146 : decode cX4_one 146 = .ok (.lcmp, 1) := dk_148 (dk_at dksX4_one_5 7 rfl rfl)
theorem dX4_one_147 : decode cX4_one 147 = .ok (.ifCond .lt 7, 3) := dk_155 0 7 (dk_at dksX4_one_5 8 rfl rfl)
theorem dX4_one_150 : decode cX4_one 150 = .ok (.lconst 1, 1) := dk_10 (dk_at dksX4_one_5 11 rfl rfl)
theorem dX4_one_151 : decode cX4_one 151 = .ok (.goto 4, 3) := dk_167 0 4 (dk_at dksX4_one_5 12 rfl rfl)
theorem dX4_one_154 : decode cX4_one 154 = .ok (.lconst 0, 1) := dk_9 (dk_at dksX4_one_5 15 rfl rfl)
theorem dX4_one_155 : decode cX4_one 155 = .ok (.lreturn, 1) := dk_173 (dk_at dksX4_one_5 16 rfl rfl)
theorem dX4_one_156 : decode cX4_one 156 = .ok (.lload_n 1, 1) := dk_31 (dk_at dksX4_one_5 17 rfl rfl)
theorem dX4_one_157 : decode cX4_one 157 = .ok (.lload_n 3, 1) := dk_33 (dk_at dksX4_one_5 18 rfl rfl)
theorem dX4_one_158 : decode cX4_one 158 = .ok (.lcmp, 1) := dk_148 (dk_at dksX4_one_5 19 rfl rfl)
theorem dX4_one_159 : decode cX4_one 159 = .ok (.ifCond .le 7, 3) := dk_158 0 7 (dk_at dksX4_one_5 20 rfl rfl)
theorem dX4_one_162 : decode cX4_one 162 = .ok (.lconst 1, 1) := dk_10 (dk_at dksX4_one_5 23 rfl rfl)
theorem dX4_one_163 : decode cX4_one 163 = .ok (.goto 4, 3) := dk_167 0 4 (dk_at dksX4_one_6 0 rfl rfl)
theorem dX4_one_166 : decode cX4_one 166 = .ok (.lconst 0, 1) := dk_9 (dk_at dksX4_one_6 3 rfl rfl)
theorem dX4_one_167 : decode cX4_one 167 = .ok (.lreturn, 1) := dk_173 (dk_at dksX4_one_6 4 rfl rfl)
theorem dX4_one_168 : decode cX4_one 168 = .ok (.lload_n 1, 1) := dk_31 (dk_at dksX4_one_6 5 rfl rfl)
theorem dX4_one_169 : decode cX4_one 169 = .ok (.lload_n 3, 1) := dk_33 (dk_at dksX4_one_6 6 rfl rfl)
theorem dX4_one_170 : decode cX4_one 170 = .ok (.land, 1) := dk_127 (dk_at dksX4_one_6 7 rfl rfl)
theorem dX4_one_171 : decode cX4_one 171 = .ok (.lreturn, 1) := dk_173 (dk_at dksX4_one_6 8 rfl rfl)
theorem dX4_one_172 : decode cX4_one 172 = .ok (.lload_n 1, 1) := dk_31 (dk_at dksX4_one_6 9 rfl rfl)
theorem dX4_one_173 : decode cX4_one 173 = .ok (.lload_n 3, 1) := dk_33 (dk_at dksX4_one_6 10 rfl rfl)
theorem dX4_one_174 : decode cX4_one 174 = .ok (.lor, 1) := dk_129 (dk_at dksX4_one_6 11 rfl rfl)
theorem dX4_one_175 : decode cX4_one 175 = .ok (.lreturn, 1) := dk_173 (dk_at dksX4_one_6 12 rfl rfl)
abbrev cX4_placeAlong : ByteArray := prog_19_method_62_code
def yX4_placeAlong : MethodName := ⟨RX4, "placeAlong", "(II)I"⟩
def dkwX4_placeAlong_1 : List UInt8 := [108, 172]
abbrev dktX4_placeAlong_1 : List UInt8 := dkwX4_placeAlong_1 ++ []
def dkwX4_placeAlong_0 : List UInt8 := [28, 5, 112, 154, 0, 14, 27, 42, 180, 0, 39, 4, 46, 112, 167, 0, 11, 27, 42, 180, 0, 39, 4, 46]
abbrev dktX4_placeAlong_0 : List UInt8 := dkwX4_placeAlong_0 ++ dktX4_placeAlong_1
theorem dksX4_placeAlong_0 : cX4_placeAlong.data.toList.drop 0 = dktX4_placeAlong_0 := by decide +kernel
theorem dksX4_placeAlong_1 : cX4_placeAlong.data.toList.drop 24 = dktX4_placeAlong_1 := dk_seg dksX4_placeAlong_0 24 rfl rfl
theorem dX4_placeAlong_0 : decode cX4_placeAlong 0 = .ok (.iload_n 2, 1) := dk_28 (dk_at dksX4_placeAlong_0 0 rfl rfl)
theorem dX4_placeAlong_1 : decode cX4_placeAlong 1 = .ok (.iconst 2, 1) := dk_5 (dk_at dksX4_placeAlong_0 1 rfl rfl)
theorem dX4_placeAlong_2 : decode cX4_placeAlong 2 = .ok (.irem, 1) := dk_112 (dk_at dksX4_placeAlong_0 2 rfl rfl)
theorem dX4_placeAlong_3 : decode cX4_placeAlong 3 = .ok (.ifCond .ne 14, 3) := dk_154 0 14 (dk_at dksX4_placeAlong_0 3 rfl rfl)
theorem dX4_placeAlong_6 : decode cX4_placeAlong 6 = .ok (.iload_n 1, 1) := dk_27 (dk_at dksX4_placeAlong_0 6 rfl rfl)
theorem dX4_placeAlong_7 : decode cX4_placeAlong 7 = .ok (.aload_n 0, 1) := dk_42 (dk_at dksX4_placeAlong_0 7 rfl rfl)
theorem dX4_placeAlong_8 : decode cX4_placeAlong 8 = .ok (.getfield 39, 3) := dk_180 0 39 (dk_at dksX4_placeAlong_0 8 rfl rfl)
theorem dX4_placeAlong_11 : decode cX4_placeAlong 11 = .ok (.iconst 1, 1) := dk_4 (dk_at dksX4_placeAlong_0 11 rfl rfl)
theorem dX4_placeAlong_12 : decode cX4_placeAlong 12 = .ok (.iaload, 1) := dk_46 (dk_at dksX4_placeAlong_0 12 rfl rfl)
theorem dX4_placeAlong_13 : decode cX4_placeAlong 13 = .ok (.irem, 1) := dk_112 (dk_at dksX4_placeAlong_0 13 rfl rfl)
theorem dX4_placeAlong_14 : decode cX4_placeAlong 14 = .ok (.goto 11, 3) := dk_167 0 11 (dk_at dksX4_placeAlong_0 14 rfl rfl)
theorem dX4_placeAlong_17 : decode cX4_placeAlong 17 = .ok (.iload_n 1, 1) := dk_27 (dk_at dksX4_placeAlong_0 17 rfl rfl)
theorem dX4_placeAlong_18 : decode cX4_placeAlong 18 = .ok (.aload_n 0, 1) := dk_42 (dk_at dksX4_placeAlong_0 18 rfl rfl)
theorem dX4_placeAlong_19 : decode cX4_placeAlong 19 = .ok (.getfield 39, 3) := dk_180 0 39 (dk_at dksX4_placeAlong_0 19 rfl rfl)
theorem dX4_placeAlong_22 : decode cX4_placeAlong 22 = .ok (.iconst 1, 1) := dk_4 (dk_at dksX4_placeAlong_0 22 rfl rfl)
theorem dX4_placeAlong_23 : decode cX4_placeAlong 23 = .ok (.iaload, 1) := dk_46 (dk_at dksX4_placeAlong_0 23 rfl rfl)
theorem dX4_placeAlong_24 : decode cX4_placeAlong 24 = .ok (.idiv, 1) := dk_108 (dk_at dksX4_placeAlong_1 0 rfl rfl)
theorem dX4_placeAlong_25 : decode cX4_placeAlong 25 = .ok (.ireturn, 1) := dk_172 (dk_at dksX4_placeAlong_1 1 rfl rfl)
abbrev cX4_goesOut : ByteArray := prog_19_method_73_code
def yX4_goesOut : MethodName := ⟨RX4, "goesOut", "(I)V"⟩
def dkwX4_goesOut_3 : List UInt8 := [177]
abbrev dktX4_goesOut_3 : List UInt8 := dkwX4_goesOut_3 ++ []
def dkwX4_goesOut_2 : List UInt8 := [46, 158, 0, 18, 42, 180, 0, 39, 28, 7, 96, 92, 46, 4, 100, 79, 167, 0, 8, 42, 27, 182, 1, 95]
abbrev dktX4_goesOut_2 : List UInt8 := dkwX4_goesOut_2 ++ dktX4_goesOut_3
def dkwX4_goesOut_1 : List UInt8 := [6, 96, 5, 79, 177, 42, 180, 0, 39, 28, 5, 96, 92, 46, 4, 100, 79, 42, 180, 0, 39, 28, 7, 96]
abbrev dktX4_goesOut_1 : List UInt8 := dkwX4_goesOut_1 ++ dktX4_goesOut_2
def dkwX4_goesOut_0 : List UInt8 := [16, 11, 16, 7, 27, 104, 96, 61, 42, 180, 0, 39, 28, 5, 96, 46, 154, 0, 13, 42, 180, 0, 39, 28]
abbrev dktX4_goesOut_0 : List UInt8 := dkwX4_goesOut_0 ++ dktX4_goesOut_1
theorem dksX4_goesOut_0 : cX4_goesOut.data.toList.drop 0 = dktX4_goesOut_0 := by decide +kernel
theorem dksX4_goesOut_1 : cX4_goesOut.data.toList.drop 24 = dktX4_goesOut_1 := dk_seg dksX4_goesOut_0 24 rfl rfl
theorem dksX4_goesOut_2 : cX4_goesOut.data.toList.drop 48 = dktX4_goesOut_2 := dk_seg dksX4_goesOut_1 24 rfl rfl
theorem dksX4_goesOut_3 : cX4_goesOut.data.toList.drop 72 = dktX4_goesOut_3 := dk_seg dksX4_goesOut_2 24 rfl rfl
theorem dX4_goesOut_0 : decode cX4_goesOut 0 = .ok (.bipush 11, 2) := dk_16 11 (dk_at dksX4_goesOut_0 0 rfl rfl)
theorem dX4_goesOut_2 : decode cX4_goesOut 2 = .ok (.bipush 7, 2) := dk_16 7 (dk_at dksX4_goesOut_0 2 rfl rfl)
theorem dX4_goesOut_4 : decode cX4_goesOut 4 = .ok (.iload_n 1, 1) := dk_27 (dk_at dksX4_goesOut_0 4 rfl rfl)
theorem dX4_goesOut_5 : decode cX4_goesOut 5 = .ok (.imul, 1) := dk_104 (dk_at dksX4_goesOut_0 5 rfl rfl)
theorem dX4_goesOut_6 : decode cX4_goesOut 6 = .ok (.iadd, 1) := dk_96 (dk_at dksX4_goesOut_0 6 rfl rfl)
theorem dX4_goesOut_7 : decode cX4_goesOut 7 = .ok (.istore_n 2, 1) := dk_61 (dk_at dksX4_goesOut_0 7 rfl rfl)
theorem dX4_goesOut_8 : decode cX4_goesOut 8 = .ok (.aload_n 0, 1) := dk_42 (dk_at dksX4_goesOut_0 8 rfl rfl)
theorem dX4_goesOut_9 : decode cX4_goesOut 9 = .ok (.getfield 39, 3) := dk_180 0 39 (dk_at dksX4_goesOut_0 9 rfl rfl)
theorem dX4_goesOut_12 : decode cX4_goesOut 12 = .ok (.iload_n 2, 1) := dk_28 (dk_at dksX4_goesOut_0 12 rfl rfl)
theorem dX4_goesOut_13 : decode cX4_goesOut 13 = .ok (.iconst 2, 1) := dk_5 (dk_at dksX4_goesOut_0 13 rfl rfl)
theorem dX4_goesOut_14 : decode cX4_goesOut 14 = .ok (.iadd, 1) := dk_96 (dk_at dksX4_goesOut_0 14 rfl rfl)
theorem dX4_goesOut_15 : decode cX4_goesOut 15 = .ok (.iaload, 1) := dk_46 (dk_at dksX4_goesOut_0 15 rfl rfl)
theorem dX4_goesOut_16 : decode cX4_goesOut 16 = .ok (.ifCond .ne 13, 3) := dk_154 0 13 (dk_at dksX4_goesOut_0 16 rfl rfl)
theorem dX4_goesOut_19 : decode cX4_goesOut 19 = .ok (.aload_n 0, 1) := dk_42 (dk_at dksX4_goesOut_0 19 rfl rfl)
theorem dX4_goesOut_20 : decode cX4_goesOut 20 = .ok (.getfield 39, 3) := dk_180 0 39 (dk_at dksX4_goesOut_0 20 rfl rfl)
theorem dX4_goesOut_23 : decode cX4_goesOut 23 = .ok (.iload_n 2, 1) := dk_28 (dk_at dksX4_goesOut_0 23 rfl rfl)
theorem dX4_goesOut_24 : decode cX4_goesOut 24 = .ok (.iconst 3, 1) := dk_6 (dk_at dksX4_goesOut_1 0 rfl rfl)
theorem dX4_goesOut_25 : decode cX4_goesOut 25 = .ok (.iadd, 1) := dk_96 (dk_at dksX4_goesOut_1 1 rfl rfl)
theorem dX4_goesOut_26 : decode cX4_goesOut 26 = .ok (.iconst 2, 1) := dk_5 (dk_at dksX4_goesOut_1 2 rfl rfl)
theorem dX4_goesOut_27 : decode cX4_goesOut 27 = .ok (.iastore, 1) := dk_79 (dk_at dksX4_goesOut_1 3 rfl rfl)
theorem dX4_goesOut_28 : decode cX4_goesOut 28 = .ok (.return_, 1) := dk_177 (dk_at dksX4_goesOut_1 4 rfl rfl)
theorem dX4_goesOut_29 : decode cX4_goesOut 29 = .ok (.aload_n 0, 1) := dk_42 (dk_at dksX4_goesOut_1 5 rfl rfl)
theorem dX4_goesOut_30 : decode cX4_goesOut 30 = .ok (.getfield 39, 3) := dk_180 0 39 (dk_at dksX4_goesOut_1 6 rfl rfl)
theorem dX4_goesOut_33 : decode cX4_goesOut 33 = .ok (.iload_n 2, 1) := dk_28 (dk_at dksX4_goesOut_1 9 rfl rfl)
theorem dX4_goesOut_34 : decode cX4_goesOut 34 = .ok (.iconst 2, 1) := dk_5 (dk_at dksX4_goesOut_1 10 rfl rfl)
theorem dX4_goesOut_35 : decode cX4_goesOut 35 = .ok (.iadd, 1) := dk_96 (dk_at dksX4_goesOut_1 11 rfl rfl)
theorem dX4_goesOut_36 : decode cX4_goesOut 36 = .ok (.dup2, 1) := dk_92 (dk_at dksX4_goesOut_1 12 rfl rfl)
theorem dX4_goesOut_37 : decode cX4_goesOut 37 = .ok (.iaload, 1) := dk_46 (dk_at dksX4_goesOut_1 13 rfl rfl)
theorem dX4_goesOut_38 : decode cX4_goesOut 38 = .ok (.iconst 1, 1) := dk_4 (dk_at dksX4_goesOut_1 14 rfl rfl)
theorem dX4_goesOut_39 : decode cX4_goesOut 39 = .ok (.isub, 1) := dk_100 (dk_at dksX4_goesOut_1 15 rfl rfl)
theorem dX4_goesOut_40 : decode cX4_goesOut 40 = .ok (.iastore, 1) := dk_79 (dk_at dksX4_goesOut_1 16 rfl rfl)
theorem dX4_goesOut_41 : decode cX4_goesOut 41 = .ok (.aload_n 0, 1) := dk_42 (dk_at dksX4_goesOut_1 17 rfl rfl)
theorem dX4_goesOut_42 : decode cX4_goesOut 42 = .ok (.getfield 39, 3) := dk_180 0 39 (dk_at dksX4_goesOut_1 18 rfl rfl)
theorem dX4_goesOut_45 : decode cX4_goesOut 45 = .ok (.iload_n 2, 1) := dk_28 (dk_at dksX4_goesOut_1 21 rfl rfl)
theorem dX4_goesOut_46 : decode cX4_goesOut 46 = .ok (.iconst 4, 1) := dk_7 (dk_at dksX4_goesOut_1 22 rfl rfl)
theorem dX4_goesOut_47 : decode cX4_goesOut 47 = .ok (.iadd, 1) := dk_96 (dk_at dksX4_goesOut_1 23 rfl rfl)
theorem dX4_goesOut_48 : decode cX4_goesOut 48 = .ok (.iaload, 1) := dk_46 (dk_at dksX4_goesOut_2 0 rfl rfl)
theorem dX4_goesOut_49 : decode cX4_goesOut 49 = .ok (.ifCond .le 18, 3) := dk_158 0 18 (dk_at dksX4_goesOut_2 1 rfl rfl)
theorem dX4_goesOut_52 : decode cX4_goesOut 52 = .ok (.aload_n 0, 1) := dk_42 (dk_at dksX4_goesOut_2 4 rfl rfl)
theorem dX4_goesOut_53 : decode cX4_goesOut 53 = .ok (.getfield 39, 3) := dk_180 0 39 (dk_at dksX4_goesOut_2 5 rfl rfl)
theorem dX4_goesOut_56 : decode cX4_goesOut 56 = .ok (.iload_n 2, 1) := dk_28 (dk_at dksX4_goesOut_2 8 rfl rfl)
theorem dX4_goesOut_57 : decode cX4_goesOut 57 = .ok (.iconst 4, 1) := dk_7 (dk_at dksX4_goesOut_2 9 rfl rfl)
theorem dX4_goesOut_58 : decode cX4_goesOut 58 = .ok (.iadd, 1) := dk_96 (dk_at dksX4_goesOut_2 10 rfl rfl)
theorem dX4_goesOut_59 : decode cX4_goesOut 59 = .ok (.dup2, 1) := dk_92 (dk_at dksX4_goesOut_2 11 rfl rfl)
theorem dX4_goesOut_60 : decode cX4_goesOut 60 = .ok (.iaload, 1) := dk_46 (dk_at dksX4_goesOut_2 12 rfl rfl)
theorem dX4_goesOut_61 : decode cX4_goesOut 61 = .ok (.iconst 1, 1) := dk_4 (dk_at dksX4_goesOut_2 13 rfl rfl)
theorem dX4_goesOut_62 : decode cX4_goesOut 62 = .ok (.isub, 1) := dk_100 (dk_at dksX4_goesOut_2 14 rfl rfl)
theorem dX4_goesOut_63 : decode cX4_goesOut 63 = .ok (.iastore, 1) := dk_79 (dk_at dksX4_goesOut_2 15 rfl rfl)
theorem dX4_goesOut_64 : decode cX4_goesOut 64 = .ok (.goto 8, 3) := dk_167 0 8 (dk_at dksX4_goesOut_2 16 rfl rfl)
theorem dX4_goesOut_67 : decode cX4_goesOut 67 = .ok (.aload_n 0, 1) := dk_42 (dk_at dksX4_goesOut_2 19 rfl rfl)
theorem dX4_goesOut_68 : decode cX4_goesOut 68 = .ok (.iload_n 1, 1) := dk_27 (dk_at dksX4_goesOut_2 20 rfl rfl)
theorem dX4_goesOut_69 : decode cX4_goesOut 69 = .ok (.invokevirtual 351, 3) := dk_182 1 95 (dk_at dksX4_goesOut_2 21 rfl rfl)
theorem dX4_goesOut_72 : decode cX4_goesOut 72 = .ok (.return_, 1) := dk_177 (dk_at dksX4_goesOut_3 0 rfl rfl)
abbrev cX4_comesOn : ByteArray := prog_19_method_72_code
def yX4_comesOn : MethodName := ⟨RX4, "comesOn", "(I)V"⟩
def dkwX4_comesOn_3 : List UInt8 := [79, 42, 180, 0, 39, 28, 6, 96, 3, 79, 177]
abbrev dktX4_comesOn_3 : List UInt8 := dkwX4_comesOn_3 ++ []
def dkwX4_comesOn_2 : List UInt8 := [153, 0, 4, 177, 42, 180, 0, 39, 28, 21, 4, 79, 42, 180, 0, 39, 28, 4, 96, 29, 5, 96, 7, 112]
abbrev dktX4_comesOn_2 : List UInt8 := dkwX4_comesOn_2 ++ dktX4_comesOn_3
def dkwX4_comesOn_1 : List UInt8 := [62, 42, 29, 42, 180, 0, 39, 28, 8, 96, 46, 182, 1, 92, 54, 4, 42, 21, 4, 182, 1, 79]
abbrev dktX4_comesOn_1 : List UInt8 := dkwX4_comesOn_1 ++ dktX4_comesOn_2
def dkwX4_comesOn_0 : List UInt8 := [16, 11, 16, 7, 27, 104, 96, 61, 42, 180, 0, 39, 16, 46, 42, 180, 0, 39, 28, 4, 96, 46, 96, 46]
abbrev dktX4_comesOn_0 : List UInt8 := dkwX4_comesOn_0 ++ dktX4_comesOn_1
theorem dksX4_comesOn_0 : cX4_comesOn.data.toList.drop 0 = dktX4_comesOn_0 := by decide +kernel
theorem dksX4_comesOn_1 : cX4_comesOn.data.toList.drop 24 = dktX4_comesOn_1 := dk_seg dksX4_comesOn_0 24 rfl rfl
theorem dksX4_comesOn_2 : cX4_comesOn.data.toList.drop 46 = dktX4_comesOn_2 := dk_seg dksX4_comesOn_1 22 rfl rfl
theorem dksX4_comesOn_3 : cX4_comesOn.data.toList.drop 70 = dktX4_comesOn_3 := dk_seg dksX4_comesOn_2 24 rfl rfl
theorem dX4_comesOn_0 : decode cX4_comesOn 0 = .ok (.bipush 11, 2) := dk_16 11 (dk_at dksX4_comesOn_0 0 rfl rfl)
theorem dX4_comesOn_2 : decode cX4_comesOn 2 = .ok (.bipush 7, 2) := dk_16 7 (dk_at dksX4_comesOn_0 2 rfl rfl)
theorem dX4_comesOn_4 : decode cX4_comesOn 4 = .ok (.iload_n 1, 1) := dk_27 (dk_at dksX4_comesOn_0 4 rfl rfl)
theorem dX4_comesOn_5 : decode cX4_comesOn 5 = .ok (.imul, 1) := dk_104 (dk_at dksX4_comesOn_0 5 rfl rfl)
theorem dX4_comesOn_6 : decode cX4_comesOn 6 = .ok (.iadd, 1) := dk_96 (dk_at dksX4_comesOn_0 6 rfl rfl)
theorem dX4_comesOn_7 : decode cX4_comesOn 7 = .ok (.istore_n 2, 1) := dk_61 (dk_at dksX4_comesOn_0 7 rfl rfl)
theorem dX4_comesOn_8 : decode cX4_comesOn 8 = .ok (.aload_n 0, 1) := dk_42 (dk_at dksX4_comesOn_0 8 rfl rfl)
theorem dX4_comesOn_9 : decode cX4_comesOn 9 = .ok (.getfield 39, 3) := dk_180 0 39 (dk_at dksX4_comesOn_0 9 rfl rfl)
theorem dX4_comesOn_12 : decode cX4_comesOn 12 = .ok (.bipush 46, 2) := dk_16 46 (dk_at dksX4_comesOn_0 12 rfl rfl)
theorem dX4_comesOn_14 : decode cX4_comesOn 14 = .ok (.aload_n 0, 1) := dk_42 (dk_at dksX4_comesOn_0 14 rfl rfl)
theorem dX4_comesOn_15 : decode cX4_comesOn 15 = .ok (.getfield 39, 3) := dk_180 0 39 (dk_at dksX4_comesOn_0 15 rfl rfl)
theorem dX4_comesOn_18 : decode cX4_comesOn 18 = .ok (.iload_n 2, 1) := dk_28 (dk_at dksX4_comesOn_0 18 rfl rfl)
theorem dX4_comesOn_19 : decode cX4_comesOn 19 = .ok (.iconst 1, 1) := dk_4 (dk_at dksX4_comesOn_0 19 rfl rfl)
theorem dX4_comesOn_20 : decode cX4_comesOn 20 = .ok (.iadd, 1) := dk_96 (dk_at dksX4_comesOn_0 20 rfl rfl)
theorem dX4_comesOn_21 : decode cX4_comesOn 21 = .ok (.iaload, 1) := dk_46 (dk_at dksX4_comesOn_0 21 rfl rfl)
theorem dX4_comesOn_22 : decode cX4_comesOn 22 = .ok (.iadd, 1) := dk_96 (dk_at dksX4_comesOn_0 22 rfl rfl)
theorem dX4_comesOn_23 : decode cX4_comesOn 23 = .ok (.iaload, 1) := dk_46 (dk_at dksX4_comesOn_0 23 rfl rfl)
theorem dX4_comesOn_24 : decode cX4_comesOn 24 = .ok (.istore_n 3, 1) := dk_62 (dk_at dksX4_comesOn_1 0 rfl rfl)
theorem dX4_comesOn_25 : decode cX4_comesOn 25 = .ok (.aload_n 0, 1) := dk_42 (dk_at dksX4_comesOn_1 1 rfl rfl)
theorem dX4_comesOn_26 : decode cX4_comesOn 26 = .ok (.iload_n 3, 1) := dk_29 (dk_at dksX4_comesOn_1 2 rfl rfl)
theorem dX4_comesOn_27 : decode cX4_comesOn 27 = .ok (.aload_n 0, 1) := dk_42 (dk_at dksX4_comesOn_1 3 rfl rfl)
theorem dX4_comesOn_28 : decode cX4_comesOn 28 = .ok (.getfield 39, 3) := dk_180 0 39 (dk_at dksX4_comesOn_1 4 rfl rfl)
theorem dX4_comesOn_31 : decode cX4_comesOn 31 = .ok (.iload_n 2, 1) := dk_28 (dk_at dksX4_comesOn_1 7 rfl rfl)
theorem dX4_comesOn_32 : decode cX4_comesOn 32 = .ok (.iconst 5, 1) := dk_8 (dk_at dksX4_comesOn_1 8 rfl rfl)
theorem dX4_comesOn_33 : decode cX4_comesOn 33 = .ok (.iadd, 1) := dk_96 (dk_at dksX4_comesOn_1 9 rfl rfl)
theorem dX4_comesOn_34 : decode cX4_comesOn 34 = .ok (.iaload, 1) := dk_46 (dk_at dksX4_comesOn_1 10 rfl rfl)
theorem dX4_comesOn_35 : decode cX4_comesOn 35 = .ok (.invokevirtual 348, 3) := dk_182 1 92 (dk_at dksX4_comesOn_1 11 rfl rfl)
theorem dX4_comesOn_38 : decode cX4_comesOn 38 = .ok (.istore 4, 2) := dk_54 4 (dk_at dksX4_comesOn_1 14 rfl rfl)
theorem dX4_comesOn_40 : decode cX4_comesOn 40 = .ok (.aload_n 0, 1) := dk_42 (dk_at dksX4_comesOn_1 16 rfl rfl)
theorem dX4_comesOn_41 : decode cX4_comesOn 41 = .ok (.iload 4, 2) := dk_21 4 (dk_at dksX4_comesOn_1 17 rfl rfl)
theorem dX4_comesOn_43 : decode cX4_comesOn 43 = .ok (.invokevirtual 335, 3) := dk_182 1 79 (dk_at dksX4_comesOn_1 19 rfl rfl)
theorem dX4_comesOn_46 : decode cX4_comesOn 46 = .ok (.ifCond .eq 4, 3) := dk_153 0 4 (dk_at dksX4_comesOn_2 0 rfl rfl)
theorem dX4_comesOn_49 : decode cX4_comesOn 49 = .ok (.return_, 1) := dk_177 (dk_at dksX4_comesOn_2 3 rfl rfl)
theorem dX4_comesOn_50 : decode cX4_comesOn 50 = .ok (.aload_n 0, 1) := dk_42 (dk_at dksX4_comesOn_2 4 rfl rfl)
theorem dX4_comesOn_51 : decode cX4_comesOn 51 = .ok (.getfield 39, 3) := dk_180 0 39 (dk_at dksX4_comesOn_2 5 rfl rfl)
theorem dX4_comesOn_54 : decode cX4_comesOn 54 = .ok (.iload_n 2, 1) := dk_28 (dk_at dksX4_comesOn_2 8 rfl rfl)
theorem dX4_comesOn_55 : decode cX4_comesOn 55 = .ok (.iload 4, 2) := dk_21 4 (dk_at dksX4_comesOn_2 9 rfl rfl)
theorem dX4_comesOn_57 : decode cX4_comesOn 57 = .ok (.iastore, 1) := dk_79 (dk_at dksX4_comesOn_2 11 rfl rfl)
theorem dX4_comesOn_58 : decode cX4_comesOn 58 = .ok (.aload_n 0, 1) := dk_42 (dk_at dksX4_comesOn_2 12 rfl rfl)
theorem dX4_comesOn_59 : decode cX4_comesOn 59 = .ok (.getfield 39, 3) := dk_180 0 39 (dk_at dksX4_comesOn_2 13 rfl rfl)
theorem dX4_comesOn_62 : decode cX4_comesOn 62 = .ok (.iload_n 2, 1) := dk_28 (dk_at dksX4_comesOn_2 16 rfl rfl)
theorem dX4_comesOn_63 : decode cX4_comesOn 63 = .ok (.iconst 1, 1) := dk_4 (dk_at dksX4_comesOn_2 17 rfl rfl)
theorem dX4_comesOn_64 : decode cX4_comesOn 64 = .ok (.iadd, 1) := dk_96 (dk_at dksX4_comesOn_2 18 rfl rfl)
theorem dX4_comesOn_65 : decode cX4_comesOn 65 = .ok (.iload_n 3, 1) := dk_29 (dk_at dksX4_comesOn_2 19 rfl rfl)
theorem dX4_comesOn_66 : decode cX4_comesOn 66 = .ok (.iconst 2, 1) := dk_5 (dk_at dksX4_comesOn_2 20 rfl rfl)
theorem dX4_comesOn_67 : decode cX4_comesOn 67 = .ok (.iadd, 1) := dk_96 (dk_at dksX4_comesOn_2 21 rfl rfl)
theorem dX4_comesOn_68 : decode cX4_comesOn 68 = .ok (.iconst 4, 1) := dk_7 (dk_at dksX4_comesOn_2 22 rfl rfl)
theorem dX4_comesOn_69 : decode cX4_comesOn 69 = .ok (.irem, 1) := dk_112 (dk_at dksX4_comesOn_2 23 rfl rfl)
theorem dX4_comesOn_70 : decode cX4_comesOn 70 = .ok (.iastore, 1) := dk_79 (dk_at dksX4_comesOn_3 0 rfl rfl)
theorem dX4_comesOn_71 : decode cX4_comesOn 71 = .ok (.aload_n 0, 1) := dk_42 (dk_at dksX4_comesOn_3 1 rfl rfl)
theorem dX4_comesOn_72 : decode cX4_comesOn 72 = .ok (.getfield 39, 3) := dk_180 0 39 (dk_at dksX4_comesOn_3 2 rfl rfl)
theorem dX4_comesOn_75 : decode cX4_comesOn 75 = .ok (.iload_n 2, 1) := dk_28 (dk_at dksX4_comesOn_3 5 rfl rfl)
theorem dX4_comesOn_76 : decode cX4_comesOn 76 = .ok (.iconst 3, 1) := dk_6 (dk_at dksX4_comesOn_3 6 rfl rfl)
theorem dX4_comesOn_77 : decode cX4_comesOn 77 = .ok (.iadd, 1) := dk_96 (dk_at dksX4_comesOn_3 7 rfl rfl)
theorem dX4_comesOn_78 : decode cX4_comesOn 78 = .ok (.iconst 0, 1) := dk_3 (dk_at dksX4_comesOn_3 8 rfl rfl)
theorem dX4_comesOn_79 : decode cX4_comesOn 79 = .ok (.iastore, 1) := dk_79 (dk_at dksX4_comesOn_3 9 rfl rfl)
theorem dX4_comesOn_80 : decode cX4_comesOn 80 = .ok (.return_, 1) := dk_177 (dk_at dksX4_comesOn_3 10 rfl rfl)
abbrev cX4_cellAt : ByteArray := prog_19_method_61_code
def yX4_cellAt : MethodName := ⟨RX4, "cellAt", "(II)I"⟩
def dkwX4_cellAt_2 : List UInt8 := [28, 172, 29, 28, 104, 29, 96, 4, 100, 172, 29, 29, 4, 100, 104, 28, 96, 172, 29, 28, 104, 172]
abbrev dktX4_cellAt_2 : List UInt8 := dkwX4_cellAt_2 ++ []
def dkwX4_cellAt_1 : List UInt8 := [170, 0, 0, 0, 0, 0, 0, 46, 0, 0, 0, 0, 0, 0, 0, 2, 0, 0, 0, 28, 0, 0, 0, 30, 0, 0, 0, 38]
abbrev dktX4_cellAt_1 : List UInt8 := dkwX4_cellAt_1 ++ dktX4_cellAt_2
def dkwX4_cellAt_0 : List UInt8 := [42, 180, 0, 39, 4, 46, 62, 27]
abbrev dktX4_cellAt_0 : List UInt8 := dkwX4_cellAt_0 ++ dktX4_cellAt_1
theorem dksX4_cellAt_0 : cX4_cellAt.data.toList.drop 0 = dktX4_cellAt_0 := by decide +kernel
theorem dksX4_cellAt_1 : cX4_cellAt.data.toList.drop 8 = dktX4_cellAt_1 := dk_seg dksX4_cellAt_0 8 rfl rfl
theorem dksX4_cellAt_2 : cX4_cellAt.data.toList.drop 36 = dktX4_cellAt_2 := dk_seg dksX4_cellAt_1 28 rfl rfl
theorem dX4_cellAt_0 : decode cX4_cellAt 0 = .ok (.aload_n 0, 1) := dk_42 (dk_at dksX4_cellAt_0 0 rfl rfl)
theorem dX4_cellAt_1 : decode cX4_cellAt 1 = .ok (.getfield 39, 3) := dk_180 0 39 (dk_at dksX4_cellAt_0 1 rfl rfl)
theorem dX4_cellAt_4 : decode cX4_cellAt 4 = .ok (.iconst 1, 1) := dk_4 (dk_at dksX4_cellAt_0 4 rfl rfl)
theorem dX4_cellAt_5 : decode cX4_cellAt 5 = .ok (.iaload, 1) := dk_46 (dk_at dksX4_cellAt_0 5 rfl rfl)
theorem dX4_cellAt_6 : decode cX4_cellAt 6 = .ok (.istore_n 3, 1) := dk_62 (dk_at dksX4_cellAt_0 6 rfl rfl)
theorem dX4_cellAt_7 : decode cX4_cellAt 7 = .ok (.iload_n 1, 1) := dk_27 (dk_at dksX4_cellAt_0 7 rfl rfl)
theorem dX4_cellAt_8 : decode cX4_cellAt 8 = .ok (.tableswitch 46 0 2 #[28, 30, 38], 28) := by decide +kernel
theorem dX4_cellAt_36 : decode cX4_cellAt 36 = .ok (.iload_n 2, 1) := dk_28 (dk_at dksX4_cellAt_2 0 rfl rfl)
theorem dX4_cellAt_37 : decode cX4_cellAt 37 = .ok (.ireturn, 1) := dk_172 (dk_at dksX4_cellAt_2 1 rfl rfl)
theorem dX4_cellAt_38 : decode cX4_cellAt 38 = .ok (.iload_n 3, 1) := dk_29 (dk_at dksX4_cellAt_2 2 rfl rfl)
theorem dX4_cellAt_39 : decode cX4_cellAt 39 = .ok (.iload_n 2, 1) := dk_28 (dk_at dksX4_cellAt_2 3 rfl rfl)
theorem dX4_cellAt_40 : decode cX4_cellAt 40 = .ok (.imul, 1) := dk_104 (dk_at dksX4_cellAt_2 4 rfl rfl)
theorem dX4_cellAt_41 : decode cX4_cellAt 41 = .ok (.iload_n 3, 1) := dk_29 (dk_at dksX4_cellAt_2 5 rfl rfl)
theorem dX4_cellAt_42 : decode cX4_cellAt 42 = .ok (.iadd, 1) := dk_96 (dk_at dksX4_cellAt_2 6 rfl rfl)
theorem dX4_cellAt_43 : decode cX4_cellAt 43 = .ok (.iconst 1, 1) := dk_4 (dk_at dksX4_cellAt_2 7 rfl rfl)
theorem dX4_cellAt_44 : decode cX4_cellAt 44 = .ok (.isub, 1) := dk_100 (dk_at dksX4_cellAt_2 8 rfl rfl)
theorem dX4_cellAt_45 : decode cX4_cellAt 45 = .ok (.ireturn, 1) := dk_172 (dk_at dksX4_cellAt_2 9 rfl rfl)
theorem dX4_cellAt_46 : decode cX4_cellAt 46 = .ok (.iload_n 3, 1) := dk_29 (dk_at dksX4_cellAt_2 10 rfl rfl)
theorem dX4_cellAt_47 : decode cX4_cellAt 47 = .ok (.iload_n 3, 1) := dk_29 (dk_at dksX4_cellAt_2 11 rfl rfl)
theorem dX4_cellAt_48 : decode cX4_cellAt 48 = .ok (.iconst 1, 1) := dk_4 (dk_at dksX4_cellAt_2 12 rfl rfl)
theorem dX4_cellAt_49 : decode cX4_cellAt 49 = .ok (.isub, 1) := dk_100 (dk_at dksX4_cellAt_2 13 rfl rfl)
theorem dX4_cellAt_50 : decode cX4_cellAt 50 = .ok (.imul, 1) := dk_104 (dk_at dksX4_cellAt_2 14 rfl rfl)
theorem dX4_cellAt_51 : decode cX4_cellAt 51 = .ok (.iload_n 2, 1) := dk_28 (dk_at dksX4_cellAt_2 15 rfl rfl)
theorem dX4_cellAt_52 : decode cX4_cellAt 52 = .ok (.iadd, 1) := dk_96 (dk_at dksX4_cellAt_2 16 rfl rfl)
theorem dX4_cellAt_53 : decode cX4_cellAt 53 = .ok (.ireturn, 1) := dk_172 (dk_at dksX4_cellAt_2 17 rfl rfl)
theorem dX4_cellAt_54 : decode cX4_cellAt 54 = .ok (.iload_n 3, 1) := dk_29 (dk_at dksX4_cellAt_2 18 rfl rfl)
theorem dX4_cellAt_55 : decode cX4_cellAt 55 = .ok (.iload_n 2, 1) := dk_28 (dk_at dksX4_cellAt_2 19 rfl rfl)
theorem dX4_cellAt_56 : decode cX4_cellAt 56 = .ok (.imul, 1) := dk_104 (dk_at dksX4_cellAt_2 20 rfl rfl)
theorem dX4_cellAt_57 : decode cX4_cellAt 57 = .ok (.ireturn, 1) := dk_172 (dk_at dksX4_cellAt_2 21 rfl rfl)
abbrev cX4_onesWhoAre : ByteArray := prog_19_method_56_code
def yX4_onesWhoAre : MethodName := ⟨RX4, "onesWhoAre", "(I)I"⟩
def dkwX4_onesWhoAre_1 : List UInt8 := [4, 29, 120, 167, 0, 4, 3, 128, 61, 132, 3, 1, 167, 255, 224, 28, 172]
abbrev dktX4_onesWhoAre_1 : List UInt8 := dkwX4_onesWhoAre_1 ++ []
def dkwX4_onesWhoAre_0 : List UInt8 := [3, 61, 3, 62, 29, 42, 180, 0, 39, 5, 46, 162, 0, 28, 28, 42, 29, 182, 1, 41, 27, 160, 0, 9]
abbrev dktX4_onesWhoAre_0 : List UInt8 := dkwX4_onesWhoAre_0 ++ dktX4_onesWhoAre_1
theorem dksX4_onesWhoAre_0 : cX4_onesWhoAre.data.toList.drop 0 = dktX4_onesWhoAre_0 := by decide +kernel
theorem dksX4_onesWhoAre_1 : cX4_onesWhoAre.data.toList.drop 24 = dktX4_onesWhoAre_1 := dk_seg dksX4_onesWhoAre_0 24 rfl rfl
theorem dX4_onesWhoAre_0 : decode cX4_onesWhoAre 0 = .ok (.iconst 0, 1) := dk_3 (dk_at dksX4_onesWhoAre_0 0 rfl rfl)
theorem dX4_onesWhoAre_1 : decode cX4_onesWhoAre 1 = .ok (.istore_n 2, 1) := dk_61 (dk_at dksX4_onesWhoAre_0 1 rfl rfl)
theorem dX4_onesWhoAre_2 : decode cX4_onesWhoAre 2 = .ok (.iconst 0, 1) := dk_3 (dk_at dksX4_onesWhoAre_0 2 rfl rfl)
theorem dX4_onesWhoAre_3 : decode cX4_onesWhoAre 3 = .ok (.istore_n 3, 1) := dk_62 (dk_at dksX4_onesWhoAre_0 3 rfl rfl)
theorem dX4_onesWhoAre_4 : decode cX4_onesWhoAre 4 = .ok (.iload_n 3, 1) := dk_29 (dk_at dksX4_onesWhoAre_0 4 rfl rfl)
theorem dX4_onesWhoAre_5 : decode cX4_onesWhoAre 5 = .ok (.aload_n 0, 1) := dk_42 (dk_at dksX4_onesWhoAre_0 5 rfl rfl)
theorem dX4_onesWhoAre_6 : decode cX4_onesWhoAre 6 = .ok (.getfield 39, 3) := dk_180 0 39 (dk_at dksX4_onesWhoAre_0 6 rfl rfl)
theorem dX4_onesWhoAre_9 : decode cX4_onesWhoAre 9 = .ok (.iconst 2, 1) := dk_5 (dk_at dksX4_onesWhoAre_0 9 rfl rfl)
theorem dX4_onesWhoAre_10 : decode cX4_onesWhoAre 10 = .ok (.iaload, 1) := dk_46 (dk_at dksX4_onesWhoAre_0 10 rfl rfl)
theorem dX4_onesWhoAre_11 : decode cX4_onesWhoAre 11 = .ok (.if_icmp .ge 28, 3) := dk_162 0 28 (dk_at dksX4_onesWhoAre_0 11 rfl rfl)
theorem dX4_onesWhoAre_14 : decode cX4_onesWhoAre 14 = .ok (.iload_n 2, 1) := dk_28 (dk_at dksX4_onesWhoAre_0 14 rfl rfl)
theorem dX4_onesWhoAre_15 : decode cX4_onesWhoAre 15 = .ok (.aload_n 0, 1) := dk_42 (dk_at dksX4_onesWhoAre_0 15 rfl rfl)
theorem dX4_onesWhoAre_16 : decode cX4_onesWhoAre 16 = .ok (.iload_n 3, 1) := dk_29 (dk_at dksX4_onesWhoAre_0 16 rfl rfl)
theorem dX4_onesWhoAre_17 : decode cX4_onesWhoAre 17 = .ok (.invokevirtual 297, 3) := dk_182 1 41 (dk_at dksX4_onesWhoAre_0 17 rfl rfl)
theorem dX4_onesWhoAre_20 : decode cX4_onesWhoAre 20 = .ok (.iload_n 1, 1) := dk_27 (dk_at dksX4_onesWhoAre_0 20 rfl rfl)
theorem dX4_onesWhoAre_21 : decode cX4_onesWhoAre 21 = .ok (.if_icmp .ne 9, 3) := dk_160 0 9 (dk_at dksX4_onesWhoAre_0 21 rfl rfl)
theorem dX4_onesWhoAre_24 : decode cX4_onesWhoAre 24 = .ok (.iconst 1, 1) := dk_4 (dk_at dksX4_onesWhoAre_1 0 rfl rfl)
theorem dX4_onesWhoAre_25 : decode cX4_onesWhoAre 25 = .ok (.iload_n 3, 1) := dk_29 (dk_at dksX4_onesWhoAre_1 1 rfl rfl)
theorem dX4_onesWhoAre_26 : decode cX4_onesWhoAre 26 = .ok (.ishl, 1) := dk_120 (dk_at dksX4_onesWhoAre_1 2 rfl rfl)
theorem dX4_onesWhoAre_27 : decode cX4_onesWhoAre 27 = .ok (.goto 4, 3) := dk_167 0 4 (dk_at dksX4_onesWhoAre_1 3 rfl rfl)
theorem dX4_onesWhoAre_30 : decode cX4_onesWhoAre 30 = .ok (.iconst 0, 1) := dk_3 (dk_at dksX4_onesWhoAre_1 6 rfl rfl)
theorem dX4_onesWhoAre_31 : decode cX4_onesWhoAre 31 = .ok (.ior, 1) := dk_128 (dk_at dksX4_onesWhoAre_1 7 rfl rfl)
theorem dX4_onesWhoAre_32 : decode cX4_onesWhoAre 32 = .ok (.istore_n 2, 1) := dk_61 (dk_at dksX4_onesWhoAre_1 8 rfl rfl)
theorem dX4_onesWhoAre_33 : decode cX4_onesWhoAre 33 = .ok (.iinc 3 1, 3) := dk_132 3 1 (dk_at dksX4_onesWhoAre_1 9 rfl rfl)
theorem dX4_onesWhoAre_36 : decode cX4_onesWhoAre 36 = .ok (.goto (-32), 3) := dk_167 255 224 (dk_at dksX4_onesWhoAre_1 12 rfl rfl)
theorem dX4_onesWhoAre_39 : decode cX4_onesWhoAre 39 = .ok (.iload_n 2, 1) := dk_28 (dk_at dksX4_onesWhoAre_1 15 rfl rfl)
theorem dX4_onesWhoAre_40 : decode cX4_onesWhoAre 40 = .ok (.ireturn, 1) := dk_172 (dk_at dksX4_onesWhoAre_1 16 rfl rfl)
abbrev cX4_give : ByteArray := prog_19_method_79_code
def yX4_give : MethodName := ⟨RX4, "give", "(II)I"⟩
def dkwX4_give_3 : List UInt8 := [182, 1, 44, 172]
abbrev dktX4_give_3 : List UInt8 := dkwX4_give_3 ++ []
def dkwX4_give_2 : List UInt8 := [16, 11, 16, 7, 27, 104, 96, 5, 96, 29, 16, 99, 164, 0, 8, 16, 99, 167, 0, 4, 29, 79, 42, 27]
abbrev dktX4_give_2 : List UInt8 := dkwX4_give_2 ++ dktX4_give_3
def dkwX4_give_1 : List UInt8 := [184, 0, 124, 154, 0, 5, 2, 172, 42, 182, 1, 107, 42, 27, 182, 1, 44, 28, 96, 62, 42, 180, 0, 39]
abbrev dktX4_give_1 : List UInt8 := dkwX4_give_1 ++ dktX4_give_2
def dkwX4_give_0 : List UInt8 := [42, 27, 182, 1, 54, 153, 0, 24, 42, 27, 182, 1, 41, 5, 159, 0, 15, 28, 133, 10, 20, 1, 113]
abbrev dktX4_give_0 : List UInt8 := dkwX4_give_0 ++ dktX4_give_1
theorem dksX4_give_0 : cX4_give.data.toList.drop 0 = dktX4_give_0 := by decide +kernel
theorem dksX4_give_1 : cX4_give.data.toList.drop 23 = dktX4_give_1 := dk_seg dksX4_give_0 23 rfl rfl
theorem dksX4_give_2 : cX4_give.data.toList.drop 47 = dktX4_give_2 := dk_seg dksX4_give_1 24 rfl rfl
theorem dksX4_give_3 : cX4_give.data.toList.drop 71 = dktX4_give_3 := dk_seg dksX4_give_2 24 rfl rfl
theorem dX4_give_0 : decode cX4_give 0 = .ok (.aload_n 0, 1) := dk_42 (dk_at dksX4_give_0 0 rfl rfl)
theorem dX4_give_1 : decode cX4_give 1 = .ok (.iload_n 1, 1) := dk_27 (dk_at dksX4_give_0 1 rfl rfl)
theorem dX4_give_2 : decode cX4_give 2 = .ok (.invokevirtual 310, 3) := dk_182 1 54 (dk_at dksX4_give_0 2 rfl rfl)
theorem dX4_give_5 : decode cX4_give 5 = .ok (.ifCond .eq 24, 3) := dk_153 0 24 (dk_at dksX4_give_0 5 rfl rfl)
theorem dX4_give_8 : decode cX4_give 8 = .ok (.aload_n 0, 1) := dk_42 (dk_at dksX4_give_0 8 rfl rfl)
theorem dX4_give_9 : decode cX4_give 9 = .ok (.iload_n 1, 1) := dk_27 (dk_at dksX4_give_0 9 rfl rfl)
theorem dX4_give_10 : decode cX4_give 10 = .ok (.invokevirtual 297, 3) := dk_182 1 41 (dk_at dksX4_give_0 10 rfl rfl)
theorem dX4_give_13 : decode cX4_give 13 = .ok (.iconst 2, 1) := dk_5 (dk_at dksX4_give_0 13 rfl rfl)
theorem dX4_give_14 : decode cX4_give 14 = .ok (.if_icmp .eq 15, 3) := dk_159 0 15 (dk_at dksX4_give_0 14 rfl rfl)
theorem dX4_give_17 : decode cX4_give 17 = .ok (.iload_n 2, 1) := dk_28 (dk_at dksX4_give_0 17 rfl rfl)
theorem dX4_give_18 : decode cX4_give 18 = .ok (.i2l, 1) := dk_133 (dk_at dksX4_give_0 18 rfl rfl)
theorem dX4_give_19 : decode cX4_give 19 = .ok (.lconst 1, 1) := dk_10 (dk_at dksX4_give_0 19 rfl rfl)
theorem dX4_give_20 : decode cX4_give 20 = .ok (.ldc2_w 369, 3) := dk_20 1 113 (dk_at dksX4_give_0 20 rfl rfl)
theorem dX4_give_23 : decode cX4_give 23 = .ok (.invokestatic 124, 3) := dk_184 0 124 (dk_at dksX4_give_1 0 rfl rfl)
theorem dX4_give_26 : decode cX4_give 26 = .ok (.ifCond .ne 5, 3) := dk_154 0 5 (dk_at dksX4_give_1 3 rfl rfl)
theorem dX4_give_29 : decode cX4_give 29 = .ok (.iconst (-1), 1) := dk_2 (dk_at dksX4_give_1 6 rfl rfl)
theorem dX4_give_30 : decode cX4_give 30 = .ok (.ireturn, 1) := dk_172 (dk_at dksX4_give_1 7 rfl rfl)
theorem dX4_give_31 : decode cX4_give 31 = .ok (.aload_n 0, 1) := dk_42 (dk_at dksX4_give_1 8 rfl rfl)
theorem dX4_give_32 : decode cX4_give 32 = .ok (.invokevirtual 363, 3) := dk_182 1 107 (dk_at dksX4_give_1 9 rfl rfl)
theorem dX4_give_35 : decode cX4_give 35 = .ok (.aload_n 0, 1) := dk_42 (dk_at dksX4_give_1 12 rfl rfl)
theorem dX4_give_36 : decode cX4_give 36 = .ok (.iload_n 1, 1) := dk_27 (dk_at dksX4_give_1 13 rfl rfl)
theorem dX4_give_37 : decode cX4_give 37 = .ok (.invokevirtual 300, 3) := dk_182 1 44 (dk_at dksX4_give_1 14 rfl rfl)
theorem dX4_give_40 : decode cX4_give 40 = .ok (.iload_n 2, 1) := dk_28 (dk_at dksX4_give_1 17 rfl rfl)
theorem dX4_give_41 : decode cX4_give 41 = .ok (.iadd, 1) := dk_96 (dk_at dksX4_give_1 18 rfl rfl)
theorem dX4_give_42 : decode cX4_give 42 = .ok (.istore_n 3, 1) := dk_62 (dk_at dksX4_give_1 19 rfl rfl)
theorem dX4_give_43 : decode cX4_give 43 = .ok (.aload_n 0, 1) := dk_42 (dk_at dksX4_give_1 20 rfl rfl)
theorem dX4_give_44 : decode cX4_give 44 = .ok (.getfield 39, 3) := dk_180 0 39 (dk_at dksX4_give_1 21 rfl rfl)
theorem dX4_give_47 : decode cX4_give 47 = .ok (.bipush 11, 2) := dk_16 11 (dk_at dksX4_give_2 0 rfl rfl)
theorem dX4_give_49 : decode cX4_give 49 = .ok (.bipush 7, 2) := dk_16 7 (dk_at dksX4_give_2 2 rfl rfl)
theorem dX4_give_51 : decode cX4_give 51 = .ok (.iload_n 1, 1) := dk_27 (dk_at dksX4_give_2 4 rfl rfl)
theorem dX4_give_52 : decode cX4_give 52 = .ok (.imul, 1) := dk_104 (dk_at dksX4_give_2 5 rfl rfl)
theorem dX4_give_53 : decode cX4_give 53 = .ok (.iadd, 1) := dk_96 (dk_at dksX4_give_2 6 rfl rfl)
theorem dX4_give_54 : decode cX4_give 54 = .ok (.iconst 2, 1) := dk_5 (dk_at dksX4_give_2 7 rfl rfl)
theorem dX4_give_55 : decode cX4_give 55 = .ok (.iadd, 1) := dk_96 (dk_at dksX4_give_2 8 rfl rfl)
theorem dX4_give_56 : decode cX4_give 56 = .ok (.iload_n 3, 1) := dk_29 (dk_at dksX4_give_2 9 rfl rfl)
theorem dX4_give_57 : decode cX4_give 57 = .ok (.bipush 99, 2) := dk_16 99 (dk_at dksX4_give_2 10 rfl rfl)
theorem dX4_give_59 : decode cX4_give 59 = .ok (.if_icmp .le 8, 3) := dk_164 0 8 (dk_at dksX4_give_2 12 rfl rfl)
theorem dX4_give_62 : decode cX4_give 62 = .ok (.bipush 99, 2) := dk_16 99 (dk_at dksX4_give_2 15 rfl rfl)
theorem dX4_give_64 : decode cX4_give 64 = .ok (.goto 4, 3) := dk_167 0 4 (dk_at dksX4_give_2 17 rfl rfl)
theorem dX4_give_67 : decode cX4_give 67 = .ok (.iload_n 3, 1) := dk_29 (dk_at dksX4_give_2 20 rfl rfl)
theorem dX4_give_68 : decode cX4_give 68 = .ok (.iastore, 1) := dk_79 (dk_at dksX4_give_2 21 rfl rfl)
theorem dX4_give_69 : decode cX4_give 69 = .ok (.aload_n 0, 1) := dk_42 (dk_at dksX4_give_2 22 rfl rfl)
theorem dX4_give_70 : decode cX4_give 70 = .ok (.iload_n 1, 1) := dk_27 (dk_at dksX4_give_2 23 rfl rfl)
theorem dX4_give_71 : decode cX4_give 71 = .ok (.invokevirtual 300, 3) := dk_182 1 44 (dk_at dksX4_give_3 0 rfl rfl)
theorem dX4_give_74 : decode cX4_give 74 = .ok (.ireturn, 1) := dk_172 (dk_at dksX4_give_3 3 rfl rfl)
abbrev cX4_way : ByteArray := prog_19_method_80_code
def yX4_way : MethodName := ⟨RX4, "way", "(II)I"⟩
def dkwX4_way_2 : List UInt8 := [182, 1, 63, 62, 42, 180, 0, 39, 16, 11, 16, 7, 27, 104, 96, 4, 96, 28, 79, 29, 172]
abbrev dktX4_way_2 : List UInt8 := dkwX4_way_2 ++ []
def dkwX4_way_1 : List UInt8 := [184, 0, 124, 153, 0, 12, 42, 27, 182, 1, 63, 28, 160, 0, 5, 2, 172, 42, 182, 1, 107, 42, 27]
abbrev dktX4_way_1 : List UInt8 := dkwX4_way_1 ++ dktX4_way_2
def dkwX4_way_0 : List UInt8 := [42, 27, 182, 1, 54, 153, 0, 32, 42, 27, 182, 1, 57, 153, 0, 24, 28, 133, 9, 20, 1, 39]
abbrev dktX4_way_0 : List UInt8 := dkwX4_way_0 ++ dktX4_way_1
theorem dksX4_way_0 : cX4_way.data.toList.drop 0 = dktX4_way_0 := by decide +kernel
theorem dksX4_way_1 : cX4_way.data.toList.drop 22 = dktX4_way_1 := dk_seg dksX4_way_0 22 rfl rfl
theorem dksX4_way_2 : cX4_way.data.toList.drop 45 = dktX4_way_2 := dk_seg dksX4_way_1 23 rfl rfl
theorem dX4_way_0 : decode cX4_way 0 = .ok (.aload_n 0, 1) := dk_42 (dk_at dksX4_way_0 0 rfl rfl)
theorem dX4_way_1 : decode cX4_way 1 = .ok (.iload_n 1, 1) := dk_27 (dk_at dksX4_way_0 1 rfl rfl)
theorem dX4_way_2 : decode cX4_way 2 = .ok (.invokevirtual 310, 3) := dk_182 1 54 (dk_at dksX4_way_0 2 rfl rfl)
theorem dX4_way_5 : decode cX4_way 5 = .ok (.ifCond .eq 32, 3) := dk_153 0 32 (dk_at dksX4_way_0 5 rfl rfl)
theorem dX4_way_8 : decode cX4_way 8 = .ok (.aload_n 0, 1) := dk_42 (dk_at dksX4_way_0 8 rfl rfl)
theorem dX4_way_9 : decode cX4_way 9 = .ok (.iload_n 1, 1) := dk_27 (dk_at dksX4_way_0 9 rfl rfl)
theorem dX4_way_10 : decode cX4_way 10 = .ok (.invokevirtual 313, 3) := dk_182 1 57 (dk_at dksX4_way_0 10 rfl rfl)
theorem dX4_way_13 : decode cX4_way 13 = .ok (.ifCond .eq 24, 3) := dk_153 0 24 (dk_at dksX4_way_0 13 rfl rfl)
theorem dX4_way_16 : decode cX4_way 16 = .ok (.iload_n 2, 1) := dk_28 (dk_at dksX4_way_0 16 rfl rfl)
theorem dX4_way_17 : decode cX4_way 17 = .ok (.i2l, 1) := dk_133 (dk_at dksX4_way_0 17 rfl rfl)
theorem dX4_way_18 : decode cX4_way 18 = .ok (.lconst 0, 1) := dk_9 (dk_at dksX4_way_0 18 rfl rfl)
theorem dX4_way_19 : decode cX4_way 19 = .ok (.ldc2_w 295, 3) := dk_20 1 39 (dk_at dksX4_way_0 19 rfl rfl)
theorem dX4_way_22 : decode cX4_way 22 = .ok (.invokestatic 124, 3) := dk_184 0 124 (dk_at dksX4_way_1 0 rfl rfl)
theorem dX4_way_25 : decode cX4_way 25 = .ok (.ifCond .eq 12, 3) := dk_153 0 12 (dk_at dksX4_way_1 3 rfl rfl)
theorem dX4_way_28 : decode cX4_way 28 = .ok (.aload_n 0, 1) := dk_42 (dk_at dksX4_way_1 6 rfl rfl)
theorem dX4_way_29 : decode cX4_way 29 = .ok (.iload_n 1, 1) := dk_27 (dk_at dksX4_way_1 7 rfl rfl)
theorem dX4_way_30 : decode cX4_way 30 = .ok (.invokevirtual 319, 3) := dk_182 1 63 (dk_at dksX4_way_1 8 rfl rfl)
theorem dX4_way_33 : decode cX4_way 33 = .ok (.iload_n 2, 1) := dk_28 (dk_at dksX4_way_1 11 rfl rfl)
theorem dX4_way_34 : decode cX4_way 34 = .ok (.if_icmp .ne 5, 3) := dk_160 0 5 (dk_at dksX4_way_1 12 rfl rfl)
theorem dX4_way_37 : decode cX4_way 37 = .ok (.iconst (-1), 1) := dk_2 (dk_at dksX4_way_1 15 rfl rfl)
theorem dX4_way_38 : decode cX4_way 38 = .ok (.ireturn, 1) := dk_172 (dk_at dksX4_way_1 16 rfl rfl)
theorem dX4_way_39 : decode cX4_way 39 = .ok (.aload_n 0, 1) := dk_42 (dk_at dksX4_way_1 17 rfl rfl)
theorem dX4_way_40 : decode cX4_way 40 = .ok (.invokevirtual 363, 3) := dk_182 1 107 (dk_at dksX4_way_1 18 rfl rfl)
theorem dX4_way_43 : decode cX4_way 43 = .ok (.aload_n 0, 1) := dk_42 (dk_at dksX4_way_1 21 rfl rfl)
theorem dX4_way_44 : decode cX4_way 44 = .ok (.iload_n 1, 1) := dk_27 (dk_at dksX4_way_1 22 rfl rfl)
theorem dX4_way_45 : decode cX4_way 45 = .ok (.invokevirtual 319, 3) := dk_182 1 63 (dk_at dksX4_way_2 0 rfl rfl)
theorem dX4_way_48 : decode cX4_way 48 = .ok (.istore_n 3, 1) := dk_62 (dk_at dksX4_way_2 3 rfl rfl)
theorem dX4_way_49 : decode cX4_way 49 = .ok (.aload_n 0, 1) := dk_42 (dk_at dksX4_way_2 4 rfl rfl)
theorem dX4_way_50 : decode cX4_way 50 = .ok (.getfield 39, 3) := dk_180 0 39 (dk_at dksX4_way_2 5 rfl rfl)
theorem dX4_way_53 : decode cX4_way 53 = .ok (.bipush 11, 2) := dk_16 11 (dk_at dksX4_way_2 8 rfl rfl)
theorem dX4_way_55 : decode cX4_way 55 = .ok (.bipush 7, 2) := dk_16 7 (dk_at dksX4_way_2 10 rfl rfl)
theorem dX4_way_57 : decode cX4_way 57 = .ok (.iload_n 1, 1) := dk_27 (dk_at dksX4_way_2 12 rfl rfl)
theorem dX4_way_58 : decode cX4_way 58 = .ok (.imul, 1) := dk_104 (dk_at dksX4_way_2 13 rfl rfl)
theorem dX4_way_59 : decode cX4_way 59 = .ok (.iadd, 1) := dk_96 (dk_at dksX4_way_2 14 rfl rfl)
theorem dX4_way_60 : decode cX4_way 60 = .ok (.iconst 1, 1) := dk_4 (dk_at dksX4_way_2 15 rfl rfl)
theorem dX4_way_61 : decode cX4_way 61 = .ok (.iadd, 1) := dk_96 (dk_at dksX4_way_2 16 rfl rfl)
theorem dX4_way_62 : decode cX4_way 62 = .ok (.iload_n 2, 1) := dk_28 (dk_at dksX4_way_2 17 rfl rfl)
theorem dX4_way_63 : decode cX4_way 63 = .ok (.iastore, 1) := dk_79 (dk_at dksX4_way_2 18 rfl rfl)
theorem dX4_way_64 : decode cX4_way 64 = .ok (.iload_n 3, 1) := dk_29 (dk_at dksX4_way_2 19 rfl rfl)
theorem dX4_way_65 : decode cX4_way 65 = .ok (.ireturn, 1) := dk_172 (dk_at dksX4_way_2 20 rfl rfl)
abbrev cX4_stone : ByteArray := prog_19_method_81_code
def yX4_stone : MethodName := ⟨RX4, "stone", "(I)I"⟩
def dkwX4_stone_1 : List UInt8 := [180, 0, 39, 16, 50, 27, 96, 46, 100, 79, 42, 180, 0, 39, 16, 50, 27, 96, 46, 172]
abbrev dktX4_stone_1 : List UInt8 := dkwX4_stone_1 ++ []
def dkwX4_stone_0 : List UInt8 := [42, 27, 182, 1, 69, 154, 0, 5, 2, 172, 42, 182, 1, 107, 42, 180, 0, 39, 16, 50, 27, 96, 4, 42]
abbrev dktX4_stone_0 : List UInt8 := dkwX4_stone_0 ++ dktX4_stone_1
theorem dksX4_stone_0 : cX4_stone.data.toList.drop 0 = dktX4_stone_0 := by decide +kernel
theorem dksX4_stone_1 : cX4_stone.data.toList.drop 24 = dktX4_stone_1 := dk_seg dksX4_stone_0 24 rfl rfl
theorem dX4_stone_0 : decode cX4_stone 0 = .ok (.aload_n 0, 1) := dk_42 (dk_at dksX4_stone_0 0 rfl rfl)
theorem dX4_stone_1 : decode cX4_stone 1 = .ok (.iload_n 1, 1) := dk_27 (dk_at dksX4_stone_0 1 rfl rfl)
theorem dX4_stone_2 : decode cX4_stone 2 = .ok (.invokevirtual 325, 3) := dk_182 1 69 (dk_at dksX4_stone_0 2 rfl rfl)
theorem dX4_stone_5 : decode cX4_stone 5 = .ok (.ifCond .ne 5, 3) := dk_154 0 5 (dk_at dksX4_stone_0 5 rfl rfl)
theorem dX4_stone_8 : decode cX4_stone 8 = .ok (.iconst (-1), 1) := dk_2 (dk_at dksX4_stone_0 8 rfl rfl)
theorem dX4_stone_9 : decode cX4_stone 9 = .ok (.ireturn, 1) := dk_172 (dk_at dksX4_stone_0 9 rfl rfl)
theorem dX4_stone_10 : decode cX4_stone 10 = .ok (.aload_n 0, 1) := dk_42 (dk_at dksX4_stone_0 10 rfl rfl)
theorem dX4_stone_11 : decode cX4_stone 11 = .ok (.invokevirtual 363, 3) := dk_182 1 107 (dk_at dksX4_stone_0 11 rfl rfl)
theorem dX4_stone_14 : decode cX4_stone 14 = .ok (.aload_n 0, 1) := dk_42 (dk_at dksX4_stone_0 14 rfl rfl)
theorem dX4_stone_15 : decode cX4_stone 15 = .ok (.getfield 39, 3) := dk_180 0 39 (dk_at dksX4_stone_0 15 rfl rfl)
theorem dX4_stone_18 : decode cX4_stone 18 = .ok (.bipush 50, 2) := dk_16 50 (dk_at dksX4_stone_0 18 rfl rfl)
theorem dX4_stone_20 : decode cX4_stone 20 = .ok (.iload_n 1, 1) := dk_27 (dk_at dksX4_stone_0 20 rfl rfl)
theorem dX4_stone_21 : decode cX4_stone 21 = .ok (.iadd, 1) := dk_96 (dk_at dksX4_stone_0 21 rfl rfl)
theorem dX4_stone_22 : decode cX4_stone 22 = .ok (.iconst 1, 1) := dk_4 (dk_at dksX4_stone_0 22 rfl rfl)
theorem dX4_stone_23 : decode cX4_stone 23 = .ok (.aload_n 0, 1) := dk_42 (dk_at dksX4_stone_0 23 rfl rfl)
theorem dX4_stone_24 : decode cX4_stone 24 = .ok (.getfield 39, 3) := dk_180 0 39 (dk_at dksX4_stone_1 0 rfl rfl)
theorem dX4_stone_27 : decode cX4_stone 27 = .ok (.bipush 50, 2) := dk_16 50 (dk_at dksX4_stone_1 3 rfl rfl)
theorem dX4_stone_29 : decode cX4_stone 29 = .ok (.iload_n 1, 1) := dk_27 (dk_at dksX4_stone_1 5 rfl rfl)
theorem dX4_stone_30 : decode cX4_stone 30 = .ok (.iadd, 1) := dk_96 (dk_at dksX4_stone_1 6 rfl rfl)
theorem dX4_stone_31 : decode cX4_stone 31 = .ok (.iaload, 1) := dk_46 (dk_at dksX4_stone_1 7 rfl rfl)
theorem dX4_stone_32 : decode cX4_stone 32 = .ok (.isub, 1) := dk_100 (dk_at dksX4_stone_1 8 rfl rfl)
theorem dX4_stone_33 : decode cX4_stone 33 = .ok (.iastore, 1) := dk_79 (dk_at dksX4_stone_1 9 rfl rfl)
theorem dX4_stone_34 : decode cX4_stone 34 = .ok (.aload_n 0, 1) := dk_42 (dk_at dksX4_stone_1 10 rfl rfl)
theorem dX4_stone_35 : decode cX4_stone 35 = .ok (.getfield 39, 3) := dk_180 0 39 (dk_at dksX4_stone_1 11 rfl rfl)
theorem dX4_stone_38 : decode cX4_stone 38 = .ok (.bipush 50, 2) := dk_16 50 (dk_at dksX4_stone_1 14 rfl rfl)
theorem dX4_stone_40 : decode cX4_stone 40 = .ok (.iload_n 1, 1) := dk_27 (dk_at dksX4_stone_1 16 rfl rfl)
theorem dX4_stone_41 : decode cX4_stone 41 = .ok (.iadd, 1) := dk_96 (dk_at dksX4_stone_1 17 rfl rfl)
theorem dX4_stone_42 : decode cX4_stone 42 = .ok (.iaload, 1) := dk_46 (dk_at dksX4_stone_1 18 rfl rfl)
theorem dX4_stone_43 : decode cX4_stone 43 = .ok (.ireturn, 1) := dk_172 (dk_at dksX4_stone_1 19 rfl rfl)
abbrev cX4_fold : ByteArray := prog_19_method_82_code
def yX4_fold : MethodName := ⟨RX4, "fold", "(II)I"⟩
def dkwX4_fold_2 : List UInt8 := [62, 42, 180, 0, 39, 16, 46, 27, 96, 28, 79, 29, 172]
abbrev dktX4_fold_2 : List UInt8 := dkwX4_fold_2 ++ []
def dkwX4_fold_1 : List UInt8 := [16, 46, 27, 96, 46, 28, 160, 0, 5, 2, 172, 42, 182, 1, 107, 42, 180, 0, 39, 16, 46, 27, 96, 46]
abbrev dktX4_fold_1 : List UInt8 := dkwX4_fold_1 ++ dktX4_fold_2
def dkwX4_fold_0 : List UInt8 := [42, 27, 182, 1, 66, 153, 0, 28, 28, 133, 9, 20, 1, 39, 184, 0, 124, 153, 0, 16, 42, 180, 0, 39]
abbrev dktX4_fold_0 : List UInt8 := dkwX4_fold_0 ++ dktX4_fold_1
theorem dksX4_fold_0 : cX4_fold.data.toList.drop 0 = dktX4_fold_0 := by decide +kernel
theorem dksX4_fold_1 : cX4_fold.data.toList.drop 24 = dktX4_fold_1 := dk_seg dksX4_fold_0 24 rfl rfl
theorem dksX4_fold_2 : cX4_fold.data.toList.drop 48 = dktX4_fold_2 := dk_seg dksX4_fold_1 24 rfl rfl
theorem dX4_fold_0 : decode cX4_fold 0 = .ok (.aload_n 0, 1) := dk_42 (dk_at dksX4_fold_0 0 rfl rfl)
theorem dX4_fold_1 : decode cX4_fold 1 = .ok (.iload_n 1, 1) := dk_27 (dk_at dksX4_fold_0 1 rfl rfl)
theorem dX4_fold_2 : decode cX4_fold 2 = .ok (.invokevirtual 322, 3) := dk_182 1 66 (dk_at dksX4_fold_0 2 rfl rfl)
theorem dX4_fold_5 : decode cX4_fold 5 = .ok (.ifCond .eq 28, 3) := dk_153 0 28 (dk_at dksX4_fold_0 5 rfl rfl)
theorem dX4_fold_8 : decode cX4_fold 8 = .ok (.iload_n 2, 1) := dk_28 (dk_at dksX4_fold_0 8 rfl rfl)
theorem dX4_fold_9 : decode cX4_fold 9 = .ok (.i2l, 1) := dk_133 (dk_at dksX4_fold_0 9 rfl rfl)
theorem dX4_fold_10 : decode cX4_fold 10 = .ok (.lconst 0, 1) := dk_9 (dk_at dksX4_fold_0 10 rfl rfl)
theorem dX4_fold_11 : decode cX4_fold 11 = .ok (.ldc2_w 295, 3) := dk_20 1 39 (dk_at dksX4_fold_0 11 rfl rfl)
theorem dX4_fold_14 : decode cX4_fold 14 = .ok (.invokestatic 124, 3) := dk_184 0 124 (dk_at dksX4_fold_0 14 rfl rfl)
theorem dX4_fold_17 : decode cX4_fold 17 = .ok (.ifCond .eq 16, 3) := dk_153 0 16 (dk_at dksX4_fold_0 17 rfl rfl)
theorem dX4_fold_20 : decode cX4_fold 20 = .ok (.aload_n 0, 1) := dk_42 (dk_at dksX4_fold_0 20 rfl rfl)
theorem dX4_fold_21 : decode cX4_fold 21 = .ok (.getfield 39, 3) := dk_180 0 39 (dk_at dksX4_fold_0 21 rfl rfl)
theorem dX4_fold_24 : decode cX4_fold 24 = .ok (.bipush 46, 2) := dk_16 46 (dk_at dksX4_fold_1 0 rfl rfl)
theorem dX4_fold_26 : decode cX4_fold 26 = .ok (.iload_n 1, 1) := dk_27 (dk_at dksX4_fold_1 2 rfl rfl)
theorem dX4_fold_27 : decode cX4_fold 27 = .ok (.iadd, 1) := dk_96 (dk_at dksX4_fold_1 3 rfl rfl)
theorem dX4_fold_28 : decode cX4_fold 28 = .ok (.iaload, 1) := dk_46 (dk_at dksX4_fold_1 4 rfl rfl)
theorem dX4_fold_29 : decode cX4_fold 29 = .ok (.iload_n 2, 1) := dk_28 (dk_at dksX4_fold_1 5 rfl rfl)
theorem dX4_fold_30 : decode cX4_fold 30 = .ok (.if_icmp .ne 5, 3) := dk_160 0 5 (dk_at dksX4_fold_1 6 rfl rfl)
theorem dX4_fold_33 : decode cX4_fold 33 = .ok (.iconst (-1), 1) := dk_2 (dk_at dksX4_fold_1 9 rfl rfl)
theorem dX4_fold_34 : decode cX4_fold 34 = .ok (.ireturn, 1) := dk_172 (dk_at dksX4_fold_1 10 rfl rfl)
theorem dX4_fold_35 : decode cX4_fold 35 = .ok (.aload_n 0, 1) := dk_42 (dk_at dksX4_fold_1 11 rfl rfl)
theorem dX4_fold_36 : decode cX4_fold 36 = .ok (.invokevirtual 363, 3) := dk_182 1 107 (dk_at dksX4_fold_1 12 rfl rfl)
theorem dX4_fold_39 : decode cX4_fold 39 = .ok (.aload_n 0, 1) := dk_42 (dk_at dksX4_fold_1 15 rfl rfl)
theorem dX4_fold_40 : decode cX4_fold 40 = .ok (.getfield 39, 3) := dk_180 0 39 (dk_at dksX4_fold_1 16 rfl rfl)
theorem dX4_fold_43 : decode cX4_fold 43 = .ok (.bipush 46, 2) := dk_16 46 (dk_at dksX4_fold_1 19 rfl rfl)
theorem dX4_fold_45 : decode cX4_fold 45 = .ok (.iload_n 1, 1) := dk_27 (dk_at dksX4_fold_1 21 rfl rfl)
theorem dX4_fold_46 : decode cX4_fold 46 = .ok (.iadd, 1) := dk_96 (dk_at dksX4_fold_1 22 rfl rfl)
theorem dX4_fold_47 : decode cX4_fold 47 = .ok (.iaload, 1) := dk_46 (dk_at dksX4_fold_1 23 rfl rfl)
theorem dX4_fold_48 : decode cX4_fold 48 = .ok (.istore_n 3, 1) := dk_62 (dk_at dksX4_fold_2 0 rfl rfl)
theorem dX4_fold_49 : decode cX4_fold 49 = .ok (.aload_n 0, 1) := dk_42 (dk_at dksX4_fold_2 1 rfl rfl)
theorem dX4_fold_50 : decode cX4_fold 50 = .ok (.getfield 39, 3) := dk_180 0 39 (dk_at dksX4_fold_2 2 rfl rfl)
theorem dX4_fold_53 : decode cX4_fold 53 = .ok (.bipush 46, 2) := dk_16 46 (dk_at dksX4_fold_2 5 rfl rfl)
theorem dX4_fold_55 : decode cX4_fold 55 = .ok (.iload_n 1, 1) := dk_27 (dk_at dksX4_fold_2 7 rfl rfl)
theorem dX4_fold_56 : decode cX4_fold 56 = .ok (.iadd, 1) := dk_96 (dk_at dksX4_fold_2 8 rfl rfl)
theorem dX4_fold_57 : decode cX4_fold 57 = .ok (.iload_n 2, 1) := dk_28 (dk_at dksX4_fold_2 9 rfl rfl)
theorem dX4_fold_58 : decode cX4_fold 58 = .ok (.iastore, 1) := dk_79 (dk_at dksX4_fold_2 10 rfl rfl)
theorem dX4_fold_59 : decode cX4_fold 59 = .ok (.iload_n 3, 1) := dk_29 (dk_at dksX4_fold_2 11 rfl rfl)
theorem dX4_fold_60 : decode cX4_fold 60 = .ok (.ireturn, 1) := dk_172 (dk_at dksX4_fold_2 12 rfl rfl)
abbrev cX4_ahead : ByteArray := prog_19_method_85_code
def yX4_ahead : MethodName := ⟨RX4, "ahead", "(III)I"⟩
def dkwX4_ahead_4 : List UInt8 := [21, 4, 172]
abbrev dktX4_ahead_4 : List UInt8 := dkwX4_ahead_4 ++ []
def dkwX4_ahead_3 : List UInt8 := [4, 160, 0, 11, 42, 27, 182, 1, 63, 167, 0, 8, 42, 27, 182, 1, 44, 54, 4, 42, 182, 1, 125]
abbrev dktX4_ahead_3 : List UInt8 := dkwX4_ahead_3 ++ dktX4_ahead_4
def dkwX4_ahead_2 : List UInt8 := [154, 0, 23, 42, 27, 182, 1, 57, 153, 0, 11, 42, 27, 182, 1, 60, 167, 0, 25, 2, 167, 0, 21, 29]
abbrev dktX4_ahead_2 : List UInt8 := dkwX4_ahead_2 ++ dktX4_ahead_3
def dkwX4_ahead_1 : List UInt8 := [20, 1, 117, 184, 0, 124, 154, 0, 6, 16, 254, 172, 42, 182, 1, 119, 42, 28, 182, 1, 122, 29]
abbrev dktX4_ahead_1 : List UInt8 := dkwX4_ahead_1 ++ dktX4_ahead_2
def dkwX4_ahead_0 : List UInt8 := [42, 27, 182, 1, 54, 153, 0, 27, 28, 133, 9, 20, 1, 115, 184, 0, 124, 153, 0, 15, 29, 133, 9]
abbrev dktX4_ahead_0 : List UInt8 := dkwX4_ahead_0 ++ dktX4_ahead_1
theorem dksX4_ahead_0 : cX4_ahead.data.toList.drop 0 = dktX4_ahead_0 := by decide +kernel
theorem dksX4_ahead_1 : cX4_ahead.data.toList.drop 23 = dktX4_ahead_1 := dk_seg dksX4_ahead_0 23 rfl rfl
theorem dksX4_ahead_2 : cX4_ahead.data.toList.drop 45 = dktX4_ahead_2 := dk_seg dksX4_ahead_1 22 rfl rfl
theorem dksX4_ahead_3 : cX4_ahead.data.toList.drop 69 = dktX4_ahead_3 := dk_seg dksX4_ahead_2 24 rfl rfl
theorem dksX4_ahead_4 : cX4_ahead.data.toList.drop 92 = dktX4_ahead_4 := dk_seg dksX4_ahead_3 23 rfl rfl
theorem dX4_ahead_0 : decode cX4_ahead 0 = .ok (.aload_n 0, 1) := dk_42 (dk_at dksX4_ahead_0 0 rfl rfl)
theorem dX4_ahead_1 : decode cX4_ahead 1 = .ok (.iload_n 1, 1) := dk_27 (dk_at dksX4_ahead_0 1 rfl rfl)
theorem dX4_ahead_2 : decode cX4_ahead 2 = .ok (.invokevirtual 310, 3) := dk_182 1 54 (dk_at dksX4_ahead_0 2 rfl rfl)
theorem dX4_ahead_5 : decode cX4_ahead 5 = .ok (.ifCond .eq 27, 3) := dk_153 0 27 (dk_at dksX4_ahead_0 5 rfl rfl)
theorem dX4_ahead_8 : decode cX4_ahead 8 = .ok (.iload_n 2, 1) := dk_28 (dk_at dksX4_ahead_0 8 rfl rfl)
theorem dX4_ahead_9 : decode cX4_ahead 9 = .ok (.i2l, 1) := dk_133 (dk_at dksX4_ahead_0 9 rfl rfl)
theorem dX4_ahead_10 : decode cX4_ahead 10 = .ok (.lconst 0, 1) := dk_9 (dk_at dksX4_ahead_0 10 rfl rfl)
theorem dX4_ahead_11 : decode cX4_ahead 11 = .ok (.ldc2_w 371, 3) := dk_20 1 115 (dk_at dksX4_ahead_0 11 rfl rfl)
theorem dX4_ahead_14 : decode cX4_ahead 14 = .ok (.invokestatic 124, 3) := dk_184 0 124 (dk_at dksX4_ahead_0 14 rfl rfl)
theorem dX4_ahead_17 : decode cX4_ahead 17 = .ok (.ifCond .eq 15, 3) := dk_153 0 15 (dk_at dksX4_ahead_0 17 rfl rfl)
theorem dX4_ahead_20 : decode cX4_ahead 20 = .ok (.iload_n 3, 1) := dk_29 (dk_at dksX4_ahead_0 20 rfl rfl)
theorem dX4_ahead_21 : decode cX4_ahead 21 = .ok (.i2l, 1) := dk_133 (dk_at dksX4_ahead_0 21 rfl rfl)
theorem dX4_ahead_22 : decode cX4_ahead 22 = .ok (.lconst 0, 1) := dk_9 (dk_at dksX4_ahead_0 22 rfl rfl)
theorem dX4_ahead_23 : decode cX4_ahead 23 = .ok (.ldc2_w 373, 3) := dk_20 1 117 (dk_at dksX4_ahead_1 0 rfl rfl)
theorem dX4_ahead_26 : decode cX4_ahead 26 = .ok (.invokestatic 124, 3) := dk_184 0 124 (dk_at dksX4_ahead_1 3 rfl rfl)
theorem dX4_ahead_29 : decode cX4_ahead 29 = .ok (.ifCond .ne 6, 3) := dk_154 0 6 (dk_at dksX4_ahead_1 6 rfl rfl)
theorem dX4_ahead_32 : decode cX4_ahead 32 = .ok (.bipush (-2), 2) := dk_16 254 (dk_at dksX4_ahead_1 9 rfl rfl)
theorem dX4_ahead_34 : decode cX4_ahead 34 = .ok (.ireturn, 1) := dk_172 (dk_at dksX4_ahead_1 11 rfl rfl)
theorem dX4_ahead_35 : decode cX4_ahead 35 = .ok (.aload_n 0, 1) := dk_42 (dk_at dksX4_ahead_1 12 rfl rfl)
theorem dX4_ahead_36 : decode cX4_ahead 36 = .ok (.invokevirtual 375, 3) := dk_182 1 119 (dk_at dksX4_ahead_1 13 rfl rfl)
theorem dX4_ahead_39 : decode cX4_ahead 39 = .ok (.aload_n 0, 1) := dk_42 (dk_at dksX4_ahead_1 16 rfl rfl)
theorem dX4_ahead_40 : decode cX4_ahead 40 = .ok (.iload_n 2, 1) := dk_28 (dk_at dksX4_ahead_1 17 rfl rfl)
theorem dX4_ahead_41 : decode cX4_ahead 41 = .ok (.invokevirtual 378, 3) := dk_182 1 122 (dk_at dksX4_ahead_1 18 rfl rfl)
theorem dX4_ahead_44 : decode cX4_ahead 44 = .ok (.iload_n 3, 1) := dk_29 (dk_at dksX4_ahead_1 21 rfl rfl)
theorem dX4_ahead_45 : decode cX4_ahead 45 = .ok (.ifCond .ne 23, 3) := dk_154 0 23 (dk_at dksX4_ahead_2 0 rfl rfl)
theorem dX4_ahead_48 : decode cX4_ahead 48 = .ok (.aload_n 0, 1) := dk_42 (dk_at dksX4_ahead_2 3 rfl rfl)
theorem dX4_ahead_49 : decode cX4_ahead 49 = .ok (.iload_n 1, 1) := dk_27 (dk_at dksX4_ahead_2 4 rfl rfl)
theorem dX4_ahead_50 : decode cX4_ahead 50 = .ok (.invokevirtual 313, 3) := dk_182 1 57 (dk_at dksX4_ahead_2 5 rfl rfl)
theorem dX4_ahead_53 : decode cX4_ahead 53 = .ok (.ifCond .eq 11, 3) := dk_153 0 11 (dk_at dksX4_ahead_2 8 rfl rfl)
theorem dX4_ahead_56 : decode cX4_ahead 56 = .ok (.aload_n 0, 1) := dk_42 (dk_at dksX4_ahead_2 11 rfl rfl)
theorem dX4_ahead_57 : decode cX4_ahead 57 = .ok (.iload_n 1, 1) := dk_27 (dk_at dksX4_ahead_2 12 rfl rfl)
theorem dX4_ahead_58 : decode cX4_ahead 58 = .ok (.invokevirtual 316, 3) := dk_182 1 60 (dk_at dksX4_ahead_2 13 rfl rfl)
theorem dX4_ahead_61 : decode cX4_ahead 61 = .ok (.goto 25, 3) := dk_167 0 25 (dk_at dksX4_ahead_2 16 rfl rfl)
theorem dX4_ahead_64 : decode cX4_ahead 64 = .ok (.iconst (-1), 1) := dk_2 (dk_at dksX4_ahead_2 19 rfl rfl)
theorem dX4_ahead_65 : decode cX4_ahead 65 = .ok (.goto 21, 3) := dk_167 0 21 (dk_at dksX4_ahead_2 20 rfl rfl)
theorem dX4_ahead_68 : decode cX4_ahead 68 = .ok (.iload_n 3, 1) := dk_29 (dk_at dksX4_ahead_2 23 rfl rfl)
theorem dX4_ahead_69 : decode cX4_ahead 69 = .ok (.iconst 1, 1) := dk_4 (dk_at dksX4_ahead_3 0 rfl rfl)
theorem dX4_ahead_70 : decode cX4_ahead 70 = .ok (.if_icmp .ne 11, 3) := dk_160 0 11 (dk_at dksX4_ahead_3 1 rfl rfl)
theorem dX4_ahead_73 : decode cX4_ahead 73 = .ok (.aload_n 0, 1) := dk_42 (dk_at dksX4_ahead_3 4 rfl rfl)
theorem dX4_ahead_74 : decode cX4_ahead 74 = .ok (.iload_n 1, 1) := dk_27 (dk_at dksX4_ahead_3 5 rfl rfl)
theorem dX4_ahead_75 : decode cX4_ahead 75 = .ok (.invokevirtual 319, 3) := dk_182 1 63 (dk_at dksX4_ahead_3 6 rfl rfl)
theorem dX4_ahead_78 : decode cX4_ahead 78 = .ok (.goto 8, 3) := dk_167 0 8 (dk_at dksX4_ahead_3 9 rfl rfl)
theorem dX4_ahead_81 : decode cX4_ahead 81 = .ok (.aload_n 0, 1) := dk_42 (dk_at dksX4_ahead_3 12 rfl rfl)
theorem dX4_ahead_82 : decode cX4_ahead 82 = .ok (.iload_n 1, 1) := dk_27 (dk_at dksX4_ahead_3 13 rfl rfl)
theorem dX4_ahead_83 : decode cX4_ahead 83 = .ok (.invokevirtual 300, 3) := dk_182 1 44 (dk_at dksX4_ahead_3 14 rfl rfl)
theorem dX4_ahead_86 : decode cX4_ahead 86 = .ok (.istore 4, 2) := dk_54 4 (dk_at dksX4_ahead_3 17 rfl rfl)
theorem dX4_ahead_88 : decode cX4_ahead 88 = .ok (.aload_n 0, 1) := dk_42 (dk_at dksX4_ahead_3 19 rfl rfl)
theorem dX4_ahead_89 : decode cX4_ahead 89 = .ok (.invokevirtual 381, 3) := dk_182 1 125 (dk_at dksX4_ahead_3 20 rfl rfl)
theorem dX4_ahead_92 : decode cX4_ahead 92 = .ok (.iload 4, 2) := dk_21 4 (dk_at dksX4_ahead_4 0 rfl rfl)
theorem dX4_ahead_94 : decode cX4_ahead 94 = .ok (.ireturn, 1) := dk_172 (dk_at dksX4_ahead_4 2 rfl rfl)
abbrev cX4_keeps : ByteArray := prog_19_method_83_code
def yX4_keeps : MethodName := ⟨RX4, "keeps", "()V"⟩
def dkwX4_keeps_1 : List UInt8 := [132, 1, 1, 167, 255, 232, 177]
abbrev dktX4_keeps_1 : List UInt8 := dkwX4_keeps_1 ++ []
def dkwX4_keeps_0 : List UInt8 := [3, 60, 27, 16, 76, 162, 0, 24, 42, 180, 0, 49, 27, 42, 180, 0, 39, 16, 10, 27, 96, 46, 79]
abbrev dktX4_keeps_0 : List UInt8 := dkwX4_keeps_0 ++ dktX4_keeps_1
theorem dksX4_keeps_0 : cX4_keeps.data.toList.drop 0 = dktX4_keeps_0 := by decide +kernel
theorem dksX4_keeps_1 : cX4_keeps.data.toList.drop 23 = dktX4_keeps_1 := dk_seg dksX4_keeps_0 23 rfl rfl
theorem dX4_keeps_0 : decode cX4_keeps 0 = .ok (.iconst 0, 1) := dk_3 (dk_at dksX4_keeps_0 0 rfl rfl)
theorem dX4_keeps_1 : decode cX4_keeps 1 = .ok (.istore_n 1, 1) := dk_60 (dk_at dksX4_keeps_0 1 rfl rfl)
theorem dX4_keeps_2 : decode cX4_keeps 2 = .ok (.iload_n 1, 1) := dk_27 (dk_at dksX4_keeps_0 2 rfl rfl)
theorem dX4_keeps_3 : decode cX4_keeps 3 = .ok (.bipush 76, 2) := dk_16 76 (dk_at dksX4_keeps_0 3 rfl rfl)
theorem dX4_keeps_5 : decode cX4_keeps 5 = .ok (.if_icmp .ge 24, 3) := dk_162 0 24 (dk_at dksX4_keeps_0 5 rfl rfl)
theorem dX4_keeps_8 : decode cX4_keeps 8 = .ok (.aload_n 0, 1) := dk_42 (dk_at dksX4_keeps_0 8 rfl rfl)
theorem dX4_keeps_9 : decode cX4_keeps 9 = .ok (.getfield 49, 3) := dk_180 0 49 (dk_at dksX4_keeps_0 9 rfl rfl)
theorem dX4_keeps_12 : decode cX4_keeps 12 = .ok (.iload_n 1, 1) := dk_27 (dk_at dksX4_keeps_0 12 rfl rfl)
theorem dX4_keeps_13 : decode cX4_keeps 13 = .ok (.aload_n 0, 1) := dk_42 (dk_at dksX4_keeps_0 13 rfl rfl)
theorem dX4_keeps_14 : decode cX4_keeps 14 = .ok (.getfield 39, 3) := dk_180 0 39 (dk_at dksX4_keeps_0 14 rfl rfl)
theorem dX4_keeps_17 : decode cX4_keeps 17 = .ok (.bipush 10, 2) := dk_16 10 (dk_at dksX4_keeps_0 17 rfl rfl)
theorem dX4_keeps_19 : decode cX4_keeps 19 = .ok (.iload_n 1, 1) := dk_27 (dk_at dksX4_keeps_0 19 rfl rfl)
theorem dX4_keeps_20 : decode cX4_keeps 20 = .ok (.iadd, 1) := dk_96 (dk_at dksX4_keeps_0 20 rfl rfl)
theorem dX4_keeps_21 : decode cX4_keeps 21 = .ok (.iaload, 1) := dk_46 (dk_at dksX4_keeps_0 21 rfl rfl)
theorem dX4_keeps_22 : decode cX4_keeps 22 = .ok (.iastore, 1) := dk_79 (dk_at dksX4_keeps_0 22 rfl rfl)
theorem dX4_keeps_23 : decode cX4_keeps 23 = .ok (.iinc 1 1, 3) := dk_132 1 1 (dk_at dksX4_keeps_1 0 rfl rfl)
theorem dX4_keeps_26 : decode cX4_keeps 26 = .ok (.goto (-24), 3) := dk_167 255 232 (dk_at dksX4_keeps_1 3 rfl rfl)
theorem dX4_keeps_29 : decode cX4_keeps 29 = .ok (.return_, 1) := dk_177 (dk_at dksX4_keeps_1 6 rfl rfl)
abbrev cX4_passesAll : ByteArray := prog_19_method_75_code
def yX4_passesAll : MethodName := ⟨RX4, "passesAll", "(I)V"⟩
def dkwX4_passesAll_0 : List UInt8 := [3, 61, 28, 27, 162, 0, 13, 42, 182, 1, 104, 132, 2, 1, 167, 255, 244, 177]
abbrev dktX4_passesAll_0 : List UInt8 := dkwX4_passesAll_0 ++ []
theorem dksX4_passesAll_0 : cX4_passesAll.data.toList.drop 0 = dktX4_passesAll_0 := by decide +kernel
theorem dX4_passesAll_0 : decode cX4_passesAll 0 = .ok (.iconst 0, 1) := dk_3 (dk_at dksX4_passesAll_0 0 rfl rfl)
theorem dX4_passesAll_1 : decode cX4_passesAll 1 = .ok (.istore_n 2, 1) := dk_61 (dk_at dksX4_passesAll_0 1 rfl rfl)
theorem dX4_passesAll_2 : decode cX4_passesAll 2 = .ok (.iload_n 2, 1) := dk_28 (dk_at dksX4_passesAll_0 2 rfl rfl)
theorem dX4_passesAll_3 : decode cX4_passesAll 3 = .ok (.iload_n 1, 1) := dk_27 (dk_at dksX4_passesAll_0 3 rfl rfl)
theorem dX4_passesAll_4 : decode cX4_passesAll 4 = .ok (.if_icmp .ge 13, 3) := dk_162 0 13 (dk_at dksX4_passesAll_0 4 rfl rfl)
theorem dX4_passesAll_7 : decode cX4_passesAll 7 = .ok (.aload_n 0, 1) := dk_42 (dk_at dksX4_passesAll_0 7 rfl rfl)
theorem dX4_passesAll_8 : decode cX4_passesAll 8 = .ok (.invokevirtual 360, 3) := dk_182 1 104 (dk_at dksX4_passesAll_0 8 rfl rfl)
theorem dX4_passesAll_11 : decode cX4_passesAll 11 = .ok (.iinc 2 1, 3) := dk_132 2 1 (dk_at dksX4_passesAll_0 11 rfl rfl)
theorem dX4_passesAll_14 : decode cX4_passesAll 14 = .ok (.goto (-12), 3) := dk_167 255 244 (dk_at dksX4_passesAll_0 14 rfl rfl)
theorem dX4_passesAll_17 : decode cX4_passesAll 17 = .ok (.return_, 1) := dk_177 (dk_at dksX4_passesAll_0 17 rfl rfl)
abbrev cX4_laysBack : ByteArray := prog_19_method_84_code
def yX4_laysBack : MethodName := ⟨RX4, "laysBack", "()V"⟩
def dkwX4_laysBack_1 : List UInt8 := [132, 1, 1, 167, 255, 232, 177]
abbrev dktX4_laysBack_1 : List UInt8 := dkwX4_laysBack_1 ++ []
def dkwX4_laysBack_0 : List UInt8 := [3, 60, 27, 16, 76, 162, 0, 24, 42, 180, 0, 39, 16, 10, 27, 96, 42, 180, 0, 49, 27, 46, 79]
abbrev dktX4_laysBack_0 : List UInt8 := dkwX4_laysBack_0 ++ dktX4_laysBack_1
theorem dksX4_laysBack_0 : cX4_laysBack.data.toList.drop 0 = dktX4_laysBack_0 := by decide +kernel
theorem dksX4_laysBack_1 : cX4_laysBack.data.toList.drop 23 = dktX4_laysBack_1 := dk_seg dksX4_laysBack_0 23 rfl rfl
theorem dX4_laysBack_0 : decode cX4_laysBack 0 = .ok (.iconst 0, 1) := dk_3 (dk_at dksX4_laysBack_0 0 rfl rfl)
theorem dX4_laysBack_1 : decode cX4_laysBack 1 = .ok (.istore_n 1, 1) := dk_60 (dk_at dksX4_laysBack_0 1 rfl rfl)
theorem dX4_laysBack_2 : decode cX4_laysBack 2 = .ok (.iload_n 1, 1) := dk_27 (dk_at dksX4_laysBack_0 2 rfl rfl)
theorem dX4_laysBack_3 : decode cX4_laysBack 3 = .ok (.bipush 76, 2) := dk_16 76 (dk_at dksX4_laysBack_0 3 rfl rfl)
theorem dX4_laysBack_5 : decode cX4_laysBack 5 = .ok (.if_icmp .ge 24, 3) := dk_162 0 24 (dk_at dksX4_laysBack_0 5 rfl rfl)
theorem dX4_laysBack_8 : decode cX4_laysBack 8 = .ok (.aload_n 0, 1) := dk_42 (dk_at dksX4_laysBack_0 8 rfl rfl)
theorem dX4_laysBack_9 : decode cX4_laysBack 9 = .ok (.getfield 39, 3) := dk_180 0 39 (dk_at dksX4_laysBack_0 9 rfl rfl)
theorem dX4_laysBack_12 : decode cX4_laysBack 12 = .ok (.bipush 10, 2) := dk_16 10 (dk_at dksX4_laysBack_0 12 rfl rfl)
theorem dX4_laysBack_14 : decode cX4_laysBack 14 = .ok (.iload_n 1, 1) := dk_27 (dk_at dksX4_laysBack_0 14 rfl rfl)
theorem dX4_laysBack_15 : decode cX4_laysBack 15 = .ok (.iadd, 1) := dk_96 (dk_at dksX4_laysBack_0 15 rfl rfl)
theorem dX4_laysBack_16 : decode cX4_laysBack 16 = .ok (.aload_n 0, 1) := dk_42 (dk_at dksX4_laysBack_0 16 rfl rfl)
theorem dX4_laysBack_17 : decode cX4_laysBack 17 = .ok (.getfield 49, 3) := dk_180 0 49 (dk_at dksX4_laysBack_0 17 rfl rfl)
theorem dX4_laysBack_20 : decode cX4_laysBack 20 = .ok (.iload_n 1, 1) := dk_27 (dk_at dksX4_laysBack_0 20 rfl rfl)
theorem dX4_laysBack_21 : decode cX4_laysBack 21 = .ok (.iaload, 1) := dk_46 (dk_at dksX4_laysBack_0 21 rfl rfl)
theorem dX4_laysBack_22 : decode cX4_laysBack 22 = .ok (.iastore, 1) := dk_79 (dk_at dksX4_laysBack_0 22 rfl rfl)
theorem dX4_laysBack_23 : decode cX4_laysBack 23 = .ok (.iinc 1 1, 3) := dk_132 1 1 (dk_at dksX4_laysBack_1 0 rfl rfl)
theorem dX4_laysBack_26 : decode cX4_laysBack 26 = .ok (.goto (-24), 3) := dk_167 255 232 (dk_at dksX4_laysBack_1 3 rfl rfl)
theorem dX4_laysBack_29 : decode cX4_laysBack 29 = .ok (.return_, 1) := dk_177 (dk_at dksX4_laysBack_1 6 rfl rfl)
abbrev cX4_home : ByteArray := prog_19_method_86_code
def yX4_home : MethodName := ⟨RX4, "home", "(I)I"⟩
def dkwX4_home_2 : List UInt8 := [182, 1, 104, 132, 3, 1, 167, 255, 222, 42, 182, 1, 125, 28, 172]
abbrev dktX4_home_2 : List UInt8 := dkwX4_home_2 ++ []
def dkwX4_home_1 : List UInt8 := [162, 0, 33, 28, 156, 0, 29, 42, 27, 182, 1, 57, 153, 0, 11, 42, 180, 0, 39, 16, 10, 46, 61, 42]
abbrev dktX4_home_1 : List UInt8 := dkwX4_home_1 ++ dktX4_home_2
def dkwX4_home_0 : List UInt8 := [42, 27, 182, 1, 54, 154, 0, 5, 2, 172, 16, 254, 61, 42, 182, 1, 119, 3, 62, 29, 17, 0, 200]
abbrev dktX4_home_0 : List UInt8 := dkwX4_home_0 ++ dktX4_home_1
theorem dksX4_home_0 : cX4_home.data.toList.drop 0 = dktX4_home_0 := by decide +kernel
theorem dksX4_home_1 : cX4_home.data.toList.drop 23 = dktX4_home_1 := dk_seg dksX4_home_0 23 rfl rfl
theorem dksX4_home_2 : cX4_home.data.toList.drop 47 = dktX4_home_2 := dk_seg dksX4_home_1 24 rfl rfl
theorem dX4_home_0 : decode cX4_home 0 = .ok (.aload_n 0, 1) := dk_42 (dk_at dksX4_home_0 0 rfl rfl)
theorem dX4_home_1 : decode cX4_home 1 = .ok (.iload_n 1, 1) := dk_27 (dk_at dksX4_home_0 1 rfl rfl)
theorem dX4_home_2 : decode cX4_home 2 = .ok (.invokevirtual 310, 3) := dk_182 1 54 (dk_at dksX4_home_0 2 rfl rfl)
theorem dX4_home_5 : decode cX4_home 5 = .ok (.ifCond .ne 5, 3) := dk_154 0 5 (dk_at dksX4_home_0 5 rfl rfl)
theorem dX4_home_8 : decode cX4_home 8 = .ok (.iconst (-1), 1) := dk_2 (dk_at dksX4_home_0 8 rfl rfl)
theorem dX4_home_9 : decode cX4_home 9 = .ok (.ireturn, 1) := dk_172 (dk_at dksX4_home_0 9 rfl rfl)
theorem dX4_home_10 : decode cX4_home 10 = .ok (.bipush (-2), 2) := dk_16 254 (dk_at dksX4_home_0 10 rfl rfl)
theorem dX4_home_12 : decode cX4_home 12 = .ok (.istore_n 2, 1) := dk_61 (dk_at dksX4_home_0 12 rfl rfl)
theorem dX4_home_13 : decode cX4_home 13 = .ok (.aload_n 0, 1) := dk_42 (dk_at dksX4_home_0 13 rfl rfl)
theorem dX4_home_14 : decode cX4_home 14 = .ok (.invokevirtual 375, 3) := dk_182 1 119 (dk_at dksX4_home_0 14 rfl rfl)
theorem dX4_home_17 : decode cX4_home 17 = .ok (.iconst 0, 1) := dk_3 (dk_at dksX4_home_0 17 rfl rfl)
theorem dX4_home_18 : decode cX4_home 18 = .ok (.istore_n 3, 1) := dk_62 (dk_at dksX4_home_0 18 rfl rfl)
theorem dX4_home_19 : decode cX4_home 19 = .ok (.iload_n 3, 1) := dk_29 (dk_at dksX4_home_0 19 rfl rfl)
theorem dX4_home_20 : decode cX4_home 20 = .ok (.sipush 200, 3) := dk_17 0 200 (dk_at dksX4_home_0 20 rfl rfl)
theorem dX4_home_23 : decode cX4_home 23 = .ok (.if_icmp .ge 33, 3) := dk_162 0 33 (dk_at dksX4_home_1 0 rfl rfl)
theorem dX4_home_26 : decode cX4_home 26 = .ok (.iload_n 2, 1) := dk_28 (dk_at dksX4_home_1 3 rfl rfl)
theorem dX4_home_27 : decode cX4_home 27 = .ok (.ifCond .ge 29, 3) := dk_156 0 29 (dk_at dksX4_home_1 4 rfl rfl)
theorem dX4_home_30 : decode cX4_home 30 = .ok (.aload_n 0, 1) := dk_42 (dk_at dksX4_home_1 7 rfl rfl)
theorem dX4_home_31 : decode cX4_home 31 = .ok (.iload_n 1, 1) := dk_27 (dk_at dksX4_home_1 8 rfl rfl)
theorem dX4_home_32 : decode cX4_home 32 = .ok (.invokevirtual 313, 3) := dk_182 1 57 (dk_at dksX4_home_1 9 rfl rfl)
theorem dX4_home_35 : decode cX4_home 35 = .ok (.ifCond .eq 11, 3) := dk_153 0 11 (dk_at dksX4_home_1 12 rfl rfl)
theorem dX4_home_38 : decode cX4_home 38 = .ok (.aload_n 0, 1) := dk_42 (dk_at dksX4_home_1 15 rfl rfl)
theorem dX4_home_39 : decode cX4_home 39 = .ok (.getfield 39, 3) := dk_180 0 39 (dk_at dksX4_home_1 16 rfl rfl)
theorem dX4_home_42 : decode cX4_home 42 = .ok (.bipush 10, 2) := dk_16 10 (dk_at dksX4_home_1 19 rfl rfl)
theorem dX4_home_44 : decode cX4_home 44 = .ok (.iaload, 1) := dk_46 (dk_at dksX4_home_1 21 rfl rfl)
theorem dX4_home_45 : decode cX4_home 45 = .ok (.istore_n 2, 1) := dk_61 (dk_at dksX4_home_1 22 rfl rfl)
theorem dX4_home_46 : decode cX4_home 46 = .ok (.aload_n 0, 1) := dk_42 (dk_at dksX4_home_1 23 rfl rfl)
theorem dX4_home_47 : decode cX4_home 47 = .ok (.invokevirtual 360, 3) := dk_182 1 104 (dk_at dksX4_home_2 0 rfl rfl)
theorem dX4_home_50 : decode cX4_home 50 = .ok (.iinc 3 1, 3) := dk_132 3 1 (dk_at dksX4_home_2 3 rfl rfl)
theorem dX4_home_53 : decode cX4_home 53 = .ok (.goto (-34), 3) := dk_167 255 222 (dk_at dksX4_home_2 6 rfl rfl)
theorem dX4_home_56 : decode cX4_home 56 = .ok (.aload_n 0, 1) := dk_42 (dk_at dksX4_home_2 9 rfl rfl)
theorem dX4_home_57 : decode cX4_home 57 = .ok (.invokevirtual 381, 3) := dk_182 1 125 (dk_at dksX4_home_2 10 rfl rfl)
theorem dX4_home_60 : decode cX4_home 60 = .ok (.iload_n 2, 1) := dk_28 (dk_at dksX4_home_2 13 rfl rfl)
theorem dX4_home_61 : decode cX4_home 61 = .ok (.ireturn, 1) := dk_172 (dk_at dksX4_home_2 14 rfl rfl)
abbrev cX4_gone : ByteArray := prog_19_method_87_code
def yX4_gone : MethodName := ⟨RX4, "gone", "(I)I"⟩
def dkwX4_gone_1 : List UInt8 := [182, 1, 119, 42, 27, 182, 1, 122, 42, 5, 182, 1, 110, 61, 42, 182, 1, 125, 28, 172]
abbrev dktX4_gone_1 : List UInt8 := dkwX4_gone_1 ++ []
def dkwX4_gone_0 : List UInt8 := [42, 182, 1, 36, 153, 0, 15, 27, 133, 9, 20, 1, 115, 184, 0, 124, 154, 0, 5, 2, 172, 42]
abbrev dktX4_gone_0 : List UInt8 := dkwX4_gone_0 ++ dktX4_gone_1
theorem dksX4_gone_0 : cX4_gone.data.toList.drop 0 = dktX4_gone_0 := by decide +kernel
theorem dksX4_gone_1 : cX4_gone.data.toList.drop 22 = dktX4_gone_1 := dk_seg dksX4_gone_0 22 rfl rfl
theorem dX4_gone_0 : decode cX4_gone 0 = .ok (.aload_n 0, 1) := dk_42 (dk_at dksX4_gone_0 0 rfl rfl)
theorem dX4_gone_1 : decode cX4_gone 1 = .ok (.invokevirtual 292, 3) := dk_182 1 36 (dk_at dksX4_gone_0 1 rfl rfl)
theorem dX4_gone_4 : decode cX4_gone 4 = .ok (.ifCond .eq 15, 3) := dk_153 0 15 (dk_at dksX4_gone_0 4 rfl rfl)
theorem dX4_gone_7 : decode cX4_gone 7 = .ok (.iload_n 1, 1) := dk_27 (dk_at dksX4_gone_0 7 rfl rfl)
theorem dX4_gone_8 : decode cX4_gone 8 = .ok (.i2l, 1) := dk_133 (dk_at dksX4_gone_0 8 rfl rfl)
theorem dX4_gone_9 : decode cX4_gone 9 = .ok (.lconst 0, 1) := dk_9 (dk_at dksX4_gone_0 9 rfl rfl)
theorem dX4_gone_10 : decode cX4_gone 10 = .ok (.ldc2_w 371, 3) := dk_20 1 115 (dk_at dksX4_gone_0 10 rfl rfl)
theorem dX4_gone_13 : decode cX4_gone 13 = .ok (.invokestatic 124, 3) := dk_184 0 124 (dk_at dksX4_gone_0 13 rfl rfl)
theorem dX4_gone_16 : decode cX4_gone 16 = .ok (.ifCond .ne 5, 3) := dk_154 0 5 (dk_at dksX4_gone_0 16 rfl rfl)
theorem dX4_gone_19 : decode cX4_gone 19 = .ok (.iconst (-1), 1) := dk_2 (dk_at dksX4_gone_0 19 rfl rfl)
theorem dX4_gone_20 : decode cX4_gone 20 = .ok (.ireturn, 1) := dk_172 (dk_at dksX4_gone_0 20 rfl rfl)
theorem dX4_gone_21 : decode cX4_gone 21 = .ok (.aload_n 0, 1) := dk_42 (dk_at dksX4_gone_0 21 rfl rfl)
theorem dX4_gone_22 : decode cX4_gone 22 = .ok (.invokevirtual 375, 3) := dk_182 1 119 (dk_at dksX4_gone_1 0 rfl rfl)
theorem dX4_gone_25 : decode cX4_gone 25 = .ok (.aload_n 0, 1) := dk_42 (dk_at dksX4_gone_1 3 rfl rfl)
theorem dX4_gone_26 : decode cX4_gone 26 = .ok (.iload_n 1, 1) := dk_27 (dk_at dksX4_gone_1 4 rfl rfl)
theorem dX4_gone_27 : decode cX4_gone 27 = .ok (.invokevirtual 378, 3) := dk_182 1 122 (dk_at dksX4_gone_1 5 rfl rfl)
theorem dX4_gone_30 : decode cX4_gone 30 = .ok (.aload_n 0, 1) := dk_42 (dk_at dksX4_gone_1 8 rfl rfl)
theorem dX4_gone_31 : decode cX4_gone 31 = .ok (.iconst 2, 1) := dk_5 (dk_at dksX4_gone_1 9 rfl rfl)
theorem dX4_gone_32 : decode cX4_gone 32 = .ok (.invokevirtual 366, 3) := dk_182 1 110 (dk_at dksX4_gone_1 10 rfl rfl)
theorem dX4_gone_35 : decode cX4_gone 35 = .ok (.istore_n 2, 1) := dk_61 (dk_at dksX4_gone_1 13 rfl rfl)
theorem dX4_gone_36 : decode cX4_gone 36 = .ok (.aload_n 0, 1) := dk_42 (dk_at dksX4_gone_1 14 rfl rfl)
theorem dX4_gone_37 : decode cX4_gone 37 = .ok (.invokevirtual 381, 3) := dk_182 1 125 (dk_at dksX4_gone_1 15 rfl rfl)
theorem dX4_gone_40 : decode cX4_gone 40 = .ok (.iload_n 2, 1) := dk_28 (dk_at dksX4_gone_1 18 rfl rfl)
theorem dX4_gone_41 : decode cX4_gone 41 = .ok (.ireturn, 1) := dk_172 (dk_at dksX4_gone_1 19 rfl rfl)
abbrev cX4_leastFood : ByteArray := prog_19_method_88_code
def yX4_leastFood : MethodName := ⟨RX4, "leastFood", "(II)I"⟩
def dkwX4_leastFood_3 : List UInt8 := [159, 0, 6, 21, 4, 62, 42, 182, 1, 125, 132, 4, 1, 167, 255, 205, 29, 172]
abbrev dktX4_leastFood_3 : List UInt8 := dkwX4_leastFood_3 ++ []
def dkwX4_leastFood_2 : List UInt8 := [16, 11, 16, 7, 27, 104, 96, 5, 96, 21, 4, 79, 42, 28, 182, 1, 122, 42, 27, 182, 1, 41, 5]
abbrev dktX4_leastFood_2 : List UInt8 := dkwX4_leastFood_2 ++ dktX4_leastFood_3
def dkwX4_leastFood_1 : List UInt8 := [62, 42, 182, 1, 119, 3, 54, 4, 21, 4, 16, 60, 163, 0, 50, 29, 156, 0, 46, 42, 180, 0, 39]
abbrev dktX4_leastFood_1 : List UInt8 := dkwX4_leastFood_1 ++ dktX4_leastFood_2
def dkwX4_leastFood_0 : List UInt8 := [42, 27, 182, 1, 54, 153, 0, 15, 28, 133, 10, 20, 1, 115, 184, 0, 124, 154, 0, 5, 2, 172, 16, 254]
abbrev dktX4_leastFood_0 : List UInt8 := dkwX4_leastFood_0 ++ dktX4_leastFood_1
theorem dksX4_leastFood_0 : cX4_leastFood.data.toList.drop 0 = dktX4_leastFood_0 := by decide +kernel
theorem dksX4_leastFood_1 : cX4_leastFood.data.toList.drop 24 = dktX4_leastFood_1 := dk_seg dksX4_leastFood_0 24 rfl rfl
theorem dksX4_leastFood_2 : cX4_leastFood.data.toList.drop 47 = dktX4_leastFood_2 := dk_seg dksX4_leastFood_1 23 rfl rfl
theorem dksX4_leastFood_3 : cX4_leastFood.data.toList.drop 70 = dktX4_leastFood_3 := dk_seg dksX4_leastFood_2 23 rfl rfl
theorem dX4_leastFood_0 : decode cX4_leastFood 0 = .ok (.aload_n 0, 1) := dk_42 (dk_at dksX4_leastFood_0 0 rfl rfl)
theorem dX4_leastFood_1 : decode cX4_leastFood 1 = .ok (.iload_n 1, 1) := dk_27 (dk_at dksX4_leastFood_0 1 rfl rfl)
theorem dX4_leastFood_2 : decode cX4_leastFood 2 = .ok (.invokevirtual 310, 3) := dk_182 1 54 (dk_at dksX4_leastFood_0 2 rfl rfl)
theorem dX4_leastFood_5 : decode cX4_leastFood 5 = .ok (.ifCond .eq 15, 3) := dk_153 0 15 (dk_at dksX4_leastFood_0 5 rfl rfl)
theorem dX4_leastFood_8 : decode cX4_leastFood 8 = .ok (.iload_n 2, 1) := dk_28 (dk_at dksX4_leastFood_0 8 rfl rfl)
theorem dX4_leastFood_9 : decode cX4_leastFood 9 = .ok (.i2l, 1) := dk_133 (dk_at dksX4_leastFood_0 9 rfl rfl)
theorem dX4_leastFood_10 : decode cX4_leastFood 10 = .ok (.lconst 1, 1) := dk_10 (dk_at dksX4_leastFood_0 10 rfl rfl)
theorem dX4_leastFood_11 : decode cX4_leastFood 11 = .ok (.ldc2_w 371, 3) := dk_20 1 115 (dk_at dksX4_leastFood_0 11 rfl rfl)
theorem dX4_leastFood_14 : decode cX4_leastFood 14 = .ok (.invokestatic 124, 3) := dk_184 0 124 (dk_at dksX4_leastFood_0 14 rfl rfl)
theorem dX4_leastFood_17 : decode cX4_leastFood 17 = .ok (.ifCond .ne 5, 3) := dk_154 0 5 (dk_at dksX4_leastFood_0 17 rfl rfl)
theorem dX4_leastFood_20 : decode cX4_leastFood 20 = .ok (.iconst (-1), 1) := dk_2 (dk_at dksX4_leastFood_0 20 rfl rfl)
theorem dX4_leastFood_21 : decode cX4_leastFood 21 = .ok (.ireturn, 1) := dk_172 (dk_at dksX4_leastFood_0 21 rfl rfl)
theorem dX4_leastFood_22 : decode cX4_leastFood 22 = .ok (.bipush (-2), 2) := dk_16 254 (dk_at dksX4_leastFood_0 22 rfl rfl)
theorem dX4_leastFood_24 : decode cX4_leastFood 24 = .ok (.istore_n 3, 1) := dk_62 (dk_at dksX4_leastFood_1 0 rfl rfl)
theorem dX4_leastFood_25 : decode cX4_leastFood 25 = .ok (.aload_n 0, 1) := dk_42 (dk_at dksX4_leastFood_1 1 rfl rfl)
theorem dX4_leastFood_26 : decode cX4_leastFood 26 = .ok (.invokevirtual 375, 3) := dk_182 1 119 (dk_at dksX4_leastFood_1 2 rfl rfl)
theorem dX4_leastFood_29 : decode cX4_leastFood 29 = .ok (.iconst 0, 1) := dk_3 (dk_at dksX4_leastFood_1 5 rfl rfl)
theorem dX4_leastFood_30 : decode cX4_leastFood 30 = .ok (.istore 4, 2) := dk_54 4 (dk_at dksX4_leastFood_1 6 rfl rfl)
theorem dX4_leastFood_32 : decode cX4_leastFood 32 = .ok (.iload 4, 2) := dk_21 4 (dk_at dksX4_leastFood_1 8 rfl rfl)
theorem dX4_leastFood_34 : decode cX4_leastFood 34 = .ok (.bipush 60, 2) := dk_16 60 (dk_at dksX4_leastFood_1 10 rfl rfl)
theorem dX4_leastFood_36 : decode cX4_leastFood 36 = .ok (.if_icmp .gt 50, 3) := dk_163 0 50 (dk_at dksX4_leastFood_1 12 rfl rfl)
theorem dX4_leastFood_39 : decode cX4_leastFood 39 = .ok (.iload_n 3, 1) := dk_29 (dk_at dksX4_leastFood_1 15 rfl rfl)
theorem dX4_leastFood_40 : decode cX4_leastFood 40 = .ok (.ifCond .ge 46, 3) := dk_156 0 46 (dk_at dksX4_leastFood_1 16 rfl rfl)
theorem dX4_leastFood_43 : decode cX4_leastFood 43 = .ok (.aload_n 0, 1) := dk_42 (dk_at dksX4_leastFood_1 19 rfl rfl)
theorem dX4_leastFood_44 : decode cX4_leastFood 44 = .ok (.getfield 39, 3) := dk_180 0 39 (dk_at dksX4_leastFood_1 20 rfl rfl)
theorem dX4_leastFood_47 : decode cX4_leastFood 47 = .ok (.bipush 11, 2) := dk_16 11 (dk_at dksX4_leastFood_2 0 rfl rfl)
theorem dX4_leastFood_49 : decode cX4_leastFood 49 = .ok (.bipush 7, 2) := dk_16 7 (dk_at dksX4_leastFood_2 2 rfl rfl)
theorem dX4_leastFood_51 : decode cX4_leastFood 51 = .ok (.iload_n 1, 1) := dk_27 (dk_at dksX4_leastFood_2 4 rfl rfl)
theorem dX4_leastFood_52 : decode cX4_leastFood 52 = .ok (.imul, 1) := dk_104 (dk_at dksX4_leastFood_2 5 rfl rfl)
theorem dX4_leastFood_53 : decode cX4_leastFood 53 = .ok (.iadd, 1) := dk_96 (dk_at dksX4_leastFood_2 6 rfl rfl)
theorem dX4_leastFood_54 : decode cX4_leastFood 54 = .ok (.iconst 2, 1) := dk_5 (dk_at dksX4_leastFood_2 7 rfl rfl)
theorem dX4_leastFood_55 : decode cX4_leastFood 55 = .ok (.iadd, 1) := dk_96 (dk_at dksX4_leastFood_2 8 rfl rfl)
theorem dX4_leastFood_56 : decode cX4_leastFood 56 = .ok (.iload 4, 2) := dk_21 4 (dk_at dksX4_leastFood_2 9 rfl rfl)
theorem dX4_leastFood_58 : decode cX4_leastFood 58 = .ok (.iastore, 1) := dk_79 (dk_at dksX4_leastFood_2 11 rfl rfl)
theorem dX4_leastFood_59 : decode cX4_leastFood 59 = .ok (.aload_n 0, 1) := dk_42 (dk_at dksX4_leastFood_2 12 rfl rfl)
theorem dX4_leastFood_60 : decode cX4_leastFood 60 = .ok (.iload_n 2, 1) := dk_28 (dk_at dksX4_leastFood_2 13 rfl rfl)
theorem dX4_leastFood_61 : decode cX4_leastFood 61 = .ok (.invokevirtual 378, 3) := dk_182 1 122 (dk_at dksX4_leastFood_2 14 rfl rfl)
theorem dX4_leastFood_64 : decode cX4_leastFood 64 = .ok (.aload_n 0, 1) := dk_42 (dk_at dksX4_leastFood_2 17 rfl rfl)
theorem dX4_leastFood_65 : decode cX4_leastFood 65 = .ok (.iload_n 1, 1) := dk_27 (dk_at dksX4_leastFood_2 18 rfl rfl)
theorem dX4_leastFood_66 : decode cX4_leastFood 66 = .ok (.invokevirtual 297, 3) := dk_182 1 41 (dk_at dksX4_leastFood_2 19 rfl rfl)
theorem dX4_leastFood_69 : decode cX4_leastFood 69 = .ok (.iconst 2, 1) := dk_5 (dk_at dksX4_leastFood_2 22 rfl rfl)
theorem dX4_leastFood_70 : decode cX4_leastFood 70 = .ok (.if_icmp .eq 6, 3) := dk_159 0 6 (dk_at dksX4_leastFood_3 0 rfl rfl)
theorem dX4_leastFood_73 : decode cX4_leastFood 73 = .ok (.iload 4, 2) := dk_21 4 (dk_at dksX4_leastFood_3 3 rfl rfl)
theorem dX4_leastFood_75 : decode cX4_leastFood 75 = .ok (.istore_n 3, 1) := dk_62 (dk_at dksX4_leastFood_3 5 rfl rfl)
theorem dX4_leastFood_76 : decode cX4_leastFood 76 = .ok (.aload_n 0, 1) := dk_42 (dk_at dksX4_leastFood_3 6 rfl rfl)
theorem dX4_leastFood_77 : decode cX4_leastFood 77 = .ok (.invokevirtual 381, 3) := dk_182 1 125 (dk_at dksX4_leastFood_3 7 rfl rfl)
theorem dX4_leastFood_80 : decode cX4_leastFood 80 = .ok (.iinc 4 1, 3) := dk_132 4 1 (dk_at dksX4_leastFood_3 10 rfl rfl)
theorem dX4_leastFood_83 : decode cX4_leastFood 83 = .ok (.goto (-51), 3) := dk_167 255 205 (dk_at dksX4_leastFood_3 13 rfl rfl)
theorem dX4_leastFood_86 : decode cX4_leastFood 86 = .ok (.iload_n 3, 1) := dk_29 (dk_at dksX4_leastFood_3 16 rfl rfl)
theorem dX4_leastFood_87 : decode cX4_leastFood 87 = .ok (.ireturn, 1) := dk_172 (dk_at dksX4_leastFood_3 17 rfl rfl)
abbrev cX4_meet : ByteArray := prog_19_method_89_code
def yX4_meet : MethodName := ⟨RX4, "meet", "(II)I"⟩
def dkwX4_meet_4 : List UInt8 := [182, 1, 125, 29, 172]
abbrev dktX4_meet_4 : List UInt8 := dkwX4_meet_4 ++ []
def dkwX4_meet_3 : List UInt8 := [160, 0, 11, 42, 180, 0, 39, 16, 10, 46, 62, 42, 182, 1, 104, 132, 4, 1, 167, 255, 200, 42]
abbrev dktX4_meet_3 : List UInt8 := dkwX4_meet_3 ++ dktX4_meet_4
def dkwX4_meet_2 : List UInt8 := [182, 1, 57, 153, 0, 32, 42, 28, 182, 1, 57, 153, 0, 24, 42, 27, 182, 1, 60, 42, 28, 182, 1, 60]
abbrev dktX4_meet_2 : List UInt8 := dkwX4_meet_2 ++ dktX4_meet_3
def dkwX4_meet_1 : List UInt8 := [16, 254, 62, 42, 182, 1, 119, 3, 54, 4, 21, 4, 17, 0, 200, 162, 0, 54, 29, 156, 0, 50, 42, 27]
abbrev dktX4_meet_1 : List UInt8 := dkwX4_meet_1 ++ dktX4_meet_2
def dkwX4_meet_0 : List UInt8 := [42, 27, 182, 1, 54, 153, 0, 16, 42, 28, 182, 1, 54, 153, 0, 8, 27, 28, 160, 0, 5, 2, 172]
abbrev dktX4_meet_0 : List UInt8 := dkwX4_meet_0 ++ dktX4_meet_1
theorem dksX4_meet_0 : cX4_meet.data.toList.drop 0 = dktX4_meet_0 := by decide +kernel
theorem dksX4_meet_1 : cX4_meet.data.toList.drop 23 = dktX4_meet_1 := dk_seg dksX4_meet_0 23 rfl rfl
theorem dksX4_meet_2 : cX4_meet.data.toList.drop 47 = dktX4_meet_2 := dk_seg dksX4_meet_1 24 rfl rfl
theorem dksX4_meet_3 : cX4_meet.data.toList.drop 71 = dktX4_meet_3 := dk_seg dksX4_meet_2 24 rfl rfl
theorem dksX4_meet_4 : cX4_meet.data.toList.drop 93 = dktX4_meet_4 := dk_seg dksX4_meet_3 22 rfl rfl
theorem dX4_meet_0 : decode cX4_meet 0 = .ok (.aload_n 0, 1) := dk_42 (dk_at dksX4_meet_0 0 rfl rfl)
theorem dX4_meet_1 : decode cX4_meet 1 = .ok (.iload_n 1, 1) := dk_27 (dk_at dksX4_meet_0 1 rfl rfl)
theorem dX4_meet_2 : decode cX4_meet 2 = .ok (.invokevirtual 310, 3) := dk_182 1 54 (dk_at dksX4_meet_0 2 rfl rfl)
theorem dX4_meet_5 : decode cX4_meet 5 = .ok (.ifCond .eq 16, 3) := dk_153 0 16 (dk_at dksX4_meet_0 5 rfl rfl)
theorem dX4_meet_8 : decode cX4_meet 8 = .ok (.aload_n 0, 1) := dk_42 (dk_at dksX4_meet_0 8 rfl rfl)
theorem dX4_meet_9 : decode cX4_meet 9 = .ok (.iload_n 2, 1) := dk_28 (dk_at dksX4_meet_0 9 rfl rfl)
theorem dX4_meet_10 : decode cX4_meet 10 = .ok (.invokevirtual 310, 3) := dk_182 1 54 (dk_at dksX4_meet_0 10 rfl rfl)
theorem dX4_meet_13 : decode cX4_meet 13 = .ok (.ifCond .eq 8, 3) := dk_153 0 8 (dk_at dksX4_meet_0 13 rfl rfl)
theorem dX4_meet_16 : decode cX4_meet 16 = .ok (.iload_n 1, 1) := dk_27 (dk_at dksX4_meet_0 16 rfl rfl)
theorem dX4_meet_17 : decode cX4_meet 17 = .ok (.iload_n 2, 1) := dk_28 (dk_at dksX4_meet_0 17 rfl rfl)
theorem dX4_meet_18 : decode cX4_meet 18 = .ok (.if_icmp .ne 5, 3) := dk_160 0 5 (dk_at dksX4_meet_0 18 rfl rfl)
theorem dX4_meet_21 : decode cX4_meet 21 = .ok (.iconst (-1), 1) := dk_2 (dk_at dksX4_meet_0 21 rfl rfl)
theorem dX4_meet_22 : decode cX4_meet 22 = .ok (.ireturn, 1) := dk_172 (dk_at dksX4_meet_0 22 rfl rfl)
theorem dX4_meet_23 : decode cX4_meet 23 = .ok (.bipush (-2), 2) := dk_16 254 (dk_at dksX4_meet_1 0 rfl rfl)
theorem dX4_meet_25 : decode cX4_meet 25 = .ok (.istore_n 3, 1) := dk_62 (dk_at dksX4_meet_1 2 rfl rfl)
theorem dX4_meet_26 : decode cX4_meet 26 = .ok (.aload_n 0, 1) := dk_42 (dk_at dksX4_meet_1 3 rfl rfl)
theorem dX4_meet_27 : decode cX4_meet 27 = .ok (.invokevirtual 375, 3) := dk_182 1 119 (dk_at dksX4_meet_1 4 rfl rfl)
theorem dX4_meet_30 : decode cX4_meet 30 = .ok (.iconst 0, 1) := dk_3 (dk_at dksX4_meet_1 7 rfl rfl)
theorem dX4_meet_31 : decode cX4_meet 31 = .ok (.istore 4, 2) := dk_54 4 (dk_at dksX4_meet_1 8 rfl rfl)
theorem dX4_meet_33 : decode cX4_meet 33 = .ok (.iload 4, 2) := dk_21 4 (dk_at dksX4_meet_1 10 rfl rfl)
theorem dX4_meet_35 : decode cX4_meet 35 = .ok (.sipush 200, 3) := dk_17 0 200 (dk_at dksX4_meet_1 12 rfl rfl)
theorem dX4_meet_38 : decode cX4_meet 38 = .ok (.if_icmp .ge 54, 3) := dk_162 0 54 (dk_at dksX4_meet_1 15 rfl rfl)
theorem dX4_meet_41 : decode cX4_meet 41 = .ok (.iload_n 3, 1) := dk_29 (dk_at dksX4_meet_1 18 rfl rfl)
theorem dX4_meet_42 : decode cX4_meet 42 = .ok (.ifCond .ge 50, 3) := dk_156 0 50 (dk_at dksX4_meet_1 19 rfl rfl)
theorem dX4_meet_45 : decode cX4_meet 45 = .ok (.aload_n 0, 1) := dk_42 (dk_at dksX4_meet_1 22 rfl rfl)
theorem dX4_meet_46 : decode cX4_meet 46 = .ok (.iload_n 1, 1) := dk_27 (dk_at dksX4_meet_1 23 rfl rfl)
theorem dX4_meet_47 : decode cX4_meet 47 = .ok (.invokevirtual 313, 3) := dk_182 1 57 (dk_at dksX4_meet_2 0 rfl rfl)
theorem dX4_meet_50 : decode cX4_meet 50 = .ok (.ifCond .eq 32, 3) := dk_153 0 32 (dk_at dksX4_meet_2 3 rfl rfl)
theorem dX4_meet_53 : decode cX4_meet 53 = .ok (.aload_n 0, 1) := dk_42 (dk_at dksX4_meet_2 6 rfl rfl)
theorem dX4_meet_54 : decode cX4_meet 54 = .ok (.iload_n 2, 1) := dk_28 (dk_at dksX4_meet_2 7 rfl rfl)
theorem dX4_meet_55 : decode cX4_meet 55 = .ok (.invokevirtual 313, 3) := dk_182 1 57 (dk_at dksX4_meet_2 8 rfl rfl)
theorem dX4_meet_58 : decode cX4_meet 58 = .ok (.ifCond .eq 24, 3) := dk_153 0 24 (dk_at dksX4_meet_2 11 rfl rfl)
theorem dX4_meet_61 : decode cX4_meet 61 = .ok (.aload_n 0, 1) := dk_42 (dk_at dksX4_meet_2 14 rfl rfl)
theorem dX4_meet_62 : decode cX4_meet 62 = .ok (.iload_n 1, 1) := dk_27 (dk_at dksX4_meet_2 15 rfl rfl)
theorem dX4_meet_63 : decode cX4_meet 63 = .ok (.invokevirtual 316, 3) := dk_182 1 60 (dk_at dksX4_meet_2 16 rfl rfl)
theorem dX4_meet_66 : decode cX4_meet 66 = .ok (.aload_n 0, 1) := dk_42 (dk_at dksX4_meet_2 19 rfl rfl)
theorem dX4_meet_67 : decode cX4_meet 67 = .ok (.iload_n 2, 1) := dk_28 (dk_at dksX4_meet_2 20 rfl rfl)
theorem dX4_meet_68 : decode cX4_meet 68 = .ok (.invokevirtual 316, 3) := dk_182 1 60 (dk_at dksX4_meet_2 21 rfl rfl)
theorem dX4_meet_71 : decode cX4_meet 71 = .ok (.if_icmp .ne 11, 3) := dk_160 0 11 (dk_at dksX4_meet_3 0 rfl rfl)
theorem dX4_meet_74 : decode cX4_meet 74 = .ok (.aload_n 0, 1) := dk_42 (dk_at dksX4_meet_3 3 rfl rfl)
theorem dX4_meet_75 : decode cX4_meet 75 = .ok (.getfield 39, 3) := dk_180 0 39 (dk_at dksX4_meet_3 4 rfl rfl)
theorem dX4_meet_78 : decode cX4_meet 78 = .ok (.bipush 10, 2) := dk_16 10 (dk_at dksX4_meet_3 7 rfl rfl)
theorem dX4_meet_80 : decode cX4_meet 80 = .ok (.iaload, 1) := dk_46 (dk_at dksX4_meet_3 9 rfl rfl)
theorem dX4_meet_81 : decode cX4_meet 81 = .ok (.istore_n 3, 1) := dk_62 (dk_at dksX4_meet_3 10 rfl rfl)
theorem dX4_meet_82 : decode cX4_meet 82 = .ok (.aload_n 0, 1) := dk_42 (dk_at dksX4_meet_3 11 rfl rfl)
theorem dX4_meet_83 : decode cX4_meet 83 = .ok (.invokevirtual 360, 3) := dk_182 1 104 (dk_at dksX4_meet_3 12 rfl rfl)
theorem dX4_meet_86 : decode cX4_meet 86 = .ok (.iinc 4 1, 3) := dk_132 4 1 (dk_at dksX4_meet_3 15 rfl rfl)
theorem dX4_meet_89 : decode cX4_meet 89 = .ok (.goto (-56), 3) := dk_167 255 200 (dk_at dksX4_meet_3 18 rfl rfl)
theorem dX4_meet_92 : decode cX4_meet 92 = .ok (.aload_n 0, 1) := dk_42 (dk_at dksX4_meet_3 21 rfl rfl)
theorem dX4_meet_93 : decode cX4_meet 93 = .ok (.invokevirtual 381, 3) := dk_182 1 125 (dk_at dksX4_meet_4 0 rfl rfl)
theorem dX4_meet_96 : decode cX4_meet 96 = .ok (.iload_n 3, 1) := dk_29 (dk_at dksX4_meet_4 3 rfl rfl)
theorem dX4_meet_97 : decode cX4_meet 97 = .ok (.ireturn, 1) := dk_172 (dk_at dksX4_meet_4 4 rfl rfl)
abbrev cX4_shortest : ByteArray := prog_19_method_92_code
def yX4_shortest : MethodName := ⟨RX4, "shortest", "(II)I"⟩
def dkwX4_shortest_6 : List UInt8 := [167, 0, 9, 42, 180, 0, 52, 28, 46, 172]
abbrev dktX4_shortest_6 : List UInt8 := dkwX4_shortest_6 ++ []
def dkwX4_shortest_5 : List UInt8 := [132, 4, 1, 167, 255, 204, 167, 255, 192, 42, 180, 0, 52, 28, 46, 16, 99, 164, 0, 8, 16, 254]
abbrev dktX4_shortest_5 : List UInt8 := dkwX4_shortest_5 ++ dktX4_shortest_6
def dkwX4_shortest_4 : List UInt8 := [16, 99, 163, 0, 22, 42, 21, 4, 21, 5, 182, 1, 131, 153, 0, 5, 4, 62, 132, 5, 1, 167, 255, 222]
abbrev dktX4_shortest_4 : List UInt8 := dkwX4_shortest_4 ++ dktX4_shortest_5
def dkwX4_shortest_3 : List UInt8 := [42, 182, 1, 33, 162, 0, 49, 3, 54, 5, 21, 5, 7, 162, 0, 34, 42, 180, 0, 52, 21, 4, 46]
abbrev dktX4_shortest_3 : List UInt8 := dkwX4_shortest_3 ++ dktX4_shortest_4
def dkwX4_shortest_2 : List UInt8 := [42, 180, 0, 52, 42, 27, 182, 1, 60, 3, 79, 4, 62, 29, 153, 0, 66, 3, 62, 3, 54, 4, 21, 4]
abbrev dktX4_shortest_2 : List UInt8 := dkwX4_shortest_2 ++ dktX4_shortest_3
def dkwX4_shortest_1 : List UInt8 := [2, 172, 3, 62, 29, 16, 36, 162, 0, 17, 42, 180, 0, 52, 29, 16, 100, 79, 132, 3, 1, 167, 255, 239]
abbrev dktX4_shortest_1 : List UInt8 := dkwX4_shortest_1 ++ dktX4_shortest_2
def dkwX4_shortest_0 : List UInt8 := [42, 27, 182, 1, 54, 153, 0, 19, 42, 27, 182, 1, 57, 153, 0, 11, 42, 28, 182, 1, 69, 154, 0, 5]
abbrev dktX4_shortest_0 : List UInt8 := dkwX4_shortest_0 ++ dktX4_shortest_1
theorem dksX4_shortest_0 : cX4_shortest.data.toList.drop 0 = dktX4_shortest_0 := by decide +kernel
theorem dksX4_shortest_1 : cX4_shortest.data.toList.drop 24 = dktX4_shortest_1 := dk_seg dksX4_shortest_0 24 rfl rfl
theorem dksX4_shortest_2 : cX4_shortest.data.toList.drop 48 = dktX4_shortest_2 := dk_seg dksX4_shortest_1 24 rfl rfl
theorem dksX4_shortest_3 : cX4_shortest.data.toList.drop 72 = dktX4_shortest_3 := dk_seg dksX4_shortest_2 24 rfl rfl
theorem dksX4_shortest_4 : cX4_shortest.data.toList.drop 95 = dktX4_shortest_4 := dk_seg dksX4_shortest_3 23 rfl rfl
theorem dksX4_shortest_5 : cX4_shortest.data.toList.drop 119 = dktX4_shortest_5 := dk_seg dksX4_shortest_4 24 rfl rfl
theorem dksX4_shortest_6 : cX4_shortest.data.toList.drop 141 = dktX4_shortest_6 := dk_seg dksX4_shortest_5 22 rfl rfl
theorem dX4_shortest_0 : decode cX4_shortest 0 = .ok (.aload_n 0, 1) := dk_42 (dk_at dksX4_shortest_0 0 rfl rfl)
theorem dX4_shortest_1 : decode cX4_shortest 1 = .ok (.iload_n 1, 1) := dk_27 (dk_at dksX4_shortest_0 1 rfl rfl)
theorem dX4_shortest_2 : decode cX4_shortest 2 = .ok (.invokevirtual 310, 3) := dk_182 1 54 (dk_at dksX4_shortest_0 2 rfl rfl)
theorem dX4_shortest_5 : decode cX4_shortest 5 = .ok (.ifCond .eq 19, 3) := dk_153 0 19 (dk_at dksX4_shortest_0 5 rfl rfl)
theorem dX4_shortest_8 : decode cX4_shortest 8 = .ok (.aload_n 0, 1) := dk_42 (dk_at dksX4_shortest_0 8 rfl rfl)
theorem dX4_shortest_9 : decode cX4_shortest 9 = .ok (.iload_n 1, 1) := dk_27 (dk_at dksX4_shortest_0 9 rfl rfl)
theorem dX4_shortest_10 : decode cX4_shortest 10 = .ok (.invokevirtual 313, 3) := dk_182 1 57 (dk_at dksX4_shortest_0 10 rfl rfl)
theorem dX4_shortest_13 : decode cX4_shortest 13 = .ok (.ifCond .eq 11, 3) := dk_153 0 11 (dk_at dksX4_shortest_0 13 rfl rfl)
theorem dX4_shortest_16 : decode cX4_shortest 16 = .ok (.aload_n 0, 1) := dk_42 (dk_at dksX4_shortest_0 16 rfl rfl)
theorem dX4_shortest_17 : decode cX4_shortest 17 = .ok (.iload_n 2, 1) := dk_28 (dk_at dksX4_shortest_0 17 rfl rfl)
theorem dX4_shortest_18 : decode cX4_shortest 18 = .ok (.invokevirtual 325, 3) := dk_182 1 69 (dk_at dksX4_shortest_0 18 rfl rfl)
theorem dX4_shortest_21 : decode cX4_shortest 21 = .ok (.ifCond .ne 5, 3) := dk_154 0 5 (dk_at dksX4_shortest_0 21 rfl rfl)
theorem dX4_shortest_24 : decode cX4_shortest 24 = .ok (.iconst (-1), 1) := dk_2 (dk_at dksX4_shortest_1 0 rfl rfl)
theorem dX4_shortest_25 : decode cX4_shortest 25 = .ok (.ireturn, 1) := dk_172 (dk_at dksX4_shortest_1 1 rfl rfl)
theorem dX4_shortest_26 : decode cX4_shortest 26 = .ok (.iconst 0, 1) := dk_3 (dk_at dksX4_shortest_1 2 rfl rfl)
theorem dX4_shortest_27 : decode cX4_shortest 27 = .ok (.istore_n 3, 1) := dk_62 (dk_at dksX4_shortest_1 3 rfl rfl)
theorem dX4_shortest_28 : decode cX4_shortest 28 = .ok (.iload_n 3, 1) := dk_29 (dk_at dksX4_shortest_1 4 rfl rfl)
theorem dX4_shortest_29 : decode cX4_shortest 29 = .ok (.bipush 36, 2) := dk_16 36 (dk_at dksX4_shortest_1 5 rfl rfl)
theorem dX4_shortest_31 : decode cX4_shortest 31 = .ok (.if_icmp .ge 17, 3) := dk_162 0 17 (dk_at dksX4_shortest_1 7 rfl rfl)
theorem dX4_shortest_34 : decode cX4_shortest 34 = .ok (.aload_n 0, 1) := dk_42 (dk_at dksX4_shortest_1 10 rfl rfl)
theorem dX4_shortest_35 : decode cX4_shortest 35 = .ok (.getfield 52, 3) := dk_180 0 52 (dk_at dksX4_shortest_1 11 rfl rfl)
theorem dX4_shortest_38 : decode cX4_shortest 38 = .ok (.iload_n 3, 1) := dk_29 (dk_at dksX4_shortest_1 14 rfl rfl)
theorem dX4_shortest_39 : decode cX4_shortest 39 = .ok (.bipush 100, 2) := dk_16 100 (dk_at dksX4_shortest_1 15 rfl rfl)
theorem dX4_shortest_41 : decode cX4_shortest 41 = .ok (.iastore, 1) := dk_79 (dk_at dksX4_shortest_1 17 rfl rfl)
theorem dX4_shortest_42 : decode cX4_shortest 42 = .ok (.iinc 3 1, 3) := dk_132 3 1 (dk_at dksX4_shortest_1 18 rfl rfl)
theorem dX4_shortest_45 : decode cX4_shortest 45 = .ok (.goto (-17), 3) := dk_167 255 239 (dk_at dksX4_shortest_1 21 rfl rfl)
theorem dX4_shortest_48 : decode cX4_shortest 48 = .ok (.aload_n 0, 1) := dk_42 (dk_at dksX4_shortest_2 0 rfl rfl)
theorem dX4_shortest_49 : decode cX4_shortest 49 = .ok (.getfield 52, 3) := dk_180 0 52 (dk_at dksX4_shortest_2 1 rfl rfl)
theorem dX4_shortest_52 : decode cX4_shortest 52 = .ok (.aload_n 0, 1) := dk_42 (dk_at dksX4_shortest_2 4 rfl rfl)
theorem dX4_shortest_53 : decode cX4_shortest 53 = .ok (.iload_n 1, 1) := dk_27 (dk_at dksX4_shortest_2 5 rfl rfl)
theorem dX4_shortest_54 : decode cX4_shortest 54 = .ok (.invokevirtual 316, 3) := dk_182 1 60 (dk_at dksX4_shortest_2 6 rfl rfl)
theorem dX4_shortest_57 : decode cX4_shortest 57 = .ok (.iconst 0, 1) := dk_3 (dk_at dksX4_shortest_2 9 rfl rfl)
theorem dX4_shortest_58 : decode cX4_shortest 58 = .ok (.iastore, 1) := dk_79 (dk_at dksX4_shortest_2 10 rfl rfl)
theorem dX4_shortest_59 : decode cX4_shortest 59 = .ok (.iconst 1, 1) := dk_4 (dk_at dksX4_shortest_2 11 rfl rfl)
theorem dX4_shortest_60 : decode cX4_shortest 60 = .ok (.istore_n 3, 1) := dk_62 (dk_at dksX4_shortest_2 12 rfl rfl)
theorem dX4_shortest_61 : decode cX4_shortest 61 = .ok (.iload_n 3, 1) := dk_29 (dk_at dksX4_shortest_2 13 rfl rfl)
theorem dX4_shortest_62 : decode cX4_shortest 62 = .ok (.ifCond .eq 66, 3) := dk_153 0 66 (dk_at dksX4_shortest_2 14 rfl rfl)
theorem dX4_shortest_65 : decode cX4_shortest 65 = .ok (.iconst 0, 1) := dk_3 (dk_at dksX4_shortest_2 17 rfl rfl)
theorem dX4_shortest_66 : decode cX4_shortest 66 = .ok (.istore_n 3, 1) := dk_62 (dk_at dksX4_shortest_2 18 rfl rfl)
theorem dX4_shortest_67 : decode cX4_shortest 67 = .ok (.iconst 0, 1) := dk_3 (dk_at dksX4_shortest_2 19 rfl rfl)
theorem dX4_shortest_68 : decode cX4_shortest 68 = .ok (.istore 4, 2) := dk_54 4 (dk_at dksX4_shortest_2 20 rfl rfl)
theorem dX4_shortest_70 : decode cX4_shortest 70 = .ok (.iload 4, 2) := dk_21 4 (dk_at dksX4_shortest_2 22 rfl rfl)
theorem dX4_shortest_72 : decode cX4_shortest 72 = .ok (.aload_n 0, 1) := dk_42 (dk_at dksX4_shortest_3 0 rfl rfl)
theorem dX4_shortest_73 : decode cX4_shortest 73 = .ok (.invokevirtual 289, 3) := dk_182 1 33 (dk_at dksX4_shortest_3 1 rfl rfl)
theorem dX4_shortest_76 : decode cX4_shortest 76 = .ok (.if_icmp .ge 49, 3) := dk_162 0 49 (dk_at dksX4_shortest_3 4 rfl rfl)
theorem dX4_shortest_79 : decode cX4_shortest 79 = .ok (.iconst 0, 1) := dk_3 (dk_at dksX4_shortest_3 7 rfl rfl)
theorem dX4_shortest_80 : decode cX4_shortest 80 = .ok (.istore 5, 2) := dk_54 5 (dk_at dksX4_shortest_3 8 rfl rfl)
theorem dX4_shortest_82 : decode cX4_shortest 82 = .ok (.iload 5, 2) := dk_21 5 (dk_at dksX4_shortest_3 10 rfl rfl)
theorem dX4_shortest_84 : decode cX4_shortest 84 = .ok (.iconst 4, 1) := dk_7 (dk_at dksX4_shortest_3 12 rfl rfl)
theorem dX4_shortest_85 : decode cX4_shortest 85 = .ok (.if_icmp .ge 34, 3) := dk_162 0 34 (dk_at dksX4_shortest_3 13 rfl rfl)
theorem dX4_shortest_88 : decode cX4_shortest 88 = .ok (.aload_n 0, 1) := dk_42 (dk_at dksX4_shortest_3 16 rfl rfl)
theorem dX4_shortest_89 : decode cX4_shortest 89 = .ok (.getfield 52, 3) := dk_180 0 52 (dk_at dksX4_shortest_3 17 rfl rfl)
theorem dX4_shortest_92 : decode cX4_shortest 92 = .ok (.iload 4, 2) := dk_21 4 (dk_at dksX4_shortest_3 20 rfl rfl)
theorem dX4_shortest_94 : decode cX4_shortest 94 = .ok (.iaload, 1) := dk_46 (dk_at dksX4_shortest_3 22 rfl rfl)
theorem dX4_shortest_95 : decode cX4_shortest 95 = .ok (.bipush 99, 2) := dk_16 99 (dk_at dksX4_shortest_4 0 rfl rfl)
theorem dX4_shortest_97 : decode cX4_shortest 97 = .ok (.if_icmp .gt 22, 3) := dk_163 0 22 (dk_at dksX4_shortest_4 2 rfl rfl)
theorem dX4_shortest_100 : decode cX4_shortest 100 = .ok (.aload_n 0, 1) := dk_42 (dk_at dksX4_shortest_4 5 rfl rfl)
theorem dX4_shortest_101 : decode cX4_shortest 101 = .ok (.iload 4, 2) := dk_21 4 (dk_at dksX4_shortest_4 6 rfl rfl)
theorem dX4_shortest_103 : decode cX4_shortest 103 = .ok (.iload 5, 2) := dk_21 5 (dk_at dksX4_shortest_4 8 rfl rfl)
theorem dX4_shortest_105 : decode cX4_shortest 105 = .ok (.invokevirtual 387, 3) := dk_182 1 131 (dk_at dksX4_shortest_4 10 rfl rfl)
theorem dX4_shortest_108 : decode cX4_shortest 108 = .ok (.ifCond .eq 5, 3) := dk_153 0 5 (dk_at dksX4_shortest_4 13 rfl rfl)
theorem dX4_shortest_111 : decode cX4_shortest 111 = .ok (.iconst 1, 1) := dk_4 (dk_at dksX4_shortest_4 16 rfl rfl)
theorem dX4_shortest_112 : decode cX4_shortest 112 = .ok (.istore_n 3, 1) := dk_62 (dk_at dksX4_shortest_4 17 rfl rfl)
theorem dX4_shortest_113 : decode cX4_shortest 113 = .ok (.iinc 5 1, 3) := dk_132 5 1 (dk_at dksX4_shortest_4 18 rfl rfl)
theorem dX4_shortest_116 : decode cX4_shortest 116 = .ok (.goto (-34), 3) := dk_167 255 222 (dk_at dksX4_shortest_4 21 rfl rfl)
theorem dX4_shortest_119 : decode cX4_shortest 119 = .ok (.iinc 4 1, 3) := dk_132 4 1 (dk_at dksX4_shortest_5 0 rfl rfl)
theorem dX4_shortest_122 : decode cX4_shortest 122 = .ok (.goto (-52), 3) := dk_167 255 204 (dk_at dksX4_shortest_5 3 rfl rfl)
theorem dX4_shortest_125 : decode cX4_shortest 125 = .ok (.goto (-64), 3) := dk_167 255 192 (dk_at dksX4_shortest_5 6 rfl rfl)
theorem dX4_shortest_128 : decode cX4_shortest 128 = .ok (.aload_n 0, 1) := dk_42 (dk_at dksX4_shortest_5 9 rfl rfl)
theorem dX4_shortest_129 : decode cX4_shortest 129 = .ok (.getfield 52, 3) := dk_180 0 52 (dk_at dksX4_shortest_5 10 rfl rfl)
theorem dX4_shortest_132 : decode cX4_shortest 132 = .ok (.iload_n 2, 1) := dk_28 (dk_at dksX4_shortest_5 13 rfl rfl)
theorem dX4_shortest_133 : decode cX4_shortest 133 = .ok (.iaload, 1) := dk_46 (dk_at dksX4_shortest_5 14 rfl rfl)
theorem dX4_shortest_134 : decode cX4_shortest 134 = .ok (.bipush 99, 2) := dk_16 99 (dk_at dksX4_shortest_5 15 rfl rfl)
theorem dX4_shortest_136 : decode cX4_shortest 136 = .ok (.if_icmp .le 8, 3) := dk_164 0 8 (dk_at dksX4_shortest_5 17 rfl rfl)
theorem dX4_shortest_139 : decode cX4_shortest 139 = .ok (.bipush (-2), 2) := dk_16 254 (dk_at dksX4_shortest_5 20 rfl rfl)
theorem dX4_shortest_141 : decode cX4_shortest 141 = .ok (.goto 9, 3) := dk_167 0 9 (dk_at dksX4_shortest_6 0 rfl rfl)
theorem dX4_shortest_144 : decode cX4_shortest 144 = .ok (.aload_n 0, 1) := dk_42 (dk_at dksX4_shortest_6 3 rfl rfl)
theorem dX4_shortest_145 : decode cX4_shortest 145 = .ok (.getfield 52, 3) := dk_180 0 52 (dk_at dksX4_shortest_6 4 rfl rfl)
theorem dX4_shortest_148 : decode cX4_shortest 148 = .ok (.iload_n 2, 1) := dk_28 (dk_at dksX4_shortest_6 7 rfl rfl)
theorem dX4_shortest_149 : decode cX4_shortest 149 = .ok (.iaload, 1) := dk_46 (dk_at dksX4_shortest_6 8 rfl rfl)
theorem dX4_shortest_150 : decode cX4_shortest 150 = .ok (.ireturn, 1) := dk_172 (dk_at dksX4_shortest_6 9 rfl rfl)
abbrev cX4_goesFrom : ByteArray := prog_19_method_91_code
def yX4_goesFrom : MethodName := ⟨RX4, "goesFrom", "(II)Z"⟩
def dkwX4_goesFrom_2 : List UInt8 := [180, 0, 52, 27, 46, 42, 180, 0, 39, 16, 86, 28, 96, 46, 96, 5, 96, 182, 1, 128, 172]
abbrev dktX4_goesFrom_2 : List UInt8 := dkwX4_goesFrom_2 ++ []
def dkwX4_goesFrom_1 : List UInt8 := [172, 42, 42, 42, 180, 0, 39, 16, 46, 28, 96, 46, 42, 27, 28, 182, 1, 89, 182, 1, 92, 42]
abbrev dktX4_goesFrom_1 : List UInt8 := dkwX4_goesFrom_1 ++ dktX4_goesFrom_2
def dkwX4_goesFrom_0 : List UInt8 := [42, 27, 28, 182, 1, 76, 62, 29, 155, 0, 17, 42, 29, 42, 180, 0, 52, 27, 46, 4, 96, 182, 1, 128]
abbrev dktX4_goesFrom_0 : List UInt8 := dkwX4_goesFrom_0 ++ dktX4_goesFrom_1
theorem dksX4_goesFrom_0 : cX4_goesFrom.data.toList.drop 0 = dktX4_goesFrom_0 := by decide +kernel
theorem dksX4_goesFrom_1 : cX4_goesFrom.data.toList.drop 24 = dktX4_goesFrom_1 := dk_seg dksX4_goesFrom_0 24 rfl rfl
theorem dksX4_goesFrom_2 : cX4_goesFrom.data.toList.drop 46 = dktX4_goesFrom_2 := dk_seg dksX4_goesFrom_1 22 rfl rfl
theorem dX4_goesFrom_0 : decode cX4_goesFrom 0 = .ok (.aload_n 0, 1) := dk_42 (dk_at dksX4_goesFrom_0 0 rfl rfl)
theorem dX4_goesFrom_1 : decode cX4_goesFrom 1 = .ok (.iload_n 1, 1) := dk_27 (dk_at dksX4_goesFrom_0 1 rfl rfl)
theorem dX4_goesFrom_2 : decode cX4_goesFrom 2 = .ok (.iload_n 2, 1) := dk_28 (dk_at dksX4_goesFrom_0 2 rfl rfl)
theorem dX4_goesFrom_3 : decode cX4_goesFrom 3 = .ok (.invokevirtual 332, 3) := dk_182 1 76 (dk_at dksX4_goesFrom_0 3 rfl rfl)
theorem dX4_goesFrom_6 : decode cX4_goesFrom 6 = .ok (.istore_n 3, 1) := dk_62 (dk_at dksX4_goesFrom_0 6 rfl rfl)
theorem dX4_goesFrom_7 : decode cX4_goesFrom 7 = .ok (.iload_n 3, 1) := dk_29 (dk_at dksX4_goesFrom_0 7 rfl rfl)
theorem dX4_goesFrom_8 : decode cX4_goesFrom 8 = .ok (.ifCond .lt 17, 3) := dk_155 0 17 (dk_at dksX4_goesFrom_0 8 rfl rfl)
theorem dX4_goesFrom_11 : decode cX4_goesFrom 11 = .ok (.aload_n 0, 1) := dk_42 (dk_at dksX4_goesFrom_0 11 rfl rfl)
theorem dX4_goesFrom_12 : decode cX4_goesFrom 12 = .ok (.iload_n 3, 1) := dk_29 (dk_at dksX4_goesFrom_0 12 rfl rfl)
theorem dX4_goesFrom_13 : decode cX4_goesFrom 13 = .ok (.aload_n 0, 1) := dk_42 (dk_at dksX4_goesFrom_0 13 rfl rfl)
theorem dX4_goesFrom_14 : decode cX4_goesFrom 14 = .ok (.getfield 52, 3) := dk_180 0 52 (dk_at dksX4_goesFrom_0 14 rfl rfl)
theorem dX4_goesFrom_17 : decode cX4_goesFrom 17 = .ok (.iload_n 1, 1) := dk_27 (dk_at dksX4_goesFrom_0 17 rfl rfl)
theorem dX4_goesFrom_18 : decode cX4_goesFrom 18 = .ok (.iaload, 1) := dk_46 (dk_at dksX4_goesFrom_0 18 rfl rfl)
theorem dX4_goesFrom_19 : decode cX4_goesFrom 19 = .ok (.iconst 1, 1) := dk_4 (dk_at dksX4_goesFrom_0 19 rfl rfl)
theorem dX4_goesFrom_20 : decode cX4_goesFrom 20 = .ok (.iadd, 1) := dk_96 (dk_at dksX4_goesFrom_0 20 rfl rfl)
theorem dX4_goesFrom_21 : decode cX4_goesFrom 21 = .ok (.invokevirtual 384, 3) := dk_182 1 128 (dk_at dksX4_goesFrom_0 21 rfl rfl)
theorem dX4_goesFrom_24 : decode cX4_goesFrom 24 = .ok (.ireturn, 1) := dk_172 (dk_at dksX4_goesFrom_1 0 rfl rfl)
theorem dX4_goesFrom_25 : decode cX4_goesFrom 25 = .ok (.aload_n 0, 1) := dk_42 (dk_at dksX4_goesFrom_1 1 rfl rfl)
theorem dX4_goesFrom_26 : decode cX4_goesFrom 26 = .ok (.aload_n 0, 1) := dk_42 (dk_at dksX4_goesFrom_1 2 rfl rfl)
theorem dX4_goesFrom_27 : decode cX4_goesFrom 27 = .ok (.aload_n 0, 1) := dk_42 (dk_at dksX4_goesFrom_1 3 rfl rfl)
theorem dX4_goesFrom_28 : decode cX4_goesFrom 28 = .ok (.getfield 39, 3) := dk_180 0 39 (dk_at dksX4_goesFrom_1 4 rfl rfl)
theorem dX4_goesFrom_31 : decode cX4_goesFrom 31 = .ok (.bipush 46, 2) := dk_16 46 (dk_at dksX4_goesFrom_1 7 rfl rfl)
theorem dX4_goesFrom_33 : decode cX4_goesFrom 33 = .ok (.iload_n 2, 1) := dk_28 (dk_at dksX4_goesFrom_1 9 rfl rfl)
theorem dX4_goesFrom_34 : decode cX4_goesFrom 34 = .ok (.iadd, 1) := dk_96 (dk_at dksX4_goesFrom_1 10 rfl rfl)
theorem dX4_goesFrom_35 : decode cX4_goesFrom 35 = .ok (.iaload, 1) := dk_46 (dk_at dksX4_goesFrom_1 11 rfl rfl)
theorem dX4_goesFrom_36 : decode cX4_goesFrom 36 = .ok (.aload_n 0, 1) := dk_42 (dk_at dksX4_goesFrom_1 12 rfl rfl)
theorem dX4_goesFrom_37 : decode cX4_goesFrom 37 = .ok (.iload_n 1, 1) := dk_27 (dk_at dksX4_goesFrom_1 13 rfl rfl)
theorem dX4_goesFrom_38 : decode cX4_goesFrom 38 = .ok (.iload_n 2, 1) := dk_28 (dk_at dksX4_goesFrom_1 14 rfl rfl)
theorem dX4_goesFrom_39 : decode cX4_goesFrom 39 = .ok (.invokevirtual 345, 3) := dk_182 1 89 (dk_at dksX4_goesFrom_1 15 rfl rfl)
theorem dX4_goesFrom_42 : decode cX4_goesFrom 42 = .ok (.invokevirtual 348, 3) := dk_182 1 92 (dk_at dksX4_goesFrom_1 18 rfl rfl)
theorem dX4_goesFrom_45 : decode cX4_goesFrom 45 = .ok (.aload_n 0, 1) := dk_42 (dk_at dksX4_goesFrom_1 21 rfl rfl)
theorem dX4_goesFrom_46 : decode cX4_goesFrom 46 = .ok (.getfield 52, 3) := dk_180 0 52 (dk_at dksX4_goesFrom_2 0 rfl rfl)
theorem dX4_goesFrom_49 : decode cX4_goesFrom 49 = .ok (.iload_n 1, 1) := dk_27 (dk_at dksX4_goesFrom_2 3 rfl rfl)
theorem dX4_goesFrom_50 : decode cX4_goesFrom 50 = .ok (.iaload, 1) := dk_46 (dk_at dksX4_goesFrom_2 4 rfl rfl)
theorem dX4_goesFrom_51 : decode cX4_goesFrom 51 = .ok (.aload_n 0, 1) := dk_42 (dk_at dksX4_goesFrom_2 5 rfl rfl)
theorem dX4_goesFrom_52 : decode cX4_goesFrom 52 = .ok (.getfield 39, 3) := dk_180 0 39 (dk_at dksX4_goesFrom_2 6 rfl rfl)
theorem dX4_goesFrom_55 : decode cX4_goesFrom 55 = .ok (.bipush 86, 2) := dk_16 86 (dk_at dksX4_goesFrom_2 9 rfl rfl)
theorem dX4_goesFrom_57 : decode cX4_goesFrom 57 = .ok (.iload_n 2, 1) := dk_28 (dk_at dksX4_goesFrom_2 11 rfl rfl)
theorem dX4_goesFrom_58 : decode cX4_goesFrom 58 = .ok (.iadd, 1) := dk_96 (dk_at dksX4_goesFrom_2 12 rfl rfl)
theorem dX4_goesFrom_59 : decode cX4_goesFrom 59 = .ok (.iaload, 1) := dk_46 (dk_at dksX4_goesFrom_2 13 rfl rfl)
theorem dX4_goesFrom_60 : decode cX4_goesFrom 60 = .ok (.iadd, 1) := dk_96 (dk_at dksX4_goesFrom_2 14 rfl rfl)
theorem dX4_goesFrom_61 : decode cX4_goesFrom 61 = .ok (.iconst 2, 1) := dk_5 (dk_at dksX4_goesFrom_2 15 rfl rfl)
theorem dX4_goesFrom_62 : decode cX4_goesFrom 62 = .ok (.iadd, 1) := dk_96 (dk_at dksX4_goesFrom_2 16 rfl rfl)
theorem dX4_goesFrom_63 : decode cX4_goesFrom 63 = .ok (.invokevirtual 384, 3) := dk_182 1 128 (dk_at dksX4_goesFrom_2 17 rfl rfl)
theorem dX4_goesFrom_66 : decode cX4_goesFrom 66 = .ok (.ireturn, 1) := dk_172 (dk_at dksX4_goesFrom_2 20 rfl rfl)
abbrev cX4_nears : ByteArray := prog_19_method_90_code
def yX4_nears : MethodName := ⟨RX4, "nears", "(II)Z"⟩
def dkwX4_nears_1 : List UInt8 := [27, 28, 79, 4, 172]
abbrev dktX4_nears_1 : List UInt8 := dkwX4_nears_1 ++ []
def dkwX4_nears_0 : List UInt8 := [42, 27, 182, 1, 79, 154, 0, 13, 28, 42, 180, 0, 52, 27, 46, 161, 0, 5, 3, 172, 42, 180, 0, 52]
abbrev dktX4_nears_0 : List UInt8 := dkwX4_nears_0 ++ dktX4_nears_1
theorem dksX4_nears_0 : cX4_nears.data.toList.drop 0 = dktX4_nears_0 := by decide +kernel
theorem dksX4_nears_1 : cX4_nears.data.toList.drop 24 = dktX4_nears_1 := dk_seg dksX4_nears_0 24 rfl rfl
theorem dX4_nears_0 : decode cX4_nears 0 = .ok (.aload_n 0, 1) := dk_42 (dk_at dksX4_nears_0 0 rfl rfl)
theorem dX4_nears_1 : decode cX4_nears 1 = .ok (.iload_n 1, 1) := dk_27 (dk_at dksX4_nears_0 1 rfl rfl)
theorem dX4_nears_2 : decode cX4_nears 2 = .ok (.invokevirtual 335, 3) := dk_182 1 79 (dk_at dksX4_nears_0 2 rfl rfl)
theorem dX4_nears_5 : decode cX4_nears 5 = .ok (.ifCond .ne 13, 3) := dk_154 0 13 (dk_at dksX4_nears_0 5 rfl rfl)
theorem dX4_nears_8 : decode cX4_nears 8 = .ok (.iload_n 2, 1) := dk_28 (dk_at dksX4_nears_0 8 rfl rfl)
theorem dX4_nears_9 : decode cX4_nears 9 = .ok (.aload_n 0, 1) := dk_42 (dk_at dksX4_nears_0 9 rfl rfl)
theorem dX4_nears_10 : decode cX4_nears 10 = .ok (.getfield 52, 3) := dk_180 0 52 (dk_at dksX4_nears_0 10 rfl rfl)
theorem dX4_nears_13 : decode cX4_nears 13 = .ok (.iload_n 1, 1) := dk_27 (dk_at dksX4_nears_0 13 rfl rfl)
theorem dX4_nears_14 : decode cX4_nears 14 = .ok (.iaload, 1) := dk_46 (dk_at dksX4_nears_0 14 rfl rfl)
theorem dX4_nears_15 : decode cX4_nears 15 = .ok (.if_icmp .lt 5, 3) := dk_161 0 5 (dk_at dksX4_nears_0 15 rfl rfl)
theorem dX4_nears_18 : decode cX4_nears 18 = .ok (.iconst 0, 1) := dk_3 (dk_at dksX4_nears_0 18 rfl rfl)
theorem dX4_nears_19 : decode cX4_nears 19 = .ok (.ireturn, 1) := dk_172 (dk_at dksX4_nears_0 19 rfl rfl)
theorem dX4_nears_20 : decode cX4_nears 20 = .ok (.aload_n 0, 1) := dk_42 (dk_at dksX4_nears_0 20 rfl rfl)
theorem dX4_nears_21 : decode cX4_nears 21 = .ok (.getfield 52, 3) := dk_180 0 52 (dk_at dksX4_nears_0 21 rfl rfl)
theorem dX4_nears_24 : decode cX4_nears 24 = .ok (.iload_n 1, 1) := dk_27 (dk_at dksX4_nears_1 0 rfl rfl)
theorem dX4_nears_25 : decode cX4_nears 25 = .ok (.iload_n 2, 1) := dk_28 (dk_at dksX4_nears_1 1 rfl rfl)
theorem dX4_nears_26 : decode cX4_nears 26 = .ok (.iastore, 1) := dk_79 (dk_at dksX4_nears_1 2 rfl rfl)
theorem dX4_nears_27 : decode cX4_nears 27 = .ok (.iconst 1, 1) := dk_4 (dk_at dksX4_nears_1 3 rfl rfl)
theorem dX4_nears_28 : decode cX4_nears 28 = .ok (.ireturn, 1) := dk_172 (dk_at dksX4_nears_1 4 rfl rfl)
abbrev cX4_seen : ByteArray := prog_19_method_93_code
def yX4_seen : MethodName := ⟨RX4, "seen", "(II)I"⟩
def dkwX4_seen_5 : List UInt8 := [167, 0, 4, 3, 96, 62, 132, 4, 1, 167, 255, 226, 29, 172]
abbrev dktX4_seen_5 : List UInt8 := dkwX4_seen_5 ++ []
def dkwX4_seen_4 : List UInt8 := [3, 54, 4, 21, 4, 42, 182, 1, 33, 162, 0, 27, 29, 42, 180, 0, 55, 21, 4, 51, 153, 0, 7, 4]
abbrev dktX4_seen_4 : List UInt8 := dkwX4_seen_4 ++ dktX4_seen_5
def dkwX4_seen_3 : List UInt8 := [180, 0, 55, 42, 27, 182, 1, 60, 4, 84, 42, 182, 1, 104, 132, 4, 1, 167, 255, 224, 42, 182, 1, 125]
abbrev dktX4_seen_3 : List UInt8 := dkwX4_seen_3 ++ dktX4_seen_4
def dkwX4_seen_2 : List UInt8 := [42, 182, 1, 119, 3, 54, 4, 21, 4, 28, 163, 0, 32, 42, 27, 182, 1, 57, 153, 0, 14, 42]
abbrev dktX4_seen_2 : List UInt8 := dkwX4_seen_2 ++ dktX4_seen_3
def dkwX4_seen_1 : List UInt8 := [3, 54, 4, 21, 4, 16, 36, 162, 0, 17, 42, 180, 0, 55, 21, 4, 3, 84, 132, 4, 1, 167, 255, 238]
abbrev dktX4_seen_1 : List UInt8 := dkwX4_seen_1 ++ dktX4_seen_2
def dkwX4_seen_0 : List UInt8 := [42, 27, 182, 1, 54, 153, 0, 15, 28, 133, 9, 20, 1, 115, 184, 0, 124, 154, 0, 5, 2, 172, 3, 62]
abbrev dktX4_seen_0 : List UInt8 := dkwX4_seen_0 ++ dktX4_seen_1
theorem dksX4_seen_0 : cX4_seen.data.toList.drop 0 = dktX4_seen_0 := by decide +kernel
theorem dksX4_seen_1 : cX4_seen.data.toList.drop 24 = dktX4_seen_1 := dk_seg dksX4_seen_0 24 rfl rfl
theorem dksX4_seen_2 : cX4_seen.data.toList.drop 48 = dktX4_seen_2 := dk_seg dksX4_seen_1 24 rfl rfl
theorem dksX4_seen_3 : cX4_seen.data.toList.drop 70 = dktX4_seen_3 := dk_seg dksX4_seen_2 22 rfl rfl
theorem dksX4_seen_4 : cX4_seen.data.toList.drop 94 = dktX4_seen_4 := dk_seg dksX4_seen_3 24 rfl rfl
theorem dksX4_seen_5 : cX4_seen.data.toList.drop 118 = dktX4_seen_5 := dk_seg dksX4_seen_4 24 rfl rfl
theorem dX4_seen_0 : decode cX4_seen 0 = .ok (.aload_n 0, 1) := dk_42 (dk_at dksX4_seen_0 0 rfl rfl)
theorem dX4_seen_1 : decode cX4_seen 1 = .ok (.iload_n 1, 1) := dk_27 (dk_at dksX4_seen_0 1 rfl rfl)
theorem dX4_seen_2 : decode cX4_seen 2 = .ok (.invokevirtual 310, 3) := dk_182 1 54 (dk_at dksX4_seen_0 2 rfl rfl)
theorem dX4_seen_5 : decode cX4_seen 5 = .ok (.ifCond .eq 15, 3) := dk_153 0 15 (dk_at dksX4_seen_0 5 rfl rfl)
theorem dX4_seen_8 : decode cX4_seen 8 = .ok (.iload_n 2, 1) := dk_28 (dk_at dksX4_seen_0 8 rfl rfl)
theorem dX4_seen_9 : decode cX4_seen 9 = .ok (.i2l, 1) := dk_133 (dk_at dksX4_seen_0 9 rfl rfl)
theorem dX4_seen_10 : decode cX4_seen 10 = .ok (.lconst 0, 1) := dk_9 (dk_at dksX4_seen_0 10 rfl rfl)
theorem dX4_seen_11 : decode cX4_seen 11 = .ok (.ldc2_w 371, 3) := dk_20 1 115 (dk_at dksX4_seen_0 11 rfl rfl)
theorem dX4_seen_14 : decode cX4_seen 14 = .ok (.invokestatic 124, 3) := dk_184 0 124 (dk_at dksX4_seen_0 14 rfl rfl)
theorem dX4_seen_17 : decode cX4_seen 17 = .ok (.ifCond .ne 5, 3) := dk_154 0 5 (dk_at dksX4_seen_0 17 rfl rfl)
theorem dX4_seen_20 : decode cX4_seen 20 = .ok (.iconst (-1), 1) := dk_2 (dk_at dksX4_seen_0 20 rfl rfl)
theorem dX4_seen_21 : decode cX4_seen 21 = .ok (.ireturn, 1) := dk_172 (dk_at dksX4_seen_0 21 rfl rfl)
theorem dX4_seen_22 : decode cX4_seen 22 = .ok (.iconst 0, 1) := dk_3 (dk_at dksX4_seen_0 22 rfl rfl)
theorem dX4_seen_23 : decode cX4_seen 23 = .ok (.istore_n 3, 1) := dk_62 (dk_at dksX4_seen_0 23 rfl rfl)
theorem dX4_seen_24 : decode cX4_seen 24 = .ok (.iconst 0, 1) := dk_3 (dk_at dksX4_seen_1 0 rfl rfl)
theorem dX4_seen_25 : decode cX4_seen 25 = .ok (.istore 4, 2) := dk_54 4 (dk_at dksX4_seen_1 1 rfl rfl)
theorem dX4_seen_27 : decode cX4_seen 27 = .ok (.iload 4, 2) := dk_21 4 (dk_at dksX4_seen_1 3 rfl rfl)
theorem dX4_seen_29 : decode cX4_seen 29 = .ok (.bipush 36, 2) := dk_16 36 (dk_at dksX4_seen_1 5 rfl rfl)
theorem dX4_seen_31 : decode cX4_seen 31 = .ok (.if_icmp .ge 17, 3) := dk_162 0 17 (dk_at dksX4_seen_1 7 rfl rfl)
theorem dX4_seen_34 : decode cX4_seen 34 = .ok (.aload_n 0, 1) := dk_42 (dk_at dksX4_seen_1 10 rfl rfl)
theorem dX4_seen_35 : decode cX4_seen 35 = .ok (.getfield 55, 3) := dk_180 0 55 (dk_at dksX4_seen_1 11 rfl rfl)
theorem dX4_seen_38 : decode cX4_seen 38 = .ok (.iload 4, 2) := dk_21 4 (dk_at dksX4_seen_1 14 rfl rfl)
theorem dX4_seen_40 : decode cX4_seen 40 = .ok (.iconst 0, 1) := dk_3 (dk_at dksX4_seen_1 16 rfl rfl)
theorem dX4_seen_41 : decode cX4_seen 41 = .ok (.bastore, 1) := dk_84 (dk_at dksX4_seen_1 17 rfl rfl)
theorem dX4_seen_42 : decode cX4_seen 42 = .ok (.iinc 4 1, 3) := dk_132 4 1 (dk_at dksX4_seen_1 18 rfl rfl)
theorem dX4_seen_45 : decode cX4_seen 45 = .ok (.goto (-18), 3) := dk_167 255 238 (dk_at dksX4_seen_1 21 rfl rfl)
theorem dX4_seen_48 : decode cX4_seen 48 = .ok (.aload_n 0, 1) := dk_42 (dk_at dksX4_seen_2 0 rfl rfl)
theorem dX4_seen_49 : decode cX4_seen 49 = .ok (.invokevirtual 375, 3) := dk_182 1 119 (dk_at dksX4_seen_2 1 rfl rfl)
theorem dX4_seen_52 : decode cX4_seen 52 = .ok (.iconst 0, 1) := dk_3 (dk_at dksX4_seen_2 4 rfl rfl)
theorem dX4_seen_53 : decode cX4_seen 53 = .ok (.istore 4, 2) := dk_54 4 (dk_at dksX4_seen_2 5 rfl rfl)
theorem dX4_seen_55 : decode cX4_seen 55 = .ok (.iload 4, 2) := dk_21 4 (dk_at dksX4_seen_2 7 rfl rfl)
theorem dX4_seen_57 : decode cX4_seen 57 = .ok (.iload_n 2, 1) := dk_28 (dk_at dksX4_seen_2 9 rfl rfl)
theorem dX4_seen_58 : decode cX4_seen 58 = .ok (.if_icmp .gt 32, 3) := dk_163 0 32 (dk_at dksX4_seen_2 10 rfl rfl)
theorem dX4_seen_61 : decode cX4_seen 61 = .ok (.aload_n 0, 1) := dk_42 (dk_at dksX4_seen_2 13 rfl rfl)
theorem dX4_seen_62 : decode cX4_seen 62 = .ok (.iload_n 1, 1) := dk_27 (dk_at dksX4_seen_2 14 rfl rfl)
theorem dX4_seen_63 : decode cX4_seen 63 = .ok (.invokevirtual 313, 3) := dk_182 1 57 (dk_at dksX4_seen_2 15 rfl rfl)
theorem dX4_seen_66 : decode cX4_seen 66 = .ok (.ifCond .eq 14, 3) := dk_153 0 14 (dk_at dksX4_seen_2 18 rfl rfl)
theorem dX4_seen_69 : decode cX4_seen 69 = .ok (.aload_n 0, 1) := dk_42 (dk_at dksX4_seen_2 21 rfl rfl)
theorem dX4_seen_70 : decode cX4_seen 70 = .ok (.getfield 55, 3) := dk_180 0 55 (dk_at dksX4_seen_3 0 rfl rfl)
theorem dX4_seen_73 : decode cX4_seen 73 = .ok (.aload_n 0, 1) := dk_42 (dk_at dksX4_seen_3 3 rfl rfl)
theorem dX4_seen_74 : decode cX4_seen 74 = .ok (.iload_n 1, 1) := dk_27 (dk_at dksX4_seen_3 4 rfl rfl)
theorem dX4_seen_75 : decode cX4_seen 75 = .ok (.invokevirtual 316, 3) := dk_182 1 60 (dk_at dksX4_seen_3 5 rfl rfl)
theorem dX4_seen_78 : decode cX4_seen 78 = .ok (.iconst 1, 1) := dk_4 (dk_at dksX4_seen_3 8 rfl rfl)
theorem dX4_seen_79 : decode cX4_seen 79 = .ok (.bastore, 1) := dk_84 (dk_at dksX4_seen_3 9 rfl rfl)
theorem dX4_seen_80 : decode cX4_seen 80 = .ok (.aload_n 0, 1) := dk_42 (dk_at dksX4_seen_3 10 rfl rfl)
theorem dX4_seen_81 : decode cX4_seen 81 = .ok (.invokevirtual 360, 3) := dk_182 1 104 (dk_at dksX4_seen_3 11 rfl rfl)
theorem dX4_seen_84 : decode cX4_seen 84 = .ok (.iinc 4 1, 3) := dk_132 4 1 (dk_at dksX4_seen_3 14 rfl rfl)
theorem dX4_seen_87 : decode cX4_seen 87 = .ok (.goto (-32), 3) := dk_167 255 224 (dk_at dksX4_seen_3 17 rfl rfl)
theorem dX4_seen_90 : decode cX4_seen 90 = .ok (.aload_n 0, 1) := dk_42 (dk_at dksX4_seen_3 20 rfl rfl)
theorem dX4_seen_91 : decode cX4_seen 91 = .ok (.invokevirtual 381, 3) := dk_182 1 125 (dk_at dksX4_seen_3 21 rfl rfl)
theorem dX4_seen_94 : decode cX4_seen 94 = .ok (.iconst 0, 1) := dk_3 (dk_at dksX4_seen_4 0 rfl rfl)
theorem dX4_seen_95 : decode cX4_seen 95 = .ok (.istore 4, 2) := dk_54 4 (dk_at dksX4_seen_4 1 rfl rfl)
theorem dX4_seen_97 : decode cX4_seen 97 = .ok (.iload 4, 2) := dk_21 4 (dk_at dksX4_seen_4 3 rfl rfl)
theorem dX4_seen_99 : decode cX4_seen 99 = .ok (.aload_n 0, 1) := dk_42 (dk_at dksX4_seen_4 5 rfl rfl)
theorem dX4_seen_100 : decode cX4_seen 100 = .ok (.invokevirtual 289, 3) := dk_182 1 33 (dk_at dksX4_seen_4 6 rfl rfl)
theorem dX4_seen_103 : decode cX4_seen 103 = .ok (.if_icmp .ge 27, 3) := dk_162 0 27 (dk_at dksX4_seen_4 9 rfl rfl)
theorem dX4_seen_106 : decode cX4_seen 106 = .ok (.iload_n 3, 1) := dk_29 (dk_at dksX4_seen_4 12 rfl rfl)
theorem dX4_seen_107 : decode cX4_seen 107 = .ok (.aload_n 0, 1) := dk_42 (dk_at dksX4_seen_4 13 rfl rfl)
theorem dX4_seen_108 : decode cX4_seen 108 = .ok (.getfield 55, 3) := dk_180 0 55 (dk_at dksX4_seen_4 14 rfl rfl)
theorem dX4_seen_111 : decode cX4_seen 111 = .ok (.iload 4, 2) := dk_21 4 (dk_at dksX4_seen_4 17 rfl rfl)
theorem dX4_seen_113 : decode cX4_seen 113 = .ok (.baload, 1) := dk_51 (dk_at dksX4_seen_4 19 rfl rfl)
theorem dX4_seen_114 : decode cX4_seen 114 = .ok (.ifCond .eq 7, 3) := dk_153 0 7 (dk_at dksX4_seen_4 20 rfl rfl)
theorem dX4_seen_117 : decode cX4_seen 117 = .ok (.iconst 1, 1) := dk_4 (dk_at dksX4_seen_4 23 rfl rfl)
theorem dX4_seen_118 : decode cX4_seen 118 = .ok (.goto 4, 3) := dk_167 0 4 (dk_at dksX4_seen_5 0 rfl rfl)
theorem dX4_seen_121 : decode cX4_seen 121 = .ok (.iconst 0, 1) := dk_3 (dk_at dksX4_seen_5 3 rfl rfl)
theorem dX4_seen_122 : decode cX4_seen 122 = .ok (.iadd, 1) := dk_96 (dk_at dksX4_seen_5 4 rfl rfl)
theorem dX4_seen_123 : decode cX4_seen 123 = .ok (.istore_n 3, 1) := dk_62 (dk_at dksX4_seen_5 5 rfl rfl)
theorem dX4_seen_124 : decode cX4_seen 124 = .ok (.iinc 4 1, 3) := dk_132 4 1 (dk_at dksX4_seen_5 6 rfl rfl)
theorem dX4_seen_127 : decode cX4_seen 127 = .ok (.goto (-30), 3) := dk_167 255 226 (dk_at dksX4_seen_5 9 rfl rfl)
theorem dX4_seen_130 : decode cX4_seen 130 = .ok (.iload_n 3, 1) := dk_29 (dk_at dksX4_seen_5 12 rfl rfl)
theorem dX4_seen_131 : decode cX4_seen 131 = .ok (.ireturn, 1) := dk_172 (dk_at dksX4_seen_5 13 rfl rfl)
abbrev cX4_longest : ByteArray := prog_19_method_94_code
def yX4_longest : MethodName := ⟨RX4, "longest", "(II)I"⟩
def dkwX4_longest_8 : List UInt8 := [167, 0, 14, 21, 4, 156, 0, 7, 3, 167, 0, 5, 21, 4, 172]
abbrev dktX4_longest_8 : List UInt8 := dkwX4_longest_8 ++ []
def dkwX4_longest_7 : List UInt8 := [21, 5, 62, 42, 180, 0, 59, 21, 5, 46, 54, 4, 132, 5, 1, 167, 255, 215, 28, 154, 0, 7, 29]
abbrev dktX4_longest_7 : List UInt8 := dkwX4_longest_7 ++ dktX4_longest_8
def dkwX4_longest_6 : List UInt8 := [180, 0, 39, 5, 46, 162, 0, 36, 42, 180, 0, 59, 21, 5, 46, 21, 4, 163, 0, 6, 167, 0, 15]
abbrev dktX4_longest_6 : List UInt8 := dkwX4_longest_6 ++ dktX4_longest_7
def dkwX4_longest_5 : List UInt8 := [132, 6, 1, 167, 255, 217, 132, 5, 1, 167, 255, 198, 42, 182, 1, 125, 3, 54, 5, 21, 5, 42]
abbrev dktX4_longest_5 : List UInt8 := dkwX4_longest_5 ++ dktX4_longest_6
def dkwX4_longest_4 : List UInt8 := [180, 0, 59, 21, 6, 92, 46, 42, 21, 6, 182, 1, 41, 4, 160, 0, 7, 4, 167, 0, 4, 3, 96, 79]
abbrev dktX4_longest_4 : List UInt8 := dkwX4_longest_4 ++ dktX4_longest_5
def dkwX4_longest_3 : List UInt8 := [162, 0, 58, 42, 182, 1, 104, 3, 54, 6, 21, 6, 42, 180, 0, 39, 5, 46, 162, 0, 34, 42]
abbrev dktX4_longest_3 : List UInt8 := dkwX4_longest_3 ++ dktX4_longest_4
def dkwX4_longest_2 : List UInt8 := [180, 0, 59, 21, 5, 3, 79, 132, 5, 1, 167, 255, 239, 42, 182, 1, 119, 3, 54, 5, 21, 5, 27]
abbrev dktX4_longest_2 : List UInt8 := dkwX4_longest_2 ++ dktX4_longest_3
def dkwX4_longest_1 : List UInt8 := [184, 0, 124, 154, 0, 5, 2, 172, 16, 254, 62, 2, 54, 4, 3, 54, 5, 21, 5, 8, 162, 0, 17, 42]
abbrev dktX4_longest_1 : List UInt8 := dkwX4_longest_1 ++ dktX4_longest_2
def dkwX4_longest_0 : List UInt8 := [42, 182, 1, 36, 153, 0, 25, 27, 133, 10, 20, 1, 115, 184, 0, 124, 153, 0, 13, 28, 133, 9, 10]
abbrev dktX4_longest_0 : List UInt8 := dkwX4_longest_0 ++ dktX4_longest_1
theorem dksX4_longest_0 : cX4_longest.data.toList.drop 0 = dktX4_longest_0 := by decide +kernel
theorem dksX4_longest_1 : cX4_longest.data.toList.drop 23 = dktX4_longest_1 := dk_seg dksX4_longest_0 23 rfl rfl
theorem dksX4_longest_2 : cX4_longest.data.toList.drop 47 = dktX4_longest_2 := dk_seg dksX4_longest_1 24 rfl rfl
theorem dksX4_longest_3 : cX4_longest.data.toList.drop 70 = dktX4_longest_3 := dk_seg dksX4_longest_2 23 rfl rfl
theorem dksX4_longest_4 : cX4_longest.data.toList.drop 92 = dktX4_longest_4 := dk_seg dksX4_longest_3 22 rfl rfl
theorem dksX4_longest_5 : cX4_longest.data.toList.drop 116 = dktX4_longest_5 := dk_seg dksX4_longest_4 24 rfl rfl
theorem dksX4_longest_6 : cX4_longest.data.toList.drop 138 = dktX4_longest_6 := dk_seg dksX4_longest_5 22 rfl rfl
theorem dksX4_longest_7 : cX4_longest.data.toList.drop 161 = dktX4_longest_7 := dk_seg dksX4_longest_6 23 rfl rfl
theorem dksX4_longest_8 : cX4_longest.data.toList.drop 184 = dktX4_longest_8 := dk_seg dksX4_longest_7 23 rfl rfl
theorem dX4_longest_0 : decode cX4_longest 0 = .ok (.aload_n 0, 1) := dk_42 (dk_at dksX4_longest_0 0 rfl rfl)
theorem dX4_longest_1 : decode cX4_longest 1 = .ok (.invokevirtual 292, 3) := dk_182 1 36 (dk_at dksX4_longest_0 1 rfl rfl)
theorem dX4_longest_4 : decode cX4_longest 4 = .ok (.ifCond .eq 25, 3) := dk_153 0 25 (dk_at dksX4_longest_0 4 rfl rfl)
theorem dX4_longest_7 : decode cX4_longest 7 = .ok (.iload_n 1, 1) := dk_27 (dk_at dksX4_longest_0 7 rfl rfl)
theorem dX4_longest_8 : decode cX4_longest 8 = .ok (.i2l, 1) := dk_133 (dk_at dksX4_longest_0 8 rfl rfl)
theorem dX4_longest_9 : decode cX4_longest 9 = .ok (.lconst 1, 1) := dk_10 (dk_at dksX4_longest_0 9 rfl rfl)
theorem dX4_longest_10 : decode cX4_longest 10 = .ok (.ldc2_w 371, 3) := dk_20 1 115 (dk_at dksX4_longest_0 10 rfl rfl)
theorem dX4_longest_13 : decode cX4_longest 13 = .ok (.invokestatic 124, 3) := dk_184 0 124 (dk_at dksX4_longest_0 13 rfl rfl)
theorem dX4_longest_16 : decode cX4_longest 16 = .ok (.ifCond .eq 13, 3) := dk_153 0 13 (dk_at dksX4_longest_0 16 rfl rfl)
theorem dX4_longest_19 : decode cX4_longest 19 = .ok (.iload_n 2, 1) := dk_28 (dk_at dksX4_longest_0 19 rfl rfl)
theorem dX4_longest_20 : decode cX4_longest 20 = .ok (.i2l, 1) := dk_133 (dk_at dksX4_longest_0 20 rfl rfl)
theorem dX4_longest_21 : decode cX4_longest 21 = .ok (.lconst 0, 1) := dk_9 (dk_at dksX4_longest_0 21 rfl rfl)
theorem dX4_longest_22 : decode cX4_longest 22 = .ok (.lconst 1, 1) := dk_10 (dk_at dksX4_longest_0 22 rfl rfl)
theorem dX4_longest_23 : decode cX4_longest 23 = .ok (.invokestatic 124, 3) := dk_184 0 124 (dk_at dksX4_longest_1 0 rfl rfl)
theorem dX4_longest_26 : decode cX4_longest 26 = .ok (.ifCond .ne 5, 3) := dk_154 0 5 (dk_at dksX4_longest_1 3 rfl rfl)
theorem dX4_longest_29 : decode cX4_longest 29 = .ok (.iconst (-1), 1) := dk_2 (dk_at dksX4_longest_1 6 rfl rfl)
theorem dX4_longest_30 : decode cX4_longest 30 = .ok (.ireturn, 1) := dk_172 (dk_at dksX4_longest_1 7 rfl rfl)
theorem dX4_longest_31 : decode cX4_longest 31 = .ok (.bipush (-2), 2) := dk_16 254 (dk_at dksX4_longest_1 8 rfl rfl)
theorem dX4_longest_33 : decode cX4_longest 33 = .ok (.istore_n 3, 1) := dk_62 (dk_at dksX4_longest_1 10 rfl rfl)
theorem dX4_longest_34 : decode cX4_longest 34 = .ok (.iconst (-1), 1) := dk_2 (dk_at dksX4_longest_1 11 rfl rfl)
theorem dX4_longest_35 : decode cX4_longest 35 = .ok (.istore 4, 2) := dk_54 4 (dk_at dksX4_longest_1 12 rfl rfl)
theorem dX4_longest_37 : decode cX4_longest 37 = .ok (.iconst 0, 1) := dk_3 (dk_at dksX4_longest_1 14 rfl rfl)
theorem dX4_longest_38 : decode cX4_longest 38 = .ok (.istore 5, 2) := dk_54 5 (dk_at dksX4_longest_1 15 rfl rfl)
theorem dX4_longest_40 : decode cX4_longest 40 = .ok (.iload 5, 2) := dk_21 5 (dk_at dksX4_longest_1 17 rfl rfl)
theorem dX4_longest_42 : decode cX4_longest 42 = .ok (.iconst 5, 1) := dk_8 (dk_at dksX4_longest_1 19 rfl rfl)
theorem dX4_longest_43 : decode cX4_longest 43 = .ok (.if_icmp .ge 17, 3) := dk_162 0 17 (dk_at dksX4_longest_1 20 rfl rfl)
theorem dX4_longest_46 : decode cX4_longest 46 = .ok (.aload_n 0, 1) := dk_42 (dk_at dksX4_longest_1 23 rfl rfl)
theorem dX4_longest_47 : decode cX4_longest 47 = .ok (.getfield 59, 3) := dk_180 0 59 (dk_at dksX4_longest_2 0 rfl rfl)
theorem dX4_longest_50 : decode cX4_longest 50 = .ok (.iload 5, 2) := dk_21 5 (dk_at dksX4_longest_2 3 rfl rfl)
theorem dX4_longest_52 : decode cX4_longest 52 = .ok (.iconst 0, 1) := dk_3 (dk_at dksX4_longest_2 5 rfl rfl)
theorem dX4_longest_53 : decode cX4_longest 53 = .ok (.iastore, 1) := dk_79 (dk_at dksX4_longest_2 6 rfl rfl)
theorem dX4_longest_54 : decode cX4_longest 54 = .ok (.iinc 5 1, 3) := dk_132 5 1 (dk_at dksX4_longest_2 7 rfl rfl)
theorem dX4_longest_57 : decode cX4_longest 57 = .ok (.goto (-17), 3) := dk_167 255 239 (dk_at dksX4_longest_2 10 rfl rfl)
theorem dX4_longest_60 : decode cX4_longest 60 = .ok (.aload_n 0, 1) := dk_42 (dk_at dksX4_longest_2 13 rfl rfl)
theorem dX4_longest_61 : decode cX4_longest 61 = .ok (.invokevirtual 375, 3) := dk_182 1 119 (dk_at dksX4_longest_2 14 rfl rfl)
theorem dX4_longest_64 : decode cX4_longest 64 = .ok (.iconst 0, 1) := dk_3 (dk_at dksX4_longest_2 17 rfl rfl)
theorem dX4_longest_65 : decode cX4_longest 65 = .ok (.istore 5, 2) := dk_54 5 (dk_at dksX4_longest_2 18 rfl rfl)
theorem dX4_longest_67 : decode cX4_longest 67 = .ok (.iload 5, 2) := dk_21 5 (dk_at dksX4_longest_2 20 rfl rfl)
theorem dX4_longest_69 : decode cX4_longest 69 = .ok (.iload_n 1, 1) := dk_27 (dk_at dksX4_longest_2 22 rfl rfl)
theorem dX4_longest_70 : decode cX4_longest 70 = .ok (.if_icmp .ge 58, 3) := dk_162 0 58 (dk_at dksX4_longest_3 0 rfl rfl)
theorem dX4_longest_73 : decode cX4_longest 73 = .ok (.aload_n 0, 1) := dk_42 (dk_at dksX4_longest_3 3 rfl rfl)
theorem dX4_longest_74 : decode cX4_longest 74 = .ok (.invokevirtual 360, 3) := dk_182 1 104 (dk_at dksX4_longest_3 4 rfl rfl)
theorem dX4_longest_77 : decode cX4_longest 77 = .ok (.iconst 0, 1) := dk_3 (dk_at dksX4_longest_3 7 rfl rfl)
theorem dX4_longest_78 : decode cX4_longest 78 = .ok (.istore 6, 2) := dk_54 6 (dk_at dksX4_longest_3 8 rfl rfl)
theorem dX4_longest_80 : decode cX4_longest 80 = .ok (.iload 6, 2) := dk_21 6 (dk_at dksX4_longest_3 10 rfl rfl)
theorem dX4_longest_82 : decode cX4_longest 82 = .ok (.aload_n 0, 1) := dk_42 (dk_at dksX4_longest_3 12 rfl rfl)
theorem dX4_longest_83 : decode cX4_longest 83 = .ok (.getfield 39, 3) := dk_180 0 39 (dk_at dksX4_longest_3 13 rfl rfl)
theorem dX4_longest_86 : decode cX4_longest 86 = .ok (.iconst 2, 1) := dk_5 (dk_at dksX4_longest_3 16 rfl rfl)
theorem dX4_longest_87 : decode cX4_longest 87 = .ok (.iaload, 1) := dk_46 (dk_at dksX4_longest_3 17 rfl rfl)
theorem dX4_longest_88 : decode cX4_longest 88 = .ok (.if_icmp .ge 34, 3) := dk_162 0 34 (dk_at dksX4_longest_3 18 rfl rfl)
theorem dX4_longest_91 : decode cX4_longest 91 = .ok (.aload_n 0, 1) := dk_42 (dk_at dksX4_longest_3 21 rfl rfl)
theorem dX4_longest_92 : decode cX4_longest 92 = .ok (.getfield 59, 3) := dk_180 0 59 (dk_at dksX4_longest_4 0 rfl rfl)
theorem dX4_longest_95 : decode cX4_longest 95 = .ok (.iload 6, 2) := dk_21 6 (dk_at dksX4_longest_4 3 rfl rfl)
theorem dX4_longest_97 : decode cX4_longest 97 = .ok (.dup2, 1) := dk_92 (dk_at dksX4_longest_4 5 rfl rfl)
theorem dX4_longest_98 : decode cX4_longest 98 = .ok (.iaload, 1) := dk_46 (dk_at dksX4_longest_4 6 rfl rfl)
theorem dX4_longest_99 : decode cX4_longest 99 = .ok (.aload_n 0, 1) := dk_42 (dk_at dksX4_longest_4 7 rfl rfl)
theorem dX4_longest_100 : decode cX4_longest 100 = .ok (.iload 6, 2) := dk_21 6 (dk_at dksX4_longest_4 8 rfl rfl)
theorem dX4_longest_102 : decode cX4_longest 102 = .ok (.invokevirtual 297, 3) := dk_182 1 41 (dk_at dksX4_longest_4 10 rfl rfl)
theorem dX4_longest_105 : decode cX4_longest 105 = .ok (.iconst 1, 1) := dk_4 (dk_at dksX4_longest_4 13 rfl rfl)
theorem dX4_longest_106 : decode cX4_longest 106 = .ok (.if_icmp .ne 7, 3) := dk_160 0 7 (dk_at dksX4_longest_4 14 rfl rfl)
theorem dX4_longest_109 : decode cX4_longest 109 = .ok (.iconst 1, 1) := dk_4 (dk_at dksX4_longest_4 17 rfl rfl)
theorem dX4_longest_110 : decode cX4_longest 110 = .ok (.goto 4, 3) := dk_167 0 4 (dk_at dksX4_longest_4 18 rfl rfl)
theorem dX4_longest_113 : decode cX4_longest 113 = .ok (.iconst 0, 1) := dk_3 (dk_at dksX4_longest_4 21 rfl rfl)
theorem dX4_longest_114 : decode cX4_longest 114 = .ok (.iadd, 1) := dk_96 (dk_at dksX4_longest_4 22 rfl rfl)
theorem dX4_longest_115 : decode cX4_longest 115 = .ok (.iastore, 1) := dk_79 (dk_at dksX4_longest_4 23 rfl rfl)
theorem dX4_longest_116 : decode cX4_longest 116 = .ok (.iinc 6 1, 3) := dk_132 6 1 (dk_at dksX4_longest_5 0 rfl rfl)
theorem dX4_longest_119 : decode cX4_longest 119 = .ok (.goto (-39), 3) := dk_167 255 217 (dk_at dksX4_longest_5 3 rfl rfl)
theorem dX4_longest_122 : decode cX4_longest 122 = .ok (.iinc 5 1, 3) := dk_132 5 1 (dk_at dksX4_longest_5 6 rfl rfl)
theorem dX4_longest_125 : decode cX4_longest 125 = .ok (.goto (-58), 3) := dk_167 255 198 (dk_at dksX4_longest_5 9 rfl rfl)
theorem dX4_longest_128 : decode cX4_longest 128 = .ok (.aload_n 0, 1) := dk_42 (dk_at dksX4_longest_5 12 rfl rfl)
theorem dX4_longest_129 : decode cX4_longest 129 = .ok (.invokevirtual 381, 3) := dk_182 1 125 (dk_at dksX4_longest_5 13 rfl rfl)
theorem dX4_longest_132 : decode cX4_longest 132 = .ok (.iconst 0, 1) := dk_3 (dk_at dksX4_longest_5 16 rfl rfl)
theorem dX4_longest_133 : decode cX4_longest 133 = .ok (.istore 5, 2) := dk_54 5 (dk_at dksX4_longest_5 17 rfl rfl)
theorem dX4_longest_135 : decode cX4_longest 135 = .ok (.iload 5, 2) := dk_21 5 (dk_at dksX4_longest_5 19 rfl rfl)
theorem dX4_longest_137 : decode cX4_longest 137 = .ok (.aload_n 0, 1) := dk_42 (dk_at dksX4_longest_5 21 rfl rfl)
theorem dX4_longest_138 : decode cX4_longest 138 = .ok (.getfield 39, 3) := dk_180 0 39 (dk_at dksX4_longest_6 0 rfl rfl)
theorem dX4_longest_141 : decode cX4_longest 141 = .ok (.iconst 2, 1) := dk_5 (dk_at dksX4_longest_6 3 rfl rfl)
theorem dX4_longest_142 : decode cX4_longest 142 = .ok (.iaload, 1) := dk_46 (dk_at dksX4_longest_6 4 rfl rfl)
theorem dX4_longest_143 : decode cX4_longest 143 = .ok (.if_icmp .ge 36, 3) := dk_162 0 36 (dk_at dksX4_longest_6 5 rfl rfl)
theorem dX4_longest_146 : decode cX4_longest 146 = .ok (.aload_n 0, 1) := dk_42 (dk_at dksX4_longest_6 8 rfl rfl)
theorem dX4_longest_147 : decode cX4_longest 147 = .ok (.getfield 59, 3) := dk_180 0 59 (dk_at dksX4_longest_6 9 rfl rfl)
theorem dX4_longest_150 : decode cX4_longest 150 = .ok (.iload 5, 2) := dk_21 5 (dk_at dksX4_longest_6 12 rfl rfl)
theorem dX4_longest_152 : decode cX4_longest 152 = .ok (.iaload, 1) := dk_46 (dk_at dksX4_longest_6 14 rfl rfl)
theorem dX4_longest_153 : decode cX4_longest 153 = .ok (.iload 4, 2) := dk_21 4 (dk_at dksX4_longest_6 15 rfl rfl)
theorem dX4_longest_155 : decode cX4_longest 155 = .ok (.if_icmp .gt 6, 3) := dk_163 0 6 (dk_at dksX4_longest_6 17 rfl rfl)
theorem dX4_longest_158 : decode cX4_longest 158 = .ok (.goto 15, 3) := dk_167 0 15 (dk_at dksX4_longest_6 20 rfl rfl)
theorem dX4_longest_161 : decode cX4_longest 161 = .ok (.iload 5, 2) := dk_21 5 (dk_at dksX4_longest_7 0 rfl rfl)
theorem dX4_longest_163 : decode cX4_longest 163 = .ok (.istore_n 3, 1) := dk_62 (dk_at dksX4_longest_7 2 rfl rfl)
theorem dX4_longest_164 : decode cX4_longest 164 = .ok (.aload_n 0, 1) := dk_42 (dk_at dksX4_longest_7 3 rfl rfl)
theorem dX4_longest_165 : decode cX4_longest 165 = .ok (.getfield 59, 3) := dk_180 0 59 (dk_at dksX4_longest_7 4 rfl rfl)
theorem dX4_longest_168 : decode cX4_longest 168 = .ok (.iload 5, 2) := dk_21 5 (dk_at dksX4_longest_7 7 rfl rfl)
theorem dX4_longest_170 : decode cX4_longest 170 = .ok (.iaload, 1) := dk_46 (dk_at dksX4_longest_7 9 rfl rfl)
theorem dX4_longest_171 : decode cX4_longest 171 = .ok (.istore 4, 2) := dk_54 4 (dk_at dksX4_longest_7 10 rfl rfl)
theorem dX4_longest_173 : decode cX4_longest 173 = .ok (.iinc 5 1, 3) := dk_132 5 1 (dk_at dksX4_longest_7 12 rfl rfl)
theorem dX4_longest_176 : decode cX4_longest 176 = .ok (.goto (-41), 3) := dk_167 255 215 (dk_at dksX4_longest_7 15 rfl rfl)
theorem dX4_longest_179 : decode cX4_longest 179 = .ok (.iload_n 2, 1) := dk_28 (dk_at dksX4_longest_7 18 rfl rfl)
theorem dX4_longest_180 : decode cX4_longest 180 = .ok (.ifCond .ne 7, 3) := dk_154 0 7 (dk_at dksX4_longest_7 19 rfl rfl)
theorem dX4_longest_183 : decode cX4_longest 183 = .ok (.iload_n 3, 1) := dk_29 (dk_at dksX4_longest_7 22 rfl rfl)
theorem dX4_longest_184 : decode cX4_longest 184 = .ok (.goto 14, 3) := dk_167 0 14 (dk_at dksX4_longest_8 0 rfl rfl)
theorem dX4_longest_187 : decode cX4_longest 187 = .ok (.iload 4, 2) := dk_21 4 (dk_at dksX4_longest_8 3 rfl rfl)
theorem dX4_longest_189 : decode cX4_longest 189 = .ok (.ifCond .ge 7, 3) := dk_156 0 7 (dk_at dksX4_longest_8 5 rfl rfl)
theorem dX4_longest_192 : decode cX4_longest 192 = .ok (.iconst 0, 1) := dk_3 (dk_at dksX4_longest_8 8 rfl rfl)
theorem dX4_longest_193 : decode cX4_longest 193 = .ok (.goto 5, 3) := dk_167 0 5 (dk_at dksX4_longest_8 9 rfl rfl)
theorem dX4_longest_196 : decode cX4_longest 196 = .ok (.iload 4, 2) := dk_21 4 (dk_at dksX4_longest_8 12 rfl rfl)
theorem dX4_longest_198 : decode cX4_longest 198 = .ok (.ireturn, 1) := dk_172 (dk_at dksX4_longest_8 14 rfl rfl)
abbrev cX4_bestFold : ByteArray := prog_19_method_96_code
def yX4_bestFold : MethodName := ⟨RX4, "bestFold", "(II)I"⟩
def dkwX4_bestFold_6 : List UInt8 := [180, 1, 146, 7, 108, 167, 0, 9, 42, 180, 1, 146, 7, 112, 172]
abbrev dktX4_bestFold_6 : List UInt8 := dkwX4_bestFold_6 ++ []
def dkwX4_bestFold_5 : List UInt8 := [180, 1, 143, 172, 42, 180, 1, 146, 156, 0, 8, 16, 254, 167, 0, 23, 28, 5, 160, 0, 12, 42]
abbrev dktX4_bestFold_5 : List UInt8 := dkwX4_bestFold_5 ++ dktX4_bestFold_6
def dkwX4_bestFold_4 : List UInt8 := [132, 3, 1, 167, 255, 207, 28, 5, 162, 0, 19, 28, 154, 0, 10, 42, 180, 1, 140, 167, 0, 7, 42]
abbrev dktX4_bestFold_4 : List UInt8 := dkwX4_bestFold_4 ++ dktX4_bestFold_5
def dkwX4_bestFold_3 : List UInt8 := [167, 0, 23, 42, 180, 0, 39, 16, 46, 29, 7, 108, 96, 29, 7, 112, 79, 42, 27, 29, 182, 1, 151]
abbrev dktX4_bestFold_3 : List UInt8 := dkwX4_bestFold_3 ++ dktX4_bestFold_4
def dkwX4_bestFold_2 : List UInt8 := [29, 16, 16, 162, 0, 49, 42, 180, 0, 39, 16, 46, 29, 7, 108, 96, 46, 29, 7, 112, 160, 0, 6]
abbrev dktX4_bestFold_2 : List UInt8 := dkwX4_bestFold_2 ++ dktX4_bestFold_3
def dkwX4_bestFold_1 : List UInt8 := [20, 1, 39, 184, 0, 124, 154, 0, 5, 2, 172, 42, 182, 1, 119, 42, 27, 16, 254, 182, 1, 151, 3, 62]
abbrev dktX4_bestFold_1 : List UInt8 := dkwX4_bestFold_1 ++ dktX4_bestFold_2
def dkwX4_bestFold_0 : List UInt8 := [42, 182, 1, 36, 153, 0, 27, 27, 133, 10, 20, 1, 149, 184, 0, 124, 153, 0, 15, 28, 133, 9]
abbrev dktX4_bestFold_0 : List UInt8 := dkwX4_bestFold_0 ++ dktX4_bestFold_1
theorem dksX4_bestFold_0 : cX4_bestFold.data.toList.drop 0 = dktX4_bestFold_0 := by decide +kernel
theorem dksX4_bestFold_1 : cX4_bestFold.data.toList.drop 22 = dktX4_bestFold_1 := dk_seg dksX4_bestFold_0 22 rfl rfl
theorem dksX4_bestFold_2 : cX4_bestFold.data.toList.drop 46 = dktX4_bestFold_2 := dk_seg dksX4_bestFold_1 24 rfl rfl
theorem dksX4_bestFold_3 : cX4_bestFold.data.toList.drop 69 = dktX4_bestFold_3 := dk_seg dksX4_bestFold_2 23 rfl rfl
theorem dksX4_bestFold_4 : cX4_bestFold.data.toList.drop 92 = dktX4_bestFold_4 := dk_seg dksX4_bestFold_3 23 rfl rfl
theorem dksX4_bestFold_5 : cX4_bestFold.data.toList.drop 115 = dktX4_bestFold_5 := dk_seg dksX4_bestFold_4 23 rfl rfl
theorem dksX4_bestFold_6 : cX4_bestFold.data.toList.drop 137 = dktX4_bestFold_6 := dk_seg dksX4_bestFold_5 22 rfl rfl
theorem dX4_bestFold_0 : decode cX4_bestFold 0 = .ok (.aload_n 0, 1) := dk_42 (dk_at dksX4_bestFold_0 0 rfl rfl)
theorem dX4_bestFold_1 : decode cX4_bestFold 1 = .ok (.invokevirtual 292, 3) := dk_182 1 36 (dk_at dksX4_bestFold_0 1 rfl rfl)
theorem dX4_bestFold_4 : decode cX4_bestFold 4 = .ok (.ifCond .eq 27, 3) := dk_153 0 27 (dk_at dksX4_bestFold_0 4 rfl rfl)
theorem dX4_bestFold_7 : decode cX4_bestFold 7 = .ok (.iload_n 1, 1) := dk_27 (dk_at dksX4_bestFold_0 7 rfl rfl)
theorem dX4_bestFold_8 : decode cX4_bestFold 8 = .ok (.i2l, 1) := dk_133 (dk_at dksX4_bestFold_0 8 rfl rfl)
theorem dX4_bestFold_9 : decode cX4_bestFold 9 = .ok (.lconst 1, 1) := dk_10 (dk_at dksX4_bestFold_0 9 rfl rfl)
theorem dX4_bestFold_10 : decode cX4_bestFold 10 = .ok (.ldc2_w 405, 3) := dk_20 1 149 (dk_at dksX4_bestFold_0 10 rfl rfl)
theorem dX4_bestFold_13 : decode cX4_bestFold 13 = .ok (.invokestatic 124, 3) := dk_184 0 124 (dk_at dksX4_bestFold_0 13 rfl rfl)
theorem dX4_bestFold_16 : decode cX4_bestFold 16 = .ok (.ifCond .eq 15, 3) := dk_153 0 15 (dk_at dksX4_bestFold_0 16 rfl rfl)
theorem dX4_bestFold_19 : decode cX4_bestFold 19 = .ok (.iload_n 2, 1) := dk_28 (dk_at dksX4_bestFold_0 19 rfl rfl)
theorem dX4_bestFold_20 : decode cX4_bestFold 20 = .ok (.i2l, 1) := dk_133 (dk_at dksX4_bestFold_0 20 rfl rfl)
theorem dX4_bestFold_21 : decode cX4_bestFold 21 = .ok (.lconst 0, 1) := dk_9 (dk_at dksX4_bestFold_0 21 rfl rfl)
theorem dX4_bestFold_22 : decode cX4_bestFold 22 = .ok (.ldc2_w 295, 3) := dk_20 1 39 (dk_at dksX4_bestFold_1 0 rfl rfl)
theorem dX4_bestFold_25 : decode cX4_bestFold 25 = .ok (.invokestatic 124, 3) := dk_184 0 124 (dk_at dksX4_bestFold_1 3 rfl rfl)
theorem dX4_bestFold_28 : decode cX4_bestFold 28 = .ok (.ifCond .ne 5, 3) := dk_154 0 5 (dk_at dksX4_bestFold_1 6 rfl rfl)
theorem dX4_bestFold_31 : decode cX4_bestFold 31 = .ok (.iconst (-1), 1) := dk_2 (dk_at dksX4_bestFold_1 9 rfl rfl)
theorem dX4_bestFold_32 : decode cX4_bestFold 32 = .ok (.ireturn, 1) := dk_172 (dk_at dksX4_bestFold_1 10 rfl rfl)
theorem dX4_bestFold_33 : decode cX4_bestFold 33 = .ok (.aload_n 0, 1) := dk_42 (dk_at dksX4_bestFold_1 11 rfl rfl)
theorem dX4_bestFold_34 : decode cX4_bestFold 34 = .ok (.invokevirtual 375, 3) := dk_182 1 119 (dk_at dksX4_bestFold_1 12 rfl rfl)
theorem dX4_bestFold_37 : decode cX4_bestFold 37 = .ok (.aload_n 0, 1) := dk_42 (dk_at dksX4_bestFold_1 15 rfl rfl)
theorem dX4_bestFold_38 : decode cX4_bestFold 38 = .ok (.iload_n 1, 1) := dk_27 (dk_at dksX4_bestFold_1 16 rfl rfl)
theorem dX4_bestFold_39 : decode cX4_bestFold 39 = .ok (.bipush (-2), 2) := dk_16 254 (dk_at dksX4_bestFold_1 17 rfl rfl)
theorem dX4_bestFold_41 : decode cX4_bestFold 41 = .ok (.invokevirtual 407, 3) := dk_182 1 151 (dk_at dksX4_bestFold_1 19 rfl rfl)
theorem dX4_bestFold_44 : decode cX4_bestFold 44 = .ok (.iconst 0, 1) := dk_3 (dk_at dksX4_bestFold_1 22 rfl rfl)
theorem dX4_bestFold_45 : decode cX4_bestFold 45 = .ok (.istore_n 3, 1) := dk_62 (dk_at dksX4_bestFold_1 23 rfl rfl)
theorem dX4_bestFold_46 : decode cX4_bestFold 46 = .ok (.iload_n 3, 1) := dk_29 (dk_at dksX4_bestFold_2 0 rfl rfl)
theorem dX4_bestFold_47 : decode cX4_bestFold 47 = .ok (.bipush 16, 2) := dk_16 16 (dk_at dksX4_bestFold_2 1 rfl rfl)
theorem dX4_bestFold_49 : decode cX4_bestFold 49 = .ok (.if_icmp .ge 49, 3) := dk_162 0 49 (dk_at dksX4_bestFold_2 3 rfl rfl)
theorem dX4_bestFold_52 : decode cX4_bestFold 52 = .ok (.aload_n 0, 1) := dk_42 (dk_at dksX4_bestFold_2 6 rfl rfl)
theorem dX4_bestFold_53 : decode cX4_bestFold 53 = .ok (.getfield 39, 3) := dk_180 0 39 (dk_at dksX4_bestFold_2 7 rfl rfl)
theorem dX4_bestFold_56 : decode cX4_bestFold 56 = .ok (.bipush 46, 2) := dk_16 46 (dk_at dksX4_bestFold_2 10 rfl rfl)
theorem dX4_bestFold_58 : decode cX4_bestFold 58 = .ok (.iload_n 3, 1) := dk_29 (dk_at dksX4_bestFold_2 12 rfl rfl)
theorem dX4_bestFold_59 : decode cX4_bestFold 59 = .ok (.iconst 4, 1) := dk_7 (dk_at dksX4_bestFold_2 13 rfl rfl)
theorem dX4_bestFold_60 : decode cX4_bestFold 60 = .ok (.idiv, 1) := dk_108 (dk_at dksX4_bestFold_2 14 rfl rfl)
theorem dX4_bestFold_61 : decode cX4_bestFold 61 = .ok (.iadd, 1) := dk_96 (dk_at dksX4_bestFold_2 15 rfl rfl)
theorem dX4_bestFold_62 : decode cX4_bestFold 62 = .ok (.iaload, 1) := dk_46 (dk_at dksX4_bestFold_2 16 rfl rfl)
theorem dX4_bestFold_63 : decode cX4_bestFold 63 = .ok (.iload_n 3, 1) := dk_29 (dk_at dksX4_bestFold_2 17 rfl rfl)
theorem dX4_bestFold_64 : decode cX4_bestFold 64 = .ok (.iconst 4, 1) := dk_7 (dk_at dksX4_bestFold_2 18 rfl rfl)
theorem dX4_bestFold_65 : decode cX4_bestFold 65 = .ok (.irem, 1) := dk_112 (dk_at dksX4_bestFold_2 19 rfl rfl)
theorem dX4_bestFold_66 : decode cX4_bestFold 66 = .ok (.if_icmp .ne 6, 3) := dk_160 0 6 (dk_at dksX4_bestFold_2 20 rfl rfl)
theorem dX4_bestFold_69 : decode cX4_bestFold 69 = .ok (.goto 23, 3) := dk_167 0 23 (dk_at dksX4_bestFold_3 0 rfl rfl)
theorem dX4_bestFold_72 : decode cX4_bestFold 72 = .ok (.aload_n 0, 1) := dk_42 (dk_at dksX4_bestFold_3 3 rfl rfl)
theorem dX4_bestFold_73 : decode cX4_bestFold 73 = .ok (.getfield 39, 3) := dk_180 0 39 (dk_at dksX4_bestFold_3 4 rfl rfl)
theorem dX4_bestFold_76 : decode cX4_bestFold 76 = .ok (.bipush 46, 2) := dk_16 46 (dk_at dksX4_bestFold_3 7 rfl rfl)
theorem dX4_bestFold_78 : decode cX4_bestFold 78 = .ok (.iload_n 3, 1) := dk_29 (dk_at dksX4_bestFold_3 9 rfl rfl)
theorem dX4_bestFold_79 : decode cX4_bestFold 79 = .ok (.iconst 4, 1) := dk_7 (dk_at dksX4_bestFold_3 10 rfl rfl)
theorem dX4_bestFold_80 : decode cX4_bestFold 80 = .ok (.idiv, 1) := dk_108 (dk_at dksX4_bestFold_3 11 rfl rfl)
theorem dX4_bestFold_81 : decode cX4_bestFold 81 = .ok (.iadd, 1) := dk_96 (dk_at dksX4_bestFold_3 12 rfl rfl)
theorem dX4_bestFold_82 : decode cX4_bestFold 82 = .ok (.iload_n 3, 1) := dk_29 (dk_at dksX4_bestFold_3 13 rfl rfl)
theorem dX4_bestFold_83 : decode cX4_bestFold 83 = .ok (.iconst 4, 1) := dk_7 (dk_at dksX4_bestFold_3 14 rfl rfl)
theorem dX4_bestFold_84 : decode cX4_bestFold 84 = .ok (.irem, 1) := dk_112 (dk_at dksX4_bestFold_3 15 rfl rfl)
theorem dX4_bestFold_85 : decode cX4_bestFold 85 = .ok (.iastore, 1) := dk_79 (dk_at dksX4_bestFold_3 16 rfl rfl)
theorem dX4_bestFold_86 : decode cX4_bestFold 86 = .ok (.aload_n 0, 1) := dk_42 (dk_at dksX4_bestFold_3 17 rfl rfl)
theorem dX4_bestFold_87 : decode cX4_bestFold 87 = .ok (.iload_n 1, 1) := dk_27 (dk_at dksX4_bestFold_3 18 rfl rfl)
theorem dX4_bestFold_88 : decode cX4_bestFold 88 = .ok (.iload_n 3, 1) := dk_29 (dk_at dksX4_bestFold_3 19 rfl rfl)
theorem dX4_bestFold_89 : decode cX4_bestFold 89 = .ok (.invokevirtual 407, 3) := dk_182 1 151 (dk_at dksX4_bestFold_3 20 rfl rfl)
theorem dX4_bestFold_92 : decode cX4_bestFold 92 = .ok (.iinc 3 1, 3) := dk_132 3 1 (dk_at dksX4_bestFold_4 0 rfl rfl)
theorem dX4_bestFold_95 : decode cX4_bestFold 95 = .ok (.goto (-49), 3) := dk_167 255 207 (dk_at dksX4_bestFold_4 3 rfl rfl)
theorem dX4_bestFold_98 : decode cX4_bestFold 98 = .ok (.iload_n 2, 1) := dk_28 (dk_at dksX4_bestFold_4 6 rfl rfl)
theorem dX4_bestFold_99 : decode cX4_bestFold 99 = .ok (.iconst 2, 1) := dk_5 (dk_at dksX4_bestFold_4 7 rfl rfl)
theorem dX4_bestFold_100 : decode cX4_bestFold 100 = .ok (.if_icmp .ge 19, 3) := dk_162 0 19 (dk_at dksX4_bestFold_4 8 rfl rfl)
theorem dX4_bestFold_103 : decode cX4_bestFold 103 = .ok (.iload_n 2, 1) := dk_28 (dk_at dksX4_bestFold_4 11 rfl rfl)
theorem dX4_bestFold_104 : decode cX4_bestFold 104 = .ok (.ifCond .ne 10, 3) := dk_154 0 10 (dk_at dksX4_bestFold_4 12 rfl rfl)
theorem dX4_bestFold_107 : decode cX4_bestFold 107 = .ok (.aload_n 0, 1) := dk_42 (dk_at dksX4_bestFold_4 15 rfl rfl)
theorem dX4_bestFold_108 : decode cX4_bestFold 108 = .ok (.getfield 396, 3) := dk_180 1 140 (dk_at dksX4_bestFold_4 16 rfl rfl)
theorem dX4_bestFold_111 : decode cX4_bestFold 111 = .ok (.goto 7, 3) := dk_167 0 7 (dk_at dksX4_bestFold_4 19 rfl rfl)
theorem dX4_bestFold_114 : decode cX4_bestFold 114 = .ok (.aload_n 0, 1) := dk_42 (dk_at dksX4_bestFold_4 22 rfl rfl)
theorem dX4_bestFold_115 : decode cX4_bestFold 115 = .ok (.getfield 399, 3) := dk_180 1 143 (dk_at dksX4_bestFold_5 0 rfl rfl)
theorem dX4_bestFold_118 : decode cX4_bestFold 118 = .ok (.ireturn, 1) := dk_172 (dk_at dksX4_bestFold_5 3 rfl rfl)
theorem dX4_bestFold_119 : decode cX4_bestFold 119 = .ok (.aload_n 0, 1) := dk_42 (dk_at dksX4_bestFold_5 4 rfl rfl)
theorem dX4_bestFold_120 : decode cX4_bestFold 120 = .ok (.getfield 402, 3) := dk_180 1 146 (dk_at dksX4_bestFold_5 5 rfl rfl)
theorem dX4_bestFold_123 : decode cX4_bestFold 123 = .ok (.ifCond .ge 8, 3) := dk_156 0 8 (dk_at dksX4_bestFold_5 8 rfl rfl)
theorem dX4_bestFold_126 : decode cX4_bestFold 126 = .ok (.bipush (-2), 2) := dk_16 254 (dk_at dksX4_bestFold_5 11 rfl rfl)
theorem dX4_bestFold_128 : decode cX4_bestFold 128 = .ok (.goto 23, 3) := dk_167 0 23 (dk_at dksX4_bestFold_5 13 rfl rfl)
theorem dX4_bestFold_131 : decode cX4_bestFold 131 = .ok (.iload_n 2, 1) := dk_28 (dk_at dksX4_bestFold_5 16 rfl rfl)
theorem dX4_bestFold_132 : decode cX4_bestFold 132 = .ok (.iconst 2, 1) := dk_5 (dk_at dksX4_bestFold_5 17 rfl rfl)
theorem dX4_bestFold_133 : decode cX4_bestFold 133 = .ok (.if_icmp .ne 12, 3) := dk_160 0 12 (dk_at dksX4_bestFold_5 18 rfl rfl)
theorem dX4_bestFold_136 : decode cX4_bestFold 136 = .ok (.aload_n 0, 1) := dk_42 (dk_at dksX4_bestFold_5 21 rfl rfl)
theorem dX4_bestFold_137 : decode cX4_bestFold 137 = .ok (.getfield 402, 3) := dk_180 1 146 (dk_at dksX4_bestFold_6 0 rfl rfl)
theorem dX4_bestFold_140 : decode cX4_bestFold 140 = .ok (.iconst 4, 1) := dk_7 (dk_at dksX4_bestFold_6 3 rfl rfl)
theorem dX4_bestFold_141 : decode cX4_bestFold 141 = .ok (.idiv, 1) := dk_108 (dk_at dksX4_bestFold_6 4 rfl rfl)
theorem dX4_bestFold_142 : decode cX4_bestFold 142 = .ok (.goto 9, 3) := dk_167 0 9 (dk_at dksX4_bestFold_6 5 rfl rfl)
theorem dX4_bestFold_145 : decode cX4_bestFold 145 = .ok (.aload_n 0, 1) := dk_42 (dk_at dksX4_bestFold_6 8 rfl rfl)
theorem dX4_bestFold_146 : decode cX4_bestFold 146 = .ok (.getfield 402, 3) := dk_180 1 146 (dk_at dksX4_bestFold_6 9 rfl rfl)
theorem dX4_bestFold_149 : decode cX4_bestFold 149 = .ok (.iconst 4, 1) := dk_7 (dk_at dksX4_bestFold_6 12 rfl rfl)
theorem dX4_bestFold_150 : decode cX4_bestFold 150 = .ok (.irem, 1) := dk_112 (dk_at dksX4_bestFold_6 13 rfl rfl)
theorem dX4_bestFold_151 : decode cX4_bestFold 151 = .ok (.ireturn, 1) := dk_172 (dk_at dksX4_bestFold_6 14 rfl rfl)
abbrev cX4_weighs : ByteArray := prog_19_method_95_code
def yX4_weighs : MethodName := ⟨RX4, "weighs", "(II)V"⟩
def dkwX4_weighs_2 : List UInt8 := [180, 1, 143, 163, 0, 4, 177, 42, 29, 181, 1, 140, 42, 21, 4, 181, 1, 143, 42, 28, 181, 1, 146, 177]
abbrev dktX4_weighs_2 : List UInt8 := dkwX4_weighs_2 ++ []
def dkwX4_weighs_1 : List UInt8 := [28, 155, 0, 29, 29, 42, 180, 1, 140, 163, 0, 20, 29, 42, 180, 1, 140, 160, 0, 13, 21, 4, 42]
abbrev dktX4_weighs_1 : List UInt8 := dkwX4_weighs_1 ++ dktX4_weighs_2
def dkwX4_weighs_0 : List UInt8 := [42, 27, 182, 1, 122, 42, 5, 182, 1, 110, 184, 1, 134, 62, 42, 182, 1, 137, 54, 4, 42, 182, 1, 125]
abbrev dktX4_weighs_0 : List UInt8 := dkwX4_weighs_0 ++ dktX4_weighs_1
theorem dksX4_weighs_0 : cX4_weighs.data.toList.drop 0 = dktX4_weighs_0 := by decide +kernel
theorem dksX4_weighs_1 : cX4_weighs.data.toList.drop 24 = dktX4_weighs_1 := dk_seg dksX4_weighs_0 24 rfl rfl
theorem dksX4_weighs_2 : cX4_weighs.data.toList.drop 47 = dktX4_weighs_2 := dk_seg dksX4_weighs_1 23 rfl rfl
theorem dX4_weighs_0 : decode cX4_weighs 0 = .ok (.aload_n 0, 1) := dk_42 (dk_at dksX4_weighs_0 0 rfl rfl)
theorem dX4_weighs_1 : decode cX4_weighs 1 = .ok (.iload_n 1, 1) := dk_27 (dk_at dksX4_weighs_0 1 rfl rfl)
theorem dX4_weighs_2 : decode cX4_weighs 2 = .ok (.invokevirtual 378, 3) := dk_182 1 122 (dk_at dksX4_weighs_0 2 rfl rfl)
theorem dX4_weighs_5 : decode cX4_weighs 5 = .ok (.aload_n 0, 1) := dk_42 (dk_at dksX4_weighs_0 5 rfl rfl)
theorem dX4_weighs_6 : decode cX4_weighs 6 = .ok (.iconst 2, 1) := dk_5 (dk_at dksX4_weighs_0 6 rfl rfl)
theorem dX4_weighs_7 : decode cX4_weighs 7 = .ok (.invokevirtual 366, 3) := dk_182 1 110 (dk_at dksX4_weighs_0 7 rfl rfl)
theorem dX4_weighs_10 : decode cX4_weighs 10 = .ok (.invokestatic 390, 3) := dk_184 1 134 (dk_at dksX4_weighs_0 10 rfl rfl)
theorem dX4_weighs_13 : decode cX4_weighs 13 = .ok (.istore_n 3, 1) := dk_62 (dk_at dksX4_weighs_0 13 rfl rfl)
theorem dX4_weighs_14 : decode cX4_weighs 14 = .ok (.aload_n 0, 1) := dk_42 (dk_at dksX4_weighs_0 14 rfl rfl)
theorem dX4_weighs_15 : decode cX4_weighs 15 = .ok (.invokevirtual 393, 3) := dk_182 1 137 (dk_at dksX4_weighs_0 15 rfl rfl)
theorem dX4_weighs_18 : decode cX4_weighs 18 = .ok (.istore 4, 2) := dk_54 4 (dk_at dksX4_weighs_0 18 rfl rfl)
theorem dX4_weighs_20 : decode cX4_weighs 20 = .ok (.aload_n 0, 1) := dk_42 (dk_at dksX4_weighs_0 20 rfl rfl)
theorem dX4_weighs_21 : decode cX4_weighs 21 = .ok (.invokevirtual 381, 3) := dk_182 1 125 (dk_at dksX4_weighs_0 21 rfl rfl)
theorem dX4_weighs_24 : decode cX4_weighs 24 = .ok (.iload_n 2, 1) := dk_28 (dk_at dksX4_weighs_1 0 rfl rfl)
theorem dX4_weighs_25 : decode cX4_weighs 25 = .ok (.ifCond .lt 29, 3) := dk_155 0 29 (dk_at dksX4_weighs_1 1 rfl rfl)
theorem dX4_weighs_28 : decode cX4_weighs 28 = .ok (.iload_n 3, 1) := dk_29 (dk_at dksX4_weighs_1 4 rfl rfl)
theorem dX4_weighs_29 : decode cX4_weighs 29 = .ok (.aload_n 0, 1) := dk_42 (dk_at dksX4_weighs_1 5 rfl rfl)
theorem dX4_weighs_30 : decode cX4_weighs 30 = .ok (.getfield 396, 3) := dk_180 1 140 (dk_at dksX4_weighs_1 6 rfl rfl)
theorem dX4_weighs_33 : decode cX4_weighs 33 = .ok (.if_icmp .gt 20, 3) := dk_163 0 20 (dk_at dksX4_weighs_1 9 rfl rfl)
theorem dX4_weighs_36 : decode cX4_weighs 36 = .ok (.iload_n 3, 1) := dk_29 (dk_at dksX4_weighs_1 12 rfl rfl)
theorem dX4_weighs_37 : decode cX4_weighs 37 = .ok (.aload_n 0, 1) := dk_42 (dk_at dksX4_weighs_1 13 rfl rfl)
theorem dX4_weighs_38 : decode cX4_weighs 38 = .ok (.getfield 396, 3) := dk_180 1 140 (dk_at dksX4_weighs_1 14 rfl rfl)
theorem dX4_weighs_41 : decode cX4_weighs 41 = .ok (.if_icmp .ne 13, 3) := dk_160 0 13 (dk_at dksX4_weighs_1 17 rfl rfl)
theorem dX4_weighs_44 : decode cX4_weighs 44 = .ok (.iload 4, 2) := dk_21 4 (dk_at dksX4_weighs_1 20 rfl rfl)
theorem dX4_weighs_46 : decode cX4_weighs 46 = .ok (.aload_n 0, 1) := dk_42 (dk_at dksX4_weighs_1 22 rfl rfl)
theorem dX4_weighs_47 : decode cX4_weighs 47 = .ok (.getfield 399, 3) := dk_180 1 143 (dk_at dksX4_weighs_2 0 rfl rfl)
theorem dX4_weighs_50 : decode cX4_weighs 50 = .ok (.if_icmp .gt 4, 3) := dk_163 0 4 (dk_at dksX4_weighs_2 3 rfl rfl)
theorem dX4_weighs_53 : decode cX4_weighs 53 = .ok (.return_, 1) := dk_177 (dk_at dksX4_weighs_2 6 rfl rfl)
theorem dX4_weighs_54 : decode cX4_weighs 54 = .ok (.aload_n 0, 1) := dk_42 (dk_at dksX4_weighs_2 7 rfl rfl)
theorem dX4_weighs_55 : decode cX4_weighs 55 = .ok (.iload_n 3, 1) := dk_29 (dk_at dksX4_weighs_2 8 rfl rfl)
theorem dX4_weighs_56 : decode cX4_weighs 56 = .ok (.putfield 396, 3) := dk_181 1 140 (dk_at dksX4_weighs_2 9 rfl rfl)
theorem dX4_weighs_59 : decode cX4_weighs 59 = .ok (.aload_n 0, 1) := dk_42 (dk_at dksX4_weighs_2 12 rfl rfl)
theorem dX4_weighs_60 : decode cX4_weighs 60 = .ok (.iload 4, 2) := dk_21 4 (dk_at dksX4_weighs_2 13 rfl rfl)
theorem dX4_weighs_62 : decode cX4_weighs 62 = .ok (.putfield 399, 3) := dk_181 1 143 (dk_at dksX4_weighs_2 15 rfl rfl)
theorem dX4_weighs_65 : decode cX4_weighs 65 = .ok (.aload_n 0, 1) := dk_42 (dk_at dksX4_weighs_2 18 rfl rfl)
theorem dX4_weighs_66 : decode cX4_weighs 66 = .ok (.iload_n 2, 1) := dk_28 (dk_at dksX4_weighs_2 19 rfl rfl)
theorem dX4_weighs_67 : decode cX4_weighs 67 = .ok (.putfield 402, 3) := dk_181 1 146 (dk_at dksX4_weighs_2 20 rfl rfl)
theorem dX4_weighs_70 : decode cX4_weighs 70 = .ok (.return_, 1) := dk_177 (dk_at dksX4_weighs_2 23 rfl rfl)
abbrev cX4_bits : ByteArray := prog_19_method_57_code
def yX4_bits : MethodName := ⟨RX4, "bits", "(I)I"⟩
def dkwX4_bits_0 : List UInt8 := [3, 60, 26, 61, 28, 153, 0, 15, 132, 1, 1, 28, 28, 4, 100, 126, 61, 167, 255, 243, 27, 172]
abbrev dktX4_bits_0 : List UInt8 := dkwX4_bits_0 ++ []
theorem dksX4_bits_0 : cX4_bits.data.toList.drop 0 = dktX4_bits_0 := by decide +kernel
theorem dX4_bits_0 : decode cX4_bits 0 = .ok (.iconst 0, 1) := dk_3 (dk_at dksX4_bits_0 0 rfl rfl)
theorem dX4_bits_1 : decode cX4_bits 1 = .ok (.istore_n 1, 1) := dk_60 (dk_at dksX4_bits_0 1 rfl rfl)
theorem dX4_bits_2 : decode cX4_bits 2 = .ok (.iload_n 0, 1) := dk_26 (dk_at dksX4_bits_0 2 rfl rfl)
theorem dX4_bits_3 : decode cX4_bits 3 = .ok (.istore_n 2, 1) := dk_61 (dk_at dksX4_bits_0 3 rfl rfl)
theorem dX4_bits_4 : decode cX4_bits 4 = .ok (.iload_n 2, 1) := dk_28 (dk_at dksX4_bits_0 4 rfl rfl)
theorem dX4_bits_5 : decode cX4_bits 5 = .ok (.ifCond .eq 15, 3) := dk_153 0 15 (dk_at dksX4_bits_0 5 rfl rfl)
theorem dX4_bits_8 : decode cX4_bits 8 = .ok (.iinc 1 1, 3) := dk_132 1 1 (dk_at dksX4_bits_0 8 rfl rfl)
theorem dX4_bits_11 : decode cX4_bits 11 = .ok (.iload_n 2, 1) := dk_28 (dk_at dksX4_bits_0 11 rfl rfl)
theorem dX4_bits_12 : decode cX4_bits 12 = .ok (.iload_n 2, 1) := dk_28 (dk_at dksX4_bits_0 12 rfl rfl)
theorem dX4_bits_13 : decode cX4_bits 13 = .ok (.iconst 1, 1) := dk_4 (dk_at dksX4_bits_0 13 rfl rfl)
theorem dX4_bits_14 : decode cX4_bits 14 = .ok (.isub, 1) := dk_100 (dk_at dksX4_bits_0 14 rfl rfl)
theorem dX4_bits_15 : decode cX4_bits 15 = .ok (.iand, 1) := dk_126 (dk_at dksX4_bits_0 15 rfl rfl)
theorem dX4_bits_16 : decode cX4_bits 16 = .ok (.istore_n 2, 1) := dk_61 (dk_at dksX4_bits_0 16 rfl rfl)
theorem dX4_bits_17 : decode cX4_bits 17 = .ok (.goto (-13), 3) := dk_167 255 243 (dk_at dksX4_bits_0 17 rfl rfl)
theorem dX4_bits_20 : decode cX4_bits 20 = .ok (.iload_n 1, 1) := dk_27 (dk_at dksX4_bits_0 20 rfl rfl)
theorem dX4_bits_21 : decode cX4_bits 21 = .ok (.ireturn, 1) := dk_172 (dk_at dksX4_bits_0 21 rfl rfl)
abbrev cX4_foodAll : ByteArray := prog_19_method_58_code
def yX4_foodAll : MethodName := ⟨RX4, "foodAll", "()I"⟩
def dkwX4_foodAll_1 : List UInt8 := [3, 167, 0, 8, 42, 28, 182, 1, 44, 96, 60, 132, 2, 1, 167, 255, 222, 27, 172]
abbrev dktX4_foodAll_1 : List UInt8 := dkwX4_foodAll_1 ++ []
def dkwX4_foodAll_0 : List UInt8 := [3, 60, 3, 61, 28, 42, 180, 0, 39, 5, 46, 162, 0, 30, 27, 42, 28, 182, 1, 41, 5, 160, 0, 7]
abbrev dktX4_foodAll_0 : List UInt8 := dkwX4_foodAll_0 ++ dktX4_foodAll_1
theorem dksX4_foodAll_0 : cX4_foodAll.data.toList.drop 0 = dktX4_foodAll_0 := by decide +kernel
theorem dksX4_foodAll_1 : cX4_foodAll.data.toList.drop 24 = dktX4_foodAll_1 := dk_seg dksX4_foodAll_0 24 rfl rfl
theorem dX4_foodAll_0 : decode cX4_foodAll 0 = .ok (.iconst 0, 1) := dk_3 (dk_at dksX4_foodAll_0 0 rfl rfl)
theorem dX4_foodAll_1 : decode cX4_foodAll 1 = .ok (.istore_n 1, 1) := dk_60 (dk_at dksX4_foodAll_0 1 rfl rfl)
theorem dX4_foodAll_2 : decode cX4_foodAll 2 = .ok (.iconst 0, 1) := dk_3 (dk_at dksX4_foodAll_0 2 rfl rfl)
theorem dX4_foodAll_3 : decode cX4_foodAll 3 = .ok (.istore_n 2, 1) := dk_61 (dk_at dksX4_foodAll_0 3 rfl rfl)
theorem dX4_foodAll_4 : decode cX4_foodAll 4 = .ok (.iload_n 2, 1) := dk_28 (dk_at dksX4_foodAll_0 4 rfl rfl)
theorem dX4_foodAll_5 : decode cX4_foodAll 5 = .ok (.aload_n 0, 1) := dk_42 (dk_at dksX4_foodAll_0 5 rfl rfl)
theorem dX4_foodAll_6 : decode cX4_foodAll 6 = .ok (.getfield 39, 3) := dk_180 0 39 (dk_at dksX4_foodAll_0 6 rfl rfl)
theorem dX4_foodAll_9 : decode cX4_foodAll 9 = .ok (.iconst 2, 1) := dk_5 (dk_at dksX4_foodAll_0 9 rfl rfl)
theorem dX4_foodAll_10 : decode cX4_foodAll 10 = .ok (.iaload, 1) := dk_46 (dk_at dksX4_foodAll_0 10 rfl rfl)
theorem dX4_foodAll_11 : decode cX4_foodAll 11 = .ok (.if_icmp .ge 30, 3) := dk_162 0 30 (dk_at dksX4_foodAll_0 11 rfl rfl)
theorem dX4_foodAll_14 : decode cX4_foodAll 14 = .ok (.iload_n 1, 1) := dk_27 (dk_at dksX4_foodAll_0 14 rfl rfl)
theorem dX4_foodAll_15 : decode cX4_foodAll 15 = .ok (.aload_n 0, 1) := dk_42 (dk_at dksX4_foodAll_0 15 rfl rfl)
theorem dX4_foodAll_16 : decode cX4_foodAll 16 = .ok (.iload_n 2, 1) := dk_28 (dk_at dksX4_foodAll_0 16 rfl rfl)
theorem dX4_foodAll_17 : decode cX4_foodAll 17 = .ok (.invokevirtual 297, 3) := dk_182 1 41 (dk_at dksX4_foodAll_0 17 rfl rfl)
theorem dX4_foodAll_20 : decode cX4_foodAll 20 = .ok (.iconst 2, 1) := dk_5 (dk_at dksX4_foodAll_0 20 rfl rfl)
theorem dX4_foodAll_21 : decode cX4_foodAll 21 = .ok (.if_icmp .ne 7, 3) := dk_160 0 7 (dk_at dksX4_foodAll_0 21 rfl rfl)
theorem dX4_foodAll_24 : decode cX4_foodAll 24 = .ok (.iconst 0, 1) := dk_3 (dk_at dksX4_foodAll_1 0 rfl rfl)
theorem dX4_foodAll_25 : decode cX4_foodAll 25 = .ok (.goto 8, 3) := dk_167 0 8 (dk_at dksX4_foodAll_1 1 rfl rfl)
theorem dX4_foodAll_28 : decode cX4_foodAll 28 = .ok (.aload_n 0, 1) := dk_42 (dk_at dksX4_foodAll_1 4 rfl rfl)
theorem dX4_foodAll_29 : decode cX4_foodAll 29 = .ok (.iload_n 2, 1) := dk_28 (dk_at dksX4_foodAll_1 5 rfl rfl)
theorem dX4_foodAll_30 : decode cX4_foodAll 30 = .ok (.invokevirtual 300, 3) := dk_182 1 44 (dk_at dksX4_foodAll_1 6 rfl rfl)
theorem dX4_foodAll_33 : decode cX4_foodAll 33 = .ok (.iadd, 1) := dk_96 (dk_at dksX4_foodAll_1 9 rfl rfl)
theorem dX4_foodAll_34 : decode cX4_foodAll 34 = .ok (.istore_n 1, 1) := dk_60 (dk_at dksX4_foodAll_1 10 rfl rfl)
theorem dX4_foodAll_35 : decode cX4_foodAll 35 = .ok (.iinc 2 1, 3) := dk_132 2 1 (dk_at dksX4_foodAll_1 11 rfl rfl)
theorem dX4_foodAll_38 : decode cX4_foodAll 38 = .ok (.goto (-34), 3) := dk_167 255 222 (dk_at dksX4_foodAll_1 14 rfl rfl)
theorem dX4_foodAll_41 : decode cX4_foodAll 41 = .ok (.iload_n 1, 1) := dk_27 (dk_at dksX4_foodAll_1 17 rfl rfl)
theorem dX4_foodAll_42 : decode cX4_foodAll 42 = .ok (.ireturn, 1) := dk_172 (dk_at dksX4_foodAll_1 18 rfl rfl)
abbrev cX4_bestStone : ByteArray := prog_19_method_97_code
def yX4_bestStone : MethodName := ⟨RX4, "bestStone", "(II)I"⟩
def dkwX4_bestStone_4 : List UInt8 := [167, 0, 19, 28, 4, 160, 0, 10, 42, 180, 1, 143, 167, 0, 7, 42, 180, 1, 146, 172]
abbrev dktX4_bestStone_4 : List UInt8 := dkwX4_bestStone_4 ++ []
def dkwX4_bestStone_3 : List UInt8 := [96, 46, 100, 79, 42, 27, 29, 182, 1, 151, 132, 3, 1, 167, 255, 219, 28, 154, 0, 10, 42, 180, 1, 140]
abbrev dktX4_bestStone_3 : List UInt8 := dkwX4_bestStone_3 ++ dktX4_bestStone_4
def dkwX4_bestStone_2 : List UInt8 := [29, 42, 182, 1, 33, 162, 0, 35, 42, 180, 0, 39, 16, 50, 29, 96, 4, 42, 180, 0, 39, 16, 50, 29]
abbrev dktX4_bestStone_2 : List UInt8 := dkwX4_bestStone_2 ++ dktX4_bestStone_3
def dkwX4_bestStone_1 : List UInt8 := [20, 1, 117, 184, 0, 124, 154, 0, 5, 2, 172, 42, 182, 1, 119, 42, 27, 16, 254, 182, 1, 151, 3, 62]
abbrev dktX4_bestStone_1 : List UInt8 := dkwX4_bestStone_1 ++ dktX4_bestStone_2
def dkwX4_bestStone_0 : List UInt8 := [42, 182, 1, 36, 153, 0, 27, 27, 133, 10, 20, 1, 149, 184, 0, 124, 153, 0, 15, 28, 133, 9]
abbrev dktX4_bestStone_0 : List UInt8 := dkwX4_bestStone_0 ++ dktX4_bestStone_1
theorem dksX4_bestStone_0 : cX4_bestStone.data.toList.drop 0 = dktX4_bestStone_0 := by decide +kernel
theorem dksX4_bestStone_1 : cX4_bestStone.data.toList.drop 22 = dktX4_bestStone_1 := dk_seg dksX4_bestStone_0 22 rfl rfl
theorem dksX4_bestStone_2 : cX4_bestStone.data.toList.drop 46 = dktX4_bestStone_2 := dk_seg dksX4_bestStone_1 24 rfl rfl
theorem dksX4_bestStone_3 : cX4_bestStone.data.toList.drop 70 = dktX4_bestStone_3 := dk_seg dksX4_bestStone_2 24 rfl rfl
theorem dksX4_bestStone_4 : cX4_bestStone.data.toList.drop 94 = dktX4_bestStone_4 := dk_seg dksX4_bestStone_3 24 rfl rfl
theorem dX4_bestStone_0 : decode cX4_bestStone 0 = .ok (.aload_n 0, 1) := dk_42 (dk_at dksX4_bestStone_0 0 rfl rfl)
theorem dX4_bestStone_1 : decode cX4_bestStone 1 = .ok (.invokevirtual 292, 3) := dk_182 1 36 (dk_at dksX4_bestStone_0 1 rfl rfl)
theorem dX4_bestStone_4 : decode cX4_bestStone 4 = .ok (.ifCond .eq 27, 3) := dk_153 0 27 (dk_at dksX4_bestStone_0 4 rfl rfl)
theorem dX4_bestStone_7 : decode cX4_bestStone 7 = .ok (.iload_n 1, 1) := dk_27 (dk_at dksX4_bestStone_0 7 rfl rfl)
theorem dX4_bestStone_8 : decode cX4_bestStone 8 = .ok (.i2l, 1) := dk_133 (dk_at dksX4_bestStone_0 8 rfl rfl)
theorem dX4_bestStone_9 : decode cX4_bestStone 9 = .ok (.lconst 1, 1) := dk_10 (dk_at dksX4_bestStone_0 9 rfl rfl)
theorem dX4_bestStone_10 : decode cX4_bestStone 10 = .ok (.ldc2_w 405, 3) := dk_20 1 149 (dk_at dksX4_bestStone_0 10 rfl rfl)
theorem dX4_bestStone_13 : decode cX4_bestStone 13 = .ok (.invokestatic 124, 3) := dk_184 0 124 (dk_at dksX4_bestStone_0 13 rfl rfl)
theorem dX4_bestStone_16 : decode cX4_bestStone 16 = .ok (.ifCond .eq 15, 3) := dk_153 0 15 (dk_at dksX4_bestStone_0 16 rfl rfl)
theorem dX4_bestStone_19 : decode cX4_bestStone 19 = .ok (.iload_n 2, 1) := dk_28 (dk_at dksX4_bestStone_0 19 rfl rfl)
theorem dX4_bestStone_20 : decode cX4_bestStone 20 = .ok (.i2l, 1) := dk_133 (dk_at dksX4_bestStone_0 20 rfl rfl)
theorem dX4_bestStone_21 : decode cX4_bestStone 21 = .ok (.lconst 0, 1) := dk_9 (dk_at dksX4_bestStone_0 21 rfl rfl)
theorem dX4_bestStone_22 : decode cX4_bestStone 22 = .ok (.ldc2_w 373, 3) := dk_20 1 117 (dk_at dksX4_bestStone_1 0 rfl rfl)
theorem dX4_bestStone_25 : decode cX4_bestStone 25 = .ok (.invokestatic 124, 3) := dk_184 0 124 (dk_at dksX4_bestStone_1 3 rfl rfl)
theorem dX4_bestStone_28 : decode cX4_bestStone 28 = .ok (.ifCond .ne 5, 3) := dk_154 0 5 (dk_at dksX4_bestStone_1 6 rfl rfl)
theorem dX4_bestStone_31 : decode cX4_bestStone 31 = .ok (.iconst (-1), 1) := dk_2 (dk_at dksX4_bestStone_1 9 rfl rfl)
theorem dX4_bestStone_32 : decode cX4_bestStone 32 = .ok (.ireturn, 1) := dk_172 (dk_at dksX4_bestStone_1 10 rfl rfl)
theorem dX4_bestStone_33 : decode cX4_bestStone 33 = .ok (.aload_n 0, 1) := dk_42 (dk_at dksX4_bestStone_1 11 rfl rfl)
theorem dX4_bestStone_34 : decode cX4_bestStone 34 = .ok (.invokevirtual 375, 3) := dk_182 1 119 (dk_at dksX4_bestStone_1 12 rfl rfl)
theorem dX4_bestStone_37 : decode cX4_bestStone 37 = .ok (.aload_n 0, 1) := dk_42 (dk_at dksX4_bestStone_1 15 rfl rfl)
theorem dX4_bestStone_38 : decode cX4_bestStone 38 = .ok (.iload_n 1, 1) := dk_27 (dk_at dksX4_bestStone_1 16 rfl rfl)
theorem dX4_bestStone_39 : decode cX4_bestStone 39 = .ok (.bipush (-2), 2) := dk_16 254 (dk_at dksX4_bestStone_1 17 rfl rfl)
theorem dX4_bestStone_41 : decode cX4_bestStone 41 = .ok (.invokevirtual 407, 3) := dk_182 1 151 (dk_at dksX4_bestStone_1 19 rfl rfl)
theorem dX4_bestStone_44 : decode cX4_bestStone 44 = .ok (.iconst 0, 1) := dk_3 (dk_at dksX4_bestStone_1 22 rfl rfl)
theorem dX4_bestStone_45 : decode cX4_bestStone 45 = .ok (.istore_n 3, 1) := dk_62 (dk_at dksX4_bestStone_1 23 rfl rfl)
theorem dX4_bestStone_46 : decode cX4_bestStone 46 = .ok (.iload_n 3, 1) := dk_29 (dk_at dksX4_bestStone_2 0 rfl rfl)
theorem dX4_bestStone_47 : decode cX4_bestStone 47 = .ok (.aload_n 0, 1) := dk_42 (dk_at dksX4_bestStone_2 1 rfl rfl)
theorem dX4_bestStone_48 : decode cX4_bestStone 48 = .ok (.invokevirtual 289, 3) := dk_182 1 33 (dk_at dksX4_bestStone_2 2 rfl rfl)
theorem dX4_bestStone_51 : decode cX4_bestStone 51 = .ok (.if_icmp .ge 35, 3) := dk_162 0 35 (dk_at dksX4_bestStone_2 5 rfl rfl)
theorem dX4_bestStone_54 : decode cX4_bestStone 54 = .ok (.aload_n 0, 1) := dk_42 (dk_at dksX4_bestStone_2 8 rfl rfl)
theorem dX4_bestStone_55 : decode cX4_bestStone 55 = .ok (.getfield 39, 3) := dk_180 0 39 (dk_at dksX4_bestStone_2 9 rfl rfl)
theorem dX4_bestStone_58 : decode cX4_bestStone 58 = .ok (.bipush 50, 2) := dk_16 50 (dk_at dksX4_bestStone_2 12 rfl rfl)
theorem dX4_bestStone_60 : decode cX4_bestStone 60 = .ok (.iload_n 3, 1) := dk_29 (dk_at dksX4_bestStone_2 14 rfl rfl)
theorem dX4_bestStone_61 : decode cX4_bestStone 61 = .ok (.iadd, 1) := dk_96 (dk_at dksX4_bestStone_2 15 rfl rfl)
theorem dX4_bestStone_62 : decode cX4_bestStone 62 = .ok (.iconst 1, 1) := dk_4 (dk_at dksX4_bestStone_2 16 rfl rfl)
theorem dX4_bestStone_63 : decode cX4_bestStone 63 = .ok (.aload_n 0, 1) := dk_42 (dk_at dksX4_bestStone_2 17 rfl rfl)
theorem dX4_bestStone_64 : decode cX4_bestStone 64 = .ok (.getfield 39, 3) := dk_180 0 39 (dk_at dksX4_bestStone_2 18 rfl rfl)
theorem dX4_bestStone_67 : decode cX4_bestStone 67 = .ok (.bipush 50, 2) := dk_16 50 (dk_at dksX4_bestStone_2 21 rfl rfl)
theorem dX4_bestStone_69 : decode cX4_bestStone 69 = .ok (.iload_n 3, 1) := dk_29 (dk_at dksX4_bestStone_2 23 rfl rfl)
theorem dX4_bestStone_70 : decode cX4_bestStone 70 = .ok (.iadd, 1) := dk_96 (dk_at dksX4_bestStone_3 0 rfl rfl)
theorem dX4_bestStone_71 : decode cX4_bestStone 71 = .ok (.iaload, 1) := dk_46 (dk_at dksX4_bestStone_3 1 rfl rfl)
theorem dX4_bestStone_72 : decode cX4_bestStone 72 = .ok (.isub, 1) := dk_100 (dk_at dksX4_bestStone_3 2 rfl rfl)
theorem dX4_bestStone_73 : decode cX4_bestStone 73 = .ok (.iastore, 1) := dk_79 (dk_at dksX4_bestStone_3 3 rfl rfl)
theorem dX4_bestStone_74 : decode cX4_bestStone 74 = .ok (.aload_n 0, 1) := dk_42 (dk_at dksX4_bestStone_3 4 rfl rfl)
theorem dX4_bestStone_75 : decode cX4_bestStone 75 = .ok (.iload_n 1, 1) := dk_27 (dk_at dksX4_bestStone_3 5 rfl rfl)
theorem dX4_bestStone_76 : decode cX4_bestStone 76 = .ok (.iload_n 3, 1) := dk_29 (dk_at dksX4_bestStone_3 6 rfl rfl)
theorem dX4_bestStone_77 : decode cX4_bestStone 77 = .ok (.invokevirtual 407, 3) := dk_182 1 151 (dk_at dksX4_bestStone_3 7 rfl rfl)
theorem dX4_bestStone_80 : decode cX4_bestStone 80 = .ok (.iinc 3 1, 3) := dk_132 3 1 (dk_at dksX4_bestStone_3 10 rfl rfl)
theorem dX4_bestStone_83 : decode cX4_bestStone 83 = .ok (.goto (-37), 3) := dk_167 255 219 (dk_at dksX4_bestStone_3 13 rfl rfl)
theorem dX4_bestStone_86 : decode cX4_bestStone 86 = .ok (.iload_n 2, 1) := dk_28 (dk_at dksX4_bestStone_3 16 rfl rfl)
theorem dX4_bestStone_87 : decode cX4_bestStone 87 = .ok (.ifCond .ne 10, 3) := dk_154 0 10 (dk_at dksX4_bestStone_3 17 rfl rfl)
theorem dX4_bestStone_90 : decode cX4_bestStone 90 = .ok (.aload_n 0, 1) := dk_42 (dk_at dksX4_bestStone_3 20 rfl rfl)
theorem dX4_bestStone_91 : decode cX4_bestStone 91 = .ok (.getfield 396, 3) := dk_180 1 140 (dk_at dksX4_bestStone_3 21 rfl rfl)
theorem dX4_bestStone_94 : decode cX4_bestStone 94 = .ok (.goto 19, 3) := dk_167 0 19 (dk_at dksX4_bestStone_4 0 rfl rfl)
theorem dX4_bestStone_97 : decode cX4_bestStone 97 = .ok (.iload_n 2, 1) := dk_28 (dk_at dksX4_bestStone_4 3 rfl rfl)
theorem dX4_bestStone_98 : decode cX4_bestStone 98 = .ok (.iconst 1, 1) := dk_4 (dk_at dksX4_bestStone_4 4 rfl rfl)
theorem dX4_bestStone_99 : decode cX4_bestStone 99 = .ok (.if_icmp .ne 10, 3) := dk_160 0 10 (dk_at dksX4_bestStone_4 5 rfl rfl)
theorem dX4_bestStone_102 : decode cX4_bestStone 102 = .ok (.aload_n 0, 1) := dk_42 (dk_at dksX4_bestStone_4 8 rfl rfl)
theorem dX4_bestStone_103 : decode cX4_bestStone 103 = .ok (.getfield 399, 3) := dk_180 1 143 (dk_at dksX4_bestStone_4 9 rfl rfl)
theorem dX4_bestStone_106 : decode cX4_bestStone 106 = .ok (.goto 7, 3) := dk_167 0 7 (dk_at dksX4_bestStone_4 12 rfl rfl)
theorem dX4_bestStone_109 : decode cX4_bestStone 109 = .ok (.aload_n 0, 1) := dk_42 (dk_at dksX4_bestStone_4 15 rfl rfl)
theorem dX4_bestStone_110 : decode cX4_bestStone 110 = .ok (.getfield 402, 3) := dk_180 1 146 (dk_at dksX4_bestStone_4 16 rfl rfl)
theorem dX4_bestStone_113 : decode cX4_bestStone 113 = .ok (.ireturn, 1) := dk_172 (dk_at dksX4_bestStone_4 19 rfl rfl)
abbrev cX4_rests : ByteArray := prog_19_method_99_code
def yX4_rests : MethodName := ⟨RX4, "rests", "(IIII)I"⟩
def dkwX4_rests_12 : List UInt8 := [167, 0, 20, 21, 4, 4, 160, 0, 10, 21, 6, 7, 108, 167, 0, 7, 21, 6, 7, 112, 172]
abbrev dktX4_rests_12 : List UInt8 := dkwX4_rests_12 ++ []
def dkwX4_rests_11 : List UInt8 := [132, 5, 1, 132, 7, 255, 167, 255, 223, 21, 4, 154, 0, 6, 21, 5, 172, 21, 6, 156, 0, 8, 16, 254]
abbrev dktX4_rests_11 : List UInt8 := dkwX4_rests_11 ++ dktX4_rests_12
def dkwX4_rests_10 : List UInt8 := [42, 21, 7, 7, 108, 21, 7, 7, 112, 182, 1, 154, 154, 0, 6, 167, 0, 10, 21, 7, 54, 6]
abbrev dktX4_rests_10 : List UInt8 := dkwX4_rests_10 ++ dktX4_rests_11
def dkwX4_rests_9 : List UInt8 := [182, 1, 125, 132, 5, 1, 167, 255, 113, 3, 54, 5, 2, 54, 6, 16, 15, 54, 7, 21, 7, 155, 0, 34]
abbrev dktX4_rests_9 : List UInt8 := dkwX4_rests_9 ++ dktX4_rests_10
def dkwX4_rests_8 : List UInt8 := [46, 42, 28, 182, 1, 57, 153, 0, 7, 4, 167, 0, 4, 3, 96, 79, 132, 6, 1, 167, 255, 191, 42]
abbrev dktX4_rests_8 : List UInt8 := dkwX4_rests_8 ++ dktX4_rests_9
def dkwX4_rests_7 : List UInt8 := [182, 1, 57, 153, 0, 7, 4, 167, 0, 4, 3, 96, 79, 42, 180, 0, 62, 5, 21, 5, 104, 4, 96, 92]
abbrev dktX4_rests_7 : List UInt8 := dkwX4_rests_7 ++ dktX4_rests_8
def dkwX4_rests_6 : List UInt8 := [21, 6, 29, 162, 0, 65, 42, 182, 1, 104, 42, 180, 0, 62, 5, 21, 5, 104, 92, 46, 42, 27]
abbrev dktX4_rests_6 : List UInt8 := dkwX4_rests_6 ++ dktX4_rests_7
def dkwX4_rests_5 : List UInt8 := [180, 0, 62, 5, 21, 5, 104, 3, 79, 42, 180, 0, 62, 5, 21, 5, 104, 4, 96, 3, 79, 3, 54, 6]
abbrev dktX4_rests_5 : List UInt8 := dkwX4_rests_5 ++ dktX4_rests_6
def dkwX4_rests_4 : List UInt8 := [7, 108, 79, 42, 180, 0, 39, 16, 11, 16, 7, 28, 104, 96, 4, 96, 21, 5, 7, 112, 79, 42]
abbrev dktX4_rests_4 : List UInt8 := dkwX4_rests_4 ++ dktX4_rests_5
def dkwX4_rests_3 : List UInt8 := [54, 5, 21, 5, 16, 16, 162, 0, 142, 42, 180, 0, 39, 16, 11, 16, 7, 27, 104, 96, 4, 96, 21, 5]
abbrev dktX4_rests_3 : List UInt8 := dkwX4_rests_3 ++ dktX4_rests_4
def dkwX4_rests_2 : List UInt8 := [153, 0, 16, 21, 4, 133, 9, 20, 1, 117, 184, 0, 124, 154, 0, 5, 2, 172, 42, 182, 1, 119, 3]
abbrev dktX4_rests_2 : List UInt8 := dkwX4_rests_2 ++ dktX4_rests_3
def dkwX4_rests_1 : List UInt8 := [182, 1, 57, 153, 0, 36, 42, 28, 182, 1, 57, 153, 0, 28, 29, 133, 10, 20, 1, 113, 184, 0, 124]
abbrev dktX4_rests_1 : List UInt8 := dkwX4_rests_1 ++ dktX4_rests_2
def dkwX4_rests_0 : List UInt8 := [42, 27, 182, 1, 54, 153, 0, 57, 42, 28, 182, 1, 54, 153, 0, 49, 27, 28, 159, 0, 44, 42, 27]
abbrev dktX4_rests_0 : List UInt8 := dkwX4_rests_0 ++ dktX4_rests_1
theorem dksX4_rests_0 : cX4_rests.data.toList.drop 0 = dktX4_rests_0 := by decide +kernel
theorem dksX4_rests_1 : cX4_rests.data.toList.drop 23 = dktX4_rests_1 := dk_seg dksX4_rests_0 23 rfl rfl
theorem dksX4_rests_2 : cX4_rests.data.toList.drop 46 = dktX4_rests_2 := dk_seg dksX4_rests_1 23 rfl rfl
theorem dksX4_rests_3 : cX4_rests.data.toList.drop 69 = dktX4_rests_3 := dk_seg dksX4_rests_2 23 rfl rfl
theorem dksX4_rests_4 : cX4_rests.data.toList.drop 93 = dktX4_rests_4 := dk_seg dksX4_rests_3 24 rfl rfl
theorem dksX4_rests_5 : cX4_rests.data.toList.drop 115 = dktX4_rests_5 := dk_seg dksX4_rests_4 22 rfl rfl
theorem dksX4_rests_6 : cX4_rests.data.toList.drop 139 = dktX4_rests_6 := dk_seg dksX4_rests_5 24 rfl rfl
theorem dksX4_rests_7 : cX4_rests.data.toList.drop 161 = dktX4_rests_7 := dk_seg dksX4_rests_6 22 rfl rfl
theorem dksX4_rests_8 : cX4_rests.data.toList.drop 185 = dktX4_rests_8 := dk_seg dksX4_rests_7 24 rfl rfl
theorem dksX4_rests_9 : cX4_rests.data.toList.drop 208 = dktX4_rests_9 := dk_seg dksX4_rests_8 23 rfl rfl
theorem dksX4_rests_10 : cX4_rests.data.toList.drop 232 = dktX4_rests_10 := dk_seg dksX4_rests_9 24 rfl rfl
theorem dksX4_rests_11 : cX4_rests.data.toList.drop 254 = dktX4_rests_11 := dk_seg dksX4_rests_10 22 rfl rfl
theorem dksX4_rests_12 : cX4_rests.data.toList.drop 278 = dktX4_rests_12 := dk_seg dksX4_rests_11 24 rfl rfl
theorem dX4_rests_0 : decode cX4_rests 0 = .ok (.aload_n 0, 1) := dk_42 (dk_at dksX4_rests_0 0 rfl rfl)
theorem dX4_rests_1 : decode cX4_rests 1 = .ok (.iload_n 1, 1) := dk_27 (dk_at dksX4_rests_0 1 rfl rfl)
theorem dX4_rests_2 : decode cX4_rests 2 = .ok (.invokevirtual 310, 3) := dk_182 1 54 (dk_at dksX4_rests_0 2 rfl rfl)
theorem dX4_rests_5 : decode cX4_rests 5 = .ok (.ifCond .eq 57, 3) := dk_153 0 57 (dk_at dksX4_rests_0 5 rfl rfl)
theorem dX4_rests_8 : decode cX4_rests 8 = .ok (.aload_n 0, 1) := dk_42 (dk_at dksX4_rests_0 8 rfl rfl)
theorem dX4_rests_9 : decode cX4_rests 9 = .ok (.iload_n 2, 1) := dk_28 (dk_at dksX4_rests_0 9 rfl rfl)
theorem dX4_rests_10 : decode cX4_rests 10 = .ok (.invokevirtual 310, 3) := dk_182 1 54 (dk_at dksX4_rests_0 10 rfl rfl)
theorem dX4_rests_13 : decode cX4_rests 13 = .ok (.ifCond .eq 49, 3) := dk_153 0 49 (dk_at dksX4_rests_0 13 rfl rfl)
theorem dX4_rests_16 : decode cX4_rests 16 = .ok (.iload_n 1, 1) := dk_27 (dk_at dksX4_rests_0 16 rfl rfl)
theorem dX4_rests_17 : decode cX4_rests 17 = .ok (.iload_n 2, 1) := dk_28 (dk_at dksX4_rests_0 17 rfl rfl)
theorem dX4_rests_18 : decode cX4_rests 18 = .ok (.if_icmp .eq 44, 3) := dk_159 0 44 (dk_at dksX4_rests_0 18 rfl rfl)
theorem dX4_rests_21 : decode cX4_rests 21 = .ok (.aload_n 0, 1) := dk_42 (dk_at dksX4_rests_0 21 rfl rfl)
theorem dX4_rests_22 : decode cX4_rests 22 = .ok (.iload_n 1, 1) := dk_27 (dk_at dksX4_rests_0 22 rfl rfl)
theorem dX4_rests_23 : decode cX4_rests 23 = .ok (.invokevirtual 313, 3) := dk_182 1 57 (dk_at dksX4_rests_1 0 rfl rfl)
theorem dX4_rests_26 : decode cX4_rests 26 = .ok (.ifCond .eq 36, 3) := dk_153 0 36 (dk_at dksX4_rests_1 3 rfl rfl)
theorem dX4_rests_29 : decode cX4_rests 29 = .ok (.aload_n 0, 1) := dk_42 (dk_at dksX4_rests_1 6 rfl rfl)
theorem dX4_rests_30 : decode cX4_rests 30 = .ok (.iload_n 2, 1) := dk_28 (dk_at dksX4_rests_1 7 rfl rfl)
theorem dX4_rests_31 : decode cX4_rests 31 = .ok (.invokevirtual 313, 3) := dk_182 1 57 (dk_at dksX4_rests_1 8 rfl rfl)
theorem dX4_rests_34 : decode cX4_rests 34 = .ok (.ifCond .eq 28, 3) := dk_153 0 28 (dk_at dksX4_rests_1 11 rfl rfl)
theorem dX4_rests_37 : decode cX4_rests 37 = .ok (.iload_n 3, 1) := dk_29 (dk_at dksX4_rests_1 14 rfl rfl)
theorem dX4_rests_38 : decode cX4_rests 38 = .ok (.i2l, 1) := dk_133 (dk_at dksX4_rests_1 15 rfl rfl)
theorem dX4_rests_39 : decode cX4_rests 39 = .ok (.lconst 1, 1) := dk_10 (dk_at dksX4_rests_1 16 rfl rfl)
theorem dX4_rests_40 : decode cX4_rests 40 = .ok (.ldc2_w 369, 3) := dk_20 1 113 (dk_at dksX4_rests_1 17 rfl rfl)
theorem dX4_rests_43 : decode cX4_rests 43 = .ok (.invokestatic 124, 3) := dk_184 0 124 (dk_at dksX4_rests_1 20 rfl rfl)
theorem dX4_rests_46 : decode cX4_rests 46 = .ok (.ifCond .eq 16, 3) := dk_153 0 16 (dk_at dksX4_rests_2 0 rfl rfl)
theorem dX4_rests_49 : decode cX4_rests 49 = .ok (.iload 4, 2) := dk_21 4 (dk_at dksX4_rests_2 3 rfl rfl)
theorem dX4_rests_51 : decode cX4_rests 51 = .ok (.i2l, 1) := dk_133 (dk_at dksX4_rests_2 5 rfl rfl)
theorem dX4_rests_52 : decode cX4_rests 52 = .ok (.lconst 0, 1) := dk_9 (dk_at dksX4_rests_2 6 rfl rfl)
theorem dX4_rests_53 : decode cX4_rests 53 = .ok (.ldc2_w 373, 3) := dk_20 1 117 (dk_at dksX4_rests_2 7 rfl rfl)
theorem dX4_rests_56 : decode cX4_rests 56 = .ok (.invokestatic 124, 3) := dk_184 0 124 (dk_at dksX4_rests_2 10 rfl rfl)
theorem dX4_rests_59 : decode cX4_rests 59 = .ok (.ifCond .ne 5, 3) := dk_154 0 5 (dk_at dksX4_rests_2 13 rfl rfl)
theorem dX4_rests_62 : decode cX4_rests 62 = .ok (.iconst (-1), 1) := dk_2 (dk_at dksX4_rests_2 16 rfl rfl)
theorem dX4_rests_63 : decode cX4_rests 63 = .ok (.ireturn, 1) := dk_172 (dk_at dksX4_rests_2 17 rfl rfl)
theorem dX4_rests_64 : decode cX4_rests 64 = .ok (.aload_n 0, 1) := dk_42 (dk_at dksX4_rests_2 18 rfl rfl)
theorem dX4_rests_65 : decode cX4_rests 65 = .ok (.invokevirtual 375, 3) := dk_182 1 119 (dk_at dksX4_rests_2 19 rfl rfl)
theorem dX4_rests_68 : decode cX4_rests 68 = .ok (.iconst 0, 1) := dk_3 (dk_at dksX4_rests_2 22 rfl rfl)
theorem dX4_rests_69 : decode cX4_rests 69 = .ok (.istore 5, 2) := dk_54 5 (dk_at dksX4_rests_3 0 rfl rfl)
theorem dX4_rests_71 : decode cX4_rests 71 = .ok (.iload 5, 2) := dk_21 5 (dk_at dksX4_rests_3 2 rfl rfl)
theorem dX4_rests_73 : decode cX4_rests 73 = .ok (.bipush 16, 2) := dk_16 16 (dk_at dksX4_rests_3 4 rfl rfl)
theorem dX4_rests_75 : decode cX4_rests 75 = .ok (.if_icmp .ge 142, 3) := dk_162 0 142 (dk_at dksX4_rests_3 6 rfl rfl)
theorem dX4_rests_78 : decode cX4_rests 78 = .ok (.aload_n 0, 1) := dk_42 (dk_at dksX4_rests_3 9 rfl rfl)
theorem dX4_rests_79 : decode cX4_rests 79 = .ok (.getfield 39, 3) := dk_180 0 39 (dk_at dksX4_rests_3 10 rfl rfl)
theorem dX4_rests_82 : decode cX4_rests 82 = .ok (.bipush 11, 2) := dk_16 11 (dk_at dksX4_rests_3 13 rfl rfl)
theorem dX4_rests_84 : decode cX4_rests 84 = .ok (.bipush 7, 2) := dk_16 7 (dk_at dksX4_rests_3 15 rfl rfl)
theorem dX4_rests_86 : decode cX4_rests 86 = .ok (.iload_n 1, 1) := dk_27 (dk_at dksX4_rests_3 17 rfl rfl)
theorem dX4_rests_87 : decode cX4_rests 87 = .ok (.imul, 1) := dk_104 (dk_at dksX4_rests_3 18 rfl rfl)
theorem dX4_rests_88 : decode cX4_rests 88 = .ok (.iadd, 1) := dk_96 (dk_at dksX4_rests_3 19 rfl rfl)
theorem dX4_rests_89 : decode cX4_rests 89 = .ok (.iconst 1, 1) := dk_4 (dk_at dksX4_rests_3 20 rfl rfl)
theorem dX4_rests_90 : decode cX4_rests 90 = .ok (.iadd, 1) := dk_96 (dk_at dksX4_rests_3 21 rfl rfl)
theorem dX4_rests_91 : decode cX4_rests 91 = .ok (.iload 5, 2) := dk_21 5 (dk_at dksX4_rests_3 22 rfl rfl)
theorem dX4_rests_93 : decode cX4_rests 93 = .ok (.iconst 4, 1) := dk_7 (dk_at dksX4_rests_4 0 rfl rfl)
theorem dX4_rests_94 : decode cX4_rests 94 = .ok (.idiv, 1) := dk_108 (dk_at dksX4_rests_4 1 rfl rfl)
theorem dX4_rests_95 : decode cX4_rests 95 = .ok (.iastore, 1) := dk_79 (dk_at dksX4_rests_4 2 rfl rfl)
theorem dX4_rests_96 : decode cX4_rests 96 = .ok (.aload_n 0, 1) := dk_42 (dk_at dksX4_rests_4 3 rfl rfl)
theorem dX4_rests_97 : decode cX4_rests 97 = .ok (.getfield 39, 3) := dk_180 0 39 (dk_at dksX4_rests_4 4 rfl rfl)
theorem dX4_rests_100 : decode cX4_rests 100 = .ok (.bipush 11, 2) := dk_16 11 (dk_at dksX4_rests_4 7 rfl rfl)
theorem dX4_rests_102 : decode cX4_rests 102 = .ok (.bipush 7, 2) := dk_16 7 (dk_at dksX4_rests_4 9 rfl rfl)
theorem dX4_rests_104 : decode cX4_rests 104 = .ok (.iload_n 2, 1) := dk_28 (dk_at dksX4_rests_4 11 rfl rfl)
theorem dX4_rests_105 : decode cX4_rests 105 = .ok (.imul, 1) := dk_104 (dk_at dksX4_rests_4 12 rfl rfl)
theorem dX4_rests_106 : decode cX4_rests 106 = .ok (.iadd, 1) := dk_96 (dk_at dksX4_rests_4 13 rfl rfl)
theorem dX4_rests_107 : decode cX4_rests 107 = .ok (.iconst 1, 1) := dk_4 (dk_at dksX4_rests_4 14 rfl rfl)
theorem dX4_rests_108 : decode cX4_rests 108 = .ok (.iadd, 1) := dk_96 (dk_at dksX4_rests_4 15 rfl rfl)
theorem dX4_rests_109 : decode cX4_rests 109 = .ok (.iload 5, 2) := dk_21 5 (dk_at dksX4_rests_4 16 rfl rfl)
theorem dX4_rests_111 : decode cX4_rests 111 = .ok (.iconst 4, 1) := dk_7 (dk_at dksX4_rests_4 18 rfl rfl)
theorem dX4_rests_112 : decode cX4_rests 112 = .ok (.irem, 1) := dk_112 (dk_at dksX4_rests_4 19 rfl rfl)
theorem dX4_rests_113 : decode cX4_rests 113 = .ok (.iastore, 1) := dk_79 (dk_at dksX4_rests_4 20 rfl rfl)
theorem dX4_rests_114 : decode cX4_rests 114 = .ok (.aload_n 0, 1) := dk_42 (dk_at dksX4_rests_4 21 rfl rfl)
theorem dX4_rests_115 : decode cX4_rests 115 = .ok (.getfield 62, 3) := dk_180 0 62 (dk_at dksX4_rests_5 0 rfl rfl)
theorem dX4_rests_118 : decode cX4_rests 118 = .ok (.iconst 2, 1) := dk_5 (dk_at dksX4_rests_5 3 rfl rfl)
theorem dX4_rests_119 : decode cX4_rests 119 = .ok (.iload 5, 2) := dk_21 5 (dk_at dksX4_rests_5 4 rfl rfl)
theorem dX4_rests_121 : decode cX4_rests 121 = .ok (.imul, 1) := dk_104 (dk_at dksX4_rests_5 6 rfl rfl)
theorem dX4_rests_122 : decode cX4_rests 122 = .ok (.iconst 0, 1) := dk_3 (dk_at dksX4_rests_5 7 rfl rfl)
theorem dX4_rests_123 : decode cX4_rests 123 = .ok (.iastore, 1) := dk_79 (dk_at dksX4_rests_5 8 rfl rfl)
theorem dX4_rests_124 : decode cX4_rests 124 = .ok (.aload_n 0, 1) := dk_42 (dk_at dksX4_rests_5 9 rfl rfl)
theorem dX4_rests_125 : decode cX4_rests 125 = .ok (.getfield 62, 3) := dk_180 0 62 (dk_at dksX4_rests_5 10 rfl rfl)
theorem dX4_rests_128 : decode cX4_rests 128 = .ok (.iconst 2, 1) := dk_5 (dk_at dksX4_rests_5 13 rfl rfl)
theorem dX4_rests_129 : decode cX4_rests 129 = .ok (.iload 5, 2) := dk_21 5 (dk_at dksX4_rests_5 14 rfl rfl)
theorem dX4_rests_131 : decode cX4_rests 131 = .ok (.imul, 1) := dk_104 (dk_at dksX4_rests_5 16 rfl rfl)
theorem dX4_rests_132 : decode cX4_rests 132 = .ok (.iconst 1, 1) := dk_4 (dk_at dksX4_rests_5 17 rfl rfl)
theorem dX4_rests_133 : decode cX4_rests 133 = .ok (.iadd, 1) := dk_96 (dk_at dksX4_rests_5 18 rfl rfl)
theorem dX4_rests_134 : decode cX4_rests 134 = .ok (.iconst 0, 1) := dk_3 (dk_at dksX4_rests_5 19 rfl rfl)
theorem dX4_rests_135 : decode cX4_rests 135 = .ok (.iastore, 1) := dk_79 (dk_at dksX4_rests_5 20 rfl rfl)
theorem dX4_rests_136 : decode cX4_rests 136 = .ok (.iconst 0, 1) := dk_3 (dk_at dksX4_rests_5 21 rfl rfl)
theorem dX4_rests_137 : decode cX4_rests 137 = .ok (.istore 6, 2) := dk_54 6 (dk_at dksX4_rests_5 22 rfl rfl)
theorem dX4_rests_139 : decode cX4_rests 139 = .ok (.iload 6, 2) := dk_21 6 (dk_at dksX4_rests_6 0 rfl rfl)
theorem dX4_rests_141 : decode cX4_rests 141 = .ok (.iload_n 3, 1) := dk_29 (dk_at dksX4_rests_6 2 rfl rfl)
theorem dX4_rests_142 : decode cX4_rests 142 = .ok (.if_icmp .ge 65, 3) := dk_162 0 65 (dk_at dksX4_rests_6 3 rfl rfl)
theorem dX4_rests_145 : decode cX4_rests 145 = .ok (.aload_n 0, 1) := dk_42 (dk_at dksX4_rests_6 6 rfl rfl)
theorem dX4_rests_146 : decode cX4_rests 146 = .ok (.invokevirtual 360, 3) := dk_182 1 104 (dk_at dksX4_rests_6 7 rfl rfl)
theorem dX4_rests_149 : decode cX4_rests 149 = .ok (.aload_n 0, 1) := dk_42 (dk_at dksX4_rests_6 10 rfl rfl)
theorem dX4_rests_150 : decode cX4_rests 150 = .ok (.getfield 62, 3) := dk_180 0 62 (dk_at dksX4_rests_6 11 rfl rfl)
theorem dX4_rests_153 : decode cX4_rests 153 = .ok (.iconst 2, 1) := dk_5 (dk_at dksX4_rests_6 14 rfl rfl)
theorem dX4_rests_154 : decode cX4_rests 154 = .ok (.iload 5, 2) := dk_21 5 (dk_at dksX4_rests_6 15 rfl rfl)
theorem dX4_rests_156 : decode cX4_rests 156 = .ok (.imul, 1) := dk_104 (dk_at dksX4_rests_6 17 rfl rfl)
theorem dX4_rests_157 : decode cX4_rests 157 = .ok (.dup2, 1) := dk_92 (dk_at dksX4_rests_6 18 rfl rfl)
theorem dX4_rests_158 : decode cX4_rests 158 = .ok (.iaload, 1) := dk_46 (dk_at dksX4_rests_6 19 rfl rfl)
theorem dX4_rests_159 : decode cX4_rests 159 = .ok (.aload_n 0, 1) := dk_42 (dk_at dksX4_rests_6 20 rfl rfl)
theorem dX4_rests_160 : decode cX4_rests 160 = .ok (.iload_n 1, 1) := dk_27 (dk_at dksX4_rests_6 21 rfl rfl)
theorem dX4_rests_161 : decode cX4_rests 161 = .ok (.invokevirtual 313, 3) := dk_182 1 57 (dk_at dksX4_rests_7 0 rfl rfl)
theorem dX4_rests_164 : decode cX4_rests 164 = .ok (.ifCond .eq 7, 3) := dk_153 0 7 (dk_at dksX4_rests_7 3 rfl rfl)
theorem dX4_rests_167 : decode cX4_rests 167 = .ok (.iconst 1, 1) := dk_4 (dk_at dksX4_rests_7 6 rfl rfl)
theorem dX4_rests_168 : decode cX4_rests 168 = .ok (.goto 4, 3) := dk_167 0 4 (dk_at dksX4_rests_7 7 rfl rfl)
theorem dX4_rests_171 : decode cX4_rests 171 = .ok (.iconst 0, 1) := dk_3 (dk_at dksX4_rests_7 10 rfl rfl)
theorem dX4_rests_172 : decode cX4_rests 172 = .ok (.iadd, 1) := dk_96 (dk_at dksX4_rests_7 11 rfl rfl)
theorem dX4_rests_173 : decode cX4_rests 173 = .ok (.iastore, 1) := dk_79 (dk_at dksX4_rests_7 12 rfl rfl)
theorem dX4_rests_174 : decode cX4_rests 174 = .ok (.aload_n 0, 1) := dk_42 (dk_at dksX4_rests_7 13 rfl rfl)
theorem dX4_rests_175 : decode cX4_rests 175 = .ok (.getfield 62, 3) := dk_180 0 62 (dk_at dksX4_rests_7 14 rfl rfl)
theorem dX4_rests_178 : decode cX4_rests 178 = .ok (.iconst 2, 1) := dk_5 (dk_at dksX4_rests_7 17 rfl rfl)
theorem dX4_rests_179 : decode cX4_rests 179 = .ok (.iload 5, 2) := dk_21 5 (dk_at dksX4_rests_7 18 rfl rfl)
theorem dX4_rests_181 : decode cX4_rests 181 = .ok (.imul, 1) := dk_104 (dk_at dksX4_rests_7 20 rfl rfl)
theorem dX4_rests_182 : decode cX4_rests 182 = .ok (.iconst 1, 1) := dk_4 (dk_at dksX4_rests_7 21 rfl rfl)
theorem dX4_rests_183 : decode cX4_rests 183 = .ok (.iadd, 1) := dk_96 (dk_at dksX4_rests_7 22 rfl rfl)
theorem dX4_rests_184 : decode cX4_rests 184 = .ok (.dup2, 1) := dk_92 (dk_at dksX4_rests_7 23 rfl rfl)
theorem dX4_rests_185 : decode cX4_rests 185 = .ok (.iaload, 1) := dk_46 (dk_at dksX4_rests_8 0 rfl rfl)
theorem dX4_rests_186 : decode cX4_rests 186 = .ok (.aload_n 0, 1) := dk_42 (dk_at dksX4_rests_8 1 rfl rfl)
theorem dX4_rests_187 : decode cX4_rests 187 = .ok (.iload_n 2, 1) := dk_28 (dk_at dksX4_rests_8 2 rfl rfl)
theorem dX4_rests_188 : decode cX4_rests 188 = .ok (.invokevirtual 313, 3) := dk_182 1 57 (dk_at dksX4_rests_8 3 rfl rfl)
theorem dX4_rests_191 : decode cX4_rests 191 = .ok (.ifCond .eq 7, 3) := dk_153 0 7 (dk_at dksX4_rests_8 6 rfl rfl)
theorem dX4_rests_194 : decode cX4_rests 194 = .ok (.iconst 1, 1) := dk_4 (dk_at dksX4_rests_8 9 rfl rfl)
theorem dX4_rests_195 : decode cX4_rests 195 = .ok (.goto 4, 3) := dk_167 0 4 (dk_at dksX4_rests_8 10 rfl rfl)
theorem dX4_rests_198 : decode cX4_rests 198 = .ok (.iconst 0, 1) := dk_3 (dk_at dksX4_rests_8 13 rfl rfl)
theorem dX4_rests_199 : decode cX4_rests 199 = .ok (.iadd, 1) := dk_96 (dk_at dksX4_rests_8 14 rfl rfl)
theorem dX4_rests_200 : decode cX4_rests 200 = .ok (.iastore, 1) := dk_79 (dk_at dksX4_rests_8 15 rfl rfl)
theorem dX4_rests_201 : decode cX4_rests 201 = .ok (.iinc 6 1, 3) := dk_132 6 1 (dk_at dksX4_rests_8 16 rfl rfl)
theorem dX4_rests_204 : decode cX4_rests 204 = .ok (.goto (-65), 3) := dk_167 255 191 (dk_at dksX4_rests_8 19 rfl rfl)
theorem dX4_rests_207 : decode cX4_rests 207 = .ok (.aload_n 0, 1) := dk_42 (dk_at dksX4_rests_8 22 rfl rfl)
theorem dX4_rests_208 : decode cX4_rests 208 = .ok (.invokevirtual 381, 3) := dk_182 1 125 (dk_at dksX4_rests_9 0 rfl rfl)
theorem dX4_rests_211 : decode cX4_rests 211 = .ok (.iinc 5 1, 3) := dk_132 5 1 (dk_at dksX4_rests_9 3 rfl rfl)
theorem dX4_rests_214 : decode cX4_rests 214 = .ok (.goto (-143), 3) := dk_167 255 113 (dk_at dksX4_rests_9 6 rfl rfl)
theorem dX4_rests_217 : decode cX4_rests 217 = .ok (.iconst 0, 1) := dk_3 (dk_at dksX4_rests_9 9 rfl rfl)
theorem dX4_rests_218 : decode cX4_rests 218 = .ok (.istore 5, 2) := dk_54 5 (dk_at dksX4_rests_9 10 rfl rfl)
theorem dX4_rests_220 : decode cX4_rests 220 = .ok (.iconst (-1), 1) := dk_2 (dk_at dksX4_rests_9 12 rfl rfl)
theorem dX4_rests_221 : decode cX4_rests 221 = .ok (.istore 6, 2) := dk_54 6 (dk_at dksX4_rests_9 13 rfl rfl)
theorem dX4_rests_223 : decode cX4_rests 223 = .ok (.bipush 15, 2) := dk_16 15 (dk_at dksX4_rests_9 15 rfl rfl)
theorem dX4_rests_225 : decode cX4_rests 225 = .ok (.istore 7, 2) := dk_54 7 (dk_at dksX4_rests_9 17 rfl rfl)
theorem dX4_rests_227 : decode cX4_rests 227 = .ok (.iload 7, 2) := dk_21 7 (dk_at dksX4_rests_9 19 rfl rfl)
theorem dX4_rests_229 : decode cX4_rests 229 = .ok (.ifCond .lt 34, 3) := dk_155 0 34 (dk_at dksX4_rests_9 21 rfl rfl)
theorem dX4_rests_232 : decode cX4_rests 232 = .ok (.aload_n 0, 1) := dk_42 (dk_at dksX4_rests_10 0 rfl rfl)
theorem dX4_rests_233 : decode cX4_rests 233 = .ok (.iload 7, 2) := dk_21 7 (dk_at dksX4_rests_10 1 rfl rfl)
theorem dX4_rests_235 : decode cX4_rests 235 = .ok (.iconst 4, 1) := dk_7 (dk_at dksX4_rests_10 3 rfl rfl)
theorem dX4_rests_236 : decode cX4_rests 236 = .ok (.idiv, 1) := dk_108 (dk_at dksX4_rests_10 4 rfl rfl)
theorem dX4_rests_237 : decode cX4_rests 237 = .ok (.iload 7, 2) := dk_21 7 (dk_at dksX4_rests_10 5 rfl rfl)
theorem dX4_rests_239 : decode cX4_rests 239 = .ok (.iconst 4, 1) := dk_7 (dk_at dksX4_rests_10 7 rfl rfl)
theorem dX4_rests_240 : decode cX4_rests 240 = .ok (.irem, 1) := dk_112 (dk_at dksX4_rests_10 8 rfl rfl)
theorem dX4_rests_241 : decode cX4_rests 241 = .ok (.invokevirtual 410, 3) := dk_182 1 154 (dk_at dksX4_rests_10 9 rfl rfl)
theorem dX4_rests_244 : decode cX4_rests 244 = .ok (.ifCond .ne 6, 3) := dk_154 0 6 (dk_at dksX4_rests_10 12 rfl rfl)
theorem dX4_rests_247 : decode cX4_rests 247 = .ok (.goto 10, 3) := dk_167 0 10 (dk_at dksX4_rests_10 15 rfl rfl)
theorem dX4_rests_250 : decode cX4_rests 250 = .ok (.iload 7, 2) := dk_21 7 (dk_at dksX4_rests_10 18 rfl rfl)
theorem dX4_rests_252 : decode cX4_rests 252 = .ok (.istore 6, 2) := dk_54 6 (dk_at dksX4_rests_10 20 rfl rfl)
theorem dX4_rests_254 : decode cX4_rests 254 = .ok (.iinc 5 1, 3) := dk_132 5 1 (dk_at dksX4_rests_11 0 rfl rfl)
theorem dX4_rests_257 : decode cX4_rests 257 = .ok (.iinc 7 (-1), 3) := dk_132 7 255 (dk_at dksX4_rests_11 3 rfl rfl)
theorem dX4_rests_260 : decode cX4_rests 260 = .ok (.goto (-33), 3) := dk_167 255 223 (dk_at dksX4_rests_11 6 rfl rfl)
theorem dX4_rests_263 : decode cX4_rests 263 = .ok (.iload 4, 2) := dk_21 4 (dk_at dksX4_rests_11 9 rfl rfl)
theorem dX4_rests_265 : decode cX4_rests 265 = .ok (.ifCond .ne 6, 3) := dk_154 0 6 (dk_at dksX4_rests_11 11 rfl rfl)
theorem dX4_rests_268 : decode cX4_rests 268 = .ok (.iload 5, 2) := dk_21 5 (dk_at dksX4_rests_11 14 rfl rfl)
theorem dX4_rests_270 : decode cX4_rests 270 = .ok (.ireturn, 1) := dk_172 (dk_at dksX4_rests_11 16 rfl rfl)
theorem dX4_rests_271 : decode cX4_rests 271 = .ok (.iload 6, 2) := dk_21 6 (dk_at dksX4_rests_11 17 rfl rfl)
theorem dX4_rests_273 : decode cX4_rests 273 = .ok (.ifCond .ge 8, 3) := dk_156 0 8 (dk_at dksX4_rests_11 19 rfl rfl)
theorem dX4_rests_276 : decode cX4_rests 276 = .ok (.bipush (-2), 2) := dk_16 254 (dk_at dksX4_rests_11 22 rfl rfl)
theorem dX4_rests_278 : decode cX4_rests 278 = .ok (.goto 20, 3) := dk_167 0 20 (dk_at dksX4_rests_12 0 rfl rfl)
theorem dX4_rests_281 : decode cX4_rests 281 = .ok (.iload 4, 2) := dk_21 4 (dk_at dksX4_rests_12 3 rfl rfl)
theorem dX4_rests_283 : decode cX4_rests 283 = .ok (.iconst 1, 1) := dk_4 (dk_at dksX4_rests_12 5 rfl rfl)
theorem dX4_rests_284 : decode cX4_rests 284 = .ok (.if_icmp .ne 10, 3) := dk_160 0 10 (dk_at dksX4_rests_12 6 rfl rfl)
theorem dX4_rests_287 : decode cX4_rests 287 = .ok (.iload 6, 2) := dk_21 6 (dk_at dksX4_rests_12 9 rfl rfl)
theorem dX4_rests_289 : decode cX4_rests 289 = .ok (.iconst 4, 1) := dk_7 (dk_at dksX4_rests_12 11 rfl rfl)
theorem dX4_rests_290 : decode cX4_rests 290 = .ok (.idiv, 1) := dk_108 (dk_at dksX4_rests_12 12 rfl rfl)
theorem dX4_rests_291 : decode cX4_rests 291 = .ok (.goto 7, 3) := dk_167 0 7 (dk_at dksX4_rests_12 13 rfl rfl)
theorem dX4_rests_294 : decode cX4_rests 294 = .ok (.iload 6, 2) := dk_21 6 (dk_at dksX4_rests_12 16 rfl rfl)
theorem dX4_rests_296 : decode cX4_rests 296 = .ok (.iconst 4, 1) := dk_7 (dk_at dksX4_rests_12 18 rfl rfl)
theorem dX4_rests_297 : decode cX4_rests 297 = .ok (.irem, 1) := dk_112 (dk_at dksX4_rests_12 19 rfl rfl)
theorem dX4_rests_298 : decode cX4_rests 298 = .ok (.ireturn, 1) := dk_172 (dk_at dksX4_rests_12 20 rfl rfl)
abbrev cX4_isRest : ByteArray := prog_19_method_98_code
def yX4_isRest : MethodName := ⟨RX4, "isRest", "(II)Z"⟩
def dkwX4_isRest_3 : List UInt8 := [167, 255, 188, 4, 172]
abbrev dktX4_isRest_3 : List UInt8 := dkwX4_isRest_3 ++ []
def dkwX4_isRest_2 : List UInt8 := [42, 180, 0, 62, 5, 7, 27, 104, 28, 96, 104, 4, 96, 46, 164, 0, 5, 3, 172, 132, 3, 1]
abbrev dktX4_isRest_2 : List UInt8 := dkwX4_isRest_2 ++ dktX4_isRest_3
def dkwX4_isRest_1 : List UInt8 := [7, 27, 104, 28, 96, 104, 46, 163, 0, 34, 42, 180, 0, 62, 5, 7, 27, 104, 29, 96, 104, 4, 96, 46]
abbrev dktX4_isRest_1 : List UInt8 := dkwX4_isRest_1 ++ dktX4_isRest_2
def dkwX4_isRest_0 : List UInt8 := [3, 62, 29, 7, 162, 0, 69, 42, 180, 0, 62, 5, 7, 29, 104, 28, 96, 104, 46, 42, 180, 0, 62, 5]
abbrev dktX4_isRest_0 : List UInt8 := dkwX4_isRest_0 ++ dktX4_isRest_1
theorem dksX4_isRest_0 : cX4_isRest.data.toList.drop 0 = dktX4_isRest_0 := by decide +kernel
theorem dksX4_isRest_1 : cX4_isRest.data.toList.drop 24 = dktX4_isRest_1 := dk_seg dksX4_isRest_0 24 rfl rfl
theorem dksX4_isRest_2 : cX4_isRest.data.toList.drop 48 = dktX4_isRest_2 := dk_seg dksX4_isRest_1 24 rfl rfl
theorem dksX4_isRest_3 : cX4_isRest.data.toList.drop 70 = dktX4_isRest_3 := dk_seg dksX4_isRest_2 22 rfl rfl
theorem dX4_isRest_0 : decode cX4_isRest 0 = .ok (.iconst 0, 1) := dk_3 (dk_at dksX4_isRest_0 0 rfl rfl)
theorem dX4_isRest_1 : decode cX4_isRest 1 = .ok (.istore_n 3, 1) := dk_62 (dk_at dksX4_isRest_0 1 rfl rfl)
theorem dX4_isRest_2 : decode cX4_isRest 2 = .ok (.iload_n 3, 1) := dk_29 (dk_at dksX4_isRest_0 2 rfl rfl)
theorem dX4_isRest_3 : decode cX4_isRest 3 = .ok (.iconst 4, 1) := dk_7 (dk_at dksX4_isRest_0 3 rfl rfl)
theorem dX4_isRest_4 : decode cX4_isRest 4 = .ok (.if_icmp .ge 69, 3) := dk_162 0 69 (dk_at dksX4_isRest_0 4 rfl rfl)
theorem dX4_isRest_7 : decode cX4_isRest 7 = .ok (.aload_n 0, 1) := dk_42 (dk_at dksX4_isRest_0 7 rfl rfl)
theorem dX4_isRest_8 : decode cX4_isRest 8 = .ok (.getfield 62, 3) := dk_180 0 62 (dk_at dksX4_isRest_0 8 rfl rfl)
theorem dX4_isRest_11 : decode cX4_isRest 11 = .ok (.iconst 2, 1) := dk_5 (dk_at dksX4_isRest_0 11 rfl rfl)
theorem dX4_isRest_12 : decode cX4_isRest 12 = .ok (.iconst 4, 1) := dk_7 (dk_at dksX4_isRest_0 12 rfl rfl)
theorem dX4_isRest_13 : decode cX4_isRest 13 = .ok (.iload_n 3, 1) := dk_29 (dk_at dksX4_isRest_0 13 rfl rfl)
theorem dX4_isRest_14 : decode cX4_isRest 14 = .ok (.imul, 1) := dk_104 (dk_at dksX4_isRest_0 14 rfl rfl)
theorem dX4_isRest_15 : decode cX4_isRest 15 = .ok (.iload_n 2, 1) := dk_28 (dk_at dksX4_isRest_0 15 rfl rfl)
theorem dX4_isRest_16 : decode cX4_isRest 16 = .ok (.iadd, 1) := dk_96 (dk_at dksX4_isRest_0 16 rfl rfl)
theorem dX4_isRest_17 : decode cX4_isRest 17 = .ok (.imul, 1) := dk_104 (dk_at dksX4_isRest_0 17 rfl rfl)
theorem dX4_isRest_18 : decode cX4_isRest 18 = .ok (.iaload, 1) := dk_46 (dk_at dksX4_isRest_0 18 rfl rfl)
theorem dX4_isRest_19 : decode cX4_isRest 19 = .ok (.aload_n 0, 1) := dk_42 (dk_at dksX4_isRest_0 19 rfl rfl)
theorem dX4_isRest_20 : decode cX4_isRest 20 = .ok (.getfield 62, 3) := dk_180 0 62 (dk_at dksX4_isRest_0 20 rfl rfl)
theorem dX4_isRest_23 : decode cX4_isRest 23 = .ok (.iconst 2, 1) := dk_5 (dk_at dksX4_isRest_0 23 rfl rfl)
theorem dX4_isRest_24 : decode cX4_isRest 24 = .ok (.iconst 4, 1) := dk_7 (dk_at dksX4_isRest_1 0 rfl rfl)
theorem dX4_isRest_25 : decode cX4_isRest 25 = .ok (.iload_n 1, 1) := dk_27 (dk_at dksX4_isRest_1 1 rfl rfl)
theorem dX4_isRest_26 : decode cX4_isRest 26 = .ok (.imul, 1) := dk_104 (dk_at dksX4_isRest_1 2 rfl rfl)
theorem dX4_isRest_27 : decode cX4_isRest 27 = .ok (.iload_n 2, 1) := dk_28 (dk_at dksX4_isRest_1 3 rfl rfl)
theorem dX4_isRest_28 : decode cX4_isRest 28 = .ok (.iadd, 1) := dk_96 (dk_at dksX4_isRest_1 4 rfl rfl)
theorem dX4_isRest_29 : decode cX4_isRest 29 = .ok (.imul, 1) := dk_104 (dk_at dksX4_isRest_1 5 rfl rfl)
theorem dX4_isRest_30 : decode cX4_isRest 30 = .ok (.iaload, 1) := dk_46 (dk_at dksX4_isRest_1 6 rfl rfl)
theorem dX4_isRest_31 : decode cX4_isRest 31 = .ok (.if_icmp .gt 34, 3) := dk_163 0 34 (dk_at dksX4_isRest_1 7 rfl rfl)
theorem dX4_isRest_34 : decode cX4_isRest 34 = .ok (.aload_n 0, 1) := dk_42 (dk_at dksX4_isRest_1 10 rfl rfl)
theorem dX4_isRest_35 : decode cX4_isRest 35 = .ok (.getfield 62, 3) := dk_180 0 62 (dk_at dksX4_isRest_1 11 rfl rfl)
theorem dX4_isRest_38 : decode cX4_isRest 38 = .ok (.iconst 2, 1) := dk_5 (dk_at dksX4_isRest_1 14 rfl rfl)
theorem dX4_isRest_39 : decode cX4_isRest 39 = .ok (.iconst 4, 1) := dk_7 (dk_at dksX4_isRest_1 15 rfl rfl)
theorem dX4_isRest_40 : decode cX4_isRest 40 = .ok (.iload_n 1, 1) := dk_27 (dk_at dksX4_isRest_1 16 rfl rfl)
theorem dX4_isRest_41 : decode cX4_isRest 41 = .ok (.imul, 1) := dk_104 (dk_at dksX4_isRest_1 17 rfl rfl)
theorem dX4_isRest_42 : decode cX4_isRest 42 = .ok (.iload_n 3, 1) := dk_29 (dk_at dksX4_isRest_1 18 rfl rfl)
theorem dX4_isRest_43 : decode cX4_isRest 43 = .ok (.iadd, 1) := dk_96 (dk_at dksX4_isRest_1 19 rfl rfl)
theorem dX4_isRest_44 : decode cX4_isRest 44 = .ok (.imul, 1) := dk_104 (dk_at dksX4_isRest_1 20 rfl rfl)
theorem dX4_isRest_45 : decode cX4_isRest 45 = .ok (.iconst 1, 1) := dk_4 (dk_at dksX4_isRest_1 21 rfl rfl)
theorem dX4_isRest_46 : decode cX4_isRest 46 = .ok (.iadd, 1) := dk_96 (dk_at dksX4_isRest_1 22 rfl rfl)
theorem dX4_isRest_47 : decode cX4_isRest 47 = .ok (.iaload, 1) := dk_46 (dk_at dksX4_isRest_1 23 rfl rfl)
theorem dX4_isRest_48 : decode cX4_isRest 48 = .ok (.aload_n 0, 1) := dk_42 (dk_at dksX4_isRest_2 0 rfl rfl)
theorem dX4_isRest_49 : decode cX4_isRest 49 = .ok (.getfield 62, 3) := dk_180 0 62 (dk_at dksX4_isRest_2 1 rfl rfl)
theorem dX4_isRest_52 : decode cX4_isRest 52 = .ok (.iconst 2, 1) := dk_5 (dk_at dksX4_isRest_2 4 rfl rfl)
theorem dX4_isRest_53 : decode cX4_isRest 53 = .ok (.iconst 4, 1) := dk_7 (dk_at dksX4_isRest_2 5 rfl rfl)
theorem dX4_isRest_54 : decode cX4_isRest 54 = .ok (.iload_n 1, 1) := dk_27 (dk_at dksX4_isRest_2 6 rfl rfl)
theorem dX4_isRest_55 : decode cX4_isRest 55 = .ok (.imul, 1) := dk_104 (dk_at dksX4_isRest_2 7 rfl rfl)
theorem dX4_isRest_56 : decode cX4_isRest 56 = .ok (.iload_n 2, 1) := dk_28 (dk_at dksX4_isRest_2 8 rfl rfl)
theorem dX4_isRest_57 : decode cX4_isRest 57 = .ok (.iadd, 1) := dk_96 (dk_at dksX4_isRest_2 9 rfl rfl)
theorem dX4_isRest_58 : decode cX4_isRest 58 = .ok (.imul, 1) := dk_104 (dk_at dksX4_isRest_2 10 rfl rfl)
theorem dX4_isRest_59 : decode cX4_isRest 59 = .ok (.iconst 1, 1) := dk_4 (dk_at dksX4_isRest_2 11 rfl rfl)
theorem dX4_isRest_60 : decode cX4_isRest 60 = .ok (.iadd, 1) := dk_96 (dk_at dksX4_isRest_2 12 rfl rfl)
theorem dX4_isRest_61 : decode cX4_isRest 61 = .ok (.iaload, 1) := dk_46 (dk_at dksX4_isRest_2 13 rfl rfl)
theorem dX4_isRest_62 : decode cX4_isRest 62 = .ok (.if_icmp .le 5, 3) := dk_164 0 5 (dk_at dksX4_isRest_2 14 rfl rfl)
theorem dX4_isRest_65 : decode cX4_isRest 65 = .ok (.iconst 0, 1) := dk_3 (dk_at dksX4_isRest_2 17 rfl rfl)
theorem dX4_isRest_66 : decode cX4_isRest 66 = .ok (.ireturn, 1) := dk_172 (dk_at dksX4_isRest_2 18 rfl rfl)
theorem dX4_isRest_67 : decode cX4_isRest 67 = .ok (.iinc 3 1, 3) := dk_132 3 1 (dk_at dksX4_isRest_2 19 rfl rfl)
theorem dX4_isRest_70 : decode cX4_isRest 70 = .ok (.goto (-68), 3) := dk_167 255 188 (dk_at dksX4_isRest_3 0 rfl rfl)
theorem dX4_isRest_73 : decode cX4_isRest 73 = .ok (.iconst 1, 1) := dk_4 (dk_at dksX4_isRest_3 3 rfl rfl)
theorem dX4_isRest_74 : decode cX4_isRest 74 = .ok (.ireturn, 1) := dk_172 (dk_at dksX4_isRest_3 4 rfl rfl)
abbrev cX4_ring : ByteArray := prog_19_method_102_code
def yX4_ring : MethodName := ⟨RX4, "ring", "(I)I"⟩
def dkwX4_ring_5 : List UInt8 := [96, 167, 0, 6, 29, 28, 100, 172, 132, 3, 1, 167, 255, 218, 132, 2, 1, 167, 255, 202, 16, 254, 172]
abbrev dktX4_ring_5 : List UInt8 := dkwX4_ring_5 ++ []
def dkwX4_ring_4 : List UInt8 := [163, 0, 38, 42, 28, 29, 182, 1, 160, 153, 0, 23, 27, 154, 0, 15, 42, 180, 0, 39, 16, 10, 46, 28]
abbrev dktX4_ring_4 : List UInt8 := dkwX4_ring_4 ++ dktX4_ring_5
def dkwX4_ring_3 : List UInt8 := [167, 255, 210, 42, 182, 1, 125, 3, 61, 28, 16, 60, 162, 0, 54, 28, 4, 96, 62, 29, 16, 60]
abbrev dktX4_ring_3 : List UInt8 := dkwX4_ring_3 ++ dktX4_ring_4
def dkwX4_ring_2 : List UInt8 := [28, 104, 29, 96, 42, 29, 182, 1, 157, 79, 132, 3, 1, 167, 255, 228, 42, 182, 1, 104, 132, 2, 1]
abbrev dktX4_ring_2 : List UInt8 := dkwX4_ring_2 ++ dktX4_ring_3
def dkwX4_ring_1 : List UInt8 := [61, 28, 16, 60, 163, 0, 46, 3, 62, 29, 42, 180, 0, 39, 5, 46, 162, 0, 24, 42, 180, 0, 65, 8]
abbrev dktX4_ring_1 : List UInt8 := dkwX4_ring_1 ++ dktX4_ring_2
def dkwX4_ring_0 : List UInt8 := [42, 182, 1, 36, 153, 0, 13, 27, 133, 9, 10, 184, 0, 124, 154, 0, 5, 2, 172, 42, 182, 1, 119, 3]
abbrev dktX4_ring_0 : List UInt8 := dkwX4_ring_0 ++ dktX4_ring_1
theorem dksX4_ring_0 : cX4_ring.data.toList.drop 0 = dktX4_ring_0 := by decide +kernel
theorem dksX4_ring_1 : cX4_ring.data.toList.drop 24 = dktX4_ring_1 := dk_seg dksX4_ring_0 24 rfl rfl
theorem dksX4_ring_2 : cX4_ring.data.toList.drop 48 = dktX4_ring_2 := dk_seg dksX4_ring_1 24 rfl rfl
theorem dksX4_ring_3 : cX4_ring.data.toList.drop 71 = dktX4_ring_3 := dk_seg dksX4_ring_2 23 rfl rfl
theorem dksX4_ring_4 : cX4_ring.data.toList.drop 93 = dktX4_ring_4 := dk_seg dksX4_ring_3 22 rfl rfl
theorem dksX4_ring_5 : cX4_ring.data.toList.drop 117 = dktX4_ring_5 := dk_seg dksX4_ring_4 24 rfl rfl
theorem dX4_ring_0 : decode cX4_ring 0 = .ok (.aload_n 0, 1) := dk_42 (dk_at dksX4_ring_0 0 rfl rfl)
theorem dX4_ring_1 : decode cX4_ring 1 = .ok (.invokevirtual 292, 3) := dk_182 1 36 (dk_at dksX4_ring_0 1 rfl rfl)
theorem dX4_ring_4 : decode cX4_ring 4 = .ok (.ifCond .eq 13, 3) := dk_153 0 13 (dk_at dksX4_ring_0 4 rfl rfl)
theorem dX4_ring_7 : decode cX4_ring 7 = .ok (.iload_n 1, 1) := dk_27 (dk_at dksX4_ring_0 7 rfl rfl)
theorem dX4_ring_8 : decode cX4_ring 8 = .ok (.i2l, 1) := dk_133 (dk_at dksX4_ring_0 8 rfl rfl)
theorem dX4_ring_9 : decode cX4_ring 9 = .ok (.lconst 0, 1) := dk_9 (dk_at dksX4_ring_0 9 rfl rfl)
theorem dX4_ring_10 : decode cX4_ring 10 = .ok (.lconst 1, 1) := dk_10 (dk_at dksX4_ring_0 10 rfl rfl)
theorem dX4_ring_11 : decode cX4_ring 11 = .ok (.invokestatic 124, 3) := dk_184 0 124 (dk_at dksX4_ring_0 11 rfl rfl)
theorem dX4_ring_14 : decode cX4_ring 14 = .ok (.ifCond .ne 5, 3) := dk_154 0 5 (dk_at dksX4_ring_0 14 rfl rfl)
theorem dX4_ring_17 : decode cX4_ring 17 = .ok (.iconst (-1), 1) := dk_2 (dk_at dksX4_ring_0 17 rfl rfl)
theorem dX4_ring_18 : decode cX4_ring 18 = .ok (.ireturn, 1) := dk_172 (dk_at dksX4_ring_0 18 rfl rfl)
theorem dX4_ring_19 : decode cX4_ring 19 = .ok (.aload_n 0, 1) := dk_42 (dk_at dksX4_ring_0 19 rfl rfl)
theorem dX4_ring_20 : decode cX4_ring 20 = .ok (.invokevirtual 375, 3) := dk_182 1 119 (dk_at dksX4_ring_0 20 rfl rfl)
theorem dX4_ring_23 : decode cX4_ring 23 = .ok (.iconst 0, 1) := dk_3 (dk_at dksX4_ring_0 23 rfl rfl)
theorem dX4_ring_24 : decode cX4_ring 24 = .ok (.istore_n 2, 1) := dk_61 (dk_at dksX4_ring_1 0 rfl rfl)
theorem dX4_ring_25 : decode cX4_ring 25 = .ok (.iload_n 2, 1) := dk_28 (dk_at dksX4_ring_1 1 rfl rfl)
theorem dX4_ring_26 : decode cX4_ring 26 = .ok (.bipush 60, 2) := dk_16 60 (dk_at dksX4_ring_1 2 rfl rfl)
theorem dX4_ring_28 : decode cX4_ring 28 = .ok (.if_icmp .gt 46, 3) := dk_163 0 46 (dk_at dksX4_ring_1 4 rfl rfl)
theorem dX4_ring_31 : decode cX4_ring 31 = .ok (.iconst 0, 1) := dk_3 (dk_at dksX4_ring_1 7 rfl rfl)
theorem dX4_ring_32 : decode cX4_ring 32 = .ok (.istore_n 3, 1) := dk_62 (dk_at dksX4_ring_1 8 rfl rfl)
theorem dX4_ring_33 : decode cX4_ring 33 = .ok (.iload_n 3, 1) := dk_29 (dk_at dksX4_ring_1 9 rfl rfl)
theorem dX4_ring_34 : decode cX4_ring 34 = .ok (.aload_n 0, 1) := dk_42 (dk_at dksX4_ring_1 10 rfl rfl)
theorem dX4_ring_35 : decode cX4_ring 35 = .ok (.getfield 39, 3) := dk_180 0 39 (dk_at dksX4_ring_1 11 rfl rfl)
theorem dX4_ring_38 : decode cX4_ring 38 = .ok (.iconst 2, 1) := dk_5 (dk_at dksX4_ring_1 14 rfl rfl)
theorem dX4_ring_39 : decode cX4_ring 39 = .ok (.iaload, 1) := dk_46 (dk_at dksX4_ring_1 15 rfl rfl)
theorem dX4_ring_40 : decode cX4_ring 40 = .ok (.if_icmp .ge 24, 3) := dk_162 0 24 (dk_at dksX4_ring_1 16 rfl rfl)
theorem dX4_ring_43 : decode cX4_ring 43 = .ok (.aload_n 0, 1) := dk_42 (dk_at dksX4_ring_1 19 rfl rfl)
theorem dX4_ring_44 : decode cX4_ring 44 = .ok (.getfield 65, 3) := dk_180 0 65 (dk_at dksX4_ring_1 20 rfl rfl)
theorem dX4_ring_47 : decode cX4_ring 47 = .ok (.iconst 5, 1) := dk_8 (dk_at dksX4_ring_1 23 rfl rfl)
theorem dX4_ring_48 : decode cX4_ring 48 = .ok (.iload_n 2, 1) := dk_28 (dk_at dksX4_ring_2 0 rfl rfl)
theorem dX4_ring_49 : decode cX4_ring 49 = .ok (.imul, 1) := dk_104 (dk_at dksX4_ring_2 1 rfl rfl)
theorem dX4_ring_50 : decode cX4_ring 50 = .ok (.iload_n 3, 1) := dk_29 (dk_at dksX4_ring_2 2 rfl rfl)
theorem dX4_ring_51 : decode cX4_ring 51 = .ok (.iadd, 1) := dk_96 (dk_at dksX4_ring_2 3 rfl rfl)
theorem dX4_ring_52 : decode cX4_ring 52 = .ok (.aload_n 0, 1) := dk_42 (dk_at dksX4_ring_2 4 rfl rfl)
theorem dX4_ring_53 : decode cX4_ring 53 = .ok (.iload_n 3, 1) := dk_29 (dk_at dksX4_ring_2 5 rfl rfl)
theorem dX4_ring_54 : decode cX4_ring 54 = .ok (.invokevirtual 413, 3) := dk_182 1 157 (dk_at dksX4_ring_2 6 rfl rfl)
theorem dX4_ring_57 : decode cX4_ring 57 = .ok (.iastore, 1) := dk_79 (dk_at dksX4_ring_2 9 rfl rfl)
theorem dX4_ring_58 : decode cX4_ring 58 = .ok (.iinc 3 1, 3) := dk_132 3 1 (dk_at dksX4_ring_2 10 rfl rfl)
theorem dX4_ring_61 : decode cX4_ring 61 = .ok (.goto (-28), 3) := dk_167 255 228 (dk_at dksX4_ring_2 13 rfl rfl)
theorem dX4_ring_64 : decode cX4_ring 64 = .ok (.aload_n 0, 1) := dk_42 (dk_at dksX4_ring_2 16 rfl rfl)
theorem dX4_ring_65 : decode cX4_ring 65 = .ok (.invokevirtual 360, 3) := dk_182 1 104 (dk_at dksX4_ring_2 17 rfl rfl)
theorem dX4_ring_68 : decode cX4_ring 68 = .ok (.iinc 2 1, 3) := dk_132 2 1 (dk_at dksX4_ring_2 20 rfl rfl)
theorem dX4_ring_71 : decode cX4_ring 71 = .ok (.goto (-46), 3) := dk_167 255 210 (dk_at dksX4_ring_3 0 rfl rfl)
theorem dX4_ring_74 : decode cX4_ring 74 = .ok (.aload_n 0, 1) := dk_42 (dk_at dksX4_ring_3 3 rfl rfl)
theorem dX4_ring_75 : decode cX4_ring 75 = .ok (.invokevirtual 381, 3) := dk_182 1 125 (dk_at dksX4_ring_3 4 rfl rfl)
theorem dX4_ring_78 : decode cX4_ring 78 = .ok (.iconst 0, 1) := dk_3 (dk_at dksX4_ring_3 7 rfl rfl)
theorem dX4_ring_79 : decode cX4_ring 79 = .ok (.istore_n 2, 1) := dk_61 (dk_at dksX4_ring_3 8 rfl rfl)
theorem dX4_ring_80 : decode cX4_ring 80 = .ok (.iload_n 2, 1) := dk_28 (dk_at dksX4_ring_3 9 rfl rfl)
theorem dX4_ring_81 : decode cX4_ring 81 = .ok (.bipush 60, 2) := dk_16 60 (dk_at dksX4_ring_3 10 rfl rfl)
theorem dX4_ring_83 : decode cX4_ring 83 = .ok (.if_icmp .ge 54, 3) := dk_162 0 54 (dk_at dksX4_ring_3 12 rfl rfl)
theorem dX4_ring_86 : decode cX4_ring 86 = .ok (.iload_n 2, 1) := dk_28 (dk_at dksX4_ring_3 15 rfl rfl)
theorem dX4_ring_87 : decode cX4_ring 87 = .ok (.iconst 1, 1) := dk_4 (dk_at dksX4_ring_3 16 rfl rfl)
theorem dX4_ring_88 : decode cX4_ring 88 = .ok (.iadd, 1) := dk_96 (dk_at dksX4_ring_3 17 rfl rfl)
theorem dX4_ring_89 : decode cX4_ring 89 = .ok (.istore_n 3, 1) := dk_62 (dk_at dksX4_ring_3 18 rfl rfl)
theorem dX4_ring_90 : decode cX4_ring 90 = .ok (.iload_n 3, 1) := dk_29 (dk_at dksX4_ring_3 19 rfl rfl)
theorem dX4_ring_91 : decode cX4_ring 91 = .ok (.bipush 60, 2) := dk_16 60 (dk_at dksX4_ring_3 20 rfl rfl)
theorem dX4_ring_93 : decode cX4_ring 93 = .ok (.if_icmp .gt 38, 3) := dk_163 0 38 (dk_at dksX4_ring_4 0 rfl rfl)
theorem dX4_ring_96 : decode cX4_ring 96 = .ok (.aload_n 0, 1) := dk_42 (dk_at dksX4_ring_4 3 rfl rfl)
theorem dX4_ring_97 : decode cX4_ring 97 = .ok (.iload_n 2, 1) := dk_28 (dk_at dksX4_ring_4 4 rfl rfl)
theorem dX4_ring_98 : decode cX4_ring 98 = .ok (.iload_n 3, 1) := dk_29 (dk_at dksX4_ring_4 5 rfl rfl)
theorem dX4_ring_99 : decode cX4_ring 99 = .ok (.invokevirtual 416, 3) := dk_182 1 160 (dk_at dksX4_ring_4 6 rfl rfl)
theorem dX4_ring_102 : decode cX4_ring 102 = .ok (.ifCond .eq 23, 3) := dk_153 0 23 (dk_at dksX4_ring_4 9 rfl rfl)
theorem dX4_ring_105 : decode cX4_ring 105 = .ok (.iload_n 1, 1) := dk_27 (dk_at dksX4_ring_4 12 rfl rfl)
theorem dX4_ring_106 : decode cX4_ring 106 = .ok (.ifCond .ne 15, 3) := dk_154 0 15 (dk_at dksX4_ring_4 13 rfl rfl)
theorem dX4_ring_109 : decode cX4_ring 109 = .ok (.aload_n 0, 1) := dk_42 (dk_at dksX4_ring_4 16 rfl rfl)
theorem dX4_ring_110 : decode cX4_ring 110 = .ok (.getfield 39, 3) := dk_180 0 39 (dk_at dksX4_ring_4 17 rfl rfl)
theorem dX4_ring_113 : decode cX4_ring 113 = .ok (.bipush 10, 2) := dk_16 10 (dk_at dksX4_ring_4 20 rfl rfl)
theorem dX4_ring_115 : decode cX4_ring 115 = .ok (.iaload, 1) := dk_46 (dk_at dksX4_ring_4 22 rfl rfl)
theorem dX4_ring_116 : decode cX4_ring 116 = .ok (.iload_n 2, 1) := dk_28 (dk_at dksX4_ring_4 23 rfl rfl)
theorem dX4_ring_117 : decode cX4_ring 117 = .ok (.iadd, 1) := dk_96 (dk_at dksX4_ring_5 0 rfl rfl)
theorem dX4_ring_118 : decode cX4_ring 118 = .ok (.goto 6, 3) := dk_167 0 6 (dk_at dksX4_ring_5 1 rfl rfl)
theorem dX4_ring_121 : decode cX4_ring 121 = .ok (.iload_n 3, 1) := dk_29 (dk_at dksX4_ring_5 4 rfl rfl)
theorem dX4_ring_122 : decode cX4_ring 122 = .ok (.iload_n 2, 1) := dk_28 (dk_at dksX4_ring_5 5 rfl rfl)
theorem dX4_ring_123 : decode cX4_ring 123 = .ok (.isub, 1) := dk_100 (dk_at dksX4_ring_5 6 rfl rfl)
theorem dX4_ring_124 : decode cX4_ring 124 = .ok (.ireturn, 1) := dk_172 (dk_at dksX4_ring_5 7 rfl rfl)
theorem dX4_ring_125 : decode cX4_ring 125 = .ok (.iinc 3 1, 3) := dk_132 3 1 (dk_at dksX4_ring_5 8 rfl rfl)
theorem dX4_ring_128 : decode cX4_ring 128 = .ok (.goto (-38), 3) := dk_167 255 218 (dk_at dksX4_ring_5 11 rfl rfl)
theorem dX4_ring_131 : decode cX4_ring 131 = .ok (.iinc 2 1, 3) := dk_132 2 1 (dk_at dksX4_ring_5 14 rfl rfl)
theorem dX4_ring_134 : decode cX4_ring 134 = .ok (.goto (-54), 3) := dk_167 255 202 (dk_at dksX4_ring_5 17 rfl rfl)
theorem dX4_ring_137 : decode cX4_ring 137 = .ok (.bipush (-2), 2) := dk_16 254 (dk_at dksX4_ring_5 20 rfl rfl)
theorem dX4_ring_139 : decode cX4_ring 139 = .ok (.ireturn, 1) := dk_172 (dk_at dksX4_ring_5 22 rfl rfl)
abbrev cX4_whereOf : ByteArray := prog_19_method_100_code
def yX4_whereOf : MethodName := ⟨RX4, "whereOf", "(I)I"⟩
def dkwX4_whereOf_3 : List UInt8 := [42, 180, 0, 39, 28, 4, 96, 46, 96, 172]
abbrev dktX4_whereOf_3 : List UInt8 := dkwX4_whereOf_3 ++ []
def dkwX4_whereOf_2 : List UInt8 := [180, 0, 39, 28, 7, 96, 46, 96, 167, 0, 4, 3, 62, 7, 6, 29, 104, 42, 27, 182, 1, 41, 96, 104]
abbrev dktX4_whereOf_2 : List UInt8 := dkwX4_whereOf_2 ++ dktX4_whereOf_3
def dkwX4_whereOf_1 : List UInt8 := [167, 0, 36, 42, 27, 182, 1, 41, 4, 160, 0, 26, 16, 10, 42, 180, 0, 39, 28, 8, 96, 46, 104, 42]
abbrev dktX4_whereOf_1 : List UInt8 := dkwX4_whereOf_1 ++ dktX4_whereOf_2
def dkwX4_whereOf_0 : List UInt8 := [16, 11, 16, 7, 27, 104, 96, 61, 42, 27, 182, 1, 41, 154, 0, 12, 42, 180, 0, 39, 28, 46]
abbrev dktX4_whereOf_0 : List UInt8 := dkwX4_whereOf_0 ++ dktX4_whereOf_1
theorem dksX4_whereOf_0 : cX4_whereOf.data.toList.drop 0 = dktX4_whereOf_0 := by decide +kernel
theorem dksX4_whereOf_1 : cX4_whereOf.data.toList.drop 22 = dktX4_whereOf_1 := dk_seg dksX4_whereOf_0 22 rfl rfl
theorem dksX4_whereOf_2 : cX4_whereOf.data.toList.drop 46 = dktX4_whereOf_2 := dk_seg dksX4_whereOf_1 24 rfl rfl
theorem dksX4_whereOf_3 : cX4_whereOf.data.toList.drop 70 = dktX4_whereOf_3 := dk_seg dksX4_whereOf_2 24 rfl rfl
theorem dX4_whereOf_0 : decode cX4_whereOf 0 = .ok (.bipush 11, 2) := dk_16 11 (dk_at dksX4_whereOf_0 0 rfl rfl)
theorem dX4_whereOf_2 : decode cX4_whereOf 2 = .ok (.bipush 7, 2) := dk_16 7 (dk_at dksX4_whereOf_0 2 rfl rfl)
theorem dX4_whereOf_4 : decode cX4_whereOf 4 = .ok (.iload_n 1, 1) := dk_27 (dk_at dksX4_whereOf_0 4 rfl rfl)
theorem dX4_whereOf_5 : decode cX4_whereOf 5 = .ok (.imul, 1) := dk_104 (dk_at dksX4_whereOf_0 5 rfl rfl)
theorem dX4_whereOf_6 : decode cX4_whereOf 6 = .ok (.iadd, 1) := dk_96 (dk_at dksX4_whereOf_0 6 rfl rfl)
theorem dX4_whereOf_7 : decode cX4_whereOf 7 = .ok (.istore_n 2, 1) := dk_61 (dk_at dksX4_whereOf_0 7 rfl rfl)
theorem dX4_whereOf_8 : decode cX4_whereOf 8 = .ok (.aload_n 0, 1) := dk_42 (dk_at dksX4_whereOf_0 8 rfl rfl)
theorem dX4_whereOf_9 : decode cX4_whereOf 9 = .ok (.iload_n 1, 1) := dk_27 (dk_at dksX4_whereOf_0 9 rfl rfl)
theorem dX4_whereOf_10 : decode cX4_whereOf 10 = .ok (.invokevirtual 297, 3) := dk_182 1 41 (dk_at dksX4_whereOf_0 10 rfl rfl)
theorem dX4_whereOf_13 : decode cX4_whereOf 13 = .ok (.ifCond .ne 12, 3) := dk_154 0 12 (dk_at dksX4_whereOf_0 13 rfl rfl)
theorem dX4_whereOf_16 : decode cX4_whereOf 16 = .ok (.aload_n 0, 1) := dk_42 (dk_at dksX4_whereOf_0 16 rfl rfl)
theorem dX4_whereOf_17 : decode cX4_whereOf 17 = .ok (.getfield 39, 3) := dk_180 0 39 (dk_at dksX4_whereOf_0 17 rfl rfl)
theorem dX4_whereOf_20 : decode cX4_whereOf 20 = .ok (.iload_n 2, 1) := dk_28 (dk_at dksX4_whereOf_0 20 rfl rfl)
theorem dX4_whereOf_21 : decode cX4_whereOf 21 = .ok (.iaload, 1) := dk_46 (dk_at dksX4_whereOf_0 21 rfl rfl)
theorem dX4_whereOf_22 : decode cX4_whereOf 22 = .ok (.goto 36, 3) := dk_167 0 36 (dk_at dksX4_whereOf_1 0 rfl rfl)
theorem dX4_whereOf_25 : decode cX4_whereOf 25 = .ok (.aload_n 0, 1) := dk_42 (dk_at dksX4_whereOf_1 3 rfl rfl)
theorem dX4_whereOf_26 : decode cX4_whereOf 26 = .ok (.iload_n 1, 1) := dk_27 (dk_at dksX4_whereOf_1 4 rfl rfl)
theorem dX4_whereOf_27 : decode cX4_whereOf 27 = .ok (.invokevirtual 297, 3) := dk_182 1 41 (dk_at dksX4_whereOf_1 5 rfl rfl)
theorem dX4_whereOf_30 : decode cX4_whereOf 30 = .ok (.iconst 1, 1) := dk_4 (dk_at dksX4_whereOf_1 8 rfl rfl)
theorem dX4_whereOf_31 : decode cX4_whereOf 31 = .ok (.if_icmp .ne 26, 3) := dk_160 0 26 (dk_at dksX4_whereOf_1 9 rfl rfl)
theorem dX4_whereOf_34 : decode cX4_whereOf 34 = .ok (.bipush 10, 2) := dk_16 10 (dk_at dksX4_whereOf_1 12 rfl rfl)
theorem dX4_whereOf_36 : decode cX4_whereOf 36 = .ok (.aload_n 0, 1) := dk_42 (dk_at dksX4_whereOf_1 14 rfl rfl)
theorem dX4_whereOf_37 : decode cX4_whereOf 37 = .ok (.getfield 39, 3) := dk_180 0 39 (dk_at dksX4_whereOf_1 15 rfl rfl)
theorem dX4_whereOf_40 : decode cX4_whereOf 40 = .ok (.iload_n 2, 1) := dk_28 (dk_at dksX4_whereOf_1 18 rfl rfl)
theorem dX4_whereOf_41 : decode cX4_whereOf 41 = .ok (.iconst 5, 1) := dk_8 (dk_at dksX4_whereOf_1 19 rfl rfl)
theorem dX4_whereOf_42 : decode cX4_whereOf 42 = .ok (.iadd, 1) := dk_96 (dk_at dksX4_whereOf_1 20 rfl rfl)
theorem dX4_whereOf_43 : decode cX4_whereOf 43 = .ok (.iaload, 1) := dk_46 (dk_at dksX4_whereOf_1 21 rfl rfl)
theorem dX4_whereOf_44 : decode cX4_whereOf 44 = .ok (.imul, 1) := dk_104 (dk_at dksX4_whereOf_1 22 rfl rfl)
theorem dX4_whereOf_45 : decode cX4_whereOf 45 = .ok (.aload_n 0, 1) := dk_42 (dk_at dksX4_whereOf_1 23 rfl rfl)
theorem dX4_whereOf_46 : decode cX4_whereOf 46 = .ok (.getfield 39, 3) := dk_180 0 39 (dk_at dksX4_whereOf_2 0 rfl rfl)
theorem dX4_whereOf_49 : decode cX4_whereOf 49 = .ok (.iload_n 2, 1) := dk_28 (dk_at dksX4_whereOf_2 3 rfl rfl)
theorem dX4_whereOf_50 : decode cX4_whereOf 50 = .ok (.iconst 4, 1) := dk_7 (dk_at dksX4_whereOf_2 4 rfl rfl)
theorem dX4_whereOf_51 : decode cX4_whereOf 51 = .ok (.iadd, 1) := dk_96 (dk_at dksX4_whereOf_2 5 rfl rfl)
theorem dX4_whereOf_52 : decode cX4_whereOf 52 = .ok (.iaload, 1) := dk_46 (dk_at dksX4_whereOf_2 6 rfl rfl)
theorem dX4_whereOf_53 : decode cX4_whereOf 53 = .ok (.iadd, 1) := dk_96 (dk_at dksX4_whereOf_2 7 rfl rfl)
theorem dX4_whereOf_54 : decode cX4_whereOf 54 = .ok (.goto 4, 3) := dk_167 0 4 (dk_at dksX4_whereOf_2 8 rfl rfl)
theorem dX4_whereOf_57 : decode cX4_whereOf 57 = .ok (.iconst 0, 1) := dk_3 (dk_at dksX4_whereOf_2 11 rfl rfl)
theorem dX4_whereOf_58 : decode cX4_whereOf 58 = .ok (.istore_n 3, 1) := dk_62 (dk_at dksX4_whereOf_2 12 rfl rfl)
theorem dX4_whereOf_59 : decode cX4_whereOf 59 = .ok (.iconst 4, 1) := dk_7 (dk_at dksX4_whereOf_2 13 rfl rfl)
theorem dX4_whereOf_60 : decode cX4_whereOf 60 = .ok (.iconst 3, 1) := dk_6 (dk_at dksX4_whereOf_2 14 rfl rfl)
theorem dX4_whereOf_61 : decode cX4_whereOf 61 = .ok (.iload_n 3, 1) := dk_29 (dk_at dksX4_whereOf_2 15 rfl rfl)
theorem dX4_whereOf_62 : decode cX4_whereOf 62 = .ok (.imul, 1) := dk_104 (dk_at dksX4_whereOf_2 16 rfl rfl)
theorem dX4_whereOf_63 : decode cX4_whereOf 63 = .ok (.aload_n 0, 1) := dk_42 (dk_at dksX4_whereOf_2 17 rfl rfl)
theorem dX4_whereOf_64 : decode cX4_whereOf 64 = .ok (.iload_n 1, 1) := dk_27 (dk_at dksX4_whereOf_2 18 rfl rfl)
theorem dX4_whereOf_65 : decode cX4_whereOf 65 = .ok (.invokevirtual 297, 3) := dk_182 1 41 (dk_at dksX4_whereOf_2 19 rfl rfl)
theorem dX4_whereOf_68 : decode cX4_whereOf 68 = .ok (.iadd, 1) := dk_96 (dk_at dksX4_whereOf_2 22 rfl rfl)
theorem dX4_whereOf_69 : decode cX4_whereOf 69 = .ok (.imul, 1) := dk_104 (dk_at dksX4_whereOf_2 23 rfl rfl)
theorem dX4_whereOf_70 : decode cX4_whereOf 70 = .ok (.aload_n 0, 1) := dk_42 (dk_at dksX4_whereOf_3 0 rfl rfl)
theorem dX4_whereOf_71 : decode cX4_whereOf 71 = .ok (.getfield 39, 3) := dk_180 0 39 (dk_at dksX4_whereOf_3 1 rfl rfl)
theorem dX4_whereOf_74 : decode cX4_whereOf 74 = .ok (.iload_n 2, 1) := dk_28 (dk_at dksX4_whereOf_3 4 rfl rfl)
theorem dX4_whereOf_75 : decode cX4_whereOf 75 = .ok (.iconst 1, 1) := dk_4 (dk_at dksX4_whereOf_3 5 rfl rfl)
theorem dX4_whereOf_76 : decode cX4_whereOf 76 = .ok (.iadd, 1) := dk_96 (dk_at dksX4_whereOf_3 6 rfl rfl)
theorem dX4_whereOf_77 : decode cX4_whereOf 77 = .ok (.iaload, 1) := dk_46 (dk_at dksX4_whereOf_3 7 rfl rfl)
theorem dX4_whereOf_78 : decode cX4_whereOf 78 = .ok (.iadd, 1) := dk_96 (dk_at dksX4_whereOf_3 8 rfl rfl)
theorem dX4_whereOf_79 : decode cX4_whereOf 79 = .ok (.ireturn, 1) := dk_172 (dk_at dksX4_whereOf_3 9 rfl rfl)
abbrev cX4_areAlike : ByteArray := prog_19_method_101_code
def yX4_areAlike : MethodName := ⟨RX4, "areAlike", "(II)Z"⟩
def dkwX4_areAlike_1 : List UInt8 := [180, 0, 65, 8, 28, 104, 29, 96, 46, 159, 0, 5, 3, 172, 132, 3, 1, 167, 255, 218, 4, 172]
abbrev dktX4_areAlike_1 : List UInt8 := dkwX4_areAlike_1 ++ []
def dkwX4_areAlike_0 : List UInt8 := [3, 62, 29, 42, 180, 0, 39, 5, 46, 162, 0, 34, 42, 180, 0, 65, 8, 27, 104, 29, 96, 46, 42]
abbrev dktX4_areAlike_0 : List UInt8 := dkwX4_areAlike_0 ++ dktX4_areAlike_1
theorem dksX4_areAlike_0 : cX4_areAlike.data.toList.drop 0 = dktX4_areAlike_0 := by decide +kernel
theorem dksX4_areAlike_1 : cX4_areAlike.data.toList.drop 23 = dktX4_areAlike_1 := dk_seg dksX4_areAlike_0 23 rfl rfl
theorem dX4_areAlike_0 : decode cX4_areAlike 0 = .ok (.iconst 0, 1) := dk_3 (dk_at dksX4_areAlike_0 0 rfl rfl)
theorem dX4_areAlike_1 : decode cX4_areAlike 1 = .ok (.istore_n 3, 1) := dk_62 (dk_at dksX4_areAlike_0 1 rfl rfl)
theorem dX4_areAlike_2 : decode cX4_areAlike 2 = .ok (.iload_n 3, 1) := dk_29 (dk_at dksX4_areAlike_0 2 rfl rfl)
theorem dX4_areAlike_3 : decode cX4_areAlike 3 = .ok (.aload_n 0, 1) := dk_42 (dk_at dksX4_areAlike_0 3 rfl rfl)
theorem dX4_areAlike_4 : decode cX4_areAlike 4 = .ok (.getfield 39, 3) := dk_180 0 39 (dk_at dksX4_areAlike_0 4 rfl rfl)
theorem dX4_areAlike_7 : decode cX4_areAlike 7 = .ok (.iconst 2, 1) := dk_5 (dk_at dksX4_areAlike_0 7 rfl rfl)
theorem dX4_areAlike_8 : decode cX4_areAlike 8 = .ok (.iaload, 1) := dk_46 (dk_at dksX4_areAlike_0 8 rfl rfl)
theorem dX4_areAlike_9 : decode cX4_areAlike 9 = .ok (.if_icmp .ge 34, 3) := dk_162 0 34 (dk_at dksX4_areAlike_0 9 rfl rfl)
theorem dX4_areAlike_12 : decode cX4_areAlike 12 = .ok (.aload_n 0, 1) := dk_42 (dk_at dksX4_areAlike_0 12 rfl rfl)
theorem dX4_areAlike_13 : decode cX4_areAlike 13 = .ok (.getfield 65, 3) := dk_180 0 65 (dk_at dksX4_areAlike_0 13 rfl rfl)
theorem dX4_areAlike_16 : decode cX4_areAlike 16 = .ok (.iconst 5, 1) := dk_8 (dk_at dksX4_areAlike_0 16 rfl rfl)
theorem dX4_areAlike_17 : decode cX4_areAlike 17 = .ok (.iload_n 1, 1) := dk_27 (dk_at dksX4_areAlike_0 17 rfl rfl)
theorem dX4_areAlike_18 : decode cX4_areAlike 18 = .ok (.imul, 1) := dk_104 (dk_at dksX4_areAlike_0 18 rfl rfl)
theorem dX4_areAlike_19 : decode cX4_areAlike 19 = .ok (.iload_n 3, 1) := dk_29 (dk_at dksX4_areAlike_0 19 rfl rfl)
theorem dX4_areAlike_20 : decode cX4_areAlike 20 = .ok (.iadd, 1) := dk_96 (dk_at dksX4_areAlike_0 20 rfl rfl)
theorem dX4_areAlike_21 : decode cX4_areAlike 21 = .ok (.iaload, 1) := dk_46 (dk_at dksX4_areAlike_0 21 rfl rfl)
theorem dX4_areAlike_22 : decode cX4_areAlike 22 = .ok (.aload_n 0, 1) := dk_42 (dk_at dksX4_areAlike_0 22 rfl rfl)
theorem dX4_areAlike_23 : decode cX4_areAlike 23 = .ok (.getfield 65, 3) := dk_180 0 65 (dk_at dksX4_areAlike_1 0 rfl rfl)
theorem dX4_areAlike_26 : decode cX4_areAlike 26 = .ok (.iconst 5, 1) := dk_8 (dk_at dksX4_areAlike_1 3 rfl rfl)
theorem dX4_areAlike_27 : decode cX4_areAlike 27 = .ok (.iload_n 2, 1) := dk_28 (dk_at dksX4_areAlike_1 4 rfl rfl)
theorem dX4_areAlike_28 : decode cX4_areAlike 28 = .ok (.imul, 1) := dk_104 (dk_at dksX4_areAlike_1 5 rfl rfl)
theorem dX4_areAlike_29 : decode cX4_areAlike 29 = .ok (.iload_n 3, 1) := dk_29 (dk_at dksX4_areAlike_1 6 rfl rfl)
theorem dX4_areAlike_30 : decode cX4_areAlike 30 = .ok (.iadd, 1) := dk_96 (dk_at dksX4_areAlike_1 7 rfl rfl)
theorem dX4_areAlike_31 : decode cX4_areAlike 31 = .ok (.iaload, 1) := dk_46 (dk_at dksX4_areAlike_1 8 rfl rfl)
theorem dX4_areAlike_32 : decode cX4_areAlike 32 = .ok (.if_icmp .eq 5, 3) := dk_159 0 5 (dk_at dksX4_areAlike_1 9 rfl rfl)
theorem dX4_areAlike_35 : decode cX4_areAlike 35 = .ok (.iconst 0, 1) := dk_3 (dk_at dksX4_areAlike_1 12 rfl rfl)
theorem dX4_areAlike_36 : decode cX4_areAlike 36 = .ok (.ireturn, 1) := dk_172 (dk_at dksX4_areAlike_1 13 rfl rfl)
theorem dX4_areAlike_37 : decode cX4_areAlike 37 = .ok (.iinc 3 1, 3) := dk_132 3 1 (dk_at dksX4_areAlike_1 14 rfl rfl)
theorem dX4_areAlike_40 : decode cX4_areAlike 40 = .ok (.goto (-38), 3) := dk_167 255 218 (dk_at dksX4_areAlike_1 17 rfl rfl)
theorem dX4_areAlike_43 : decode cX4_areAlike 43 = .ok (.iconst 1, 1) := dk_4 (dk_at dksX4_areAlike_1 20 rfl rfl)
theorem dX4_areAlike_44 : decode cX4_areAlike 44 = .ok (.ireturn, 1) := dk_172 (dk_at dksX4_areAlike_1 21 rfl rfl)
abbrev cX4_bread : ByteArray := prog_19_method_104_code
def yX4_bread : MethodName := ⟨RX4, "bread", "(II)I"⟩
def dkwX4_bread_8 : List UInt8 := [21, 5, 162, 0, 7, 4, 167, 0, 4, 3, 96, 172]
abbrev dktX4_bread_8 : List UInt8 := dkwX4_bread_8 ++ []
def dkwX4_bread_7 : List UInt8 := [159, 0, 7, 4, 167, 0, 4, 3, 96, 54, 6, 132, 7, 1, 167, 255, 163, 21, 4, 29, 108, 21, 6]
abbrev dktX4_bread_7 : List UInt8 := dkwX4_bread_7 ++ dktX4_bread_8
def dkwX4_bread_6 : List UInt8 := [162, 0, 7, 4, 167, 0, 4, 3, 54, 9, 21, 6, 21, 9, 153, 0, 17, 42, 21, 7, 182, 1, 41, 5]
abbrev dktX4_bread_6 : List UInt8 := dkwX4_bread_6 ++ dktX4_bread_7
def dkwX4_bread_5 : List UInt8 := [29, 112, 21, 4, 29, 112, 163, 0, 20, 21, 8, 29, 112, 21, 4, 29, 112, 160, 0, 13, 21, 7, 28]
abbrev dktX4_bread_5 : List UInt8 := dkwX4_bread_5 ++ dktX4_bread_6
def dkwX4_bread_4 : List UInt8 := [162, 0, 88, 27, 42, 21, 7, 182, 1, 165, 104, 54, 8, 21, 5, 21, 8, 29, 108, 100, 54, 5, 21, 8]
abbrev dktX4_bread_4 : List UInt8 := dkwX4_bread_4 ++ dktX4_bread_5
def dkwX4_bread_3 : List UInt8 := [182, 1, 165, 104, 54, 4, 27, 54, 5, 3, 54, 6, 3, 54, 7, 21, 7, 42, 180, 0, 39, 5, 46]
abbrev dktX4_bread_3 : List UInt8 := dkwX4_bread_3 ++ dktX4_bread_4
def dkwX4_bread_2 : List UInt8 := [132, 4, 1, 167, 255, 233, 29, 153, 0, 12, 42, 28, 182, 1, 41, 5, 160, 0, 5, 3, 172, 27, 42, 28]
abbrev dktX4_bread_2 : List UInt8 := dkwX4_bread_2 ++ dktX4_bread_3
def dkwX4_bread_1 : List UInt8 := [3, 54, 4, 21, 4, 42, 180, 0, 39, 5, 46, 162, 0, 18, 29, 42, 21, 4, 182, 1, 165, 96, 62]
abbrev dktX4_bread_1 : List UInt8 := dkwX4_bread_1 ++ dktX4_bread_2
def dkwX4_bread_0 : List UInt8 := [42, 28, 182, 1, 54, 153, 0, 15, 27, 133, 9, 20, 1, 163, 184, 0, 124, 154, 0, 5, 2, 172, 3, 62]
abbrev dktX4_bread_0 : List UInt8 := dkwX4_bread_0 ++ dktX4_bread_1
theorem dksX4_bread_0 : cX4_bread.data.toList.drop 0 = dktX4_bread_0 := by decide +kernel
theorem dksX4_bread_1 : cX4_bread.data.toList.drop 24 = dktX4_bread_1 := dk_seg dksX4_bread_0 24 rfl rfl
theorem dksX4_bread_2 : cX4_bread.data.toList.drop 47 = dktX4_bread_2 := dk_seg dksX4_bread_1 23 rfl rfl
theorem dksX4_bread_3 : cX4_bread.data.toList.drop 71 = dktX4_bread_3 := dk_seg dksX4_bread_2 24 rfl rfl
theorem dksX4_bread_4 : cX4_bread.data.toList.drop 94 = dktX4_bread_4 := dk_seg dksX4_bread_3 23 rfl rfl
theorem dksX4_bread_5 : cX4_bread.data.toList.drop 118 = dktX4_bread_5 := dk_seg dksX4_bread_4 24 rfl rfl
theorem dksX4_bread_6 : cX4_bread.data.toList.drop 141 = dktX4_bread_6 := dk_seg dksX4_bread_5 23 rfl rfl
theorem dksX4_bread_7 : cX4_bread.data.toList.drop 165 = dktX4_bread_7 := dk_seg dksX4_bread_6 24 rfl rfl
theorem dksX4_bread_8 : cX4_bread.data.toList.drop 188 = dktX4_bread_8 := dk_seg dksX4_bread_7 23 rfl rfl
theorem dX4_bread_0 : decode cX4_bread 0 = .ok (.aload_n 0, 1) := dk_42 (dk_at dksX4_bread_0 0 rfl rfl)
theorem dX4_bread_1 : decode cX4_bread 1 = .ok (.iload_n 2, 1) := dk_28 (dk_at dksX4_bread_0 1 rfl rfl)
theorem dX4_bread_2 : decode cX4_bread 2 = .ok (.invokevirtual 310, 3) := dk_182 1 54 (dk_at dksX4_bread_0 2 rfl rfl)
theorem dX4_bread_5 : decode cX4_bread 5 = .ok (.ifCond .eq 15, 3) := dk_153 0 15 (dk_at dksX4_bread_0 5 rfl rfl)
theorem dX4_bread_8 : decode cX4_bread 8 = .ok (.iload_n 1, 1) := dk_27 (dk_at dksX4_bread_0 8 rfl rfl)
theorem dX4_bread_9 : decode cX4_bread 9 = .ok (.i2l, 1) := dk_133 (dk_at dksX4_bread_0 9 rfl rfl)
theorem dX4_bread_10 : decode cX4_bread 10 = .ok (.lconst 0, 1) := dk_9 (dk_at dksX4_bread_0 10 rfl rfl)
theorem dX4_bread_11 : decode cX4_bread 11 = .ok (.ldc2_w 419, 3) := dk_20 1 163 (dk_at dksX4_bread_0 11 rfl rfl)
theorem dX4_bread_14 : decode cX4_bread 14 = .ok (.invokestatic 124, 3) := dk_184 0 124 (dk_at dksX4_bread_0 14 rfl rfl)
theorem dX4_bread_17 : decode cX4_bread 17 = .ok (.ifCond .ne 5, 3) := dk_154 0 5 (dk_at dksX4_bread_0 17 rfl rfl)
theorem dX4_bread_20 : decode cX4_bread 20 = .ok (.iconst (-1), 1) := dk_2 (dk_at dksX4_bread_0 20 rfl rfl)
theorem dX4_bread_21 : decode cX4_bread 21 = .ok (.ireturn, 1) := dk_172 (dk_at dksX4_bread_0 21 rfl rfl)
theorem dX4_bread_22 : decode cX4_bread 22 = .ok (.iconst 0, 1) := dk_3 (dk_at dksX4_bread_0 22 rfl rfl)
theorem dX4_bread_23 : decode cX4_bread 23 = .ok (.istore_n 3, 1) := dk_62 (dk_at dksX4_bread_0 23 rfl rfl)
theorem dX4_bread_24 : decode cX4_bread 24 = .ok (.iconst 0, 1) := dk_3 (dk_at dksX4_bread_1 0 rfl rfl)
theorem dX4_bread_25 : decode cX4_bread 25 = .ok (.istore 4, 2) := dk_54 4 (dk_at dksX4_bread_1 1 rfl rfl)
theorem dX4_bread_27 : decode cX4_bread 27 = .ok (.iload 4, 2) := dk_21 4 (dk_at dksX4_bread_1 3 rfl rfl)
theorem dX4_bread_29 : decode cX4_bread 29 = .ok (.aload_n 0, 1) := dk_42 (dk_at dksX4_bread_1 5 rfl rfl)
theorem dX4_bread_30 : decode cX4_bread 30 = .ok (.getfield 39, 3) := dk_180 0 39 (dk_at dksX4_bread_1 6 rfl rfl)
theorem dX4_bread_33 : decode cX4_bread 33 = .ok (.iconst 2, 1) := dk_5 (dk_at dksX4_bread_1 9 rfl rfl)
theorem dX4_bread_34 : decode cX4_bread 34 = .ok (.iaload, 1) := dk_46 (dk_at dksX4_bread_1 10 rfl rfl)
theorem dX4_bread_35 : decode cX4_bread 35 = .ok (.if_icmp .ge 18, 3) := dk_162 0 18 (dk_at dksX4_bread_1 11 rfl rfl)
theorem dX4_bread_38 : decode cX4_bread 38 = .ok (.iload_n 3, 1) := dk_29 (dk_at dksX4_bread_1 14 rfl rfl)
theorem dX4_bread_39 : decode cX4_bread 39 = .ok (.aload_n 0, 1) := dk_42 (dk_at dksX4_bread_1 15 rfl rfl)
theorem dX4_bread_40 : decode cX4_bread 40 = .ok (.iload 4, 2) := dk_21 4 (dk_at dksX4_bread_1 16 rfl rfl)
theorem dX4_bread_42 : decode cX4_bread 42 = .ok (.invokevirtual 421, 3) := dk_182 1 165 (dk_at dksX4_bread_1 18 rfl rfl)
theorem dX4_bread_45 : decode cX4_bread 45 = .ok (.iadd, 1) := dk_96 (dk_at dksX4_bread_1 21 rfl rfl)
theorem dX4_bread_46 : decode cX4_bread 46 = .ok (.istore_n 3, 1) := dk_62 (dk_at dksX4_bread_1 22 rfl rfl)
theorem dX4_bread_47 : decode cX4_bread 47 = .ok (.iinc 4 1, 3) := dk_132 4 1 (dk_at dksX4_bread_2 0 rfl rfl)
theorem dX4_bread_50 : decode cX4_bread 50 = .ok (.goto (-23), 3) := dk_167 255 233 (dk_at dksX4_bread_2 3 rfl rfl)
theorem dX4_bread_53 : decode cX4_bread 53 = .ok (.iload_n 3, 1) := dk_29 (dk_at dksX4_bread_2 6 rfl rfl)
theorem dX4_bread_54 : decode cX4_bread 54 = .ok (.ifCond .eq 12, 3) := dk_153 0 12 (dk_at dksX4_bread_2 7 rfl rfl)
theorem dX4_bread_57 : decode cX4_bread 57 = .ok (.aload_n 0, 1) := dk_42 (dk_at dksX4_bread_2 10 rfl rfl)
theorem dX4_bread_58 : decode cX4_bread 58 = .ok (.iload_n 2, 1) := dk_28 (dk_at dksX4_bread_2 11 rfl rfl)
theorem dX4_bread_59 : decode cX4_bread 59 = .ok (.invokevirtual 297, 3) := dk_182 1 41 (dk_at dksX4_bread_2 12 rfl rfl)
theorem dX4_bread_62 : decode cX4_bread 62 = .ok (.iconst 2, 1) := dk_5 (dk_at dksX4_bread_2 15 rfl rfl)
theorem dX4_bread_63 : decode cX4_bread 63 = .ok (.if_icmp .ne 5, 3) := dk_160 0 5 (dk_at dksX4_bread_2 16 rfl rfl)
theorem dX4_bread_66 : decode cX4_bread 66 = .ok (.iconst 0, 1) := dk_3 (dk_at dksX4_bread_2 19 rfl rfl)
theorem dX4_bread_67 : decode cX4_bread 67 = .ok (.ireturn, 1) := dk_172 (dk_at dksX4_bread_2 20 rfl rfl)
theorem dX4_bread_68 : decode cX4_bread 68 = .ok (.iload_n 1, 1) := dk_27 (dk_at dksX4_bread_2 21 rfl rfl)
theorem dX4_bread_69 : decode cX4_bread 69 = .ok (.aload_n 0, 1) := dk_42 (dk_at dksX4_bread_2 22 rfl rfl)
theorem dX4_bread_70 : decode cX4_bread 70 = .ok (.iload_n 2, 1) := dk_28 (dk_at dksX4_bread_2 23 rfl rfl)
theorem dX4_bread_71 : decode cX4_bread 71 = .ok (.invokevirtual 421, 3) := dk_182 1 165 (dk_at dksX4_bread_3 0 rfl rfl)
theorem dX4_bread_74 : decode cX4_bread 74 = .ok (.imul, 1) := dk_104 (dk_at dksX4_bread_3 3 rfl rfl)
theorem dX4_bread_75 : decode cX4_bread 75 = .ok (.istore 4, 2) := dk_54 4 (dk_at dksX4_bread_3 4 rfl rfl)
theorem dX4_bread_77 : decode cX4_bread 77 = .ok (.iload_n 1, 1) := dk_27 (dk_at dksX4_bread_3 6 rfl rfl)
theorem dX4_bread_78 : decode cX4_bread 78 = .ok (.istore 5, 2) := dk_54 5 (dk_at dksX4_bread_3 7 rfl rfl)
theorem dX4_bread_80 : decode cX4_bread 80 = .ok (.iconst 0, 1) := dk_3 (dk_at dksX4_bread_3 9 rfl rfl)
theorem dX4_bread_81 : decode cX4_bread 81 = .ok (.istore 6, 2) := dk_54 6 (dk_at dksX4_bread_3 10 rfl rfl)
theorem dX4_bread_83 : decode cX4_bread 83 = .ok (.iconst 0, 1) := dk_3 (dk_at dksX4_bread_3 12 rfl rfl)
theorem dX4_bread_84 : decode cX4_bread 84 = .ok (.istore 7, 2) := dk_54 7 (dk_at dksX4_bread_3 13 rfl rfl)
theorem dX4_bread_86 : decode cX4_bread 86 = .ok (.iload 7, 2) := dk_21 7 (dk_at dksX4_bread_3 15 rfl rfl)
theorem dX4_bread_88 : decode cX4_bread 88 = .ok (.aload_n 0, 1) := dk_42 (dk_at dksX4_bread_3 17 rfl rfl)
theorem dX4_bread_89 : decode cX4_bread 89 = .ok (.getfield 39, 3) := dk_180 0 39 (dk_at dksX4_bread_3 18 rfl rfl)
theorem dX4_bread_92 : decode cX4_bread 92 = .ok (.iconst 2, 1) := dk_5 (dk_at dksX4_bread_3 21 rfl rfl)
theorem dX4_bread_93 : decode cX4_bread 93 = .ok (.iaload, 1) := dk_46 (dk_at dksX4_bread_3 22 rfl rfl)
theorem dX4_bread_94 : decode cX4_bread 94 = .ok (.if_icmp .ge 88, 3) := dk_162 0 88 (dk_at dksX4_bread_4 0 rfl rfl)
theorem dX4_bread_97 : decode cX4_bread 97 = .ok (.iload_n 1, 1) := dk_27 (dk_at dksX4_bread_4 3 rfl rfl)
theorem dX4_bread_98 : decode cX4_bread 98 = .ok (.aload_n 0, 1) := dk_42 (dk_at dksX4_bread_4 4 rfl rfl)
theorem dX4_bread_99 : decode cX4_bread 99 = .ok (.iload 7, 2) := dk_21 7 (dk_at dksX4_bread_4 5 rfl rfl)
theorem dX4_bread_101 : decode cX4_bread 101 = .ok (.invokevirtual 421, 3) := dk_182 1 165 (dk_at dksX4_bread_4 7 rfl rfl)
theorem dX4_bread_104 : decode cX4_bread 104 = .ok (.imul, 1) := dk_104 (dk_at dksX4_bread_4 10 rfl rfl)
theorem dX4_bread_105 : decode cX4_bread 105 = .ok (.istore 8, 2) := dk_54 8 (dk_at dksX4_bread_4 11 rfl rfl)
theorem dX4_bread_107 : decode cX4_bread 107 = .ok (.iload 5, 2) := dk_21 5 (dk_at dksX4_bread_4 13 rfl rfl)
theorem dX4_bread_109 : decode cX4_bread 109 = .ok (.iload 8, 2) := dk_21 8 (dk_at dksX4_bread_4 15 rfl rfl)
theorem dX4_bread_111 : decode cX4_bread 111 = .ok (.iload_n 3, 1) := dk_29 (dk_at dksX4_bread_4 17 rfl rfl)
theorem dX4_bread_112 : decode cX4_bread 112 = .ok (.idiv, 1) := dk_108 (dk_at dksX4_bread_4 18 rfl rfl)
theorem dX4_bread_113 : decode cX4_bread 113 = .ok (.isub, 1) := dk_100 (dk_at dksX4_bread_4 19 rfl rfl)
theorem dX4_bread_114 : decode cX4_bread 114 = .ok (.istore 5, 2) := dk_54 5 (dk_at dksX4_bread_4 20 rfl rfl)
theorem dX4_bread_116 : decode cX4_bread 116 = .ok (.iload 8, 2) := dk_21 8 (dk_at dksX4_bread_4 22 rfl rfl)
theorem dX4_bread_118 : decode cX4_bread 118 = .ok (.iload_n 3, 1) := dk_29 (dk_at dksX4_bread_5 0 rfl rfl)
theorem dX4_bread_119 : decode cX4_bread 119 = .ok (.irem, 1) := dk_112 (dk_at dksX4_bread_5 1 rfl rfl)
theorem dX4_bread_120 : decode cX4_bread 120 = .ok (.iload 4, 2) := dk_21 4 (dk_at dksX4_bread_5 2 rfl rfl)
theorem dX4_bread_122 : decode cX4_bread 122 = .ok (.iload_n 3, 1) := dk_29 (dk_at dksX4_bread_5 4 rfl rfl)
theorem dX4_bread_123 : decode cX4_bread 123 = .ok (.irem, 1) := dk_112 (dk_at dksX4_bread_5 5 rfl rfl)
theorem dX4_bread_124 : decode cX4_bread 124 = .ok (.if_icmp .gt 20, 3) := dk_163 0 20 (dk_at dksX4_bread_5 6 rfl rfl)
theorem dX4_bread_127 : decode cX4_bread 127 = .ok (.iload 8, 2) := dk_21 8 (dk_at dksX4_bread_5 9 rfl rfl)
theorem dX4_bread_129 : decode cX4_bread 129 = .ok (.iload_n 3, 1) := dk_29 (dk_at dksX4_bread_5 11 rfl rfl)
theorem dX4_bread_130 : decode cX4_bread 130 = .ok (.irem, 1) := dk_112 (dk_at dksX4_bread_5 12 rfl rfl)
theorem dX4_bread_131 : decode cX4_bread 131 = .ok (.iload 4, 2) := dk_21 4 (dk_at dksX4_bread_5 13 rfl rfl)
theorem dX4_bread_133 : decode cX4_bread 133 = .ok (.iload_n 3, 1) := dk_29 (dk_at dksX4_bread_5 15 rfl rfl)
theorem dX4_bread_134 : decode cX4_bread 134 = .ok (.irem, 1) := dk_112 (dk_at dksX4_bread_5 16 rfl rfl)
theorem dX4_bread_135 : decode cX4_bread 135 = .ok (.if_icmp .ne 13, 3) := dk_160 0 13 (dk_at dksX4_bread_5 17 rfl rfl)
theorem dX4_bread_138 : decode cX4_bread 138 = .ok (.iload 7, 2) := dk_21 7 (dk_at dksX4_bread_5 20 rfl rfl)
theorem dX4_bread_140 : decode cX4_bread 140 = .ok (.iload_n 2, 1) := dk_28 (dk_at dksX4_bread_5 22 rfl rfl)
theorem dX4_bread_141 : decode cX4_bread 141 = .ok (.if_icmp .ge 7, 3) := dk_162 0 7 (dk_at dksX4_bread_6 0 rfl rfl)
theorem dX4_bread_144 : decode cX4_bread 144 = .ok (.iconst 1, 1) := dk_4 (dk_at dksX4_bread_6 3 rfl rfl)
theorem dX4_bread_145 : decode cX4_bread 145 = .ok (.goto 4, 3) := dk_167 0 4 (dk_at dksX4_bread_6 4 rfl rfl)
theorem dX4_bread_148 : decode cX4_bread 148 = .ok (.iconst 0, 1) := dk_3 (dk_at dksX4_bread_6 7 rfl rfl)
theorem dX4_bread_149 : decode cX4_bread 149 = .ok (.istore 9, 2) := dk_54 9 (dk_at dksX4_bread_6 8 rfl rfl)
theorem dX4_bread_151 : decode cX4_bread 151 = .ok (.iload 6, 2) := dk_21 6 (dk_at dksX4_bread_6 10 rfl rfl)
theorem dX4_bread_153 : decode cX4_bread 153 = .ok (.iload 9, 2) := dk_21 9 (dk_at dksX4_bread_6 12 rfl rfl)
theorem dX4_bread_155 : decode cX4_bread 155 = .ok (.ifCond .eq 17, 3) := dk_153 0 17 (dk_at dksX4_bread_6 14 rfl rfl)
theorem dX4_bread_158 : decode cX4_bread 158 = .ok (.aload_n 0, 1) := dk_42 (dk_at dksX4_bread_6 17 rfl rfl)
theorem dX4_bread_159 : decode cX4_bread 159 = .ok (.iload 7, 2) := dk_21 7 (dk_at dksX4_bread_6 18 rfl rfl)
theorem dX4_bread_161 : decode cX4_bread 161 = .ok (.invokevirtual 297, 3) := dk_182 1 41 (dk_at dksX4_bread_6 20 rfl rfl)
theorem dX4_bread_164 : decode cX4_bread 164 = .ok (.iconst 2, 1) := dk_5 (dk_at dksX4_bread_6 23 rfl rfl)
theorem dX4_bread_165 : decode cX4_bread 165 = .ok (.if_icmp .eq 7, 3) := dk_159 0 7 (dk_at dksX4_bread_7 0 rfl rfl)
theorem dX4_bread_168 : decode cX4_bread 168 = .ok (.iconst 1, 1) := dk_4 (dk_at dksX4_bread_7 3 rfl rfl)
theorem dX4_bread_169 : decode cX4_bread 169 = .ok (.goto 4, 3) := dk_167 0 4 (dk_at dksX4_bread_7 4 rfl rfl)
theorem dX4_bread_172 : decode cX4_bread 172 = .ok (.iconst 0, 1) := dk_3 (dk_at dksX4_bread_7 7 rfl rfl)
theorem dX4_bread_173 : decode cX4_bread 173 = .ok (.iadd, 1) := dk_96 (dk_at dksX4_bread_7 8 rfl rfl)
theorem dX4_bread_174 : decode cX4_bread 174 = .ok (.istore 6, 2) := dk_54 6 (dk_at dksX4_bread_7 9 rfl rfl)
theorem dX4_bread_176 : decode cX4_bread 176 = .ok (.iinc 7 1, 3) := dk_132 7 1 (dk_at dksX4_bread_7 11 rfl rfl)
theorem dX4_bread_179 : decode cX4_bread 179 = .ok (.goto (-93), 3) := dk_167 255 163 (dk_at dksX4_bread_7 14 rfl rfl)
theorem dX4_bread_182 : decode cX4_bread 182 = .ok (.iload 4, 2) := dk_21 4 (dk_at dksX4_bread_7 17 rfl rfl)
theorem dX4_bread_184 : decode cX4_bread 184 = .ok (.iload_n 3, 1) := dk_29 (dk_at dksX4_bread_7 19 rfl rfl)
theorem dX4_bread_185 : decode cX4_bread 185 = .ok (.idiv, 1) := dk_108 (dk_at dksX4_bread_7 20 rfl rfl)
theorem dX4_bread_186 : decode cX4_bread 186 = .ok (.iload 6, 2) := dk_21 6 (dk_at dksX4_bread_7 21 rfl rfl)
theorem dX4_bread_188 : decode cX4_bread 188 = .ok (.iload 5, 2) := dk_21 5 (dk_at dksX4_bread_8 0 rfl rfl)
theorem dX4_bread_190 : decode cX4_bread 190 = .ok (.if_icmp .ge 7, 3) := dk_162 0 7 (dk_at dksX4_bread_8 2 rfl rfl)
theorem dX4_bread_193 : decode cX4_bread 193 = .ok (.iconst 1, 1) := dk_4 (dk_at dksX4_bread_8 5 rfl rfl)
theorem dX4_bread_194 : decode cX4_bread 194 = .ok (.goto 4, 3) := dk_167 0 4 (dk_at dksX4_bread_8 6 rfl rfl)
theorem dX4_bread_197 : decode cX4_bread 197 = .ok (.iconst 0, 1) := dk_3 (dk_at dksX4_bread_8 9 rfl rfl)
theorem dX4_bread_198 : decode cX4_bread 198 = .ok (.iadd, 1) := dk_96 (dk_at dksX4_bread_8 10 rfl rfl)
theorem dX4_bread_199 : decode cX4_bread 199 = .ok (.ireturn, 1) := dk_172 (dk_at dksX4_bread_8 11 rfl rfl)
abbrev cX4_shortOf : ByteArray := prog_19_method_103_code
def yX4_shortOf : MethodName := ⟨RX4, "shortOf", "(I)I"⟩
def dkwX4_shortOf_0 : List UInt8 := [42, 27, 182, 1, 41, 5, 160, 0, 7, 3, 167, 0, 11, 16, 99, 42, 27, 182, 1, 44, 100, 172]
abbrev dktX4_shortOf_0 : List UInt8 := dkwX4_shortOf_0 ++ []
theorem dksX4_shortOf_0 : cX4_shortOf.data.toList.drop 0 = dktX4_shortOf_0 := by decide +kernel
theorem dX4_shortOf_0 : decode cX4_shortOf 0 = .ok (.aload_n 0, 1) := dk_42 (dk_at dksX4_shortOf_0 0 rfl rfl)
theorem dX4_shortOf_1 : decode cX4_shortOf 1 = .ok (.iload_n 1, 1) := dk_27 (dk_at dksX4_shortOf_0 1 rfl rfl)
theorem dX4_shortOf_2 : decode cX4_shortOf 2 = .ok (.invokevirtual 297, 3) := dk_182 1 41 (dk_at dksX4_shortOf_0 2 rfl rfl)
theorem dX4_shortOf_5 : decode cX4_shortOf 5 = .ok (.iconst 2, 1) := dk_5 (dk_at dksX4_shortOf_0 5 rfl rfl)
theorem dX4_shortOf_6 : decode cX4_shortOf 6 = .ok (.if_icmp .ne 7, 3) := dk_160 0 7 (dk_at dksX4_shortOf_0 6 rfl rfl)
theorem dX4_shortOf_9 : decode cX4_shortOf 9 = .ok (.iconst 0, 1) := dk_3 (dk_at dksX4_shortOf_0 9 rfl rfl)
theorem dX4_shortOf_10 : decode cX4_shortOf 10 = .ok (.goto 11, 3) := dk_167 0 11 (dk_at dksX4_shortOf_0 10 rfl rfl)
theorem dX4_shortOf_13 : decode cX4_shortOf 13 = .ok (.bipush 99, 2) := dk_16 99 (dk_at dksX4_shortOf_0 13 rfl rfl)
theorem dX4_shortOf_15 : decode cX4_shortOf 15 = .ok (.aload_n 0, 1) := dk_42 (dk_at dksX4_shortOf_0 15 rfl rfl)
theorem dX4_shortOf_16 : decode cX4_shortOf 16 = .ok (.iload_n 1, 1) := dk_27 (dk_at dksX4_shortOf_0 16 rfl rfl)
theorem dX4_shortOf_17 : decode cX4_shortOf 17 = .ok (.invokevirtual 300, 3) := dk_182 1 44 (dk_at dksX4_shortOf_0 17 rfl rfl)
theorem dX4_shortOf_20 : decode cX4_shortOf 20 = .ok (.isub, 1) := dk_100 (dk_at dksX4_shortOf_0 20 rfl rfl)
theorem dX4_shortOf_21 : decode cX4_shortOf 21 = .ok (.ireturn, 1) := dk_172 (dk_at dksX4_shortOf_0 21 rfl rfl)
abbrev cX4_note : ByteArray := prog_19_method_105_code
def yX4_note : MethodName := ⟨RX4, "note", "(III)I"⟩
def dkwX4_note_5 : List UInt8 := [46, 4, 96, 79, 42, 180, 0, 39, 17, 0, 175, 46, 172]
abbrev dktX4_note_5 : List UInt8 := dkwX4_note_5 ++ []
def dkwX4_note_4 : List UInt8 := [21, 4, 4, 96, 28, 79, 42, 180, 0, 39, 21, 4, 5, 96, 29, 79, 42, 180, 0, 39, 17, 0, 175, 92]
abbrev dktX4_note_4 : List UInt8 := dkwX4_note_4 ++ dktX4_note_5
def dkwX4_note_3 : List UInt8 := [180, 0, 39, 17, 0, 175, 46, 104, 96, 54, 4, 42, 180, 0, 39, 21, 4, 27, 79, 42, 180, 0, 39]
abbrev dktX4_note_3 : List UInt8 := dkwX4_note_3 ++ dktX4_note_4
def dkwX4_note_2 : List UInt8 := [153, 0, 16, 42, 180, 0, 39, 17, 0, 175, 46, 16, 10, 160, 0, 6, 16, 254, 172, 17, 0, 145, 6, 42]
abbrev dktX4_note_2 : List UInt8 := dkwX4_note_2 ++ dktX4_note_3
def dkwX4_note_1 : List UInt8 := [184, 0, 124, 153, 0, 37, 42, 28, 182, 1, 54, 153, 0, 29, 29, 2, 159, 0, 11, 42, 29, 182, 1, 69]
abbrev dktX4_note_1 : List UInt8 := dkwX4_note_1 ++ dktX4_note_2
def dkwX4_note_0 : List UInt8 := [27, 2, 160, 0, 14, 42, 180, 0, 39, 17, 0, 175, 3, 79, 3, 172, 27, 133, 9, 20, 1, 168]
abbrev dktX4_note_0 : List UInt8 := dkwX4_note_0 ++ dktX4_note_1
theorem dksX4_note_0 : cX4_note.data.toList.drop 0 = dktX4_note_0 := by decide +kernel
theorem dksX4_note_1 : cX4_note.data.toList.drop 22 = dktX4_note_1 := dk_seg dksX4_note_0 22 rfl rfl
theorem dksX4_note_2 : cX4_note.data.toList.drop 46 = dktX4_note_2 := dk_seg dksX4_note_1 24 rfl rfl
theorem dksX4_note_3 : cX4_note.data.toList.drop 70 = dktX4_note_3 := dk_seg dksX4_note_2 24 rfl rfl
theorem dksX4_note_4 : cX4_note.data.toList.drop 93 = dktX4_note_4 := dk_seg dksX4_note_3 23 rfl rfl
theorem dksX4_note_5 : cX4_note.data.toList.drop 117 = dktX4_note_5 := dk_seg dksX4_note_4 24 rfl rfl
theorem dX4_note_0 : decode cX4_note 0 = .ok (.iload_n 1, 1) := dk_27 (dk_at dksX4_note_0 0 rfl rfl)
theorem dX4_note_1 : decode cX4_note 1 = .ok (.iconst (-1), 1) := dk_2 (dk_at dksX4_note_0 1 rfl rfl)
theorem dX4_note_2 : decode cX4_note 2 = .ok (.if_icmp .ne 14, 3) := dk_160 0 14 (dk_at dksX4_note_0 2 rfl rfl)
theorem dX4_note_5 : decode cX4_note 5 = .ok (.aload_n 0, 1) := dk_42 (dk_at dksX4_note_0 5 rfl rfl)
theorem dX4_note_6 : decode cX4_note 6 = .ok (.getfield 39, 3) := dk_180 0 39 (dk_at dksX4_note_0 6 rfl rfl)
theorem dX4_note_9 : decode cX4_note 9 = .ok (.sipush 175, 3) := dk_17 0 175 (dk_at dksX4_note_0 9 rfl rfl)
theorem dX4_note_12 : decode cX4_note 12 = .ok (.iconst 0, 1) := dk_3 (dk_at dksX4_note_0 12 rfl rfl)
theorem dX4_note_13 : decode cX4_note 13 = .ok (.iastore, 1) := dk_79 (dk_at dksX4_note_0 13 rfl rfl)
theorem dX4_note_14 : decode cX4_note 14 = .ok (.iconst 0, 1) := dk_3 (dk_at dksX4_note_0 14 rfl rfl)
theorem dX4_note_15 : decode cX4_note 15 = .ok (.ireturn, 1) := dk_172 (dk_at dksX4_note_0 15 rfl rfl)
theorem dX4_note_16 : decode cX4_note 16 = .ok (.iload_n 1, 1) := dk_27 (dk_at dksX4_note_0 16 rfl rfl)
theorem dX4_note_17 : decode cX4_note 17 = .ok (.i2l, 1) := dk_133 (dk_at dksX4_note_0 17 rfl rfl)
theorem dX4_note_18 : decode cX4_note 18 = .ok (.lconst 0, 1) := dk_9 (dk_at dksX4_note_0 18 rfl rfl)
theorem dX4_note_19 : decode cX4_note 19 = .ok (.ldc2_w 424, 3) := dk_20 1 168 (dk_at dksX4_note_0 19 rfl rfl)
theorem dX4_note_22 : decode cX4_note 22 = .ok (.invokestatic 124, 3) := dk_184 0 124 (dk_at dksX4_note_1 0 rfl rfl)
theorem dX4_note_25 : decode cX4_note 25 = .ok (.ifCond .eq 37, 3) := dk_153 0 37 (dk_at dksX4_note_1 3 rfl rfl)
theorem dX4_note_28 : decode cX4_note 28 = .ok (.aload_n 0, 1) := dk_42 (dk_at dksX4_note_1 6 rfl rfl)
theorem dX4_note_29 : decode cX4_note 29 = .ok (.iload_n 2, 1) := dk_28 (dk_at dksX4_note_1 7 rfl rfl)
theorem dX4_note_30 : decode cX4_note 30 = .ok (.invokevirtual 310, 3) := dk_182 1 54 (dk_at dksX4_note_1 8 rfl rfl)
theorem dX4_note_33 : decode cX4_note 33 = .ok (.ifCond .eq 29, 3) := dk_153 0 29 (dk_at dksX4_note_1 11 rfl rfl)
theorem dX4_note_36 : decode cX4_note 36 = .ok (.iload_n 3, 1) := dk_29 (dk_at dksX4_note_1 14 rfl rfl)
theorem dX4_note_37 : decode cX4_note 37 = .ok (.iconst (-1), 1) := dk_2 (dk_at dksX4_note_1 15 rfl rfl)
theorem dX4_note_38 : decode cX4_note 38 = .ok (.if_icmp .eq 11, 3) := dk_159 0 11 (dk_at dksX4_note_1 16 rfl rfl)
theorem dX4_note_41 : decode cX4_note 41 = .ok (.aload_n 0, 1) := dk_42 (dk_at dksX4_note_1 19 rfl rfl)
theorem dX4_note_42 : decode cX4_note 42 = .ok (.iload_n 3, 1) := dk_29 (dk_at dksX4_note_1 20 rfl rfl)
theorem dX4_note_43 : decode cX4_note 43 = .ok (.invokevirtual 325, 3) := dk_182 1 69 (dk_at dksX4_note_1 21 rfl rfl)
theorem dX4_note_46 : decode cX4_note 46 = .ok (.ifCond .eq 16, 3) := dk_153 0 16 (dk_at dksX4_note_2 0 rfl rfl)
theorem dX4_note_49 : decode cX4_note 49 = .ok (.aload_n 0, 1) := dk_42 (dk_at dksX4_note_2 3 rfl rfl)
theorem dX4_note_50 : decode cX4_note 50 = .ok (.getfield 39, 3) := dk_180 0 39 (dk_at dksX4_note_2 4 rfl rfl)
theorem dX4_note_53 : decode cX4_note 53 = .ok (.sipush 175, 3) := dk_17 0 175 (dk_at dksX4_note_2 7 rfl rfl)
theorem dX4_note_56 : decode cX4_note 56 = .ok (.iaload, 1) := dk_46 (dk_at dksX4_note_2 10 rfl rfl)
theorem dX4_note_57 : decode cX4_note 57 = .ok (.bipush 10, 2) := dk_16 10 (dk_at dksX4_note_2 11 rfl rfl)
theorem dX4_note_59 : decode cX4_note 59 = .ok (.if_icmp .ne 6, 3) := dk_160 0 6 (dk_at dksX4_note_2 13 rfl rfl)
theorem dX4_note_62 : decode cX4_note 62 = .ok (.bipush (-2), 2) := dk_16 254 (dk_at dksX4_note_2 16 rfl rfl)
theorem dX4_note_64 : decode cX4_note 64 = .ok (.ireturn, 1) := dk_172 (dk_at dksX4_note_2 18 rfl rfl)
theorem dX4_note_65 : decode cX4_note 65 = .ok (.sipush 145, 3) := dk_17 0 145 (dk_at dksX4_note_2 19 rfl rfl)
theorem dX4_note_68 : decode cX4_note 68 = .ok (.iconst 3, 1) := dk_6 (dk_at dksX4_note_2 22 rfl rfl)
theorem dX4_note_69 : decode cX4_note 69 = .ok (.aload_n 0, 1) := dk_42 (dk_at dksX4_note_2 23 rfl rfl)
theorem dX4_note_70 : decode cX4_note 70 = .ok (.getfield 39, 3) := dk_180 0 39 (dk_at dksX4_note_3 0 rfl rfl)
theorem dX4_note_73 : decode cX4_note 73 = .ok (.sipush 175, 3) := dk_17 0 175 (dk_at dksX4_note_3 3 rfl rfl)
theorem dX4_note_76 : decode cX4_note 76 = .ok (.iaload, 1) := dk_46 (dk_at dksX4_note_3 6 rfl rfl)
theorem dX4_note_77 : decode cX4_note 77 = .ok (.imul, 1) := dk_104 (dk_at dksX4_note_3 7 rfl rfl)
theorem dX4_note_78 : decode cX4_note 78 = .ok (.iadd, 1) := dk_96 (dk_at dksX4_note_3 8 rfl rfl)
theorem dX4_note_79 : decode cX4_note 79 = .ok (.istore 4, 2) := dk_54 4 (dk_at dksX4_note_3 9 rfl rfl)
theorem dX4_note_81 : decode cX4_note 81 = .ok (.aload_n 0, 1) := dk_42 (dk_at dksX4_note_3 11 rfl rfl)
theorem dX4_note_82 : decode cX4_note 82 = .ok (.getfield 39, 3) := dk_180 0 39 (dk_at dksX4_note_3 12 rfl rfl)
theorem dX4_note_85 : decode cX4_note 85 = .ok (.iload 4, 2) := dk_21 4 (dk_at dksX4_note_3 15 rfl rfl)
theorem dX4_note_87 : decode cX4_note 87 = .ok (.iload_n 1, 1) := dk_27 (dk_at dksX4_note_3 17 rfl rfl)
theorem dX4_note_88 : decode cX4_note 88 = .ok (.iastore, 1) := dk_79 (dk_at dksX4_note_3 18 rfl rfl)
theorem dX4_note_89 : decode cX4_note 89 = .ok (.aload_n 0, 1) := dk_42 (dk_at dksX4_note_3 19 rfl rfl)
theorem dX4_note_90 : decode cX4_note 90 = .ok (.getfield 39, 3) := dk_180 0 39 (dk_at dksX4_note_3 20 rfl rfl)
theorem dX4_note_93 : decode cX4_note 93 = .ok (.iload 4, 2) := dk_21 4 (dk_at dksX4_note_4 0 rfl rfl)
theorem dX4_note_95 : decode cX4_note 95 = .ok (.iconst 1, 1) := dk_4 (dk_at dksX4_note_4 2 rfl rfl)
theorem dX4_note_96 : decode cX4_note 96 = .ok (.iadd, 1) := dk_96 (dk_at dksX4_note_4 3 rfl rfl)
theorem dX4_note_97 : decode cX4_note 97 = .ok (.iload_n 2, 1) := dk_28 (dk_at dksX4_note_4 4 rfl rfl)
theorem dX4_note_98 : decode cX4_note 98 = .ok (.iastore, 1) := dk_79 (dk_at dksX4_note_4 5 rfl rfl)
theorem dX4_note_99 : decode cX4_note 99 = .ok (.aload_n 0, 1) := dk_42 (dk_at dksX4_note_4 6 rfl rfl)
theorem dX4_note_100 : decode cX4_note 100 = .ok (.getfield 39, 3) := dk_180 0 39 (dk_at dksX4_note_4 7 rfl rfl)
theorem dX4_note_103 : decode cX4_note 103 = .ok (.iload 4, 2) := dk_21 4 (dk_at dksX4_note_4 10 rfl rfl)
theorem dX4_note_105 : decode cX4_note 105 = .ok (.iconst 2, 1) := dk_5 (dk_at dksX4_note_4 12 rfl rfl)
theorem dX4_note_106 : decode cX4_note 106 = .ok (.iadd, 1) := dk_96 (dk_at dksX4_note_4 13 rfl rfl)
theorem dX4_note_107 : decode cX4_note 107 = .ok (.iload_n 3, 1) := dk_29 (dk_at dksX4_note_4 14 rfl rfl)
theorem dX4_note_108 : decode cX4_note 108 = .ok (.iastore, 1) := dk_79 (dk_at dksX4_note_4 15 rfl rfl)
theorem dX4_note_109 : decode cX4_note 109 = .ok (.aload_n 0, 1) := dk_42 (dk_at dksX4_note_4 16 rfl rfl)
theorem dX4_note_110 : decode cX4_note 110 = .ok (.getfield 39, 3) := dk_180 0 39 (dk_at dksX4_note_4 17 rfl rfl)
theorem dX4_note_113 : decode cX4_note 113 = .ok (.sipush 175, 3) := dk_17 0 175 (dk_at dksX4_note_4 20 rfl rfl)
theorem dX4_note_116 : decode cX4_note 116 = .ok (.dup2, 1) := dk_92 (dk_at dksX4_note_4 23 rfl rfl)
theorem dX4_note_117 : decode cX4_note 117 = .ok (.iaload, 1) := dk_46 (dk_at dksX4_note_5 0 rfl rfl)
theorem dX4_note_118 : decode cX4_note 118 = .ok (.iconst 1, 1) := dk_4 (dk_at dksX4_note_5 1 rfl rfl)
theorem dX4_note_119 : decode cX4_note 119 = .ok (.iadd, 1) := dk_96 (dk_at dksX4_note_5 2 rfl rfl)
theorem dX4_note_120 : decode cX4_note 120 = .ok (.iastore, 1) := dk_79 (dk_at dksX4_note_5 3 rfl rfl)
theorem dX4_note_121 : decode cX4_note 121 = .ok (.aload_n 0, 1) := dk_42 (dk_at dksX4_note_5 4 rfl rfl)
theorem dX4_note_122 : decode cX4_note 122 = .ok (.getfield 39, 3) := dk_180 0 39 (dk_at dksX4_note_5 5 rfl rfl)
theorem dX4_note_125 : decode cX4_note 125 = .ok (.sipush 175, 3) := dk_17 0 175 (dk_at dksX4_note_5 8 rfl rfl)
theorem dX4_note_128 : decode cX4_note 128 = .ok (.iaload, 1) := dk_46 (dk_at dksX4_note_5 11 rfl rfl)
theorem dX4_note_129 : decode cX4_note 129 = .ok (.ireturn, 1) := dk_172 (dk_at dksX4_note_5 12 rfl rfl)
abbrev cX4_ruled : ByteArray := prog_19_method_110_code
def yX4_ruled : MethodName := ⟨RX4, "ruled", "(I)I"⟩
def dkwX4_ruled_3 : List UInt8 := [154, 0, 7, 28, 167, 0, 4, 29, 172]
abbrev dktX4_ruled_3 : List UInt8 := dkwX4_ruled_3 ++ []
def dkwX4_ruled_2 : List UInt8 := [21, 4, 51, 154, 0, 6, 167, 0, 11, 21, 4, 4, 100, 62, 132, 2, 1, 132, 4, 255, 167, 255, 227, 27]
abbrev dktX4_ruled_2 : List UInt8 := dkwX4_ruled_2 ++ dktX4_ruled_3
def dkwX4_ruled_1 : List UInt8 := [182, 1, 179, 3, 61, 16, 254, 62, 42, 180, 1, 6, 54, 4, 21, 4, 155, 0, 30, 42, 180, 0, 68]
abbrev dktX4_ruled_1 : List UInt8 := dkwX4_ruled_1 ++ dktX4_ruled_2
def dkwX4_ruled_0 : List UInt8 := [42, 182, 1, 36, 153, 0, 13, 27, 133, 9, 10, 184, 0, 124, 154, 0, 6, 16, 253, 172, 42, 3]
abbrev dktX4_ruled_0 : List UInt8 := dkwX4_ruled_0 ++ dktX4_ruled_1
theorem dksX4_ruled_0 : cX4_ruled.data.toList.drop 0 = dktX4_ruled_0 := by decide +kernel
theorem dksX4_ruled_1 : cX4_ruled.data.toList.drop 22 = dktX4_ruled_1 := dk_seg dksX4_ruled_0 22 rfl rfl
theorem dksX4_ruled_2 : cX4_ruled.data.toList.drop 45 = dktX4_ruled_2 := dk_seg dksX4_ruled_1 23 rfl rfl
theorem dksX4_ruled_3 : cX4_ruled.data.toList.drop 69 = dktX4_ruled_3 := dk_seg dksX4_ruled_2 24 rfl rfl
theorem dX4_ruled_0 : decode cX4_ruled 0 = .ok (.aload_n 0, 1) := dk_42 (dk_at dksX4_ruled_0 0 rfl rfl)
theorem dX4_ruled_1 : decode cX4_ruled 1 = .ok (.invokevirtual 292, 3) := dk_182 1 36 (dk_at dksX4_ruled_0 1 rfl rfl)
theorem dX4_ruled_4 : decode cX4_ruled 4 = .ok (.ifCond .eq 13, 3) := dk_153 0 13 (dk_at dksX4_ruled_0 4 rfl rfl)
theorem dX4_ruled_7 : decode cX4_ruled 7 = .ok (.iload_n 1, 1) := dk_27 (dk_at dksX4_ruled_0 7 rfl rfl)
theorem dX4_ruled_8 : decode cX4_ruled 8 = .ok (.i2l, 1) := dk_133 (dk_at dksX4_ruled_0 8 rfl rfl)
theorem dX4_ruled_9 : decode cX4_ruled 9 = .ok (.lconst 0, 1) := dk_9 (dk_at dksX4_ruled_0 9 rfl rfl)
theorem dX4_ruled_10 : decode cX4_ruled 10 = .ok (.lconst 1, 1) := dk_10 (dk_at dksX4_ruled_0 10 rfl rfl)
theorem dX4_ruled_11 : decode cX4_ruled 11 = .ok (.invokestatic 124, 3) := dk_184 0 124 (dk_at dksX4_ruled_0 11 rfl rfl)
theorem dX4_ruled_14 : decode cX4_ruled 14 = .ok (.ifCond .ne 6, 3) := dk_154 0 6 (dk_at dksX4_ruled_0 14 rfl rfl)
theorem dX4_ruled_17 : decode cX4_ruled 17 = .ok (.bipush (-3), 2) := dk_16 253 (dk_at dksX4_ruled_0 17 rfl rfl)
theorem dX4_ruled_19 : decode cX4_ruled 19 = .ok (.ireturn, 1) := dk_172 (dk_at dksX4_ruled_0 19 rfl rfl)
theorem dX4_ruled_20 : decode cX4_ruled 20 = .ok (.aload_n 0, 1) := dk_42 (dk_at dksX4_ruled_0 20 rfl rfl)
theorem dX4_ruled_21 : decode cX4_ruled 21 = .ok (.iconst 0, 1) := dk_3 (dk_at dksX4_ruled_0 21 rfl rfl)
theorem dX4_ruled_22 : decode cX4_ruled 22 = .ok (.invokevirtual 435, 3) := dk_182 1 179 (dk_at dksX4_ruled_1 0 rfl rfl)
theorem dX4_ruled_25 : decode cX4_ruled 25 = .ok (.iconst 0, 1) := dk_3 (dk_at dksX4_ruled_1 3 rfl rfl)
theorem dX4_ruled_26 : decode cX4_ruled 26 = .ok (.istore_n 2, 1) := dk_61 (dk_at dksX4_ruled_1 4 rfl rfl)
theorem dX4_ruled_27 : decode cX4_ruled 27 = .ok (.bipush (-2), 2) := dk_16 254 (dk_at dksX4_ruled_1 5 rfl rfl)
theorem dX4_ruled_29 : decode cX4_ruled 29 = .ok (.istore_n 3, 1) := dk_62 (dk_at dksX4_ruled_1 7 rfl rfl)
theorem dX4_ruled_30 : decode cX4_ruled 30 = .ok (.aload_n 0, 1) := dk_42 (dk_at dksX4_ruled_1 8 rfl rfl)
theorem dX4_ruled_31 : decode cX4_ruled 31 = .ok (.getfield 262, 3) := dk_180 1 6 (dk_at dksX4_ruled_1 9 rfl rfl)
theorem dX4_ruled_34 : decode cX4_ruled 34 = .ok (.istore 4, 2) := dk_54 4 (dk_at dksX4_ruled_1 12 rfl rfl)
theorem dX4_ruled_36 : decode cX4_ruled 36 = .ok (.iload 4, 2) := dk_21 4 (dk_at dksX4_ruled_1 14 rfl rfl)
theorem dX4_ruled_38 : decode cX4_ruled 38 = .ok (.ifCond .lt 30, 3) := dk_155 0 30 (dk_at dksX4_ruled_1 16 rfl rfl)
theorem dX4_ruled_41 : decode cX4_ruled 41 = .ok (.aload_n 0, 1) := dk_42 (dk_at dksX4_ruled_1 19 rfl rfl)
theorem dX4_ruled_42 : decode cX4_ruled 42 = .ok (.getfield 68, 3) := dk_180 0 68 (dk_at dksX4_ruled_1 20 rfl rfl)
theorem dX4_ruled_45 : decode cX4_ruled 45 = .ok (.iload 4, 2) := dk_21 4 (dk_at dksX4_ruled_2 0 rfl rfl)
theorem dX4_ruled_47 : decode cX4_ruled 47 = .ok (.baload, 1) := dk_51 (dk_at dksX4_ruled_2 2 rfl rfl)
theorem dX4_ruled_48 : decode cX4_ruled 48 = .ok (.ifCond .ne 6, 3) := dk_154 0 6 (dk_at dksX4_ruled_2 3 rfl rfl)
theorem dX4_ruled_51 : decode cX4_ruled 51 = .ok (.goto 11, 3) := dk_167 0 11 (dk_at dksX4_ruled_2 6 rfl rfl)
theorem dX4_ruled_54 : decode cX4_ruled 54 = .ok (.iload 4, 2) := dk_21 4 (dk_at dksX4_ruled_2 9 rfl rfl)
theorem dX4_ruled_56 : decode cX4_ruled 56 = .ok (.iconst 1, 1) := dk_4 (dk_at dksX4_ruled_2 11 rfl rfl)
theorem dX4_ruled_57 : decode cX4_ruled 57 = .ok (.isub, 1) := dk_100 (dk_at dksX4_ruled_2 12 rfl rfl)
theorem dX4_ruled_58 : decode cX4_ruled 58 = .ok (.istore_n 3, 1) := dk_62 (dk_at dksX4_ruled_2 13 rfl rfl)
theorem dX4_ruled_59 : decode cX4_ruled 59 = .ok (.iinc 2 1, 3) := dk_132 2 1 (dk_at dksX4_ruled_2 14 rfl rfl)
theorem dX4_ruled_62 : decode cX4_ruled 62 = .ok (.iinc 4 (-1), 3) := dk_132 4 255 (dk_at dksX4_ruled_2 17 rfl rfl)
theorem dX4_ruled_65 : decode cX4_ruled 65 = .ok (.goto (-29), 3) := dk_167 255 227 (dk_at dksX4_ruled_2 20 rfl rfl)
theorem dX4_ruled_68 : decode cX4_ruled 68 = .ok (.iload_n 1, 1) := dk_27 (dk_at dksX4_ruled_2 23 rfl rfl)
theorem dX4_ruled_69 : decode cX4_ruled 69 = .ok (.ifCond .ne 7, 3) := dk_154 0 7 (dk_at dksX4_ruled_3 0 rfl rfl)
theorem dX4_ruled_72 : decode cX4_ruled 72 = .ok (.iload_n 2, 1) := dk_28 (dk_at dksX4_ruled_3 3 rfl rfl)
theorem dX4_ruled_73 : decode cX4_ruled 73 = .ok (.goto 4, 3) := dk_167 0 4 (dk_at dksX4_ruled_3 4 rfl rfl)
theorem dX4_ruled_76 : decode cX4_ruled 76 = .ok (.iload_n 3, 1) := dk_29 (dk_at dksX4_ruled_3 7 rfl rfl)
theorem dX4_ruled_77 : decode cX4_ruled 77 = .ok (.ireturn, 1) := dk_172 (dk_at dksX4_ruled_3 8 rfl rfl)
abbrev cX4_fillsFits : ByteArray := prog_19_method_109_code
def yX4_fillsFits : MethodName := ⟨RX4, "fillsFits", "(I)V"⟩
def dkwX4_fillsFits_2 : List UInt8 := [167, 255, 222, 42, 28, 181, 0, 42, 42, 182, 1, 125, 177]
abbrev dktX4_fillsFits_2 : List UInt8 := dkwX4_fillsFits_2 ++ []
def dkwX4_fillsFits_1 : List UInt8 := [181, 0, 42, 42, 182, 1, 12, 42, 180, 0, 68, 29, 42, 29, 27, 182, 1, 176, 84, 132, 3, 1]
abbrev dktX4_fillsFits_1 : List UInt8 := dkwX4_fillsFits_1 ++ dktX4_fillsFits_2
def dkwX4_fillsFits_0 : List UInt8 := [42, 180, 0, 42, 61, 42, 182, 1, 119, 3, 62, 29, 42, 180, 1, 6, 163, 0, 32, 42, 29, 4, 100]
abbrev dktX4_fillsFits_0 : List UInt8 := dkwX4_fillsFits_0 ++ dktX4_fillsFits_1
theorem dksX4_fillsFits_0 : cX4_fillsFits.data.toList.drop 0 = dktX4_fillsFits_0 := by decide +kernel
theorem dksX4_fillsFits_1 : cX4_fillsFits.data.toList.drop 23 = dktX4_fillsFits_1 := dk_seg dksX4_fillsFits_0 23 rfl rfl
theorem dksX4_fillsFits_2 : cX4_fillsFits.data.toList.drop 45 = dktX4_fillsFits_2 := dk_seg dksX4_fillsFits_1 22 rfl rfl
theorem dX4_fillsFits_0 : decode cX4_fillsFits 0 = .ok (.aload_n 0, 1) := dk_42 (dk_at dksX4_fillsFits_0 0 rfl rfl)
theorem dX4_fillsFits_1 : decode cX4_fillsFits 1 = .ok (.getfield 42, 3) := dk_180 0 42 (dk_at dksX4_fillsFits_0 1 rfl rfl)
theorem dX4_fillsFits_4 : decode cX4_fillsFits 4 = .ok (.istore_n 2, 1) := dk_61 (dk_at dksX4_fillsFits_0 4 rfl rfl)
theorem dX4_fillsFits_5 : decode cX4_fillsFits 5 = .ok (.aload_n 0, 1) := dk_42 (dk_at dksX4_fillsFits_0 5 rfl rfl)
theorem dX4_fillsFits_6 : decode cX4_fillsFits 6 = .ok (.invokevirtual 375, 3) := dk_182 1 119 (dk_at dksX4_fillsFits_0 6 rfl rfl)
theorem dX4_fillsFits_9 : decode cX4_fillsFits 9 = .ok (.iconst 0, 1) := dk_3 (dk_at dksX4_fillsFits_0 9 rfl rfl)
theorem dX4_fillsFits_10 : decode cX4_fillsFits 10 = .ok (.istore_n 3, 1) := dk_62 (dk_at dksX4_fillsFits_0 10 rfl rfl)
theorem dX4_fillsFits_11 : decode cX4_fillsFits 11 = .ok (.iload_n 3, 1) := dk_29 (dk_at dksX4_fillsFits_0 11 rfl rfl)
theorem dX4_fillsFits_12 : decode cX4_fillsFits 12 = .ok (.aload_n 0, 1) := dk_42 (dk_at dksX4_fillsFits_0 12 rfl rfl)
theorem dX4_fillsFits_13 : decode cX4_fillsFits 13 = .ok (.getfield 262, 3) := dk_180 1 6 (dk_at dksX4_fillsFits_0 13 rfl rfl)
theorem dX4_fillsFits_16 : decode cX4_fillsFits 16 = .ok (.if_icmp .gt 32, 3) := dk_163 0 32 (dk_at dksX4_fillsFits_0 16 rfl rfl)
theorem dX4_fillsFits_19 : decode cX4_fillsFits 19 = .ok (.aload_n 0, 1) := dk_42 (dk_at dksX4_fillsFits_0 19 rfl rfl)
theorem dX4_fillsFits_20 : decode cX4_fillsFits 20 = .ok (.iload_n 3, 1) := dk_29 (dk_at dksX4_fillsFits_0 20 rfl rfl)
theorem dX4_fillsFits_21 : decode cX4_fillsFits 21 = .ok (.iconst 1, 1) := dk_4 (dk_at dksX4_fillsFits_0 21 rfl rfl)
theorem dX4_fillsFits_22 : decode cX4_fillsFits 22 = .ok (.isub, 1) := dk_100 (dk_at dksX4_fillsFits_0 22 rfl rfl)
theorem dX4_fillsFits_23 : decode cX4_fillsFits 23 = .ok (.putfield 42, 3) := dk_181 0 42 (dk_at dksX4_fillsFits_1 0 rfl rfl)
theorem dX4_fillsFits_26 : decode cX4_fillsFits 26 = .ok (.aload_n 0, 1) := dk_42 (dk_at dksX4_fillsFits_1 3 rfl rfl)
theorem dX4_fillsFits_27 : decode cX4_fillsFits 27 = .ok (.invokevirtual 268, 3) := dk_182 1 12 (dk_at dksX4_fillsFits_1 4 rfl rfl)
theorem dX4_fillsFits_30 : decode cX4_fillsFits 30 = .ok (.aload_n 0, 1) := dk_42 (dk_at dksX4_fillsFits_1 7 rfl rfl)
theorem dX4_fillsFits_31 : decode cX4_fillsFits 31 = .ok (.getfield 68, 3) := dk_180 0 68 (dk_at dksX4_fillsFits_1 8 rfl rfl)
theorem dX4_fillsFits_34 : decode cX4_fillsFits 34 = .ok (.iload_n 3, 1) := dk_29 (dk_at dksX4_fillsFits_1 11 rfl rfl)
theorem dX4_fillsFits_35 : decode cX4_fillsFits 35 = .ok (.aload_n 0, 1) := dk_42 (dk_at dksX4_fillsFits_1 12 rfl rfl)
theorem dX4_fillsFits_36 : decode cX4_fillsFits 36 = .ok (.iload_n 3, 1) := dk_29 (dk_at dksX4_fillsFits_1 13 rfl rfl)
theorem dX4_fillsFits_37 : decode cX4_fillsFits 37 = .ok (.iload_n 1, 1) := dk_27 (dk_at dksX4_fillsFits_1 14 rfl rfl)
theorem dX4_fillsFits_38 : decode cX4_fillsFits 38 = .ok (.invokevirtual 432, 3) := dk_182 1 176 (dk_at dksX4_fillsFits_1 15 rfl rfl)
theorem dX4_fillsFits_41 : decode cX4_fillsFits 41 = .ok (.bastore, 1) := dk_84 (dk_at dksX4_fillsFits_1 18 rfl rfl)
theorem dX4_fillsFits_42 : decode cX4_fillsFits 42 = .ok (.iinc 3 1, 3) := dk_132 3 1 (dk_at dksX4_fillsFits_1 19 rfl rfl)
theorem dX4_fillsFits_45 : decode cX4_fillsFits 45 = .ok (.goto (-34), 3) := dk_167 255 222 (dk_at dksX4_fillsFits_2 0 rfl rfl)
theorem dX4_fillsFits_48 : decode cX4_fillsFits 48 = .ok (.aload_n 0, 1) := dk_42 (dk_at dksX4_fillsFits_2 3 rfl rfl)
theorem dX4_fillsFits_49 : decode cX4_fillsFits 49 = .ok (.iload_n 2, 1) := dk_28 (dk_at dksX4_fillsFits_2 4 rfl rfl)
theorem dX4_fillsFits_50 : decode cX4_fillsFits 50 = .ok (.putfield 42, 3) := dk_181 0 42 (dk_at dksX4_fillsFits_2 5 rfl rfl)
theorem dX4_fillsFits_53 : decode cX4_fillsFits 53 = .ok (.aload_n 0, 1) := dk_42 (dk_at dksX4_fillsFits_2 8 rfl rfl)
theorem dX4_fillsFits_54 : decode cX4_fillsFits 54 = .ok (.invokevirtual 381, 3) := dk_182 1 125 (dk_at dksX4_fillsFits_2 9 rfl rfl)
theorem dX4_fillsFits_57 : decode cX4_fillsFits 57 = .ok (.return_, 1) := dk_177 (dk_at dksX4_fillsFits_2 12 rfl rfl)
abbrev cX4_areAllSo : ByteArray := prog_19_method_108_code
def yX4_areAllSo : MethodName := ⟨RX4, "areAllSo", "(II)Z"⟩
def dkwX4_areAllSo_3 : List UInt8 := [182, 1, 104, 132, 4, 1, 167, 255, 185, 29, 172]
abbrev dktX4_areAllSo_3 : List UInt8 := dkwX4_areAllSo_3 ++ []
def dkwX4_areAllSo_2 : List UInt8 := [42, 180, 0, 71, 8, 27, 104, 21, 5, 96, 42, 21, 5, 182, 1, 170, 79, 132, 5, 1, 167, 255, 224, 42]
abbrev dktX4_areAllSo_2 : List UInt8 := dkwX4_areAllSo_2 ++ dktX4_areAllSo_3
def dkwX4_areAllSo_1 : List UInt8 := [153, 0, 7, 4, 167, 0, 4, 3, 62, 3, 54, 5, 21, 5, 8, 162, 0, 32, 21, 4, 28, 160, 0, 26]
abbrev dktX4_areAllSo_1 : List UInt8 := dkwX4_areAllSo_1 ++ dktX4_areAllSo_2
def dkwX4_areAllSo_0 : List UInt8 := [4, 62, 3, 54, 4, 21, 4, 16, 60, 163, 0, 70, 29, 153, 0, 16, 42, 21, 4, 182, 1, 173]
abbrev dktX4_areAllSo_0 : List UInt8 := dkwX4_areAllSo_0 ++ dktX4_areAllSo_1
theorem dksX4_areAllSo_0 : cX4_areAllSo.data.toList.drop 0 = dktX4_areAllSo_0 := by decide +kernel
theorem dksX4_areAllSo_1 : cX4_areAllSo.data.toList.drop 22 = dktX4_areAllSo_1 := dk_seg dksX4_areAllSo_0 22 rfl rfl
theorem dksX4_areAllSo_2 : cX4_areAllSo.data.toList.drop 46 = dktX4_areAllSo_2 := dk_seg dksX4_areAllSo_1 24 rfl rfl
theorem dksX4_areAllSo_3 : cX4_areAllSo.data.toList.drop 70 = dktX4_areAllSo_3 := dk_seg dksX4_areAllSo_2 24 rfl rfl
theorem dX4_areAllSo_0 : decode cX4_areAllSo 0 = .ok (.iconst 1, 1) := dk_4 (dk_at dksX4_areAllSo_0 0 rfl rfl)
theorem dX4_areAllSo_1 : decode cX4_areAllSo 1 = .ok (.istore_n 3, 1) := dk_62 (dk_at dksX4_areAllSo_0 1 rfl rfl)
theorem dX4_areAllSo_2 : decode cX4_areAllSo 2 = .ok (.iconst 0, 1) := dk_3 (dk_at dksX4_areAllSo_0 2 rfl rfl)
theorem dX4_areAllSo_3 : decode cX4_areAllSo 3 = .ok (.istore 4, 2) := dk_54 4 (dk_at dksX4_areAllSo_0 3 rfl rfl)
theorem dX4_areAllSo_5 : decode cX4_areAllSo 5 = .ok (.iload 4, 2) := dk_21 4 (dk_at dksX4_areAllSo_0 5 rfl rfl)
theorem dX4_areAllSo_7 : decode cX4_areAllSo 7 = .ok (.bipush 60, 2) := dk_16 60 (dk_at dksX4_areAllSo_0 7 rfl rfl)
theorem dX4_areAllSo_9 : decode cX4_areAllSo 9 = .ok (.if_icmp .gt 70, 3) := dk_163 0 70 (dk_at dksX4_areAllSo_0 9 rfl rfl)
theorem dX4_areAllSo_12 : decode cX4_areAllSo 12 = .ok (.iload_n 3, 1) := dk_29 (dk_at dksX4_areAllSo_0 12 rfl rfl)
theorem dX4_areAllSo_13 : decode cX4_areAllSo 13 = .ok (.ifCond .eq 16, 3) := dk_153 0 16 (dk_at dksX4_areAllSo_0 13 rfl rfl)
theorem dX4_areAllSo_16 : decode cX4_areAllSo 16 = .ok (.aload_n 0, 1) := dk_42 (dk_at dksX4_areAllSo_0 16 rfl rfl)
theorem dX4_areAllSo_17 : decode cX4_areAllSo 17 = .ok (.iload 4, 2) := dk_21 4 (dk_at dksX4_areAllSo_0 17 rfl rfl)
theorem dX4_areAllSo_19 : decode cX4_areAllSo 19 = .ok (.invokevirtual 429, 3) := dk_182 1 173 (dk_at dksX4_areAllSo_0 19 rfl rfl)
theorem dX4_areAllSo_22 : decode cX4_areAllSo 22 = .ok (.ifCond .eq 7, 3) := dk_153 0 7 (dk_at dksX4_areAllSo_1 0 rfl rfl)
theorem dX4_areAllSo_25 : decode cX4_areAllSo 25 = .ok (.iconst 1, 1) := dk_4 (dk_at dksX4_areAllSo_1 3 rfl rfl)
theorem dX4_areAllSo_26 : decode cX4_areAllSo 26 = .ok (.goto 4, 3) := dk_167 0 4 (dk_at dksX4_areAllSo_1 4 rfl rfl)
theorem dX4_areAllSo_29 : decode cX4_areAllSo 29 = .ok (.iconst 0, 1) := dk_3 (dk_at dksX4_areAllSo_1 7 rfl rfl)
theorem dX4_areAllSo_30 : decode cX4_areAllSo 30 = .ok (.istore_n 3, 1) := dk_62 (dk_at dksX4_areAllSo_1 8 rfl rfl)
theorem dX4_areAllSo_31 : decode cX4_areAllSo 31 = .ok (.iconst 0, 1) := dk_3 (dk_at dksX4_areAllSo_1 9 rfl rfl)
theorem dX4_areAllSo_32 : decode cX4_areAllSo 32 = .ok (.istore 5, 2) := dk_54 5 (dk_at dksX4_areAllSo_1 10 rfl rfl)
theorem dX4_areAllSo_34 : decode cX4_areAllSo 34 = .ok (.iload 5, 2) := dk_21 5 (dk_at dksX4_areAllSo_1 12 rfl rfl)
theorem dX4_areAllSo_36 : decode cX4_areAllSo 36 = .ok (.iconst 5, 1) := dk_8 (dk_at dksX4_areAllSo_1 14 rfl rfl)
theorem dX4_areAllSo_37 : decode cX4_areAllSo 37 = .ok (.if_icmp .ge 32, 3) := dk_162 0 32 (dk_at dksX4_areAllSo_1 15 rfl rfl)
theorem dX4_areAllSo_40 : decode cX4_areAllSo 40 = .ok (.iload 4, 2) := dk_21 4 (dk_at dksX4_areAllSo_1 18 rfl rfl)
theorem dX4_areAllSo_42 : decode cX4_areAllSo 42 = .ok (.iload_n 2, 1) := dk_28 (dk_at dksX4_areAllSo_1 20 rfl rfl)
theorem dX4_areAllSo_43 : decode cX4_areAllSo 43 = .ok (.if_icmp .ne 26, 3) := dk_160 0 26 (dk_at dksX4_areAllSo_1 21 rfl rfl)
theorem dX4_areAllSo_46 : decode cX4_areAllSo 46 = .ok (.aload_n 0, 1) := dk_42 (dk_at dksX4_areAllSo_2 0 rfl rfl)
theorem dX4_areAllSo_47 : decode cX4_areAllSo 47 = .ok (.getfield 71, 3) := dk_180 0 71 (dk_at dksX4_areAllSo_2 1 rfl rfl)
theorem dX4_areAllSo_50 : decode cX4_areAllSo 50 = .ok (.iconst 5, 1) := dk_8 (dk_at dksX4_areAllSo_2 4 rfl rfl)
theorem dX4_areAllSo_51 : decode cX4_areAllSo 51 = .ok (.iload_n 1, 1) := dk_27 (dk_at dksX4_areAllSo_2 5 rfl rfl)
theorem dX4_areAllSo_52 : decode cX4_areAllSo 52 = .ok (.imul, 1) := dk_104 (dk_at dksX4_areAllSo_2 6 rfl rfl)
theorem dX4_areAllSo_53 : decode cX4_areAllSo 53 = .ok (.iload 5, 2) := dk_21 5 (dk_at dksX4_areAllSo_2 7 rfl rfl)
theorem dX4_areAllSo_55 : decode cX4_areAllSo 55 = .ok (.iadd, 1) := dk_96 (dk_at dksX4_areAllSo_2 9 rfl rfl)
theorem dX4_areAllSo_56 : decode cX4_areAllSo 56 = .ok (.aload_n 0, 1) := dk_42 (dk_at dksX4_areAllSo_2 10 rfl rfl)
theorem dX4_areAllSo_57 : decode cX4_areAllSo 57 = .ok (.iload 5, 2) := dk_21 5 (dk_at dksX4_areAllSo_2 11 rfl rfl)
theorem dX4_areAllSo_59 : decode cX4_areAllSo 59 = .ok (.invokevirtual 426, 3) := dk_182 1 170 (dk_at dksX4_areAllSo_2 13 rfl rfl)
theorem dX4_areAllSo_62 : decode cX4_areAllSo 62 = .ok (.iastore, 1) := dk_79 (dk_at dksX4_areAllSo_2 16 rfl rfl)
theorem dX4_areAllSo_63 : decode cX4_areAllSo 63 = .ok (.iinc 5 1, 3) := dk_132 5 1 (dk_at dksX4_areAllSo_2 17 rfl rfl)
theorem dX4_areAllSo_66 : decode cX4_areAllSo 66 = .ok (.goto (-32), 3) := dk_167 255 224 (dk_at dksX4_areAllSo_2 20 rfl rfl)
theorem dX4_areAllSo_69 : decode cX4_areAllSo 69 = .ok (.aload_n 0, 1) := dk_42 (dk_at dksX4_areAllSo_2 23 rfl rfl)
theorem dX4_areAllSo_70 : decode cX4_areAllSo 70 = .ok (.invokevirtual 360, 3) := dk_182 1 104 (dk_at dksX4_areAllSo_3 0 rfl rfl)
theorem dX4_areAllSo_73 : decode cX4_areAllSo 73 = .ok (.iinc 4 1, 3) := dk_132 4 1 (dk_at dksX4_areAllSo_3 3 rfl rfl)
theorem dX4_areAllSo_76 : decode cX4_areAllSo 76 = .ok (.goto (-71), 3) := dk_167 255 185 (dk_at dksX4_areAllSo_3 6 rfl rfl)
theorem dX4_areAllSo_79 : decode cX4_areAllSo 79 = .ok (.iload_n 3, 1) := dk_29 (dk_at dksX4_areAllSo_3 9 rfl rfl)
theorem dX4_areAllSo_80 : decode cX4_areAllSo 80 = .ok (.ireturn, 1) := dk_172 (dk_at dksX4_areAllSo_3 10 rfl rfl)
abbrev cX4_areNotesSo : ByteArray := prog_19_method_107_code
def yX4_areNotesSo : MethodName := ⟨RX4, "areNotesSo", "(I)Z"⟩
def dkwX4_areNotesSo_2 : List UInt8 := [180, 0, 39, 17, 0, 145, 28, 96, 5, 96, 46, 159, 0, 5, 3, 172, 132, 2, 3, 167, 255, 192, 4, 172]
abbrev dktX4_areNotesSo_2 : List UInt8 := dkwX4_areNotesSo_2 ++ []
def dkwX4_areNotesSo_1 : List UInt8 := [96, 46, 27, 160, 0, 36, 42, 42, 180, 0, 39, 17, 0, 145, 28, 96, 4, 96, 46, 182, 1, 170, 42]
abbrev dktX4_areNotesSo_1 : List UInt8 := dkwX4_areNotesSo_1 ++ dktX4_areNotesSo_2
def dkwX4_areNotesSo_0 : List UInt8 := [3, 61, 28, 6, 42, 180, 0, 39, 17, 0, 175, 46, 104, 162, 0, 56, 42, 180, 0, 39, 17, 0, 145, 28]
abbrev dktX4_areNotesSo_0 : List UInt8 := dkwX4_areNotesSo_0 ++ dktX4_areNotesSo_1
theorem dksX4_areNotesSo_0 : cX4_areNotesSo.data.toList.drop 0 = dktX4_areNotesSo_0 := by decide +kernel
theorem dksX4_areNotesSo_1 : cX4_areNotesSo.data.toList.drop 24 = dktX4_areNotesSo_1 := dk_seg dksX4_areNotesSo_0 24 rfl rfl
theorem dksX4_areNotesSo_2 : cX4_areNotesSo.data.toList.drop 47 = dktX4_areNotesSo_2 := dk_seg dksX4_areNotesSo_1 23 rfl rfl
theorem dX4_areNotesSo_0 : decode cX4_areNotesSo 0 = .ok (.iconst 0, 1) := dk_3 (dk_at dksX4_areNotesSo_0 0 rfl rfl)
theorem dX4_areNotesSo_1 : decode cX4_areNotesSo 1 = .ok (.istore_n 2, 1) := dk_61 (dk_at dksX4_areNotesSo_0 1 rfl rfl)
theorem dX4_areNotesSo_2 : decode cX4_areNotesSo 2 = .ok (.iload_n 2, 1) := dk_28 (dk_at dksX4_areNotesSo_0 2 rfl rfl)
theorem dX4_areNotesSo_3 : decode cX4_areNotesSo 3 = .ok (.iconst 3, 1) := dk_6 (dk_at dksX4_areNotesSo_0 3 rfl rfl)
theorem dX4_areNotesSo_4 : decode cX4_areNotesSo 4 = .ok (.aload_n 0, 1) := dk_42 (dk_at dksX4_areNotesSo_0 4 rfl rfl)
theorem dX4_areNotesSo_5 : decode cX4_areNotesSo 5 = .ok (.getfield 39, 3) := dk_180 0 39 (dk_at dksX4_areNotesSo_0 5 rfl rfl)
theorem dX4_areNotesSo_8 : decode cX4_areNotesSo 8 = .ok (.sipush 175, 3) := dk_17 0 175 (dk_at dksX4_areNotesSo_0 8 rfl rfl)
theorem dX4_areNotesSo_11 : decode cX4_areNotesSo 11 = .ok (.iaload, 1) := dk_46 (dk_at dksX4_areNotesSo_0 11 rfl rfl)
theorem dX4_areNotesSo_12 : decode cX4_areNotesSo 12 = .ok (.imul, 1) := dk_104 (dk_at dksX4_areNotesSo_0 12 rfl rfl)
theorem dX4_areNotesSo_13 : decode cX4_areNotesSo 13 = .ok (.if_icmp .ge 56, 3) := dk_162 0 56 (dk_at dksX4_areNotesSo_0 13 rfl rfl)
theorem dX4_areNotesSo_16 : decode cX4_areNotesSo 16 = .ok (.aload_n 0, 1) := dk_42 (dk_at dksX4_areNotesSo_0 16 rfl rfl)
theorem dX4_areNotesSo_17 : decode cX4_areNotesSo 17 = .ok (.getfield 39, 3) := dk_180 0 39 (dk_at dksX4_areNotesSo_0 17 rfl rfl)
theorem dX4_areNotesSo_20 : decode cX4_areNotesSo 20 = .ok (.sipush 145, 3) := dk_17 0 145 (dk_at dksX4_areNotesSo_0 20 rfl rfl)
theorem dX4_areNotesSo_23 : decode cX4_areNotesSo 23 = .ok (.iload_n 2, 1) := dk_28 (dk_at dksX4_areNotesSo_0 23 rfl rfl)
theorem dX4_areNotesSo_24 : decode cX4_areNotesSo 24 = .ok (.iadd, 1) := dk_96 (dk_at dksX4_areNotesSo_1 0 rfl rfl)
theorem dX4_areNotesSo_25 : decode cX4_areNotesSo 25 = .ok (.iaload, 1) := dk_46 (dk_at dksX4_areNotesSo_1 1 rfl rfl)
theorem dX4_areNotesSo_26 : decode cX4_areNotesSo 26 = .ok (.iload_n 1, 1) := dk_27 (dk_at dksX4_areNotesSo_1 2 rfl rfl)
theorem dX4_areNotesSo_27 : decode cX4_areNotesSo 27 = .ok (.if_icmp .ne 36, 3) := dk_160 0 36 (dk_at dksX4_areNotesSo_1 3 rfl rfl)
theorem dX4_areNotesSo_30 : decode cX4_areNotesSo 30 = .ok (.aload_n 0, 1) := dk_42 (dk_at dksX4_areNotesSo_1 6 rfl rfl)
theorem dX4_areNotesSo_31 : decode cX4_areNotesSo 31 = .ok (.aload_n 0, 1) := dk_42 (dk_at dksX4_areNotesSo_1 7 rfl rfl)
theorem dX4_areNotesSo_32 : decode cX4_areNotesSo 32 = .ok (.getfield 39, 3) := dk_180 0 39 (dk_at dksX4_areNotesSo_1 8 rfl rfl)
theorem dX4_areNotesSo_35 : decode cX4_areNotesSo 35 = .ok (.sipush 145, 3) := dk_17 0 145 (dk_at dksX4_areNotesSo_1 11 rfl rfl)
theorem dX4_areNotesSo_38 : decode cX4_areNotesSo 38 = .ok (.iload_n 2, 1) := dk_28 (dk_at dksX4_areNotesSo_1 14 rfl rfl)
theorem dX4_areNotesSo_39 : decode cX4_areNotesSo 39 = .ok (.iadd, 1) := dk_96 (dk_at dksX4_areNotesSo_1 15 rfl rfl)
theorem dX4_areNotesSo_40 : decode cX4_areNotesSo 40 = .ok (.iconst 1, 1) := dk_4 (dk_at dksX4_areNotesSo_1 16 rfl rfl)
theorem dX4_areNotesSo_41 : decode cX4_areNotesSo 41 = .ok (.iadd, 1) := dk_96 (dk_at dksX4_areNotesSo_1 17 rfl rfl)
theorem dX4_areNotesSo_42 : decode cX4_areNotesSo 42 = .ok (.iaload, 1) := dk_46 (dk_at dksX4_areNotesSo_1 18 rfl rfl)
theorem dX4_areNotesSo_43 : decode cX4_areNotesSo 43 = .ok (.invokevirtual 426, 3) := dk_182 1 170 (dk_at dksX4_areNotesSo_1 19 rfl rfl)
theorem dX4_areNotesSo_46 : decode cX4_areNotesSo 46 = .ok (.aload_n 0, 1) := dk_42 (dk_at dksX4_areNotesSo_1 22 rfl rfl)
theorem dX4_areNotesSo_47 : decode cX4_areNotesSo 47 = .ok (.getfield 39, 3) := dk_180 0 39 (dk_at dksX4_areNotesSo_2 0 rfl rfl)
theorem dX4_areNotesSo_50 : decode cX4_areNotesSo 50 = .ok (.sipush 145, 3) := dk_17 0 145 (dk_at dksX4_areNotesSo_2 3 rfl rfl)
theorem dX4_areNotesSo_53 : decode cX4_areNotesSo 53 = .ok (.iload_n 2, 1) := dk_28 (dk_at dksX4_areNotesSo_2 6 rfl rfl)
theorem dX4_areNotesSo_54 : decode cX4_areNotesSo 54 = .ok (.iadd, 1) := dk_96 (dk_at dksX4_areNotesSo_2 7 rfl rfl)
theorem dX4_areNotesSo_55 : decode cX4_areNotesSo 55 = .ok (.iconst 2, 1) := dk_5 (dk_at dksX4_areNotesSo_2 8 rfl rfl)
theorem dX4_areNotesSo_56 : decode cX4_areNotesSo 56 = .ok (.iadd, 1) := dk_96 (dk_at dksX4_areNotesSo_2 9 rfl rfl)
theorem dX4_areNotesSo_57 : decode cX4_areNotesSo 57 = .ok (.iaload, 1) := dk_46 (dk_at dksX4_areNotesSo_2 10 rfl rfl)
theorem dX4_areNotesSo_58 : decode cX4_areNotesSo 58 = .ok (.if_icmp .eq 5, 3) := dk_159 0 5 (dk_at dksX4_areNotesSo_2 11 rfl rfl)
theorem dX4_areNotesSo_61 : decode cX4_areNotesSo 61 = .ok (.iconst 0, 1) := dk_3 (dk_at dksX4_areNotesSo_2 14 rfl rfl)
theorem dX4_areNotesSo_62 : decode cX4_areNotesSo 62 = .ok (.ireturn, 1) := dk_172 (dk_at dksX4_areNotesSo_2 15 rfl rfl)
theorem dX4_areNotesSo_63 : decode cX4_areNotesSo 63 = .ok (.iinc 2 3, 3) := dk_132 2 3 (dk_at dksX4_areNotesSo_2 16 rfl rfl)
theorem dX4_areNotesSo_66 : decode cX4_areNotesSo 66 = .ok (.goto (-64), 3) := dk_167 255 192 (dk_at dksX4_areNotesSo_2 19 rfl rfl)
theorem dX4_areNotesSo_69 : decode cX4_areNotesSo 69 = .ok (.iconst 1, 1) := dk_4 (dk_at dksX4_areNotesSo_2 22 rfl rfl)
theorem dX4_areNotesSo_70 : decode cX4_areNotesSo 70 = .ok (.ireturn, 1) := dk_172 (dk_at dksX4_areNotesSo_2 23 rfl rfl)
abbrev cX4_cellOn : ByteArray := prog_19_method_106_code
def yX4_cellOn : MethodName := ⟨RX4, "cellOn", "(I)I"⟩
def dkwX4_cellOn_0 : List UInt8 := [42, 27, 182, 1, 57, 153, 0, 11, 42, 27, 182, 1, 60, 167, 0, 4, 2, 172]
abbrev dktX4_cellOn_0 : List UInt8 := dkwX4_cellOn_0 ++ []
theorem dksX4_cellOn_0 : cX4_cellOn.data.toList.drop 0 = dktX4_cellOn_0 := by decide +kernel
theorem dX4_cellOn_0 : decode cX4_cellOn 0 = .ok (.aload_n 0, 1) := dk_42 (dk_at dksX4_cellOn_0 0 rfl rfl)
theorem dX4_cellOn_1 : decode cX4_cellOn 1 = .ok (.iload_n 1, 1) := dk_27 (dk_at dksX4_cellOn_0 1 rfl rfl)
theorem dX4_cellOn_2 : decode cX4_cellOn 2 = .ok (.invokevirtual 313, 3) := dk_182 1 57 (dk_at dksX4_cellOn_0 2 rfl rfl)
theorem dX4_cellOn_5 : decode cX4_cellOn 5 = .ok (.ifCond .eq 11, 3) := dk_153 0 11 (dk_at dksX4_cellOn_0 5 rfl rfl)
theorem dX4_cellOn_8 : decode cX4_cellOn 8 = .ok (.aload_n 0, 1) := dk_42 (dk_at dksX4_cellOn_0 8 rfl rfl)
theorem dX4_cellOn_9 : decode cX4_cellOn 9 = .ok (.iload_n 1, 1) := dk_27 (dk_at dksX4_cellOn_0 9 rfl rfl)
theorem dX4_cellOn_10 : decode cX4_cellOn 10 = .ok (.invokevirtual 316, 3) := dk_182 1 60 (dk_at dksX4_cellOn_0 10 rfl rfl)
theorem dX4_cellOn_13 : decode cX4_cellOn 13 = .ok (.goto 4, 3) := dk_167 0 4 (dk_at dksX4_cellOn_0 13 rfl rfl)
theorem dX4_cellOn_16 : decode cX4_cellOn 16 = .ok (.iconst (-1), 1) := dk_2 (dk_at dksX4_cellOn_0 16 rfl rfl)
theorem dX4_cellOn_17 : decode cX4_cellOn 17 = .ok (.ireturn, 1) := dk_172 (dk_at dksX4_cellOn_0 17 rfl rfl)
abbrev cX4_look : ByteArray := prog_19_method_112_code
def yX4_look : MethodName := ⟨RX4, "look", "(II)I"⟩
def dkwX4_look_4 : List UInt8 := [167, 255, 208, 28, 154, 0, 7, 29, 167, 0, 5, 21, 4, 172]
abbrev dktX4_look_4 : List UInt8 := dkwX4_look_4 ++ []
def dkwX4_look_3 : List UInt8 := [29, 155, 0, 13, 21, 6, 21, 4, 161, 0, 6, 167, 0, 10, 21, 5, 62, 21, 6, 54, 4, 132, 5, 1]
abbrev dktX4_look_3 : List UInt8 := dkwX4_look_3 ++ dktX4_look_4
def dkwX4_look_2 : List UInt8 := [21, 5, 42, 180, 0, 39, 5, 46, 162, 0, 43, 42, 21, 5, 182, 1, 182, 54, 6, 21, 6, 153, 0, 24]
abbrev dktX4_look_2 : List UInt8 := dkwX4_look_2 ++ dktX4_look_3
def dkwX4_look_1 : List UInt8 := [184, 0, 124, 154, 0, 5, 2, 172, 42, 27, 182, 1, 179, 16, 254, 62, 16, 254, 54, 4, 3, 54, 5]
abbrev dktX4_look_1 : List UInt8 := dkwX4_look_1 ++ dktX4_look_2
def dkwX4_look_0 : List UInt8 := [42, 182, 1, 36, 153, 0, 25, 27, 133, 9, 20, 1, 168, 184, 0, 124, 153, 0, 13, 28, 133, 9, 10]
abbrev dktX4_look_0 : List UInt8 := dkwX4_look_0 ++ dktX4_look_1
theorem dksX4_look_0 : cX4_look.data.toList.drop 0 = dktX4_look_0 := by decide +kernel
theorem dksX4_look_1 : cX4_look.data.toList.drop 23 = dktX4_look_1 := dk_seg dksX4_look_0 23 rfl rfl
theorem dksX4_look_2 : cX4_look.data.toList.drop 46 = dktX4_look_2 := dk_seg dksX4_look_1 23 rfl rfl
theorem dksX4_look_3 : cX4_look.data.toList.drop 70 = dktX4_look_3 := dk_seg dksX4_look_2 24 rfl rfl
theorem dksX4_look_4 : cX4_look.data.toList.drop 94 = dktX4_look_4 := dk_seg dksX4_look_3 24 rfl rfl
theorem dX4_look_0 : decode cX4_look 0 = .ok (.aload_n 0, 1) := dk_42 (dk_at dksX4_look_0 0 rfl rfl)
theorem dX4_look_1 : decode cX4_look 1 = .ok (.invokevirtual 292, 3) := dk_182 1 36 (dk_at dksX4_look_0 1 rfl rfl)
theorem dX4_look_4 : decode cX4_look 4 = .ok (.ifCond .eq 25, 3) := dk_153 0 25 (dk_at dksX4_look_0 4 rfl rfl)
theorem dX4_look_7 : decode cX4_look 7 = .ok (.iload_n 1, 1) := dk_27 (dk_at dksX4_look_0 7 rfl rfl)
theorem dX4_look_8 : decode cX4_look 8 = .ok (.i2l, 1) := dk_133 (dk_at dksX4_look_0 8 rfl rfl)
theorem dX4_look_9 : decode cX4_look 9 = .ok (.lconst 0, 1) := dk_9 (dk_at dksX4_look_0 9 rfl rfl)
theorem dX4_look_10 : decode cX4_look 10 = .ok (.ldc2_w 424, 3) := dk_20 1 168 (dk_at dksX4_look_0 10 rfl rfl)
theorem dX4_look_13 : decode cX4_look 13 = .ok (.invokestatic 124, 3) := dk_184 0 124 (dk_at dksX4_look_0 13 rfl rfl)
theorem dX4_look_16 : decode cX4_look 16 = .ok (.ifCond .eq 13, 3) := dk_153 0 13 (dk_at dksX4_look_0 16 rfl rfl)
theorem dX4_look_19 : decode cX4_look 19 = .ok (.iload_n 2, 1) := dk_28 (dk_at dksX4_look_0 19 rfl rfl)
theorem dX4_look_20 : decode cX4_look 20 = .ok (.i2l, 1) := dk_133 (dk_at dksX4_look_0 20 rfl rfl)
theorem dX4_look_21 : decode cX4_look 21 = .ok (.lconst 0, 1) := dk_9 (dk_at dksX4_look_0 21 rfl rfl)
theorem dX4_look_22 : decode cX4_look 22 = .ok (.lconst 1, 1) := dk_10 (dk_at dksX4_look_0 22 rfl rfl)
theorem dX4_look_23 : decode cX4_look 23 = .ok (.invokestatic 124, 3) := dk_184 0 124 (dk_at dksX4_look_1 0 rfl rfl)
theorem dX4_look_26 : decode cX4_look 26 = .ok (.ifCond .ne 5, 3) := dk_154 0 5 (dk_at dksX4_look_1 3 rfl rfl)
theorem dX4_look_29 : decode cX4_look 29 = .ok (.iconst (-1), 1) := dk_2 (dk_at dksX4_look_1 6 rfl rfl)
theorem dX4_look_30 : decode cX4_look 30 = .ok (.ireturn, 1) := dk_172 (dk_at dksX4_look_1 7 rfl rfl)
theorem dX4_look_31 : decode cX4_look 31 = .ok (.aload_n 0, 1) := dk_42 (dk_at dksX4_look_1 8 rfl rfl)
theorem dX4_look_32 : decode cX4_look 32 = .ok (.iload_n 1, 1) := dk_27 (dk_at dksX4_look_1 9 rfl rfl)
theorem dX4_look_33 : decode cX4_look 33 = .ok (.invokevirtual 435, 3) := dk_182 1 179 (dk_at dksX4_look_1 10 rfl rfl)
theorem dX4_look_36 : decode cX4_look 36 = .ok (.bipush (-2), 2) := dk_16 254 (dk_at dksX4_look_1 13 rfl rfl)
theorem dX4_look_38 : decode cX4_look 38 = .ok (.istore_n 3, 1) := dk_62 (dk_at dksX4_look_1 15 rfl rfl)
theorem dX4_look_39 : decode cX4_look 39 = .ok (.bipush (-2), 2) := dk_16 254 (dk_at dksX4_look_1 16 rfl rfl)
theorem dX4_look_41 : decode cX4_look 41 = .ok (.istore 4, 2) := dk_54 4 (dk_at dksX4_look_1 18 rfl rfl)
theorem dX4_look_43 : decode cX4_look 43 = .ok (.iconst 0, 1) := dk_3 (dk_at dksX4_look_1 20 rfl rfl)
theorem dX4_look_44 : decode cX4_look 44 = .ok (.istore 5, 2) := dk_54 5 (dk_at dksX4_look_1 21 rfl rfl)
theorem dX4_look_46 : decode cX4_look 46 = .ok (.iload 5, 2) := dk_21 5 (dk_at dksX4_look_2 0 rfl rfl)
theorem dX4_look_48 : decode cX4_look 48 = .ok (.aload_n 0, 1) := dk_42 (dk_at dksX4_look_2 2 rfl rfl)
theorem dX4_look_49 : decode cX4_look 49 = .ok (.getfield 39, 3) := dk_180 0 39 (dk_at dksX4_look_2 3 rfl rfl)
theorem dX4_look_52 : decode cX4_look 52 = .ok (.iconst 2, 1) := dk_5 (dk_at dksX4_look_2 6 rfl rfl)
theorem dX4_look_53 : decode cX4_look 53 = .ok (.iaload, 1) := dk_46 (dk_at dksX4_look_2 7 rfl rfl)
theorem dX4_look_54 : decode cX4_look 54 = .ok (.if_icmp .ge 43, 3) := dk_162 0 43 (dk_at dksX4_look_2 8 rfl rfl)
theorem dX4_look_57 : decode cX4_look 57 = .ok (.aload_n 0, 1) := dk_42 (dk_at dksX4_look_2 11 rfl rfl)
theorem dX4_look_58 : decode cX4_look 58 = .ok (.iload 5, 2) := dk_21 5 (dk_at dksX4_look_2 12 rfl rfl)
theorem dX4_look_60 : decode cX4_look 60 = .ok (.invokevirtual 438, 3) := dk_182 1 182 (dk_at dksX4_look_2 14 rfl rfl)
theorem dX4_look_63 : decode cX4_look 63 = .ok (.istore 6, 2) := dk_54 6 (dk_at dksX4_look_2 17 rfl rfl)
theorem dX4_look_65 : decode cX4_look 65 = .ok (.iload 6, 2) := dk_21 6 (dk_at dksX4_look_2 19 rfl rfl)
theorem dX4_look_67 : decode cX4_look 67 = .ok (.ifCond .eq 24, 3) := dk_153 0 24 (dk_at dksX4_look_2 21 rfl rfl)
theorem dX4_look_70 : decode cX4_look 70 = .ok (.iload_n 3, 1) := dk_29 (dk_at dksX4_look_3 0 rfl rfl)
theorem dX4_look_71 : decode cX4_look 71 = .ok (.ifCond .lt 13, 3) := dk_155 0 13 (dk_at dksX4_look_3 1 rfl rfl)
theorem dX4_look_74 : decode cX4_look 74 = .ok (.iload 6, 2) := dk_21 6 (dk_at dksX4_look_3 4 rfl rfl)
theorem dX4_look_76 : decode cX4_look 76 = .ok (.iload 4, 2) := dk_21 4 (dk_at dksX4_look_3 6 rfl rfl)
theorem dX4_look_78 : decode cX4_look 78 = .ok (.if_icmp .lt 6, 3) := dk_161 0 6 (dk_at dksX4_look_3 8 rfl rfl)
theorem dX4_look_81 : decode cX4_look 81 = .ok (.goto 10, 3) := dk_167 0 10 (dk_at dksX4_look_3 11 rfl rfl)
theorem dX4_look_84 : decode cX4_look 84 = .ok (.iload 5, 2) := dk_21 5 (dk_at dksX4_look_3 14 rfl rfl)
theorem dX4_look_86 : decode cX4_look 86 = .ok (.istore_n 3, 1) := dk_62 (dk_at dksX4_look_3 16 rfl rfl)
theorem dX4_look_87 : decode cX4_look 87 = .ok (.iload 6, 2) := dk_21 6 (dk_at dksX4_look_3 17 rfl rfl)
theorem dX4_look_89 : decode cX4_look 89 = .ok (.istore 4, 2) := dk_54 4 (dk_at dksX4_look_3 19 rfl rfl)
theorem dX4_look_91 : decode cX4_look 91 = .ok (.iinc 5 1, 3) := dk_132 5 1 (dk_at dksX4_look_3 21 rfl rfl)
theorem dX4_look_94 : decode cX4_look 94 = .ok (.goto (-48), 3) := dk_167 255 208 (dk_at dksX4_look_4 0 rfl rfl)
theorem dX4_look_97 : decode cX4_look 97 = .ok (.iload_n 2, 1) := dk_28 (dk_at dksX4_look_4 3 rfl rfl)
theorem dX4_look_98 : decode cX4_look 98 = .ok (.ifCond .ne 7, 3) := dk_154 0 7 (dk_at dksX4_look_4 4 rfl rfl)
theorem dX4_look_101 : decode cX4_look 101 = .ok (.iload_n 3, 1) := dk_29 (dk_at dksX4_look_4 7 rfl rfl)
theorem dX4_look_102 : decode cX4_look 102 = .ok (.goto 5, 3) := dk_167 0 5 (dk_at dksX4_look_4 8 rfl rfl)
theorem dX4_look_105 : decode cX4_look 105 = .ok (.iload 4, 2) := dk_21 4 (dk_at dksX4_look_4 11 rfl rfl)
theorem dX4_look_107 : decode cX4_look 107 = .ok (.ireturn, 1) := dk_172 (dk_at dksX4_look_4 13 rfl rfl)
abbrev cX4_alikeAt : ByteArray := prog_19_method_111_code
def yX4_alikeAt : MethodName := ⟨RX4, "alikeAt", "(I)I"⟩
def dkwX4_alikeAt_4 : List UInt8 := [167, 0, 4, 28, 61, 132, 3, 1, 167, 255, 158, 28, 172]
abbrev dktX4_alikeAt_4 : List UInt8 := dkwX4_alikeAt_4 ++ []
def dkwX4_alikeAt_3 : List UInt8 := [4, 167, 0, 4, 3, 96, 54, 4, 132, 5, 1, 167, 255, 191, 21, 4, 28, 164, 0, 8, 21, 4]
abbrev dktX4_alikeAt_3 : List UInt8 := dkwX4_alikeAt_3 ++ dktX4_alikeAt_4
def dkwX4_alikeAt_2 : List UInt8 := [42, 180, 0, 71, 8, 29, 104, 27, 96, 46, 42, 180, 0, 71, 8, 21, 5, 104, 27, 96, 46, 160, 0, 7]
abbrev dktX4_alikeAt_2 : List UInt8 := dkwX4_alikeAt_2 ++ dktX4_alikeAt_3
def dkwX4_alikeAt_1 : List UInt8 := [163, 0, 62, 42, 180, 0, 68, 29, 51, 153, 0, 53, 21, 4, 42, 180, 0, 68, 21, 5, 51, 153, 0, 31]
abbrev dktX4_alikeAt_1 : List UInt8 := dkwX4_alikeAt_1 ++ dktX4_alikeAt_2
def dkwX4_alikeAt_0 : List UInt8 := [3, 61, 3, 62, 29, 42, 180, 1, 6, 163, 0, 96, 3, 54, 4, 3, 54, 5, 21, 5, 42, 180, 1, 6]
abbrev dktX4_alikeAt_0 : List UInt8 := dkwX4_alikeAt_0 ++ dktX4_alikeAt_1
theorem dksX4_alikeAt_0 : cX4_alikeAt.data.toList.drop 0 = dktX4_alikeAt_0 := by decide +kernel
theorem dksX4_alikeAt_1 : cX4_alikeAt.data.toList.drop 24 = dktX4_alikeAt_1 := dk_seg dksX4_alikeAt_0 24 rfl rfl
theorem dksX4_alikeAt_2 : cX4_alikeAt.data.toList.drop 48 = dktX4_alikeAt_2 := dk_seg dksX4_alikeAt_1 24 rfl rfl
theorem dksX4_alikeAt_3 : cX4_alikeAt.data.toList.drop 72 = dktX4_alikeAt_3 := dk_seg dksX4_alikeAt_2 24 rfl rfl
theorem dksX4_alikeAt_4 : cX4_alikeAt.data.toList.drop 94 = dktX4_alikeAt_4 := dk_seg dksX4_alikeAt_3 22 rfl rfl
theorem dX4_alikeAt_0 : decode cX4_alikeAt 0 = .ok (.iconst 0, 1) := dk_3 (dk_at dksX4_alikeAt_0 0 rfl rfl)
theorem dX4_alikeAt_1 : decode cX4_alikeAt 1 = .ok (.istore_n 2, 1) := dk_61 (dk_at dksX4_alikeAt_0 1 rfl rfl)
theorem dX4_alikeAt_2 : decode cX4_alikeAt 2 = .ok (.iconst 0, 1) := dk_3 (dk_at dksX4_alikeAt_0 2 rfl rfl)
theorem dX4_alikeAt_3 : decode cX4_alikeAt 3 = .ok (.istore_n 3, 1) := dk_62 (dk_at dksX4_alikeAt_0 3 rfl rfl)
theorem dX4_alikeAt_4 : decode cX4_alikeAt 4 = .ok (.iload_n 3, 1) := dk_29 (dk_at dksX4_alikeAt_0 4 rfl rfl)
theorem dX4_alikeAt_5 : decode cX4_alikeAt 5 = .ok (.aload_n 0, 1) := dk_42 (dk_at dksX4_alikeAt_0 5 rfl rfl)
theorem dX4_alikeAt_6 : decode cX4_alikeAt 6 = .ok (.getfield 262, 3) := dk_180 1 6 (dk_at dksX4_alikeAt_0 6 rfl rfl)
theorem dX4_alikeAt_9 : decode cX4_alikeAt 9 = .ok (.if_icmp .gt 96, 3) := dk_163 0 96 (dk_at dksX4_alikeAt_0 9 rfl rfl)
theorem dX4_alikeAt_12 : decode cX4_alikeAt 12 = .ok (.iconst 0, 1) := dk_3 (dk_at dksX4_alikeAt_0 12 rfl rfl)
theorem dX4_alikeAt_13 : decode cX4_alikeAt 13 = .ok (.istore 4, 2) := dk_54 4 (dk_at dksX4_alikeAt_0 13 rfl rfl)
theorem dX4_alikeAt_15 : decode cX4_alikeAt 15 = .ok (.iconst 0, 1) := dk_3 (dk_at dksX4_alikeAt_0 15 rfl rfl)
theorem dX4_alikeAt_16 : decode cX4_alikeAt 16 = .ok (.istore 5, 2) := dk_54 5 (dk_at dksX4_alikeAt_0 16 rfl rfl)
theorem dX4_alikeAt_18 : decode cX4_alikeAt 18 = .ok (.iload 5, 2) := dk_21 5 (dk_at dksX4_alikeAt_0 18 rfl rfl)
theorem dX4_alikeAt_20 : decode cX4_alikeAt 20 = .ok (.aload_n 0, 1) := dk_42 (dk_at dksX4_alikeAt_0 20 rfl rfl)
theorem dX4_alikeAt_21 : decode cX4_alikeAt 21 = .ok (.getfield 262, 3) := dk_180 1 6 (dk_at dksX4_alikeAt_0 21 rfl rfl)
theorem dX4_alikeAt_24 : decode cX4_alikeAt 24 = .ok (.if_icmp .gt 62, 3) := dk_163 0 62 (dk_at dksX4_alikeAt_1 0 rfl rfl)
theorem dX4_alikeAt_27 : decode cX4_alikeAt 27 = .ok (.aload_n 0, 1) := dk_42 (dk_at dksX4_alikeAt_1 3 rfl rfl)
theorem dX4_alikeAt_28 : decode cX4_alikeAt 28 = .ok (.getfield 68, 3) := dk_180 0 68 (dk_at dksX4_alikeAt_1 4 rfl rfl)
theorem dX4_alikeAt_31 : decode cX4_alikeAt 31 = .ok (.iload_n 3, 1) := dk_29 (dk_at dksX4_alikeAt_1 7 rfl rfl)
theorem dX4_alikeAt_32 : decode cX4_alikeAt 32 = .ok (.baload, 1) := dk_51 (dk_at dksX4_alikeAt_1 8 rfl rfl)
theorem dX4_alikeAt_33 : decode cX4_alikeAt 33 = .ok (.ifCond .eq 53, 3) := dk_153 0 53 (dk_at dksX4_alikeAt_1 9 rfl rfl)
theorem dX4_alikeAt_36 : decode cX4_alikeAt 36 = .ok (.iload 4, 2) := dk_21 4 (dk_at dksX4_alikeAt_1 12 rfl rfl)
theorem dX4_alikeAt_38 : decode cX4_alikeAt 38 = .ok (.aload_n 0, 1) := dk_42 (dk_at dksX4_alikeAt_1 14 rfl rfl)
theorem dX4_alikeAt_39 : decode cX4_alikeAt 39 = .ok (.getfield 68, 3) := dk_180 0 68 (dk_at dksX4_alikeAt_1 15 rfl rfl)
theorem dX4_alikeAt_42 : decode cX4_alikeAt 42 = .ok (.iload 5, 2) := dk_21 5 (dk_at dksX4_alikeAt_1 18 rfl rfl)
theorem dX4_alikeAt_44 : decode cX4_alikeAt 44 = .ok (.baload, 1) := dk_51 (dk_at dksX4_alikeAt_1 20 rfl rfl)
theorem dX4_alikeAt_45 : decode cX4_alikeAt 45 = .ok (.ifCond .eq 31, 3) := dk_153 0 31 (dk_at dksX4_alikeAt_1 21 rfl rfl)
theorem dX4_alikeAt_48 : decode cX4_alikeAt 48 = .ok (.aload_n 0, 1) := dk_42 (dk_at dksX4_alikeAt_2 0 rfl rfl)
theorem dX4_alikeAt_49 : decode cX4_alikeAt 49 = .ok (.getfield 71, 3) := dk_180 0 71 (dk_at dksX4_alikeAt_2 1 rfl rfl)
theorem dX4_alikeAt_52 : decode cX4_alikeAt 52 = .ok (.iconst 5, 1) := dk_8 (dk_at dksX4_alikeAt_2 4 rfl rfl)
theorem dX4_alikeAt_53 : decode cX4_alikeAt 53 = .ok (.iload_n 3, 1) := dk_29 (dk_at dksX4_alikeAt_2 5 rfl rfl)
theorem dX4_alikeAt_54 : decode cX4_alikeAt 54 = .ok (.imul, 1) := dk_104 (dk_at dksX4_alikeAt_2 6 rfl rfl)
theorem dX4_alikeAt_55 : decode cX4_alikeAt 55 = .ok (.iload_n 1, 1) := dk_27 (dk_at dksX4_alikeAt_2 7 rfl rfl)
theorem dX4_alikeAt_56 : decode cX4_alikeAt 56 = .ok (.iadd, 1) := dk_96 (dk_at dksX4_alikeAt_2 8 rfl rfl)
theorem dX4_alikeAt_57 : decode cX4_alikeAt 57 = .ok (.iaload, 1) := dk_46 (dk_at dksX4_alikeAt_2 9 rfl rfl)
theorem dX4_alikeAt_58 : decode cX4_alikeAt 58 = .ok (.aload_n 0, 1) := dk_42 (dk_at dksX4_alikeAt_2 10 rfl rfl)
theorem dX4_alikeAt_59 : decode cX4_alikeAt 59 = .ok (.getfield 71, 3) := dk_180 0 71 (dk_at dksX4_alikeAt_2 11 rfl rfl)
theorem dX4_alikeAt_62 : decode cX4_alikeAt 62 = .ok (.iconst 5, 1) := dk_8 (dk_at dksX4_alikeAt_2 14 rfl rfl)
theorem dX4_alikeAt_63 : decode cX4_alikeAt 63 = .ok (.iload 5, 2) := dk_21 5 (dk_at dksX4_alikeAt_2 15 rfl rfl)
theorem dX4_alikeAt_65 : decode cX4_alikeAt 65 = .ok (.imul, 1) := dk_104 (dk_at dksX4_alikeAt_2 17 rfl rfl)
theorem dX4_alikeAt_66 : decode cX4_alikeAt 66 = .ok (.iload_n 1, 1) := dk_27 (dk_at dksX4_alikeAt_2 18 rfl rfl)
theorem dX4_alikeAt_67 : decode cX4_alikeAt 67 = .ok (.iadd, 1) := dk_96 (dk_at dksX4_alikeAt_2 19 rfl rfl)
theorem dX4_alikeAt_68 : decode cX4_alikeAt 68 = .ok (.iaload, 1) := dk_46 (dk_at dksX4_alikeAt_2 20 rfl rfl)
theorem dX4_alikeAt_69 : decode cX4_alikeAt 69 = .ok (.if_icmp .ne 7, 3) := dk_160 0 7 (dk_at dksX4_alikeAt_2 21 rfl rfl)
theorem dX4_alikeAt_72 : decode cX4_alikeAt 72 = .ok (.iconst 1, 1) := dk_4 (dk_at dksX4_alikeAt_3 0 rfl rfl)
theorem dX4_alikeAt_73 : decode cX4_alikeAt 73 = .ok (.goto 4, 3) := dk_167 0 4 (dk_at dksX4_alikeAt_3 1 rfl rfl)
theorem dX4_alikeAt_76 : decode cX4_alikeAt 76 = .ok (.iconst 0, 1) := dk_3 (dk_at dksX4_alikeAt_3 4 rfl rfl)
theorem dX4_alikeAt_77 : decode cX4_alikeAt 77 = .ok (.iadd, 1) := dk_96 (dk_at dksX4_alikeAt_3 5 rfl rfl)
theorem dX4_alikeAt_78 : decode cX4_alikeAt 78 = .ok (.istore 4, 2) := dk_54 4 (dk_at dksX4_alikeAt_3 6 rfl rfl)
theorem dX4_alikeAt_80 : decode cX4_alikeAt 80 = .ok (.iinc 5 1, 3) := dk_132 5 1 (dk_at dksX4_alikeAt_3 8 rfl rfl)
theorem dX4_alikeAt_83 : decode cX4_alikeAt 83 = .ok (.goto (-65), 3) := dk_167 255 191 (dk_at dksX4_alikeAt_3 11 rfl rfl)
theorem dX4_alikeAt_86 : decode cX4_alikeAt 86 = .ok (.iload 4, 2) := dk_21 4 (dk_at dksX4_alikeAt_3 14 rfl rfl)
theorem dX4_alikeAt_88 : decode cX4_alikeAt 88 = .ok (.iload_n 2, 1) := dk_28 (dk_at dksX4_alikeAt_3 16 rfl rfl)
theorem dX4_alikeAt_89 : decode cX4_alikeAt 89 = .ok (.if_icmp .le 8, 3) := dk_164 0 8 (dk_at dksX4_alikeAt_3 17 rfl rfl)
theorem dX4_alikeAt_92 : decode cX4_alikeAt 92 = .ok (.iload 4, 2) := dk_21 4 (dk_at dksX4_alikeAt_3 20 rfl rfl)
theorem dX4_alikeAt_94 : decode cX4_alikeAt 94 = .ok (.goto 4, 3) := dk_167 0 4 (dk_at dksX4_alikeAt_4 0 rfl rfl)
theorem dX4_alikeAt_97 : decode cX4_alikeAt 97 = .ok (.iload_n 2, 1) := dk_28 (dk_at dksX4_alikeAt_4 3 rfl rfl)
theorem dX4_alikeAt_98 : decode cX4_alikeAt 98 = .ok (.istore_n 2, 1) := dk_61 (dk_at dksX4_alikeAt_4 4 rfl rfl)
theorem dX4_alikeAt_99 : decode cX4_alikeAt 99 = .ok (.iinc 3 1, 3) := dk_132 3 1 (dk_at dksX4_alikeAt_4 5 rfl rfl)
theorem dX4_alikeAt_102 : decode cX4_alikeAt 102 = .ok (.goto (-98), 3) := dk_167 255 158 (dk_at dksX4_alikeAt_4 8 rfl rfl)
theorem dX4_alikeAt_105 : decode cX4_alikeAt 105 = .ok (.iload_n 2, 1) := dk_28 (dk_at dksX4_alikeAt_4 11 rfl rfl)
theorem dX4_alikeAt_106 : decode cX4_alikeAt 106 = .ok (.ireturn, 1) := dk_172 (dk_at dksX4_alikeAt_4 12 rfl rfl)
abbrev cX4_folds : ByteArray := prog_19_method_113_code
def yX4_folds : MethodName := ⟨RX4, "folds", "(I)I"⟩
def dkwX4_folds_5 : List UInt8 := [28, 167, 0, 21, 29, 156, 0, 8, 16, 254, 167, 0, 12, 29, 5, 6, 27, 100, 104, 122, 6, 126, 172]
abbrev dktX4_folds_5 : List UInt8 := dkwX4_folds_5 ++ []
def dkwX4_folds_4 : List UInt8 := [154, 0, 6, 21, 4, 62, 132, 2, 1, 132, 4, 1, 167, 255, 183, 42, 182, 1, 125, 27, 2, 160, 0, 7]
abbrev dktX4_folds_4 : List UInt8 := dkwX4_folds_4 ++ dktX4_folds_5
def dkwX4_folds_3 : List UInt8 := [104, 122, 6, 126, 79, 132, 5, 1, 167, 255, 226, 42, 3, 2, 182, 1, 176, 154, 0, 6, 167, 0, 13, 28]
abbrev dktX4_folds_3 : List UInt8 := dkwX4_folds_3 ++ dktX4_folds_4
def dkwX4_folds_2 : List UInt8 := [54, 5, 21, 5, 7, 162, 0, 30, 42, 180, 0, 39, 16, 46, 21, 5, 96, 21, 4, 5, 6, 21, 5, 100]
abbrev dktX4_folds_2 : List UInt8 := dkwX4_folds_2 ++ dktX4_folds_3
def dkwX4_folds_1 : List UInt8 := [3, 61, 2, 62, 42, 182, 1, 119, 3, 54, 4, 21, 4, 17, 1, 0, 162, 0, 71, 42, 182, 1, 12, 3]
abbrev dktX4_folds_1 : List UInt8 := dkwX4_folds_1 ++ dktX4_folds_2
def dkwX4_folds_0 : List UInt8 := [42, 182, 1, 36, 153, 0, 17, 27, 133, 20, 1, 185, 20, 1, 39, 184, 0, 124, 154, 0, 6, 16, 253, 172]
abbrev dktX4_folds_0 : List UInt8 := dkwX4_folds_0 ++ dktX4_folds_1
theorem dksX4_folds_0 : cX4_folds.data.toList.drop 0 = dktX4_folds_0 := by decide +kernel
theorem dksX4_folds_1 : cX4_folds.data.toList.drop 24 = dktX4_folds_1 := dk_seg dksX4_folds_0 24 rfl rfl
theorem dksX4_folds_2 : cX4_folds.data.toList.drop 48 = dktX4_folds_2 := dk_seg dksX4_folds_1 24 rfl rfl
theorem dksX4_folds_3 : cX4_folds.data.toList.drop 72 = dktX4_folds_3 := dk_seg dksX4_folds_2 24 rfl rfl
theorem dksX4_folds_4 : cX4_folds.data.toList.drop 96 = dktX4_folds_4 := dk_seg dksX4_folds_3 24 rfl rfl
theorem dksX4_folds_5 : cX4_folds.data.toList.drop 120 = dktX4_folds_5 := dk_seg dksX4_folds_4 24 rfl rfl
theorem dX4_folds_0 : decode cX4_folds 0 = .ok (.aload_n 0, 1) := dk_42 (dk_at dksX4_folds_0 0 rfl rfl)
theorem dX4_folds_1 : decode cX4_folds 1 = .ok (.invokevirtual 292, 3) := dk_182 1 36 (dk_at dksX4_folds_0 1 rfl rfl)
theorem dX4_folds_4 : decode cX4_folds 4 = .ok (.ifCond .eq 17, 3) := dk_153 0 17 (dk_at dksX4_folds_0 4 rfl rfl)
theorem dX4_folds_7 : decode cX4_folds 7 = .ok (.iload_n 1, 1) := dk_27 (dk_at dksX4_folds_0 7 rfl rfl)
theorem dX4_folds_8 : decode cX4_folds 8 = .ok (.i2l, 1) := dk_133 (dk_at dksX4_folds_0 8 rfl rfl)
theorem dX4_folds_9 : decode cX4_folds 9 = .ok (.ldc2_w 441, 3) := dk_20 1 185 (dk_at dksX4_folds_0 9 rfl rfl)
theorem dX4_folds_12 : decode cX4_folds 12 = .ok (.ldc2_w 295, 3) := dk_20 1 39 (dk_at dksX4_folds_0 12 rfl rfl)
theorem dX4_folds_15 : decode cX4_folds 15 = .ok (.invokestatic 124, 3) := dk_184 0 124 (dk_at dksX4_folds_0 15 rfl rfl)
theorem dX4_folds_18 : decode cX4_folds 18 = .ok (.ifCond .ne 6, 3) := dk_154 0 6 (dk_at dksX4_folds_0 18 rfl rfl)
theorem dX4_folds_21 : decode cX4_folds 21 = .ok (.bipush (-3), 2) := dk_16 253 (dk_at dksX4_folds_0 21 rfl rfl)
theorem dX4_folds_23 : decode cX4_folds 23 = .ok (.ireturn, 1) := dk_172 (dk_at dksX4_folds_0 23 rfl rfl)
theorem dX4_folds_24 : decode cX4_folds 24 = .ok (.iconst 0, 1) := dk_3 (dk_at dksX4_folds_1 0 rfl rfl)
theorem dX4_folds_25 : decode cX4_folds 25 = .ok (.istore_n 2, 1) := dk_61 (dk_at dksX4_folds_1 1 rfl rfl)
theorem dX4_folds_26 : decode cX4_folds 26 = .ok (.iconst (-1), 1) := dk_2 (dk_at dksX4_folds_1 2 rfl rfl)
theorem dX4_folds_27 : decode cX4_folds 27 = .ok (.istore_n 3, 1) := dk_62 (dk_at dksX4_folds_1 3 rfl rfl)
theorem dX4_folds_28 : decode cX4_folds 28 = .ok (.aload_n 0, 1) := dk_42 (dk_at dksX4_folds_1 4 rfl rfl)
theorem dX4_folds_29 : decode cX4_folds 29 = .ok (.invokevirtual 375, 3) := dk_182 1 119 (dk_at dksX4_folds_1 5 rfl rfl)
theorem dX4_folds_32 : decode cX4_folds 32 = .ok (.iconst 0, 1) := dk_3 (dk_at dksX4_folds_1 8 rfl rfl)
theorem dX4_folds_33 : decode cX4_folds 33 = .ok (.istore 4, 2) := dk_54 4 (dk_at dksX4_folds_1 9 rfl rfl)
theorem dX4_folds_35 : decode cX4_folds 35 = .ok (.iload 4, 2) := dk_21 4 (dk_at dksX4_folds_1 11 rfl rfl)
theorem dX4_folds_37 : decode cX4_folds 37 = .ok (.sipush 256, 3) := dk_17 1 0 (dk_at dksX4_folds_1 13 rfl rfl)
theorem dX4_folds_40 : decode cX4_folds 40 = .ok (.if_icmp .ge 71, 3) := dk_162 0 71 (dk_at dksX4_folds_1 16 rfl rfl)
theorem dX4_folds_43 : decode cX4_folds 43 = .ok (.aload_n 0, 1) := dk_42 (dk_at dksX4_folds_1 19 rfl rfl)
theorem dX4_folds_44 : decode cX4_folds 44 = .ok (.invokevirtual 268, 3) := dk_182 1 12 (dk_at dksX4_folds_1 20 rfl rfl)
theorem dX4_folds_47 : decode cX4_folds 47 = .ok (.iconst 0, 1) := dk_3 (dk_at dksX4_folds_1 23 rfl rfl)
theorem dX4_folds_48 : decode cX4_folds 48 = .ok (.istore 5, 2) := dk_54 5 (dk_at dksX4_folds_2 0 rfl rfl)
theorem dX4_folds_50 : decode cX4_folds 50 = .ok (.iload 5, 2) := dk_21 5 (dk_at dksX4_folds_2 2 rfl rfl)
theorem dX4_folds_52 : decode cX4_folds 52 = .ok (.iconst 4, 1) := dk_7 (dk_at dksX4_folds_2 4 rfl rfl)
theorem dX4_folds_53 : decode cX4_folds 53 = .ok (.if_icmp .ge 30, 3) := dk_162 0 30 (dk_at dksX4_folds_2 5 rfl rfl)
theorem dX4_folds_56 : decode cX4_folds 56 = .ok (.aload_n 0, 1) := dk_42 (dk_at dksX4_folds_2 8 rfl rfl)
theorem dX4_folds_57 : decode cX4_folds 57 = .ok (.getfield 39, 3) := dk_180 0 39 (dk_at dksX4_folds_2 9 rfl rfl)
theorem dX4_folds_60 : decode cX4_folds 60 = .ok (.bipush 46, 2) := dk_16 46 (dk_at dksX4_folds_2 12 rfl rfl)
theorem dX4_folds_62 : decode cX4_folds 62 = .ok (.iload 5, 2) := dk_21 5 (dk_at dksX4_folds_2 14 rfl rfl)
theorem dX4_folds_64 : decode cX4_folds 64 = .ok (.iadd, 1) := dk_96 (dk_at dksX4_folds_2 16 rfl rfl)
theorem dX4_folds_65 : decode cX4_folds 65 = .ok (.iload 4, 2) := dk_21 4 (dk_at dksX4_folds_2 17 rfl rfl)
theorem dX4_folds_67 : decode cX4_folds 67 = .ok (.iconst 2, 1) := dk_5 (dk_at dksX4_folds_2 19 rfl rfl)
theorem dX4_folds_68 : decode cX4_folds 68 = .ok (.iconst 3, 1) := dk_6 (dk_at dksX4_folds_2 20 rfl rfl)
theorem dX4_folds_69 : decode cX4_folds 69 = .ok (.iload 5, 2) := dk_21 5 (dk_at dksX4_folds_2 21 rfl rfl)
theorem dX4_folds_71 : decode cX4_folds 71 = .ok (.isub, 1) := dk_100 (dk_at dksX4_folds_2 23 rfl rfl)
theorem dX4_folds_72 : decode cX4_folds 72 = .ok (.imul, 1) := dk_104 (dk_at dksX4_folds_3 0 rfl rfl)
theorem dX4_folds_73 : decode cX4_folds 73 = .ok (.ishr, 1) := dk_122 (dk_at dksX4_folds_3 1 rfl rfl)
theorem dX4_folds_74 : decode cX4_folds 74 = .ok (.iconst 3, 1) := dk_6 (dk_at dksX4_folds_3 2 rfl rfl)
theorem dX4_folds_75 : decode cX4_folds 75 = .ok (.iand, 1) := dk_126 (dk_at dksX4_folds_3 3 rfl rfl)
theorem dX4_folds_76 : decode cX4_folds 76 = .ok (.iastore, 1) := dk_79 (dk_at dksX4_folds_3 4 rfl rfl)
theorem dX4_folds_77 : decode cX4_folds 77 = .ok (.iinc 5 1, 3) := dk_132 5 1 (dk_at dksX4_folds_3 5 rfl rfl)
theorem dX4_folds_80 : decode cX4_folds 80 = .ok (.goto (-30), 3) := dk_167 255 226 (dk_at dksX4_folds_3 8 rfl rfl)
theorem dX4_folds_83 : decode cX4_folds 83 = .ok (.aload_n 0, 1) := dk_42 (dk_at dksX4_folds_3 11 rfl rfl)
theorem dX4_folds_84 : decode cX4_folds 84 = .ok (.iconst 0, 1) := dk_3 (dk_at dksX4_folds_3 12 rfl rfl)
theorem dX4_folds_85 : decode cX4_folds 85 = .ok (.iconst (-1), 1) := dk_2 (dk_at dksX4_folds_3 13 rfl rfl)
theorem dX4_folds_86 : decode cX4_folds 86 = .ok (.invokevirtual 432, 3) := dk_182 1 176 (dk_at dksX4_folds_3 14 rfl rfl)
theorem dX4_folds_89 : decode cX4_folds 89 = .ok (.ifCond .ne 6, 3) := dk_154 0 6 (dk_at dksX4_folds_3 17 rfl rfl)
theorem dX4_folds_92 : decode cX4_folds 92 = .ok (.goto 13, 3) := dk_167 0 13 (dk_at dksX4_folds_3 20 rfl rfl)
theorem dX4_folds_95 : decode cX4_folds 95 = .ok (.iload_n 2, 1) := dk_28 (dk_at dksX4_folds_3 23 rfl rfl)
theorem dX4_folds_96 : decode cX4_folds 96 = .ok (.ifCond .ne 6, 3) := dk_154 0 6 (dk_at dksX4_folds_4 0 rfl rfl)
theorem dX4_folds_99 : decode cX4_folds 99 = .ok (.iload 4, 2) := dk_21 4 (dk_at dksX4_folds_4 3 rfl rfl)
theorem dX4_folds_101 : decode cX4_folds 101 = .ok (.istore_n 3, 1) := dk_62 (dk_at dksX4_folds_4 5 rfl rfl)
theorem dX4_folds_102 : decode cX4_folds 102 = .ok (.iinc 2 1, 3) := dk_132 2 1 (dk_at dksX4_folds_4 6 rfl rfl)
theorem dX4_folds_105 : decode cX4_folds 105 = .ok (.iinc 4 1, 3) := dk_132 4 1 (dk_at dksX4_folds_4 9 rfl rfl)
theorem dX4_folds_108 : decode cX4_folds 108 = .ok (.goto (-73), 3) := dk_167 255 183 (dk_at dksX4_folds_4 12 rfl rfl)
theorem dX4_folds_111 : decode cX4_folds 111 = .ok (.aload_n 0, 1) := dk_42 (dk_at dksX4_folds_4 15 rfl rfl)
theorem dX4_folds_112 : decode cX4_folds 112 = .ok (.invokevirtual 381, 3) := dk_182 1 125 (dk_at dksX4_folds_4 16 rfl rfl)
theorem dX4_folds_115 : decode cX4_folds 115 = .ok (.iload_n 1, 1) := dk_27 (dk_at dksX4_folds_4 19 rfl rfl)
theorem dX4_folds_116 : decode cX4_folds 116 = .ok (.iconst (-1), 1) := dk_2 (dk_at dksX4_folds_4 20 rfl rfl)
theorem dX4_folds_117 : decode cX4_folds 117 = .ok (.if_icmp .ne 7, 3) := dk_160 0 7 (dk_at dksX4_folds_4 21 rfl rfl)
theorem dX4_folds_120 : decode cX4_folds 120 = .ok (.iload_n 2, 1) := dk_28 (dk_at dksX4_folds_5 0 rfl rfl)
theorem dX4_folds_121 : decode cX4_folds 121 = .ok (.goto 21, 3) := dk_167 0 21 (dk_at dksX4_folds_5 1 rfl rfl)
theorem dX4_folds_124 : decode cX4_folds 124 = .ok (.iload_n 3, 1) := dk_29 (dk_at dksX4_folds_5 4 rfl rfl)
theorem dX4_folds_125 : decode cX4_folds 125 = .ok (.ifCond .ge 8, 3) := dk_156 0 8 (dk_at dksX4_folds_5 5 rfl rfl)
theorem dX4_folds_128 : decode cX4_folds 128 = .ok (.bipush (-2), 2) := dk_16 254 (dk_at dksX4_folds_5 8 rfl rfl)
theorem dX4_folds_130 : decode cX4_folds 130 = .ok (.goto 12, 3) := dk_167 0 12 (dk_at dksX4_folds_5 10 rfl rfl)
theorem dX4_folds_133 : decode cX4_folds 133 = .ok (.iload_n 3, 1) := dk_29 (dk_at dksX4_folds_5 13 rfl rfl)
theorem dX4_folds_134 : decode cX4_folds 134 = .ok (.iconst 2, 1) := dk_5 (dk_at dksX4_folds_5 14 rfl rfl)
theorem dX4_folds_135 : decode cX4_folds 135 = .ok (.iconst 3, 1) := dk_6 (dk_at dksX4_folds_5 15 rfl rfl)
theorem dX4_folds_136 : decode cX4_folds 136 = .ok (.iload_n 1, 1) := dk_27 (dk_at dksX4_folds_5 16 rfl rfl)
theorem dX4_folds_137 : decode cX4_folds 137 = .ok (.isub, 1) := dk_100 (dk_at dksX4_folds_5 17 rfl rfl)
theorem dX4_folds_138 : decode cX4_folds 138 = .ok (.imul, 1) := dk_104 (dk_at dksX4_folds_5 18 rfl rfl)
theorem dX4_folds_139 : decode cX4_folds 139 = .ok (.ishr, 1) := dk_122 (dk_at dksX4_folds_5 19 rfl rfl)
theorem dX4_folds_140 : decode cX4_folds 140 = .ok (.iconst 3, 1) := dk_6 (dk_at dksX4_folds_5 20 rfl rfl)
theorem dX4_folds_141 : decode cX4_folds 141 = .ok (.iand, 1) := dk_126 (dk_at dksX4_folds_5 21 rfl rfl)
theorem dX4_folds_142 : decode cX4_folds 142 = .ok (.ireturn, 1) := dk_172 (dk_at dksX4_folds_5 22 rfl rfl)
abbrev cX4_seed : ByteArray := prog_19_method_114_code
def yX4_seed : MethodName := ⟨RX4, "seed", "(I)I"⟩
def dkwX4_seed_0 : List UInt8 := [27, 156, 0, 5, 2, 172, 42, 180, 1, 187, 61, 42, 27, 181, 1, 187, 28, 172]
abbrev dktX4_seed_0 : List UInt8 := dkwX4_seed_0 ++ []
theorem dksX4_seed_0 : cX4_seed.data.toList.drop 0 = dktX4_seed_0 := by decide +kernel
theorem dX4_seed_0 : decode cX4_seed 0 = .ok (.iload_n 1, 1) := dk_27 (dk_at dksX4_seed_0 0 rfl rfl)
theorem dX4_seed_1 : decode cX4_seed 1 = .ok (.ifCond .ge 5, 3) := dk_156 0 5 (dk_at dksX4_seed_0 1 rfl rfl)
theorem dX4_seed_4 : decode cX4_seed 4 = .ok (.iconst (-1), 1) := dk_2 (dk_at dksX4_seed_0 4 rfl rfl)
theorem dX4_seed_5 : decode cX4_seed 5 = .ok (.ireturn, 1) := dk_172 (dk_at dksX4_seed_0 5 rfl rfl)
theorem dX4_seed_6 : decode cX4_seed 6 = .ok (.aload_n 0, 1) := dk_42 (dk_at dksX4_seed_0 6 rfl rfl)
theorem dX4_seed_7 : decode cX4_seed 7 = .ok (.getfield 443, 3) := dk_180 1 187 (dk_at dksX4_seed_0 7 rfl rfl)
theorem dX4_seed_10 : decode cX4_seed 10 = .ok (.istore_n 2, 1) := dk_61 (dk_at dksX4_seed_0 10 rfl rfl)
theorem dX4_seed_11 : decode cX4_seed 11 = .ok (.aload_n 0, 1) := dk_42 (dk_at dksX4_seed_0 11 rfl rfl)
theorem dX4_seed_12 : decode cX4_seed 12 = .ok (.iload_n 1, 1) := dk_27 (dk_at dksX4_seed_0 12 rfl rfl)
theorem dX4_seed_13 : decode cX4_seed 13 = .ok (.putfield 443, 3) := dk_181 1 187 (dk_at dksX4_seed_0 13 rfl rfl)
theorem dX4_seed_16 : decode cX4_seed 16 = .ok (.iload_n 2, 1) := dk_28 (dk_at dksX4_seed_0 16 rfl rfl)
theorem dX4_seed_17 : decode cX4_seed 17 = .ok (.ireturn, 1) := dk_172 (dk_at dksX4_seed_0 17 rfl rfl)
abbrev cX4_gusts : ByteArray := prog_19_method_117_code
def yX4_gusts : MethodName := ⟨RX4, "gusts", "(IIII)I"⟩
def dkwX4_gusts_7 : List UInt8 := [167, 0, 5, 21, 6, 172]
abbrev dktX4_gusts_7 : List UInt8 := dkwX4_gusts_7 ++ []
def dkwX4_gusts_6 : List UInt8 := [42, 182, 1, 137, 96, 54, 6, 42, 182, 1, 125, 132, 7, 1, 167, 255, 179, 21, 4, 154, 0, 8, 21, 5]
abbrev dktX4_gusts_6 : List UInt8 := dkwX4_gusts_6 ++ dktX4_gusts_7
def dkwX4_gusts_5 : List UInt8 := [182, 1, 104, 132, 8, 1, 167, 255, 220, 21, 5, 42, 3, 182, 1, 110, 184, 1, 134, 96, 54, 5, 21, 6]
abbrev dktX4_gusts_5 : List UInt8 := dkwX4_gusts_5 ++ dktX4_gusts_6
def dkwX4_gusts_4 : List UInt8 := [42, 16, 100, 182, 1, 202, 29, 162, 0, 16, 42, 180, 0, 39, 5, 46, 158, 0, 7, 42, 182, 1, 207, 42]
abbrev dktX4_gusts_4 : List UInt8 := dkwX4_gusts_4 ++ dktX4_gusts_5
def dkwX4_gusts_3 : List UInt8 := [54, 6, 42, 182, 1, 119, 3, 54, 7, 21, 7, 27, 162, 0, 77, 3, 54, 8, 21, 8, 28, 162, 0, 36]
abbrev dktX4_gusts_3 : List UInt8 := dkwX4_gusts_3 ++ dktX4_gusts_4
def dkwX4_gusts_2 : List UInt8 := [9, 10, 184, 0, 124, 154, 0, 5, 2, 172, 42, 42, 180, 1, 187, 133, 181, 1, 190, 3, 54, 5, 3]
abbrev dktX4_gusts_2 : List UInt8 := dkwX4_gusts_2 ++ dktX4_gusts_3
def dkwX4_gusts_1 : List UInt8 := [20, 1, 168, 184, 0, 124, 153, 0, 26, 29, 133, 9, 20, 1, 115, 184, 0, 124, 153, 0, 14, 21, 4, 133]
abbrev dktX4_gusts_1 : List UInt8 := dkwX4_gusts_1 ++ dktX4_gusts_2
def dkwX4_gusts_0 : List UInt8 := [42, 182, 1, 36, 153, 0, 50, 27, 133, 10, 20, 1, 205, 184, 0, 124, 153, 0, 38, 28, 133, 10]
abbrev dktX4_gusts_0 : List UInt8 := dkwX4_gusts_0 ++ dktX4_gusts_1
theorem dksX4_gusts_0 : cX4_gusts.data.toList.drop 0 = dktX4_gusts_0 := by decide +kernel
theorem dksX4_gusts_1 : cX4_gusts.data.toList.drop 22 = dktX4_gusts_1 := dk_seg dksX4_gusts_0 22 rfl rfl
theorem dksX4_gusts_2 : cX4_gusts.data.toList.drop 46 = dktX4_gusts_2 := dk_seg dksX4_gusts_1 24 rfl rfl
theorem dksX4_gusts_3 : cX4_gusts.data.toList.drop 69 = dktX4_gusts_3 := dk_seg dksX4_gusts_2 23 rfl rfl
theorem dksX4_gusts_4 : cX4_gusts.data.toList.drop 93 = dktX4_gusts_4 := dk_seg dksX4_gusts_3 24 rfl rfl
theorem dksX4_gusts_5 : cX4_gusts.data.toList.drop 117 = dktX4_gusts_5 := dk_seg dksX4_gusts_4 24 rfl rfl
theorem dksX4_gusts_6 : cX4_gusts.data.toList.drop 141 = dktX4_gusts_6 := dk_seg dksX4_gusts_5 24 rfl rfl
theorem dksX4_gusts_7 : cX4_gusts.data.toList.drop 165 = dktX4_gusts_7 := dk_seg dksX4_gusts_6 24 rfl rfl
theorem dX4_gusts_0 : decode cX4_gusts 0 = .ok (.aload_n 0, 1) := dk_42 (dk_at dksX4_gusts_0 0 rfl rfl)
theorem dX4_gusts_1 : decode cX4_gusts 1 = .ok (.invokevirtual 292, 3) := dk_182 1 36 (dk_at dksX4_gusts_0 1 rfl rfl)
theorem dX4_gusts_4 : decode cX4_gusts 4 = .ok (.ifCond .eq 50, 3) := dk_153 0 50 (dk_at dksX4_gusts_0 4 rfl rfl)
theorem dX4_gusts_7 : decode cX4_gusts 7 = .ok (.iload_n 1, 1) := dk_27 (dk_at dksX4_gusts_0 7 rfl rfl)
theorem dX4_gusts_8 : decode cX4_gusts 8 = .ok (.i2l, 1) := dk_133 (dk_at dksX4_gusts_0 8 rfl rfl)
theorem dX4_gusts_9 : decode cX4_gusts 9 = .ok (.lconst 1, 1) := dk_10 (dk_at dksX4_gusts_0 9 rfl rfl)
theorem dX4_gusts_10 : decode cX4_gusts 10 = .ok (.ldc2_w 461, 3) := dk_20 1 205 (dk_at dksX4_gusts_0 10 rfl rfl)
theorem dX4_gusts_13 : decode cX4_gusts 13 = .ok (.invokestatic 124, 3) := dk_184 0 124 (dk_at dksX4_gusts_0 13 rfl rfl)
theorem dX4_gusts_16 : decode cX4_gusts 16 = .ok (.ifCond .eq 38, 3) := dk_153 0 38 (dk_at dksX4_gusts_0 16 rfl rfl)
theorem dX4_gusts_19 : decode cX4_gusts 19 = .ok (.iload_n 2, 1) := dk_28 (dk_at dksX4_gusts_0 19 rfl rfl)
theorem dX4_gusts_20 : decode cX4_gusts 20 = .ok (.i2l, 1) := dk_133 (dk_at dksX4_gusts_0 20 rfl rfl)
theorem dX4_gusts_21 : decode cX4_gusts 21 = .ok (.lconst 1, 1) := dk_10 (dk_at dksX4_gusts_0 21 rfl rfl)
theorem dX4_gusts_22 : decode cX4_gusts 22 = .ok (.ldc2_w 424, 3) := dk_20 1 168 (dk_at dksX4_gusts_1 0 rfl rfl)
theorem dX4_gusts_25 : decode cX4_gusts 25 = .ok (.invokestatic 124, 3) := dk_184 0 124 (dk_at dksX4_gusts_1 3 rfl rfl)
theorem dX4_gusts_28 : decode cX4_gusts 28 = .ok (.ifCond .eq 26, 3) := dk_153 0 26 (dk_at dksX4_gusts_1 6 rfl rfl)
theorem dX4_gusts_31 : decode cX4_gusts 31 = .ok (.iload_n 3, 1) := dk_29 (dk_at dksX4_gusts_1 9 rfl rfl)
theorem dX4_gusts_32 : decode cX4_gusts 32 = .ok (.i2l, 1) := dk_133 (dk_at dksX4_gusts_1 10 rfl rfl)
theorem dX4_gusts_33 : decode cX4_gusts 33 = .ok (.lconst 0, 1) := dk_9 (dk_at dksX4_gusts_1 11 rfl rfl)
theorem dX4_gusts_34 : decode cX4_gusts 34 = .ok (.ldc2_w 371, 3) := dk_20 1 115 (dk_at dksX4_gusts_1 12 rfl rfl)
theorem dX4_gusts_37 : decode cX4_gusts 37 = .ok (.invokestatic 124, 3) := dk_184 0 124 (dk_at dksX4_gusts_1 15 rfl rfl)
theorem dX4_gusts_40 : decode cX4_gusts 40 = .ok (.ifCond .eq 14, 3) := dk_153 0 14 (dk_at dksX4_gusts_1 18 rfl rfl)
theorem dX4_gusts_43 : decode cX4_gusts 43 = .ok (.iload 4, 2) := dk_21 4 (dk_at dksX4_gusts_1 21 rfl rfl)
theorem dX4_gusts_45 : decode cX4_gusts 45 = .ok (.i2l, 1) := dk_133 (dk_at dksX4_gusts_1 23 rfl rfl)
theorem dX4_gusts_46 : decode cX4_gusts 46 = .ok (.lconst 0, 1) := dk_9 (dk_at dksX4_gusts_2 0 rfl rfl)
theorem dX4_gusts_47 : decode cX4_gusts 47 = .ok (.lconst 1, 1) := dk_10 (dk_at dksX4_gusts_2 1 rfl rfl)
theorem dX4_gusts_48 : decode cX4_gusts 48 = .ok (.invokestatic 124, 3) := dk_184 0 124 (dk_at dksX4_gusts_2 2 rfl rfl)
theorem dX4_gusts_51 : decode cX4_gusts 51 = .ok (.ifCond .ne 5, 3) := dk_154 0 5 (dk_at dksX4_gusts_2 5 rfl rfl)
theorem dX4_gusts_54 : decode cX4_gusts 54 = .ok (.iconst (-1), 1) := dk_2 (dk_at dksX4_gusts_2 8 rfl rfl)
theorem dX4_gusts_55 : decode cX4_gusts 55 = .ok (.ireturn, 1) := dk_172 (dk_at dksX4_gusts_2 9 rfl rfl)
theorem dX4_gusts_56 : decode cX4_gusts 56 = .ok (.aload_n 0, 1) := dk_42 (dk_at dksX4_gusts_2 10 rfl rfl)
theorem dX4_gusts_57 : decode cX4_gusts 57 = .ok (.aload_n 0, 1) := dk_42 (dk_at dksX4_gusts_2 11 rfl rfl)
theorem dX4_gusts_58 : decode cX4_gusts 58 = .ok (.getfield 443, 3) := dk_180 1 187 (dk_at dksX4_gusts_2 12 rfl rfl)
theorem dX4_gusts_61 : decode cX4_gusts 61 = .ok (.i2l, 1) := dk_133 (dk_at dksX4_gusts_2 15 rfl rfl)
theorem dX4_gusts_62 : decode cX4_gusts 62 = .ok (.putfield 446, 3) := dk_181 1 190 (dk_at dksX4_gusts_2 16 rfl rfl)
theorem dX4_gusts_65 : decode cX4_gusts 65 = .ok (.iconst 0, 1) := dk_3 (dk_at dksX4_gusts_2 19 rfl rfl)
theorem dX4_gusts_66 : decode cX4_gusts 66 = .ok (.istore 5, 2) := dk_54 5 (dk_at dksX4_gusts_2 20 rfl rfl)
theorem dX4_gusts_68 : decode cX4_gusts 68 = .ok (.iconst 0, 1) := dk_3 (dk_at dksX4_gusts_2 22 rfl rfl)
theorem dX4_gusts_69 : decode cX4_gusts 69 = .ok (.istore 6, 2) := dk_54 6 (dk_at dksX4_gusts_3 0 rfl rfl)
theorem dX4_gusts_71 : decode cX4_gusts 71 = .ok (.aload_n 0, 1) := dk_42 (dk_at dksX4_gusts_3 2 rfl rfl)
theorem dX4_gusts_72 : decode cX4_gusts 72 = .ok (.invokevirtual 375, 3) := dk_182 1 119 (dk_at dksX4_gusts_3 3 rfl rfl)
theorem dX4_gusts_75 : decode cX4_gusts 75 = .ok (.iconst 0, 1) := dk_3 (dk_at dksX4_gusts_3 6 rfl rfl)
theorem dX4_gusts_76 : decode cX4_gusts 76 = .ok (.istore 7, 2) := dk_54 7 (dk_at dksX4_gusts_3 7 rfl rfl)
theorem dX4_gusts_78 : decode cX4_gusts 78 = .ok (.iload 7, 2) := dk_21 7 (dk_at dksX4_gusts_3 9 rfl rfl)
theorem dX4_gusts_80 : decode cX4_gusts 80 = .ok (.iload_n 1, 1) := dk_27 (dk_at dksX4_gusts_3 11 rfl rfl)
theorem dX4_gusts_81 : decode cX4_gusts 81 = .ok (.if_icmp .ge 77, 3) := dk_162 0 77 (dk_at dksX4_gusts_3 12 rfl rfl)
theorem dX4_gusts_84 : decode cX4_gusts 84 = .ok (.iconst 0, 1) := dk_3 (dk_at dksX4_gusts_3 15 rfl rfl)
theorem dX4_gusts_85 : decode cX4_gusts 85 = .ok (.istore 8, 2) := dk_54 8 (dk_at dksX4_gusts_3 16 rfl rfl)
theorem dX4_gusts_87 : decode cX4_gusts 87 = .ok (.iload 8, 2) := dk_21 8 (dk_at dksX4_gusts_3 18 rfl rfl)
theorem dX4_gusts_89 : decode cX4_gusts 89 = .ok (.iload_n 2, 1) := dk_28 (dk_at dksX4_gusts_3 20 rfl rfl)
theorem dX4_gusts_90 : decode cX4_gusts 90 = .ok (.if_icmp .ge 36, 3) := dk_162 0 36 (dk_at dksX4_gusts_3 21 rfl rfl)
theorem dX4_gusts_93 : decode cX4_gusts 93 = .ok (.aload_n 0, 1) := dk_42 (dk_at dksX4_gusts_4 0 rfl rfl)
theorem dX4_gusts_94 : decode cX4_gusts 94 = .ok (.bipush 100, 2) := dk_16 100 (dk_at dksX4_gusts_4 1 rfl rfl)
theorem dX4_gusts_96 : decode cX4_gusts 96 = .ok (.invokevirtual 458, 3) := dk_182 1 202 (dk_at dksX4_gusts_4 3 rfl rfl)
theorem dX4_gusts_99 : decode cX4_gusts 99 = .ok (.iload_n 3, 1) := dk_29 (dk_at dksX4_gusts_4 6 rfl rfl)
theorem dX4_gusts_100 : decode cX4_gusts 100 = .ok (.if_icmp .ge 16, 3) := dk_162 0 16 (dk_at dksX4_gusts_4 7 rfl rfl)
theorem dX4_gusts_103 : decode cX4_gusts 103 = .ok (.aload_n 0, 1) := dk_42 (dk_at dksX4_gusts_4 10 rfl rfl)
theorem dX4_gusts_104 : decode cX4_gusts 104 = .ok (.getfield 39, 3) := dk_180 0 39 (dk_at dksX4_gusts_4 11 rfl rfl)
theorem dX4_gusts_107 : decode cX4_gusts 107 = .ok (.iconst 2, 1) := dk_5 (dk_at dksX4_gusts_4 14 rfl rfl)
theorem dX4_gusts_108 : decode cX4_gusts 108 = .ok (.iaload, 1) := dk_46 (dk_at dksX4_gusts_4 15 rfl rfl)
theorem dX4_gusts_109 : decode cX4_gusts 109 = .ok (.ifCond .le 7, 3) := dk_158 0 7 (dk_at dksX4_gusts_4 16 rfl rfl)
theorem dX4_gusts_112 : decode cX4_gusts 112 = .ok (.aload_n 0, 1) := dk_42 (dk_at dksX4_gusts_4 19 rfl rfl)
theorem dX4_gusts_113 : decode cX4_gusts 113 = .ok (.invokevirtual 463, 3) := dk_182 1 207 (dk_at dksX4_gusts_4 20 rfl rfl)
theorem dX4_gusts_116 : decode cX4_gusts 116 = .ok (.aload_n 0, 1) := dk_42 (dk_at dksX4_gusts_4 23 rfl rfl)
theorem dX4_gusts_117 : decode cX4_gusts 117 = .ok (.invokevirtual 360, 3) := dk_182 1 104 (dk_at dksX4_gusts_5 0 rfl rfl)
theorem dX4_gusts_120 : decode cX4_gusts 120 = .ok (.iinc 8 1, 3) := dk_132 8 1 (dk_at dksX4_gusts_5 3 rfl rfl)
theorem dX4_gusts_123 : decode cX4_gusts 123 = .ok (.goto (-36), 3) := dk_167 255 220 (dk_at dksX4_gusts_5 6 rfl rfl)
theorem dX4_gusts_126 : decode cX4_gusts 126 = .ok (.iload 5, 2) := dk_21 5 (dk_at dksX4_gusts_5 9 rfl rfl)
theorem dX4_gusts_128 : decode cX4_gusts 128 = .ok (.aload_n 0, 1) := dk_42 (dk_at dksX4_gusts_5 11 rfl rfl)
theorem dX4_gusts_129 : decode cX4_gusts 129 = .ok (.iconst 0, 1) := dk_3 (dk_at dksX4_gusts_5 12 rfl rfl)
theorem dX4_gusts_130 : decode cX4_gusts 130 = .ok (.invokevirtual 366, 3) := dk_182 1 110 (dk_at dksX4_gusts_5 13 rfl rfl)
theorem dX4_gusts_133 : decode cX4_gusts 133 = .ok (.invokestatic 390, 3) := dk_184 1 134 (dk_at dksX4_gusts_5 16 rfl rfl)
theorem dX4_gusts_136 : decode cX4_gusts 136 = .ok (.iadd, 1) := dk_96 (dk_at dksX4_gusts_5 19 rfl rfl)
theorem dX4_gusts_137 : decode cX4_gusts 137 = .ok (.istore 5, 2) := dk_54 5 (dk_at dksX4_gusts_5 20 rfl rfl)
theorem dX4_gusts_139 : decode cX4_gusts 139 = .ok (.iload 6, 2) := dk_21 6 (dk_at dksX4_gusts_5 22 rfl rfl)
theorem dX4_gusts_141 : decode cX4_gusts 141 = .ok (.aload_n 0, 1) := dk_42 (dk_at dksX4_gusts_6 0 rfl rfl)
theorem dX4_gusts_142 : decode cX4_gusts 142 = .ok (.invokevirtual 393, 3) := dk_182 1 137 (dk_at dksX4_gusts_6 1 rfl rfl)
theorem dX4_gusts_145 : decode cX4_gusts 145 = .ok (.iadd, 1) := dk_96 (dk_at dksX4_gusts_6 4 rfl rfl)
theorem dX4_gusts_146 : decode cX4_gusts 146 = .ok (.istore 6, 2) := dk_54 6 (dk_at dksX4_gusts_6 5 rfl rfl)
theorem dX4_gusts_148 : decode cX4_gusts 148 = .ok (.aload_n 0, 1) := dk_42 (dk_at dksX4_gusts_6 7 rfl rfl)
theorem dX4_gusts_149 : decode cX4_gusts 149 = .ok (.invokevirtual 381, 3) := dk_182 1 125 (dk_at dksX4_gusts_6 8 rfl rfl)
theorem dX4_gusts_152 : decode cX4_gusts 152 = .ok (.iinc 7 1, 3) := dk_132 7 1 (dk_at dksX4_gusts_6 11 rfl rfl)
theorem dX4_gusts_155 : decode cX4_gusts 155 = .ok (.goto (-77), 3) := dk_167 255 179 (dk_at dksX4_gusts_6 14 rfl rfl)
theorem dX4_gusts_158 : decode cX4_gusts 158 = .ok (.iload 4, 2) := dk_21 4 (dk_at dksX4_gusts_6 17 rfl rfl)
theorem dX4_gusts_160 : decode cX4_gusts 160 = .ok (.ifCond .ne 8, 3) := dk_154 0 8 (dk_at dksX4_gusts_6 19 rfl rfl)
theorem dX4_gusts_163 : decode cX4_gusts 163 = .ok (.iload 5, 2) := dk_21 5 (dk_at dksX4_gusts_6 22 rfl rfl)
theorem dX4_gusts_165 : decode cX4_gusts 165 = .ok (.goto 5, 3) := dk_167 0 5 (dk_at dksX4_gusts_7 0 rfl rfl)
theorem dX4_gusts_168 : decode cX4_gusts 168 = .ok (.iload 6, 2) := dk_21 6 (dk_at dksX4_gusts_7 3 rfl rfl)
theorem dX4_gusts_170 : decode cX4_gusts 170 = .ok (.ireturn, 1) := dk_172 (dk_at dksX4_gusts_7 5 rfl rfl)
abbrev cX4_draw : ByteArray := prog_19_method_115_code
def yX4_draw : MethodName := ⟨RX4, "draw", "(I)I"⟩
def dkwX4_draw_1 : List UInt8 := [20, 1, 200, 109, 27, 133, 113, 136, 172]
abbrev dktX4_draw_1 : List UInt8 := dkwX4_draw_1 ++ []
def dkwX4_draw_0 : List UInt8 := [42, 42, 180, 1, 190, 20, 1, 194, 105, 20, 1, 196, 97, 20, 1, 198, 113, 181, 1, 190, 42, 180, 1, 190]
abbrev dktX4_draw_0 : List UInt8 := dkwX4_draw_0 ++ dktX4_draw_1
theorem dksX4_draw_0 : cX4_draw.data.toList.drop 0 = dktX4_draw_0 := by decide +kernel
theorem dksX4_draw_1 : cX4_draw.data.toList.drop 24 = dktX4_draw_1 := dk_seg dksX4_draw_0 24 rfl rfl
theorem dX4_draw_0 : decode cX4_draw 0 = .ok (.aload_n 0, 1) := dk_42 (dk_at dksX4_draw_0 0 rfl rfl)
theorem dX4_draw_1 : decode cX4_draw 1 = .ok (.aload_n 0, 1) := dk_42 (dk_at dksX4_draw_0 1 rfl rfl)
theorem dX4_draw_2 : decode cX4_draw 2 = .ok (.getfield 446, 3) := dk_180 1 190 (dk_at dksX4_draw_0 2 rfl rfl)
theorem dX4_draw_5 : decode cX4_draw 5 = .ok (.ldc2_w 450, 3) := dk_20 1 194 (dk_at dksX4_draw_0 5 rfl rfl)
theorem dX4_draw_8 : decode cX4_draw 8 = .ok (.lmul, 1) := dk_105 (dk_at dksX4_draw_0 8 rfl rfl)
theorem dX4_draw_9 : decode cX4_draw 9 = .ok (.ldc2_w 452, 3) := dk_20 1 196 (dk_at dksX4_draw_0 9 rfl rfl)
theorem dX4_draw_12 : decode cX4_draw 12 = .ok (.ladd, 1) := dk_97 (dk_at dksX4_draw_0 12 rfl rfl)
theorem dX4_draw_13 : decode cX4_draw 13 = .ok (.ldc2_w 454, 3) := dk_20 1 198 (dk_at dksX4_draw_0 13 rfl rfl)
theorem dX4_draw_16 : decode cX4_draw 16 = .ok (.lrem, 1) := dk_113 (dk_at dksX4_draw_0 16 rfl rfl)
theorem dX4_draw_17 : decode cX4_draw 17 = .ok (.putfield 446, 3) := dk_181 1 190 (dk_at dksX4_draw_0 17 rfl rfl)
theorem dX4_draw_20 : decode cX4_draw 20 = .ok (.aload_n 0, 1) := dk_42 (dk_at dksX4_draw_0 20 rfl rfl)
theorem dX4_draw_21 : decode cX4_draw 21 = .ok (.getfield 446, 3) := dk_180 1 190 (dk_at dksX4_draw_0 21 rfl rfl)
theorem dX4_draw_24 : decode cX4_draw 24 = .ok (.ldc2_w 456, 3) := dk_20 1 200 (dk_at dksX4_draw_1 0 rfl rfl)
theorem dX4_draw_27 : decode cX4_draw 27 = .ok (.ldiv, 1) := dk_109 (dk_at dksX4_draw_1 3 rfl rfl)
theorem dX4_draw_28 : decode cX4_draw 28 = .ok (.iload_n 1, 1) := dk_27 (dk_at dksX4_draw_1 4 rfl rfl)
theorem dX4_draw_29 : decode cX4_draw 29 = .ok (.i2l, 1) := dk_133 (dk_at dksX4_draw_1 5 rfl rfl)
theorem dX4_draw_30 : decode cX4_draw 30 = .ok (.lrem, 1) := dk_113 (dk_at dksX4_draw_1 6 rfl rfl)
theorem dX4_draw_31 : decode cX4_draw 31 = .ok (.l2i, 1) := dk_136 (dk_at dksX4_draw_1 7 rfl rfl)
theorem dX4_draw_32 : decode cX4_draw 32 = .ok (.ireturn, 1) := dk_172 (dk_at dksX4_draw_1 8 rfl rfl)
abbrev cX4_blows : ByteArray := prog_19_method_116_code
def yX4_blows : MethodName := ⟨RX4, "blows", "()V"⟩
def dkwX4_blows_1 : List UInt8 := [153, 0, 18, 42, 180, 0, 39, 16, 11, 16, 7, 27, 104, 96, 4, 96, 28, 79, 177]
abbrev dktX4_blows_1 : List UInt8 := dkwX4_blows_1 ++ []
def dkwX4_blows_0 : List UInt8 := [42, 42, 180, 0, 39, 5, 46, 182, 1, 202, 60, 42, 7, 182, 1, 202, 61, 42, 27, 182, 1, 57]
abbrev dktX4_blows_0 : List UInt8 := dkwX4_blows_0 ++ dktX4_blows_1
theorem dksX4_blows_0 : cX4_blows.data.toList.drop 0 = dktX4_blows_0 := by decide +kernel
theorem dksX4_blows_1 : cX4_blows.data.toList.drop 22 = dktX4_blows_1 := dk_seg dksX4_blows_0 22 rfl rfl
theorem dX4_blows_0 : decode cX4_blows 0 = .ok (.aload_n 0, 1) := dk_42 (dk_at dksX4_blows_0 0 rfl rfl)
theorem dX4_blows_1 : decode cX4_blows 1 = .ok (.aload_n 0, 1) := dk_42 (dk_at dksX4_blows_0 1 rfl rfl)
theorem dX4_blows_2 : decode cX4_blows 2 = .ok (.getfield 39, 3) := dk_180 0 39 (dk_at dksX4_blows_0 2 rfl rfl)
theorem dX4_blows_5 : decode cX4_blows 5 = .ok (.iconst 2, 1) := dk_5 (dk_at dksX4_blows_0 5 rfl rfl)
theorem dX4_blows_6 : decode cX4_blows 6 = .ok (.iaload, 1) := dk_46 (dk_at dksX4_blows_0 6 rfl rfl)
theorem dX4_blows_7 : decode cX4_blows 7 = .ok (.invokevirtual 458, 3) := dk_182 1 202 (dk_at dksX4_blows_0 7 rfl rfl)
theorem dX4_blows_10 : decode cX4_blows 10 = .ok (.istore_n 1, 1) := dk_60 (dk_at dksX4_blows_0 10 rfl rfl)
theorem dX4_blows_11 : decode cX4_blows 11 = .ok (.aload_n 0, 1) := dk_42 (dk_at dksX4_blows_0 11 rfl rfl)
theorem dX4_blows_12 : decode cX4_blows 12 = .ok (.iconst 4, 1) := dk_7 (dk_at dksX4_blows_0 12 rfl rfl)
theorem dX4_blows_13 : decode cX4_blows 13 = .ok (.invokevirtual 458, 3) := dk_182 1 202 (dk_at dksX4_blows_0 13 rfl rfl)
theorem dX4_blows_16 : decode cX4_blows 16 = .ok (.istore_n 2, 1) := dk_61 (dk_at dksX4_blows_0 16 rfl rfl)
theorem dX4_blows_17 : decode cX4_blows 17 = .ok (.aload_n 0, 1) := dk_42 (dk_at dksX4_blows_0 17 rfl rfl)
theorem dX4_blows_18 : decode cX4_blows 18 = .ok (.iload_n 1, 1) := dk_27 (dk_at dksX4_blows_0 18 rfl rfl)
theorem dX4_blows_19 : decode cX4_blows 19 = .ok (.invokevirtual 313, 3) := dk_182 1 57 (dk_at dksX4_blows_0 19 rfl rfl)
theorem dX4_blows_22 : decode cX4_blows 22 = .ok (.ifCond .eq 18, 3) := dk_153 0 18 (dk_at dksX4_blows_1 0 rfl rfl)
theorem dX4_blows_25 : decode cX4_blows 25 = .ok (.aload_n 0, 1) := dk_42 (dk_at dksX4_blows_1 3 rfl rfl)
theorem dX4_blows_26 : decode cX4_blows 26 = .ok (.getfield 39, 3) := dk_180 0 39 (dk_at dksX4_blows_1 4 rfl rfl)
theorem dX4_blows_29 : decode cX4_blows 29 = .ok (.bipush 11, 2) := dk_16 11 (dk_at dksX4_blows_1 7 rfl rfl)
theorem dX4_blows_31 : decode cX4_blows 31 = .ok (.bipush 7, 2) := dk_16 7 (dk_at dksX4_blows_1 9 rfl rfl)
theorem dX4_blows_33 : decode cX4_blows 33 = .ok (.iload_n 1, 1) := dk_27 (dk_at dksX4_blows_1 11 rfl rfl)
theorem dX4_blows_34 : decode cX4_blows 34 = .ok (.imul, 1) := dk_104 (dk_at dksX4_blows_1 12 rfl rfl)
theorem dX4_blows_35 : decode cX4_blows 35 = .ok (.iadd, 1) := dk_96 (dk_at dksX4_blows_1 13 rfl rfl)
theorem dX4_blows_36 : decode cX4_blows 36 = .ok (.iconst 1, 1) := dk_4 (dk_at dksX4_blows_1 14 rfl rfl)
theorem dX4_blows_37 : decode cX4_blows 37 = .ok (.iadd, 1) := dk_96 (dk_at dksX4_blows_1 15 rfl rfl)
theorem dX4_blows_38 : decode cX4_blows 38 = .ok (.iload_n 2, 1) := dk_28 (dk_at dksX4_blows_1 16 rfl rfl)
theorem dX4_blows_39 : decode cX4_blows 39 = .ok (.iastore, 1) := dk_79 (dk_at dksX4_blows_1 17 rfl rfl)
theorem dX4_blows_40 : decode cX4_blows 40 = .ok (.return_, 1) := dk_177 (dk_at dksX4_blows_1 18 rfl rfl)
abbrev cX4_count : ByteArray := prog_19_method_118_code
def yX4_count : MethodName := ⟨RX4, "count", "(I)I"⟩
def dkwX4_count_6 : List UInt8 := [172, 2, 172]
abbrev dktX4_count_6 : List UInt8 := dkwX4_count_6 ++ []
def dkwX4_count_5 : List UInt8 := [172, 42, 180, 0, 39, 17, 0, 175, 46, 172, 42, 180, 1, 15, 172, 42, 180, 1, 187, 172, 42, 180, 0, 86]
abbrev dktX4_count_5 : List UInt8 := dkwX4_count_5 ++ dktX4_count_6
def dkwX4_count_4 : List UInt8 := [16, 36, 162, 0, 21, 28, 42, 180, 0, 39, 16, 50, 29, 96, 46, 96, 61, 132, 3, 1, 167, 255, 235, 28]
abbrev dktX4_count_4 : List UInt8 := dkwX4_count_4 ++ dktX4_count_5
def dkwX4_count_3 : List UInt8 := [16, 10, 46, 172, 42, 3, 182, 1, 110, 172, 42, 5, 182, 1, 110, 172, 42, 182, 1, 137, 172, 3, 62, 29]
abbrev dktX4_count_3 : List UInt8 := dkwX4_count_3 ++ dktX4_count_4
def dkwX4_count_2 : List UInt8 := [42, 180, 0, 39, 27, 4, 96, 46, 172, 42, 180, 1, 6, 172, 42, 180, 0, 42, 172, 42, 180, 0, 39]
abbrev dktX4_count_2 : List UInt8 := dkwX4_count_2 ++ dktX4_count_3
def dkwX4_count_1 : List UInt8 := [170, 0, 0, 0, 161, 0, 0, 0, 0, 0, 0, 0, 12, 0, 0, 0, 65, 0, 0, 0, 65, 0, 0, 0, 74, 0, 0, 0, 79, 0, 0, 0, 84, 0, 0, 0, 92, 0, 0, 0, 98, 0, 0, 0, 104, 0, 0, 0, 109, 0, 0, 0, 137, 0, 0, 0, 146, 0, 0, 0, 151, 0, 0, 0, 156]
abbrev dktX4_count_1 : List UInt8 := dkwX4_count_1 ++ dktX4_count_2
def dkwX4_count_0 : List UInt8 := [3, 61, 27]
abbrev dktX4_count_0 : List UInt8 := dkwX4_count_0 ++ dktX4_count_1
theorem dksX4_count_0 : cX4_count.data.toList.drop 0 = dktX4_count_0 := by decide +kernel
theorem dksX4_count_1 : cX4_count.data.toList.drop 3 = dktX4_count_1 := dk_seg dksX4_count_0 3 rfl rfl
theorem dksX4_count_2 : cX4_count.data.toList.drop 68 = dktX4_count_2 := dk_seg dksX4_count_1 65 rfl rfl
theorem dksX4_count_3 : cX4_count.data.toList.drop 91 = dktX4_count_3 := dk_seg dksX4_count_2 23 rfl rfl
theorem dksX4_count_4 : cX4_count.data.toList.drop 115 = dktX4_count_4 := dk_seg dksX4_count_3 24 rfl rfl
theorem dksX4_count_5 : cX4_count.data.toList.drop 139 = dktX4_count_5 := dk_seg dksX4_count_4 24 rfl rfl
theorem dksX4_count_6 : cX4_count.data.toList.drop 163 = dktX4_count_6 := dk_seg dksX4_count_5 24 rfl rfl
theorem dX4_count_0 : decode cX4_count 0 = .ok (.iconst 0, 1) := dk_3 (dk_at dksX4_count_0 0 rfl rfl)
theorem dX4_count_1 : decode cX4_count 1 = .ok (.istore_n 2, 1) := dk_61 (dk_at dksX4_count_0 1 rfl rfl)
theorem dX4_count_2 : decode cX4_count 2 = .ok (.iload_n 1, 1) := dk_27 (dk_at dksX4_count_0 2 rfl rfl)
theorem dX4_count_3 : decode cX4_count 3 = .ok (.tableswitch 161 0 12 #[65, 65, 74, 79, 84, 92, 98, 104, 109, 137, 146, 151, 156], 65) := by decide +kernel
theorem dX4_count_68 : decode cX4_count 68 = .ok (.aload_n 0, 1) := dk_42 (dk_at dksX4_count_2 0 rfl rfl)
theorem dX4_count_69 : decode cX4_count 69 = .ok (.getfield 39, 3) := dk_180 0 39 (dk_at dksX4_count_2 1 rfl rfl)
theorem dX4_count_72 : decode cX4_count 72 = .ok (.iload_n 1, 1) := dk_27 (dk_at dksX4_count_2 4 rfl rfl)
theorem dX4_count_73 : decode cX4_count 73 = .ok (.iconst 1, 1) := dk_4 (dk_at dksX4_count_2 5 rfl rfl)
theorem dX4_count_74 : decode cX4_count 74 = .ok (.iadd, 1) := dk_96 (dk_at dksX4_count_2 6 rfl rfl)
theorem dX4_count_75 : decode cX4_count 75 = .ok (.iaload, 1) := dk_46 (dk_at dksX4_count_2 7 rfl rfl)
theorem dX4_count_76 : decode cX4_count 76 = .ok (.ireturn, 1) := dk_172 (dk_at dksX4_count_2 8 rfl rfl)
theorem dX4_count_77 : decode cX4_count 77 = .ok (.aload_n 0, 1) := dk_42 (dk_at dksX4_count_2 9 rfl rfl)
theorem dX4_count_78 : decode cX4_count 78 = .ok (.getfield 262, 3) := dk_180 1 6 (dk_at dksX4_count_2 10 rfl rfl)
theorem dX4_count_81 : decode cX4_count 81 = .ok (.ireturn, 1) := dk_172 (dk_at dksX4_count_2 13 rfl rfl)
theorem dX4_count_82 : decode cX4_count 82 = .ok (.aload_n 0, 1) := dk_42 (dk_at dksX4_count_2 14 rfl rfl)
theorem dX4_count_83 : decode cX4_count 83 = .ok (.getfield 42, 3) := dk_180 0 42 (dk_at dksX4_count_2 15 rfl rfl)
theorem dX4_count_86 : decode cX4_count 86 = .ok (.ireturn, 1) := dk_172 (dk_at dksX4_count_2 18 rfl rfl)
theorem dX4_count_87 : decode cX4_count 87 = .ok (.aload_n 0, 1) := dk_42 (dk_at dksX4_count_2 19 rfl rfl)
theorem dX4_count_88 : decode cX4_count 88 = .ok (.getfield 39, 3) := dk_180 0 39 (dk_at dksX4_count_2 20 rfl rfl)
theorem dX4_count_91 : decode cX4_count 91 = .ok (.bipush 10, 2) := dk_16 10 (dk_at dksX4_count_3 0 rfl rfl)
theorem dX4_count_93 : decode cX4_count 93 = .ok (.iaload, 1) := dk_46 (dk_at dksX4_count_3 2 rfl rfl)
theorem dX4_count_94 : decode cX4_count 94 = .ok (.ireturn, 1) := dk_172 (dk_at dksX4_count_3 3 rfl rfl)
theorem dX4_count_95 : decode cX4_count 95 = .ok (.aload_n 0, 1) := dk_42 (dk_at dksX4_count_3 4 rfl rfl)
theorem dX4_count_96 : decode cX4_count 96 = .ok (.iconst 0, 1) := dk_3 (dk_at dksX4_count_3 5 rfl rfl)
theorem dX4_count_97 : decode cX4_count 97 = .ok (.invokevirtual 366, 3) := dk_182 1 110 (dk_at dksX4_count_3 6 rfl rfl)
theorem dX4_count_100 : decode cX4_count 100 = .ok (.ireturn, 1) := dk_172 (dk_at dksX4_count_3 9 rfl rfl)
theorem dX4_count_101 : decode cX4_count 101 = .ok (.aload_n 0, 1) := dk_42 (dk_at dksX4_count_3 10 rfl rfl)
theorem dX4_count_102 : decode cX4_count 102 = .ok (.iconst 2, 1) := dk_5 (dk_at dksX4_count_3 11 rfl rfl)
theorem dX4_count_103 : decode cX4_count 103 = .ok (.invokevirtual 366, 3) := dk_182 1 110 (dk_at dksX4_count_3 12 rfl rfl)
theorem dX4_count_106 : decode cX4_count 106 = .ok (.ireturn, 1) := dk_172 (dk_at dksX4_count_3 15 rfl rfl)
theorem dX4_count_107 : decode cX4_count 107 = .ok (.aload_n 0, 1) := dk_42 (dk_at dksX4_count_3 16 rfl rfl)
theorem dX4_count_108 : decode cX4_count 108 = .ok (.invokevirtual 393, 3) := dk_182 1 137 (dk_at dksX4_count_3 17 rfl rfl)
theorem dX4_count_111 : decode cX4_count 111 = .ok (.ireturn, 1) := dk_172 (dk_at dksX4_count_3 20 rfl rfl)
theorem dX4_count_112 : decode cX4_count 112 = .ok (.iconst 0, 1) := dk_3 (dk_at dksX4_count_3 21 rfl rfl)
theorem dX4_count_113 : decode cX4_count 113 = .ok (.istore_n 3, 1) := dk_62 (dk_at dksX4_count_3 22 rfl rfl)
theorem dX4_count_114 : decode cX4_count 114 = .ok (.iload_n 3, 1) := dk_29 (dk_at dksX4_count_3 23 rfl rfl)
theorem dX4_count_115 : decode cX4_count 115 = .ok (.bipush 36, 2) := dk_16 36 (dk_at dksX4_count_4 0 rfl rfl)
theorem dX4_count_117 : decode cX4_count 117 = .ok (.if_icmp .ge 21, 3) := dk_162 0 21 (dk_at dksX4_count_4 2 rfl rfl)
theorem dX4_count_120 : decode cX4_count 120 = .ok (.iload_n 2, 1) := dk_28 (dk_at dksX4_count_4 5 rfl rfl)
theorem dX4_count_121 : decode cX4_count 121 = .ok (.aload_n 0, 1) := dk_42 (dk_at dksX4_count_4 6 rfl rfl)
theorem dX4_count_122 : decode cX4_count 122 = .ok (.getfield 39, 3) := dk_180 0 39 (dk_at dksX4_count_4 7 rfl rfl)
theorem dX4_count_125 : decode cX4_count 125 = .ok (.bipush 50, 2) := dk_16 50 (dk_at dksX4_count_4 10 rfl rfl)
theorem dX4_count_127 : decode cX4_count 127 = .ok (.iload_n 3, 1) := dk_29 (dk_at dksX4_count_4 12 rfl rfl)
theorem dX4_count_128 : decode cX4_count 128 = .ok (.iadd, 1) := dk_96 (dk_at dksX4_count_4 13 rfl rfl)
theorem dX4_count_129 : decode cX4_count 129 = .ok (.iaload, 1) := dk_46 (dk_at dksX4_count_4 14 rfl rfl)
theorem dX4_count_130 : decode cX4_count 130 = .ok (.iadd, 1) := dk_96 (dk_at dksX4_count_4 15 rfl rfl)
theorem dX4_count_131 : decode cX4_count 131 = .ok (.istore_n 2, 1) := dk_61 (dk_at dksX4_count_4 16 rfl rfl)
theorem dX4_count_132 : decode cX4_count 132 = .ok (.iinc 3 1, 3) := dk_132 3 1 (dk_at dksX4_count_4 17 rfl rfl)
theorem dX4_count_135 : decode cX4_count 135 = .ok (.goto (-21), 3) := dk_167 255 235 (dk_at dksX4_count_4 20 rfl rfl)
theorem dX4_count_138 : decode cX4_count 138 = .ok (.iload_n 2, 1) := dk_28 (dk_at dksX4_count_4 23 rfl rfl)
theorem dX4_count_139 : decode cX4_count 139 = .ok (.ireturn, 1) := dk_172 (dk_at dksX4_count_5 0 rfl rfl)
theorem dX4_count_140 : decode cX4_count 140 = .ok (.aload_n 0, 1) := dk_42 (dk_at dksX4_count_5 1 rfl rfl)
theorem dX4_count_141 : decode cX4_count 141 = .ok (.getfield 39, 3) := dk_180 0 39 (dk_at dksX4_count_5 2 rfl rfl)
theorem dX4_count_144 : decode cX4_count 144 = .ok (.sipush 175, 3) := dk_17 0 175 (dk_at dksX4_count_5 5 rfl rfl)
theorem dX4_count_147 : decode cX4_count 147 = .ok (.iaload, 1) := dk_46 (dk_at dksX4_count_5 8 rfl rfl)
theorem dX4_count_148 : decode cX4_count 148 = .ok (.ireturn, 1) := dk_172 (dk_at dksX4_count_5 9 rfl rfl)
theorem dX4_count_149 : decode cX4_count 149 = .ok (.aload_n 0, 1) := dk_42 (dk_at dksX4_count_5 10 rfl rfl)
theorem dX4_count_150 : decode cX4_count 150 = .ok (.getfield 271, 3) := dk_180 1 15 (dk_at dksX4_count_5 11 rfl rfl)
theorem dX4_count_153 : decode cX4_count 153 = .ok (.ireturn, 1) := dk_172 (dk_at dksX4_count_5 14 rfl rfl)
theorem dX4_count_154 : decode cX4_count 154 = .ok (.aload_n 0, 1) := dk_42 (dk_at dksX4_count_5 15 rfl rfl)
theorem dX4_count_155 : decode cX4_count 155 = .ok (.getfield 443, 3) := dk_180 1 187 (dk_at dksX4_count_5 16 rfl rfl)
theorem dX4_count_158 : decode cX4_count 158 = .ok (.ireturn, 1) := dk_172 (dk_at dksX4_count_5 19 rfl rfl)
theorem dX4_count_159 : decode cX4_count 159 = .ok (.aload_n 0, 1) := dk_42 (dk_at dksX4_count_5 20 rfl rfl)
theorem dX4_count_160 : decode cX4_count 160 = .ok (.getfield 86, 3) := dk_180 0 86 (dk_at dksX4_count_5 21 rfl rfl)
theorem dX4_count_163 : decode cX4_count 163 = .ok (.ireturn, 1) := dk_172 (dk_at dksX4_count_6 0 rfl rfl)
theorem dX4_count_164 : decode cX4_count 164 = .ok (.iconst (-1), 1) := dk_2 (dk_at dksX4_count_6 1 rfl rfl)
theorem dX4_count_165 : decode cX4_count 165 = .ok (.ireturn, 1) := dk_172 (dk_at dksX4_count_6 2 rfl rfl)
abbrev cX4_image : ByteArray := prog_19_method_119_code
def yX4_image : MethodName := ⟨RX4, "image", "(I)I"⟩
def dkwX4_image_3 : List UInt8 := [132, 2, 1, 167, 255, 228, 42, 180, 0, 39, 16, 10, 46, 172]
abbrev dktX4_image_3 : List UInt8 := dkwX4_image_3 ++ []
def dkwX4_image_2 : List UInt8 := [17, 0, 176, 162, 0, 27, 42, 180, 0, 74, 17, 0, 176, 27, 104, 28, 96, 42, 180, 0, 39, 28, 46, 79]
abbrev dktX4_image_2 : List UInt8 := dkwX4_image_2 ++ dktX4_image_3
def dkwX4_image_1 : List UInt8 := [180, 0, 77, 27, 42, 180, 0, 42, 79, 42, 180, 0, 80, 27, 42, 180, 1, 187, 79, 3, 61, 28]
abbrev dktX4_image_1 : List UInt8 := dkwX4_image_1 ++ dktX4_image_2
def dkwX4_image_0 : List UInt8 := [27, 133, 9, 20, 1, 39, 184, 0, 124, 154, 0, 5, 2, 172, 42, 180, 0, 83, 27, 4, 84, 42]
abbrev dktX4_image_0 : List UInt8 := dkwX4_image_0 ++ dktX4_image_1
theorem dksX4_image_0 : cX4_image.data.toList.drop 0 = dktX4_image_0 := by decide +kernel
theorem dksX4_image_1 : cX4_image.data.toList.drop 22 = dktX4_image_1 := dk_seg dksX4_image_0 22 rfl rfl
theorem dksX4_image_2 : cX4_image.data.toList.drop 44 = dktX4_image_2 := dk_seg dksX4_image_1 22 rfl rfl
theorem dksX4_image_3 : cX4_image.data.toList.drop 68 = dktX4_image_3 := dk_seg dksX4_image_2 24 rfl rfl
theorem dX4_image_0 : decode cX4_image 0 = .ok (.iload_n 1, 1) := dk_27 (dk_at dksX4_image_0 0 rfl rfl)
theorem dX4_image_1 : decode cX4_image 1 = .ok (.i2l, 1) := dk_133 (dk_at dksX4_image_0 1 rfl rfl)
theorem dX4_image_2 : decode cX4_image 2 = .ok (.lconst 0, 1) := dk_9 (dk_at dksX4_image_0 2 rfl rfl)
theorem dX4_image_3 : decode cX4_image 3 = .ok (.ldc2_w 295, 3) := dk_20 1 39 (dk_at dksX4_image_0 3 rfl rfl)
theorem dX4_image_6 : decode cX4_image 6 = .ok (.invokestatic 124, 3) := dk_184 0 124 (dk_at dksX4_image_0 6 rfl rfl)
theorem dX4_image_9 : decode cX4_image 9 = .ok (.ifCond .ne 5, 3) := dk_154 0 5 (dk_at dksX4_image_0 9 rfl rfl)
theorem dX4_image_12 : decode cX4_image 12 = .ok (.iconst (-1), 1) := dk_2 (dk_at dksX4_image_0 12 rfl rfl)
theorem dX4_image_13 : decode cX4_image 13 = .ok (.ireturn, 1) := dk_172 (dk_at dksX4_image_0 13 rfl rfl)
theorem dX4_image_14 : decode cX4_image 14 = .ok (.aload_n 0, 1) := dk_42 (dk_at dksX4_image_0 14 rfl rfl)
theorem dX4_image_15 : decode cX4_image 15 = .ok (.getfield 83, 3) := dk_180 0 83 (dk_at dksX4_image_0 15 rfl rfl)
theorem dX4_image_18 : decode cX4_image 18 = .ok (.iload_n 1, 1) := dk_27 (dk_at dksX4_image_0 18 rfl rfl)
theorem dX4_image_19 : decode cX4_image 19 = .ok (.iconst 1, 1) := dk_4 (dk_at dksX4_image_0 19 rfl rfl)
theorem dX4_image_20 : decode cX4_image 20 = .ok (.bastore, 1) := dk_84 (dk_at dksX4_image_0 20 rfl rfl)
theorem dX4_image_21 : decode cX4_image 21 = .ok (.aload_n 0, 1) := dk_42 (dk_at dksX4_image_0 21 rfl rfl)
theorem dX4_image_22 : decode cX4_image 22 = .ok (.getfield 77, 3) := dk_180 0 77 (dk_at dksX4_image_1 0 rfl rfl)
theorem dX4_image_25 : decode cX4_image 25 = .ok (.iload_n 1, 1) := dk_27 (dk_at dksX4_image_1 3 rfl rfl)
theorem dX4_image_26 : decode cX4_image 26 = .ok (.aload_n 0, 1) := dk_42 (dk_at dksX4_image_1 4 rfl rfl)
theorem dX4_image_27 : decode cX4_image 27 = .ok (.getfield 42, 3) := dk_180 0 42 (dk_at dksX4_image_1 5 rfl rfl)
theorem dX4_image_30 : decode cX4_image 30 = .ok (.iastore, 1) := dk_79 (dk_at dksX4_image_1 8 rfl rfl)
theorem dX4_image_31 : decode cX4_image 31 = .ok (.aload_n 0, 1) := dk_42 (dk_at dksX4_image_1 9 rfl rfl)
theorem dX4_image_32 : decode cX4_image 32 = .ok (.getfield 80, 3) := dk_180 0 80 (dk_at dksX4_image_1 10 rfl rfl)
theorem dX4_image_35 : decode cX4_image 35 = .ok (.iload_n 1, 1) := dk_27 (dk_at dksX4_image_1 13 rfl rfl)
theorem dX4_image_36 : decode cX4_image 36 = .ok (.aload_n 0, 1) := dk_42 (dk_at dksX4_image_1 14 rfl rfl)
theorem dX4_image_37 : decode cX4_image 37 = .ok (.getfield 443, 3) := dk_180 1 187 (dk_at dksX4_image_1 15 rfl rfl)
theorem dX4_image_40 : decode cX4_image 40 = .ok (.iastore, 1) := dk_79 (dk_at dksX4_image_1 18 rfl rfl)
theorem dX4_image_41 : decode cX4_image 41 = .ok (.iconst 0, 1) := dk_3 (dk_at dksX4_image_1 19 rfl rfl)
theorem dX4_image_42 : decode cX4_image 42 = .ok (.istore_n 2, 1) := dk_61 (dk_at dksX4_image_1 20 rfl rfl)
theorem dX4_image_43 : decode cX4_image 43 = .ok (.iload_n 2, 1) := dk_28 (dk_at dksX4_image_1 21 rfl rfl)
theorem dX4_image_44 : decode cX4_image 44 = .ok (.sipush 176, 3) := dk_17 0 176 (dk_at dksX4_image_2 0 rfl rfl)
theorem dX4_image_47 : decode cX4_image 47 = .ok (.if_icmp .ge 27, 3) := dk_162 0 27 (dk_at dksX4_image_2 3 rfl rfl)
theorem dX4_image_50 : decode cX4_image 50 = .ok (.aload_n 0, 1) := dk_42 (dk_at dksX4_image_2 6 rfl rfl)
theorem dX4_image_51 : decode cX4_image 51 = .ok (.getfield 74, 3) := dk_180 0 74 (dk_at dksX4_image_2 7 rfl rfl)
theorem dX4_image_54 : decode cX4_image 54 = .ok (.sipush 176, 3) := dk_17 0 176 (dk_at dksX4_image_2 10 rfl rfl)
theorem dX4_image_57 : decode cX4_image 57 = .ok (.iload_n 1, 1) := dk_27 (dk_at dksX4_image_2 13 rfl rfl)
theorem dX4_image_58 : decode cX4_image 58 = .ok (.imul, 1) := dk_104 (dk_at dksX4_image_2 14 rfl rfl)
theorem dX4_image_59 : decode cX4_image 59 = .ok (.iload_n 2, 1) := dk_28 (dk_at dksX4_image_2 15 rfl rfl)
theorem dX4_image_60 : decode cX4_image 60 = .ok (.iadd, 1) := dk_96 (dk_at dksX4_image_2 16 rfl rfl)
theorem dX4_image_61 : decode cX4_image 61 = .ok (.aload_n 0, 1) := dk_42 (dk_at dksX4_image_2 17 rfl rfl)
theorem dX4_image_62 : decode cX4_image 62 = .ok (.getfield 39, 3) := dk_180 0 39 (dk_at dksX4_image_2 18 rfl rfl)
theorem dX4_image_65 : decode cX4_image 65 = .ok (.iload_n 2, 1) := dk_28 (dk_at dksX4_image_2 21 rfl rfl)
theorem dX4_image_66 : decode cX4_image 66 = .ok (.iaload, 1) := dk_46 (dk_at dksX4_image_2 22 rfl rfl)
theorem dX4_image_67 : decode cX4_image 67 = .ok (.iastore, 1) := dk_79 (dk_at dksX4_image_2 23 rfl rfl)
theorem dX4_image_68 : decode cX4_image 68 = .ok (.iinc 2 1, 3) := dk_132 2 1 (dk_at dksX4_image_3 0 rfl rfl)
theorem dX4_image_71 : decode cX4_image 71 = .ok (.goto (-28), 3) := dk_167 255 228 (dk_at dksX4_image_3 3 rfl rfl)
theorem dX4_image_74 : decode cX4_image 74 = .ok (.aload_n 0, 1) := dk_42 (dk_at dksX4_image_3 6 rfl rfl)
theorem dX4_image_75 : decode cX4_image 75 = .ok (.getfield 39, 3) := dk_180 0 39 (dk_at dksX4_image_3 7 rfl rfl)
theorem dX4_image_78 : decode cX4_image 78 = .ok (.bipush 10, 2) := dk_16 10 (dk_at dksX4_image_3 10 rfl rfl)
theorem dX4_image_80 : decode cX4_image 80 = .ok (.iaload, 1) := dk_46 (dk_at dksX4_image_3 12 rfl rfl)
theorem dX4_image_81 : decode cX4_image 81 = .ok (.ireturn, 1) := dk_172 (dk_at dksX4_image_3 13 rfl rfl)
abbrev cX4_back : ByteArray := prog_19_method_120_code
def yX4_back : MethodName := ⟨RX4, "back", "(I)I"⟩
def dkwX4_back_3 : List UInt8 := [96, 46, 79, 132, 2, 1, 167, 255, 228, 42, 180, 0, 39, 16, 10, 46, 172]
abbrev dktX4_back_3 : List UInt8 := dkwX4_back_3 ++ []
def dkwX4_back_2 : List UInt8 := [3, 61, 28, 17, 0, 176, 162, 0, 27, 42, 180, 0, 39, 28, 42, 180, 0, 74, 17, 0, 176, 27, 104, 28]
abbrev dktX4_back_2 : List UInt8 := dkwX4_back_2 ++ dktX4_back_3
def dkwX4_back_1 : List UInt8 := [42, 180, 0, 77, 27, 46, 181, 0, 42, 42, 42, 180, 0, 80, 27, 46, 181, 1, 187, 42, 3, 181, 1, 15]
abbrev dktX4_back_1 : List UInt8 := dkwX4_back_1 ++ dktX4_back_2
def dkwX4_back_0 : List UInt8 := [27, 133, 9, 20, 1, 39, 184, 0, 124, 153, 0, 12, 42, 180, 0, 83, 27, 51, 154, 0, 5, 2, 172, 42]
abbrev dktX4_back_0 : List UInt8 := dkwX4_back_0 ++ dktX4_back_1
theorem dksX4_back_0 : cX4_back.data.toList.drop 0 = dktX4_back_0 := by decide +kernel
theorem dksX4_back_1 : cX4_back.data.toList.drop 24 = dktX4_back_1 := dk_seg dksX4_back_0 24 rfl rfl
theorem dksX4_back_2 : cX4_back.data.toList.drop 48 = dktX4_back_2 := dk_seg dksX4_back_1 24 rfl rfl
theorem dksX4_back_3 : cX4_back.data.toList.drop 72 = dktX4_back_3 := dk_seg dksX4_back_2 24 rfl rfl
theorem dX4_back_0 : decode cX4_back 0 = .ok (.iload_n 1, 1) := dk_27 (dk_at dksX4_back_0 0 rfl rfl)
theorem dX4_back_1 : decode cX4_back 1 = .ok (.i2l, 1) := dk_133 (dk_at dksX4_back_0 1 rfl rfl)
theorem dX4_back_2 : decode cX4_back 2 = .ok (.lconst 0, 1) := dk_9 (dk_at dksX4_back_0 2 rfl rfl)
theorem dX4_back_3 : decode cX4_back 3 = .ok (.ldc2_w 295, 3) := dk_20 1 39 (dk_at dksX4_back_0 3 rfl rfl)
theorem dX4_back_6 : decode cX4_back 6 = .ok (.invokestatic 124, 3) := dk_184 0 124 (dk_at dksX4_back_0 6 rfl rfl)
theorem dX4_back_9 : decode cX4_back 9 = .ok (.ifCond .eq 12, 3) := dk_153 0 12 (dk_at dksX4_back_0 9 rfl rfl)
theorem dX4_back_12 : decode cX4_back 12 = .ok (.aload_n 0, 1) := dk_42 (dk_at dksX4_back_0 12 rfl rfl)
theorem dX4_back_13 : decode cX4_back 13 = .ok (.getfield 83, 3) := dk_180 0 83 (dk_at dksX4_back_0 13 rfl rfl)
theorem dX4_back_16 : decode cX4_back 16 = .ok (.iload_n 1, 1) := dk_27 (dk_at dksX4_back_0 16 rfl rfl)
theorem dX4_back_17 : decode cX4_back 17 = .ok (.baload, 1) := dk_51 (dk_at dksX4_back_0 17 rfl rfl)
theorem dX4_back_18 : decode cX4_back 18 = .ok (.ifCond .ne 5, 3) := dk_154 0 5 (dk_at dksX4_back_0 18 rfl rfl)
theorem dX4_back_21 : decode cX4_back 21 = .ok (.iconst (-1), 1) := dk_2 (dk_at dksX4_back_0 21 rfl rfl)
theorem dX4_back_22 : decode cX4_back 22 = .ok (.ireturn, 1) := dk_172 (dk_at dksX4_back_0 22 rfl rfl)
theorem dX4_back_23 : decode cX4_back 23 = .ok (.aload_n 0, 1) := dk_42 (dk_at dksX4_back_0 23 rfl rfl)
theorem dX4_back_24 : decode cX4_back 24 = .ok (.aload_n 0, 1) := dk_42 (dk_at dksX4_back_1 0 rfl rfl)
theorem dX4_back_25 : decode cX4_back 25 = .ok (.getfield 77, 3) := dk_180 0 77 (dk_at dksX4_back_1 1 rfl rfl)
theorem dX4_back_28 : decode cX4_back 28 = .ok (.iload_n 1, 1) := dk_27 (dk_at dksX4_back_1 4 rfl rfl)
theorem dX4_back_29 : decode cX4_back 29 = .ok (.iaload, 1) := dk_46 (dk_at dksX4_back_1 5 rfl rfl)
theorem dX4_back_30 : decode cX4_back 30 = .ok (.putfield 42, 3) := dk_181 0 42 (dk_at dksX4_back_1 6 rfl rfl)
theorem dX4_back_33 : decode cX4_back 33 = .ok (.aload_n 0, 1) := dk_42 (dk_at dksX4_back_1 9 rfl rfl)
theorem dX4_back_34 : decode cX4_back 34 = .ok (.aload_n 0, 1) := dk_42 (dk_at dksX4_back_1 10 rfl rfl)
theorem dX4_back_35 : decode cX4_back 35 = .ok (.getfield 80, 3) := dk_180 0 80 (dk_at dksX4_back_1 11 rfl rfl)
theorem dX4_back_38 : decode cX4_back 38 = .ok (.iload_n 1, 1) := dk_27 (dk_at dksX4_back_1 14 rfl rfl)
theorem dX4_back_39 : decode cX4_back 39 = .ok (.iaload, 1) := dk_46 (dk_at dksX4_back_1 15 rfl rfl)
theorem dX4_back_40 : decode cX4_back 40 = .ok (.putfield 443, 3) := dk_181 1 187 (dk_at dksX4_back_1 16 rfl rfl)
theorem dX4_back_43 : decode cX4_back 43 = .ok (.aload_n 0, 1) := dk_42 (dk_at dksX4_back_1 19 rfl rfl)
theorem dX4_back_44 : decode cX4_back 44 = .ok (.iconst 0, 1) := dk_3 (dk_at dksX4_back_1 20 rfl rfl)
theorem dX4_back_45 : decode cX4_back 45 = .ok (.putfield 271, 3) := dk_181 1 15 (dk_at dksX4_back_1 21 rfl rfl)
theorem dX4_back_48 : decode cX4_back 48 = .ok (.iconst 0, 1) := dk_3 (dk_at dksX4_back_2 0 rfl rfl)
theorem dX4_back_49 : decode cX4_back 49 = .ok (.istore_n 2, 1) := dk_61 (dk_at dksX4_back_2 1 rfl rfl)
theorem dX4_back_50 : decode cX4_back 50 = .ok (.iload_n 2, 1) := dk_28 (dk_at dksX4_back_2 2 rfl rfl)
theorem dX4_back_51 : decode cX4_back 51 = .ok (.sipush 176, 3) := dk_17 0 176 (dk_at dksX4_back_2 3 rfl rfl)
theorem dX4_back_54 : decode cX4_back 54 = .ok (.if_icmp .ge 27, 3) := dk_162 0 27 (dk_at dksX4_back_2 6 rfl rfl)
theorem dX4_back_57 : decode cX4_back 57 = .ok (.aload_n 0, 1) := dk_42 (dk_at dksX4_back_2 9 rfl rfl)
theorem dX4_back_58 : decode cX4_back 58 = .ok (.getfield 39, 3) := dk_180 0 39 (dk_at dksX4_back_2 10 rfl rfl)
theorem dX4_back_61 : decode cX4_back 61 = .ok (.iload_n 2, 1) := dk_28 (dk_at dksX4_back_2 13 rfl rfl)
theorem dX4_back_62 : decode cX4_back 62 = .ok (.aload_n 0, 1) := dk_42 (dk_at dksX4_back_2 14 rfl rfl)
theorem dX4_back_63 : decode cX4_back 63 = .ok (.getfield 74, 3) := dk_180 0 74 (dk_at dksX4_back_2 15 rfl rfl)
theorem dX4_back_66 : decode cX4_back 66 = .ok (.sipush 176, 3) := dk_17 0 176 (dk_at dksX4_back_2 18 rfl rfl)
theorem dX4_back_69 : decode cX4_back 69 = .ok (.iload_n 1, 1) := dk_27 (dk_at dksX4_back_2 21 rfl rfl)
theorem dX4_back_70 : decode cX4_back 70 = .ok (.imul, 1) := dk_104 (dk_at dksX4_back_2 22 rfl rfl)
theorem dX4_back_71 : decode cX4_back 71 = .ok (.iload_n 2, 1) := dk_28 (dk_at dksX4_back_2 23 rfl rfl)
theorem dX4_back_72 : decode cX4_back 72 = .ok (.iadd, 1) := dk_96 (dk_at dksX4_back_3 0 rfl rfl)
theorem dX4_back_73 : decode cX4_back 73 = .ok (.iaload, 1) := dk_46 (dk_at dksX4_back_3 1 rfl rfl)
theorem dX4_back_74 : decode cX4_back 74 = .ok (.iastore, 1) := dk_79 (dk_at dksX4_back_3 2 rfl rfl)
theorem dX4_back_75 : decode cX4_back 75 = .ok (.iinc 2 1, 3) := dk_132 2 1 (dk_at dksX4_back_3 3 rfl rfl)
theorem dX4_back_78 : decode cX4_back 78 = .ok (.goto (-28), 3) := dk_167 255 228 (dk_at dksX4_back_3 6 rfl rfl)
theorem dX4_back_81 : decode cX4_back 81 = .ok (.aload_n 0, 1) := dk_42 (dk_at dksX4_back_3 9 rfl rfl)
theorem dX4_back_82 : decode cX4_back 82 = .ok (.getfield 39, 3) := dk_180 0 39 (dk_at dksX4_back_3 10 rfl rfl)
theorem dX4_back_85 : decode cX4_back 85 = .ok (.bipush 10, 2) := dk_16 10 (dk_at dksX4_back_3 13 rfl rfl)
theorem dX4_back_87 : decode cX4_back 87 = .ok (.iaload, 1) := dk_46 (dk_at dksX4_back_3 15 rfl rfl)
theorem dX4_back_88 : decode cX4_back 88 = .ok (.ireturn, 1) := dk_172 (dk_at dksX4_back_3 16 rfl rfl)
theorem q138 : (Jvm.Cond.initialized "EdgeWalkModel") ∈ lw_all := lw_g (lw_at lw_m1 10 rfl) rfl
theorem q665 : (Jvm.Cond.selects "EdgeWalkModel" ({ cls := "java/lang/Object", name := "getClass", desc := "()Ljava/lang/Class;" } : Jvm.MethodName) ({ cls := "java/lang/Object", name := "getClass", desc := "()Ljava/lang/Class;" } : Jvm.MethodName)) ∈ lw_all := lw_g (lw_at lw_m3 57 rfl) rfl
theorem q1275 : (Jvm.Cond.instantiable "EdgeWalkModel" (41 : Nat)) ∈ lw_all := lw_g (lw_at lw_m5 187 rfl) rfl
theorem q1277 : (Jvm.Cond.instanceMethod ({ cls := "EdgeWalkModel", name := "<init>", desc := "()V" } : Jvm.MethodName)) ∈ lw_all := lw_g (lw_at lw_m5 189 rfl) rfl
theorem q1278 : (Jvm.Cond.code ({ cls := "EdgeWalkModel", name := "<init>", desc := "()V" } : Jvm.MethodName) prog_19_method_1_code (1 : Nat) (Option.none : Option Jvm.ClassFile.FieldType)) ∈ lw_all := lw_g (lw_at lw_m5 190 rfl) rfl
theorem q1279 : (Jvm.Cond.methodLink "EdgeWalkModel" (1 : Nat) ({ cls := "java/lang/Object", name := "<init>", desc := "()V" } : Jvm.MethodName)) ∈ lw_all := lw_g (lw_at lw_m5 191 rfl) rfl
theorem q1280 : (Jvm.Cond.fieldLink "EdgeWalkModel" (7 : Nat) "EdgeWalkModel" "tape" "[B") ∈ lw_all := lw_g (lw_at lw_m5 192 rfl) rfl
theorem q1281 : (Jvm.Cond.fieldLink "EdgeWalkModel" (86 : Nat) "EdgeWalkModel" "taped" "I") ∈ lw_all := lw_g (lw_at lw_m5 193 rfl) rfl
theorem q1282 : (Jvm.Cond.fieldLink "EdgeWalkModel" (262 : Nat) "EdgeWalkModel" "rules" "I") ∈ lw_all := lw_g (lw_at lw_m5 194 rfl) rfl
theorem q1283 : (Jvm.Cond.fieldLink "EdgeWalkModel" (13 : Nat) "EdgeWalkModel" "sign" "[I") ∈ lw_all := lw_g (lw_at lw_m5 195 rfl) rfl
theorem q1284 : (Jvm.Cond.fieldLink "EdgeWalkModel" (17 : Nat) "EdgeWalkModel" "length" "[I") ∈ lw_all := lw_g (lw_at lw_m5 196 rfl) rfl
theorem q1285 : (Jvm.Cond.fieldLink "EdgeWalkModel" (20 : Nat) "EdgeWalkModel" "clause" "[I") ∈ lw_all := lw_g (lw_at lw_m5 197 rfl) rfl
theorem q1286 : (Jvm.Cond.fieldLink "EdgeWalkModel" (23 : Nat) "EdgeWalkModel" "clauses" "[I") ∈ lw_all := lw_g (lw_at lw_m5 198 rfl) rfl
theorem q1287 : (Jvm.Cond.fieldLink "EdgeWalkModel" (26 : Nat) "EdgeWalkModel" "read" "[I") ∈ lw_all := lw_g (lw_at lw_m5 199 rfl) rfl
theorem q1288 : (Jvm.Cond.fieldLink "EdgeWalkModel" (96 : Nat) "EdgeWalkModel" "next" "I") ∈ lw_all := lw_g (lw_at lw_m5 200 rfl) rfl
theorem q1289 : (Jvm.Cond.fieldLink "EdgeWalkModel" (93 : Nat) "EdgeWalkModel" "wrong" "I") ∈ lw_all := lw_g (lw_at lw_m5 201 rfl) rfl
theorem q1290 : (Jvm.Cond.fieldLink "EdgeWalkModel" (121 : Nat) "EdgeWalkModel" "number" "I") ∈ lw_all := lw_g (lw_at lw_m5 202 rfl) rfl
theorem q1291 : (Jvm.Cond.fieldLink "EdgeWalkModel" (150 : Nat) "EdgeWalkModel" "text" "I") ∈ lw_all := lw_g (lw_at lw_m5 203 rfl) rfl
theorem q1292 : (Jvm.Cond.fieldLink "EdgeWalkModel" (153 : Nat) "EdgeWalkModel" "made" "I") ∈ lw_all := lw_g (lw_at lw_m5 204 rfl) rfl
theorem q1293 : (Jvm.Cond.fieldLink "EdgeWalkModel" (156 : Nat) "EdgeWalkModel" "deep" "I") ∈ lw_all := lw_g (lw_at lw_m5 205 rfl) rfl
theorem q1294 : (Jvm.Cond.fieldLink "EdgeWalkModel" (250 : Nat) "EdgeWalkModel" "lines" "I") ∈ lw_all := lw_g (lw_at lw_m5 206 rfl) rfl
theorem q1295 : (Jvm.Cond.fieldLink "EdgeWalkModel" (29 : Nat) "EdgeWalkModel" "open" "[I") ∈ lw_all := lw_g (lw_at lw_m5 207 rfl) rfl
theorem q1296 : (Jvm.Cond.fieldLink "EdgeWalkModel" (159 : Nat) "EdgeWalkModel" "opened" "I") ∈ lw_all := lw_g (lw_at lw_m5 208 rfl) rfl
theorem q1297 : (Jvm.Cond.fieldLink "EdgeWalkModel" (32 : Nat) "EdgeWalkModel" "stack" "[J") ∈ lw_all := lw_g (lw_at lw_m5 209 rfl) rfl
theorem q1298 : (Jvm.Cond.fieldLink "EdgeWalkModel" (274 : Nat) "EdgeWalkModel" "top" "I") ∈ lw_all := lw_g (lw_at lw_m5 210 rfl) rfl
theorem q1299 : (Jvm.Cond.fieldLink "EdgeWalkModel" (36 : Nat) "EdgeWalkModel" "word" "[J") ∈ lw_all := lw_g (lw_at lw_m5 211 rfl) rfl
theorem q1300 : (Jvm.Cond.fieldLink "EdgeWalkModel" (39 : Nat) "EdgeWalkModel" "said" "[I") ∈ lw_all := lw_g (lw_at lw_m5 212 rfl) rfl
theorem q1301 : (Jvm.Cond.fieldLink "EdgeWalkModel" (42 : Nat) "EdgeWalkModel" "force" "I") ∈ lw_all := lw_g (lw_at lw_m5 213 rfl) rfl
theorem q1302 : (Jvm.Cond.fieldLink "EdgeWalkModel" (443 : Nat) "EdgeWalkModel" "x" "I") ∈ lw_all := lw_g (lw_at lw_m5 214 rfl) rfl
theorem q1303 : (Jvm.Cond.fieldLink "EdgeWalkModel" (46 : Nat) "EdgeWalkModel" "wasSaid" "[I") ∈ lw_all := lw_g (lw_at lw_m5 215 rfl) rfl
theorem q1304 : (Jvm.Cond.fieldLink "EdgeWalkModel" (271 : Nat) "EdgeWalkModel" "undone" "I") ∈ lw_all := lw_g (lw_at lw_m5 216 rfl) rfl
theorem q1305 : (Jvm.Cond.fieldLink "EdgeWalkModel" (49 : Nat) "EdgeWalkModel" "kept" "[I") ∈ lw_all := lw_g (lw_at lw_m5 217 rfl) rfl
theorem q1306 : (Jvm.Cond.fieldLink "EdgeWalkModel" (52 : Nat) "EdgeWalkModel" "far" "[I") ∈ lw_all := lw_g (lw_at lw_m5 218 rfl) rfl
theorem q1307 : (Jvm.Cond.fieldLink "EdgeWalkModel" (55 : Nat) "EdgeWalkModel" "wasIn" "[Z") ∈ lw_all := lw_g (lw_at lw_m5 219 rfl) rfl
theorem q1308 : (Jvm.Cond.fieldLink "EdgeWalkModel" (59 : Nat) "EdgeWalkModel" "outOften" "[I") ∈ lw_all := lw_g (lw_at lw_m5 220 rfl) rfl
theorem q1309 : (Jvm.Cond.fieldLink "EdgeWalkModel" (396 : Nat) "EdgeWalkModel" "fewestLost" "I") ∈ lw_all := lw_g (lw_at lw_m5 221 rfl) rfl
theorem q1310 : (Jvm.Cond.fieldLink "EdgeWalkModel" (399 : Nat) "EdgeWalkModel" "mostFood" "I") ∈ lw_all := lw_g (lw_at lw_m5 222 rfl) rfl
theorem q1311 : (Jvm.Cond.fieldLink "EdgeWalkModel" (402 : Nat) "EdgeWalkModel" "bestOne" "I") ∈ lw_all := lw_g (lw_at lw_m5 223 rfl) rfl
theorem q1312 : (Jvm.Cond.fieldLink "EdgeWalkModel" (62 : Nat) "EdgeWalkModel" "hasBy" "[I") ∈ lw_all := lw_g (lw_at lw_m5 224 rfl) rfl
theorem q1313 : (Jvm.Cond.fieldLink "EdgeWalkModel" (65 : Nat) "EdgeWalkModel" "whereThen" "[I") ∈ lw_all := lw_g (lw_at lw_m5 225 rfl) rfl
theorem q1314 : (Jvm.Cond.fieldLink "EdgeWalkModel" (68 : Nat) "EdgeWalkModel" "isFit" "[Z") ∈ lw_all := lw_g (lw_at lw_m5 226 rfl) rfl
theorem q1315 : (Jvm.Cond.fieldLink "EdgeWalkModel" (71 : Nat) "EdgeWalkModel" "cellThen" "[I") ∈ lw_all := lw_g (lw_at lw_m5 227 rfl) rfl
theorem q1316 : (Jvm.Cond.fieldLink "EdgeWalkModel" (446 : Nat) "EdgeWalkModel" "drawX" "J") ∈ lw_all := lw_g (lw_at lw_m5 228 rfl) rfl
theorem q1317 : (Jvm.Cond.fieldLink "EdgeWalkModel" (74 : Nat) "EdgeWalkModel" "images" "[I") ∈ lw_all := lw_g (lw_at lw_m5 229 rfl) rfl
theorem q1318 : (Jvm.Cond.fieldLink "EdgeWalkModel" (77 : Nat) "EdgeWalkModel" "imageForce" "[I") ∈ lw_all := lw_g (lw_at lw_m5 230 rfl) rfl
theorem q1319 : (Jvm.Cond.fieldLink "EdgeWalkModel" (80 : Nat) "EdgeWalkModel" "imageX" "[I") ∈ lw_all := lw_g (lw_at lw_m5 231 rfl) rfl
theorem q1320 : (Jvm.Cond.fieldLink "EdgeWalkModel" (83 : Nat) "EdgeWalkModel" "isMade" "[Z") ∈ lw_all := lw_g (lw_at lw_m5 232 rfl) rfl
theorem q1321 : (Jvm.Cond.laysFinal "EdgeWalkModel" "EdgeWalkModel" "tape" "[B") ∈ lw_all := lw_g (lw_at lw_m5 233 rfl) rfl
theorem q1322 : (Jvm.Cond.soleField "EdgeWalkModel" "tape") ∈ lw_all := lw_g (lw_at lw_m5 234 rfl) rfl
theorem q1323 : (Jvm.Cond.lays "EdgeWalkModel" "EdgeWalkModel" "taped" "I") ∈ lw_all := lw_g (lw_at lw_m5 235 rfl) rfl
theorem q1324 : (Jvm.Cond.soleField "EdgeWalkModel" "taped") ∈ lw_all := lw_g (lw_at lw_m5 236 rfl) rfl
theorem q1325 : (Jvm.Cond.lays "EdgeWalkModel" "EdgeWalkModel" "rules" "I") ∈ lw_all := lw_g (lw_at lw_m5 237 rfl) rfl
theorem q1326 : (Jvm.Cond.soleField "EdgeWalkModel" "rules") ∈ lw_all := lw_g (lw_at lw_m5 238 rfl) rfl
theorem q1327 : (Jvm.Cond.laysFinal "EdgeWalkModel" "EdgeWalkModel" "sign" "[I") ∈ lw_all := lw_g (lw_at lw_m5 239 rfl) rfl
theorem q1328 : (Jvm.Cond.soleField "EdgeWalkModel" "sign") ∈ lw_all := lw_g (lw_at lw_m6 0 rfl) rfl
theorem q1329 : (Jvm.Cond.laysFinal "EdgeWalkModel" "EdgeWalkModel" "length" "[I") ∈ lw_all := lw_g (lw_at lw_m6 1 rfl) rfl
theorem q1330 : (Jvm.Cond.soleField "EdgeWalkModel" "length") ∈ lw_all := lw_g (lw_at lw_m6 2 rfl) rfl
theorem q1331 : (Jvm.Cond.laysFinal "EdgeWalkModel" "EdgeWalkModel" "clause" "[I") ∈ lw_all := lw_g (lw_at lw_m6 3 rfl) rfl
theorem q1332 : (Jvm.Cond.soleField "EdgeWalkModel" "clause") ∈ lw_all := lw_g (lw_at lw_m6 4 rfl) rfl
theorem q1333 : (Jvm.Cond.laysFinal "EdgeWalkModel" "EdgeWalkModel" "clauses" "[I") ∈ lw_all := lw_g (lw_at lw_m6 5 rfl) rfl
theorem q1334 : (Jvm.Cond.soleField "EdgeWalkModel" "clauses") ∈ lw_all := lw_g (lw_at lw_m6 6 rfl) rfl
theorem q1335 : (Jvm.Cond.laysFinal "EdgeWalkModel" "EdgeWalkModel" "read" "[I") ∈ lw_all := lw_g (lw_at lw_m6 7 rfl) rfl
theorem q1336 : (Jvm.Cond.soleField "EdgeWalkModel" "read") ∈ lw_all := lw_g (lw_at lw_m6 8 rfl) rfl
theorem q1337 : (Jvm.Cond.lays "EdgeWalkModel" "EdgeWalkModel" "next" "I") ∈ lw_all := lw_g (lw_at lw_m6 9 rfl) rfl
theorem q1338 : (Jvm.Cond.soleField "EdgeWalkModel" "next") ∈ lw_all := lw_g (lw_at lw_m6 10 rfl) rfl
theorem q1339 : (Jvm.Cond.lays "EdgeWalkModel" "EdgeWalkModel" "wrong" "I") ∈ lw_all := lw_g (lw_at lw_m6 11 rfl) rfl
theorem q1340 : (Jvm.Cond.soleField "EdgeWalkModel" "wrong") ∈ lw_all := lw_g (lw_at lw_m6 12 rfl) rfl
theorem q1341 : (Jvm.Cond.lays "EdgeWalkModel" "EdgeWalkModel" "number" "I") ∈ lw_all := lw_g (lw_at lw_m6 13 rfl) rfl
theorem q1342 : (Jvm.Cond.soleField "EdgeWalkModel" "number") ∈ lw_all := lw_g (lw_at lw_m6 14 rfl) rfl
theorem q1343 : (Jvm.Cond.lays "EdgeWalkModel" "EdgeWalkModel" "text" "I") ∈ lw_all := lw_g (lw_at lw_m6 15 rfl) rfl
theorem q1344 : (Jvm.Cond.soleField "EdgeWalkModel" "text") ∈ lw_all := lw_g (lw_at lw_m6 16 rfl) rfl
theorem q1345 : (Jvm.Cond.lays "EdgeWalkModel" "EdgeWalkModel" "made" "I") ∈ lw_all := lw_g (lw_at lw_m6 17 rfl) rfl
theorem q1346 : (Jvm.Cond.soleField "EdgeWalkModel" "made") ∈ lw_all := lw_g (lw_at lw_m6 18 rfl) rfl
theorem q1347 : (Jvm.Cond.lays "EdgeWalkModel" "EdgeWalkModel" "deep" "I") ∈ lw_all := lw_g (lw_at lw_m6 19 rfl) rfl
theorem q1348 : (Jvm.Cond.soleField "EdgeWalkModel" "deep") ∈ lw_all := lw_g (lw_at lw_m6 20 rfl) rfl
theorem q1349 : (Jvm.Cond.lays "EdgeWalkModel" "EdgeWalkModel" "lines" "I") ∈ lw_all := lw_g (lw_at lw_m6 21 rfl) rfl
theorem q1350 : (Jvm.Cond.soleField "EdgeWalkModel" "lines") ∈ lw_all := lw_g (lw_at lw_m6 22 rfl) rfl
theorem q1351 : (Jvm.Cond.laysFinal "EdgeWalkModel" "EdgeWalkModel" "open" "[I") ∈ lw_all := lw_g (lw_at lw_m6 23 rfl) rfl
theorem q1352 : (Jvm.Cond.soleField "EdgeWalkModel" "open") ∈ lw_all := lw_g (lw_at lw_m6 24 rfl) rfl
theorem q1353 : (Jvm.Cond.lays "EdgeWalkModel" "EdgeWalkModel" "opened" "I") ∈ lw_all := lw_g (lw_at lw_m6 25 rfl) rfl
theorem q1354 : (Jvm.Cond.soleField "EdgeWalkModel" "opened") ∈ lw_all := lw_g (lw_at lw_m6 26 rfl) rfl
theorem q1355 : (Jvm.Cond.laysFinal "EdgeWalkModel" "EdgeWalkModel" "stack" "[J") ∈ lw_all := lw_g (lw_at lw_m6 27 rfl) rfl
theorem q1356 : (Jvm.Cond.soleField "EdgeWalkModel" "stack") ∈ lw_all := lw_g (lw_at lw_m6 28 rfl) rfl
theorem q1357 : (Jvm.Cond.lays "EdgeWalkModel" "EdgeWalkModel" "top" "I") ∈ lw_all := lw_g (lw_at lw_m6 29 rfl) rfl
theorem q1358 : (Jvm.Cond.soleField "EdgeWalkModel" "top") ∈ lw_all := lw_g (lw_at lw_m6 30 rfl) rfl
theorem q1359 : (Jvm.Cond.laysFinal "EdgeWalkModel" "EdgeWalkModel" "word" "[J") ∈ lw_all := lw_g (lw_at lw_m6 31 rfl) rfl
theorem q1360 : (Jvm.Cond.soleField "EdgeWalkModel" "word") ∈ lw_all := lw_g (lw_at lw_m6 32 rfl) rfl
theorem q1361 : (Jvm.Cond.laysFinal "EdgeWalkModel" "EdgeWalkModel" "said" "[I") ∈ lw_all := lw_g (lw_at lw_m6 33 rfl) rfl
theorem q1362 : (Jvm.Cond.soleField "EdgeWalkModel" "said") ∈ lw_all := lw_g (lw_at lw_m6 34 rfl) rfl
theorem q1363 : (Jvm.Cond.lays "EdgeWalkModel" "EdgeWalkModel" "force" "I") ∈ lw_all := lw_g (lw_at lw_m6 35 rfl) rfl
theorem q1364 : (Jvm.Cond.soleField "EdgeWalkModel" "force") ∈ lw_all := lw_g (lw_at lw_m6 36 rfl) rfl
theorem q1365 : (Jvm.Cond.lays "EdgeWalkModel" "EdgeWalkModel" "x" "I") ∈ lw_all := lw_g (lw_at lw_m6 37 rfl) rfl
theorem q1366 : (Jvm.Cond.soleField "EdgeWalkModel" "x") ∈ lw_all := lw_g (lw_at lw_m6 38 rfl) rfl
theorem q1367 : (Jvm.Cond.laysFinal "EdgeWalkModel" "EdgeWalkModel" "wasSaid" "[I") ∈ lw_all := lw_g (lw_at lw_m6 39 rfl) rfl
theorem q1368 : (Jvm.Cond.soleField "EdgeWalkModel" "wasSaid") ∈ lw_all := lw_g (lw_at lw_m6 40 rfl) rfl
theorem q1369 : (Jvm.Cond.lays "EdgeWalkModel" "EdgeWalkModel" "undone" "I") ∈ lw_all := lw_g (lw_at lw_m6 41 rfl) rfl
theorem q1370 : (Jvm.Cond.soleField "EdgeWalkModel" "undone") ∈ lw_all := lw_g (lw_at lw_m6 42 rfl) rfl
theorem q1371 : (Jvm.Cond.laysFinal "EdgeWalkModel" "EdgeWalkModel" "kept" "[I") ∈ lw_all := lw_g (lw_at lw_m6 43 rfl) rfl
theorem q1372 : (Jvm.Cond.soleField "EdgeWalkModel" "kept") ∈ lw_all := lw_g (lw_at lw_m6 44 rfl) rfl
theorem q1373 : (Jvm.Cond.laysFinal "EdgeWalkModel" "EdgeWalkModel" "far" "[I") ∈ lw_all := lw_g (lw_at lw_m6 45 rfl) rfl
theorem q1374 : (Jvm.Cond.soleField "EdgeWalkModel" "far") ∈ lw_all := lw_g (lw_at lw_m6 46 rfl) rfl
theorem q1375 : (Jvm.Cond.laysFinal "EdgeWalkModel" "EdgeWalkModel" "wasIn" "[Z") ∈ lw_all := lw_g (lw_at lw_m6 47 rfl) rfl
theorem q1376 : (Jvm.Cond.soleField "EdgeWalkModel" "wasIn") ∈ lw_all := lw_g (lw_at lw_m6 48 rfl) rfl
theorem q1377 : (Jvm.Cond.laysFinal "EdgeWalkModel" "EdgeWalkModel" "outOften" "[I") ∈ lw_all := lw_g (lw_at lw_m6 49 rfl) rfl
theorem q1378 : (Jvm.Cond.soleField "EdgeWalkModel" "outOften") ∈ lw_all := lw_g (lw_at lw_m6 50 rfl) rfl
theorem q1379 : (Jvm.Cond.lays "EdgeWalkModel" "EdgeWalkModel" "fewestLost" "I") ∈ lw_all := lw_g (lw_at lw_m6 51 rfl) rfl
theorem q1380 : (Jvm.Cond.soleField "EdgeWalkModel" "fewestLost") ∈ lw_all := lw_g (lw_at lw_m6 52 rfl) rfl
theorem q1381 : (Jvm.Cond.lays "EdgeWalkModel" "EdgeWalkModel" "mostFood" "I") ∈ lw_all := lw_g (lw_at lw_m6 53 rfl) rfl
theorem q1382 : (Jvm.Cond.soleField "EdgeWalkModel" "mostFood") ∈ lw_all := lw_g (lw_at lw_m6 54 rfl) rfl
theorem q1383 : (Jvm.Cond.lays "EdgeWalkModel" "EdgeWalkModel" "bestOne" "I") ∈ lw_all := lw_g (lw_at lw_m6 55 rfl) rfl
theorem q1384 : (Jvm.Cond.soleField "EdgeWalkModel" "bestOne") ∈ lw_all := lw_g (lw_at lw_m6 56 rfl) rfl
theorem q1385 : (Jvm.Cond.laysFinal "EdgeWalkModel" "EdgeWalkModel" "hasBy" "[I") ∈ lw_all := lw_g (lw_at lw_m6 57 rfl) rfl
theorem q1386 : (Jvm.Cond.soleField "EdgeWalkModel" "hasBy") ∈ lw_all := lw_g (lw_at lw_m6 58 rfl) rfl
theorem q1387 : (Jvm.Cond.laysFinal "EdgeWalkModel" "EdgeWalkModel" "whereThen" "[I") ∈ lw_all := lw_g (lw_at lw_m6 59 rfl) rfl
theorem q1388 : (Jvm.Cond.soleField "EdgeWalkModel" "whereThen") ∈ lw_all := lw_g (lw_at lw_m6 60 rfl) rfl
theorem q1389 : (Jvm.Cond.laysFinal "EdgeWalkModel" "EdgeWalkModel" "isFit" "[Z") ∈ lw_all := lw_g (lw_at lw_m6 61 rfl) rfl
theorem q1390 : (Jvm.Cond.soleField "EdgeWalkModel" "isFit") ∈ lw_all := lw_g (lw_at lw_m6 62 rfl) rfl
theorem q1391 : (Jvm.Cond.laysFinal "EdgeWalkModel" "EdgeWalkModel" "cellThen" "[I") ∈ lw_all := lw_g (lw_at lw_m6 63 rfl) rfl
theorem q1392 : (Jvm.Cond.soleField "EdgeWalkModel" "cellThen") ∈ lw_all := lw_g (lw_at lw_m6 64 rfl) rfl
theorem q1393 : (Jvm.Cond.lays "EdgeWalkModel" "EdgeWalkModel" "drawX" "J") ∈ lw_all := lw_g (lw_at lw_m6 65 rfl) rfl
theorem q1394 : (Jvm.Cond.soleField "EdgeWalkModel" "drawX") ∈ lw_all := lw_g (lw_at lw_m6 66 rfl) rfl
theorem q1395 : (Jvm.Cond.laysFinal "EdgeWalkModel" "EdgeWalkModel" "images" "[I") ∈ lw_all := lw_g (lw_at lw_m6 67 rfl) rfl
theorem q1396 : (Jvm.Cond.soleField "EdgeWalkModel" "images") ∈ lw_all := lw_g (lw_at lw_m6 68 rfl) rfl
theorem q1397 : (Jvm.Cond.laysFinal "EdgeWalkModel" "EdgeWalkModel" "imageForce" "[I") ∈ lw_all := lw_g (lw_at lw_m6 69 rfl) rfl
theorem q1398 : (Jvm.Cond.soleField "EdgeWalkModel" "imageForce") ∈ lw_all := lw_g (lw_at lw_m6 70 rfl) rfl
theorem q1399 : (Jvm.Cond.laysFinal "EdgeWalkModel" "EdgeWalkModel" "imageX" "[I") ∈ lw_all := lw_g (lw_at lw_m6 71 rfl) rfl
theorem q1400 : (Jvm.Cond.soleField "EdgeWalkModel" "imageX") ∈ lw_all := lw_g (lw_at lw_m6 72 rfl) rfl
theorem q1401 : (Jvm.Cond.laysFinal "EdgeWalkModel" "EdgeWalkModel" "isMade" "[Z") ∈ lw_all := lw_g (lw_at lw_m6 73 rfl) rfl
theorem q1402 : (Jvm.Cond.soleField "EdgeWalkModel" "isMade") ∈ lw_all := lw_g (lw_at lw_m6 74 rfl) rfl
theorem q1403 : (Jvm.Cond.superclass "EdgeWalkModel" "java/lang/Object") ∈ lw_all := lw_g (lw_at lw_m6 75 rfl) rfl
theorem q1406 : (Jvm.Cond.instanceMethod ({ cls := "EdgeWalkModel", name := "feed", desc := "(IIIII)I" } : Jvm.MethodName)) ∈ lw_all := lw_g (lw_at lw_m6 78 rfl) rfl
theorem q1407 : (Jvm.Cond.selects "EdgeWalkModel" ({ cls := "EdgeWalkModel", name := "feed", desc := "(IIIII)I" } : Jvm.MethodName) ({ cls := "EdgeWalkModel", name := "feed", desc := "(IIIII)I" } : Jvm.MethodName)) ∈ lw_all := lw_g (lw_at lw_m6 79 rfl) rfl
theorem q1408 : (Jvm.Cond.code ({ cls := "EdgeWalkModel", name := "feed", desc := "(IIIII)I" } : Jvm.MethodName) prog_19_method_4_code (6 : Nat) (Option.some Jvm.ClassFile.FieldType.int)) ∈ lw_all := lw_g (lw_at lw_m6 80 rfl) rfl
theorem q1409 : (Jvm.Cond.methodLink "EdgeWalkModel" (89 : Nat) ({ cls := "EdgeWalkModel", name := "four", desc := "(I)V" } : Jvm.MethodName)) ∈ lw_all := lw_g (lw_at lw_m6 81 rfl) rfl
theorem q1410 : (Jvm.Cond.privateMethod ({ cls := "EdgeWalkModel", name := "four", desc := "(I)V" } : Jvm.MethodName)) ∈ lw_tbl := lw_at lw_m6 82 rfl
theorem q1411 : (Jvm.Cond.instanceMethod ({ cls := "EdgeWalkModel", name := "four", desc := "(I)V" } : Jvm.MethodName)) ∈ lw_all := lw_g (lw_at lw_m6 83 rfl) rfl
theorem q1412 : (Jvm.Cond.code ({ cls := "EdgeWalkModel", name := "four", desc := "(I)V" } : Jvm.MethodName) prog_19_method_3_code (3 : Nat) (Option.none : Option Jvm.ClassFile.FieldType)) ∈ lw_all := lw_g (lw_at lw_m6 84 rfl) rfl
theorem q1414 : (Jvm.Cond.instanceMethod ({ cls := "EdgeWalkModel", name := "end", desc := "(I)I" } : Jvm.MethodName)) ∈ lw_all := lw_g (lw_at lw_m6 86 rfl) rfl
theorem q1415 : (Jvm.Cond.selects "EdgeWalkModel" ({ cls := "EdgeWalkModel", name := "end", desc := "(I)I" } : Jvm.MethodName) ({ cls := "EdgeWalkModel", name := "end", desc := "(I)I" } : Jvm.MethodName)) ∈ lw_all := lw_g (lw_at lw_m6 87 rfl) rfl
theorem q1416 : (Jvm.Cond.code ({ cls := "EdgeWalkModel", name := "end", desc := "(I)I" } : Jvm.MethodName) prog_19_method_5_code (2 : Nat) (Option.some Jvm.ClassFile.FieldType.int)) ∈ lw_all := lw_g (lw_at lw_m6 88 rfl) rfl
theorem q1418 : (Jvm.Cond.instanceMethod ({ cls := "EdgeWalkModel", name := "rule", desc := "()I" } : Jvm.MethodName)) ∈ lw_all := lw_g (lw_at lw_m6 90 rfl) rfl
theorem q1419 : (Jvm.Cond.selects "EdgeWalkModel" ({ cls := "EdgeWalkModel", name := "rule", desc := "()I" } : Jvm.MethodName) ({ cls := "EdgeWalkModel", name := "rule", desc := "()I" } : Jvm.MethodName)) ∈ lw_all := lw_g (lw_at lw_m6 91 rfl) rfl
theorem q1420 : (Jvm.Cond.code ({ cls := "EdgeWalkModel", name := "rule", desc := "()I" } : Jvm.MethodName) prog_19_method_39_code (1 : Nat) (Option.some Jvm.ClassFile.FieldType.int)) ∈ lw_all := lw_g (lw_at lw_m6 92 rfl) rfl
theorem q1421 : (Jvm.Cond.methodLink "EdgeWalkModel" (265 : Nat) ({ cls := "EdgeWalkModel", name := "readsAll", desc := "()Z" } : Jvm.MethodName)) ∈ lw_all := lw_g (lw_at lw_m6 93 rfl) rfl
theorem q1422 : (Jvm.Cond.privateMethod ({ cls := "EdgeWalkModel", name := "readsAll", desc := "()Z" } : Jvm.MethodName)) ∈ lw_tbl := lw_at lw_m6 94 rfl
theorem q1423 : (Jvm.Cond.instanceMethod ({ cls := "EdgeWalkModel", name := "readsAll", desc := "()Z" } : Jvm.MethodName)) ∈ lw_all := lw_g (lw_at lw_m6 95 rfl) rfl
theorem q1424 : (Jvm.Cond.code ({ cls := "EdgeWalkModel", name := "readsAll", desc := "()Z" } : Jvm.MethodName) prog_19_method_38_code (2 : Nat) (Option.some Jvm.ClassFile.FieldType.boolean)) ∈ lw_all := lw_g (lw_at lw_m6 96 rfl) rfl
theorem q1425 : (Jvm.Cond.methodLink "EdgeWalkModel" (259 : Nat) ({ cls := "EdgeWalkModel", name := "clauseHere", desc := "()Z" } : Jvm.MethodName)) ∈ lw_all := lw_g (lw_at lw_m6 97 rfl) rfl
theorem q1426 : (Jvm.Cond.privateMethod ({ cls := "EdgeWalkModel", name := "clauseHere", desc := "()Z" } : Jvm.MethodName)) ∈ lw_tbl := lw_at lw_m6 98 rfl
theorem q1427 : (Jvm.Cond.instanceMethod ({ cls := "EdgeWalkModel", name := "clauseHere", desc := "()Z" } : Jvm.MethodName)) ∈ lw_all := lw_g (lw_at lw_m6 99 rfl) rfl
theorem q1428 : (Jvm.Cond.code ({ cls := "EdgeWalkModel", name := "clauseHere", desc := "()Z" } : Jvm.MethodName) prog_19_method_37_code (3 : Nat) (Option.some Jvm.ClassFile.FieldType.boolean)) ∈ lw_all := lw_g (lw_at lw_m6 100 rfl) rfl
theorem q1429 : (Jvm.Cond.methodLink "EdgeWalkModel" (99 : Nat) ({ cls := "EdgeWalkModel", name := "see", desc := "()I" } : Jvm.MethodName)) ∈ lw_all := lw_g (lw_at lw_m6 101 rfl) rfl
theorem q1430 : (Jvm.Cond.privateMethod ({ cls := "EdgeWalkModel", name := "see", desc := "()I" } : Jvm.MethodName)) ∈ lw_tbl := lw_at lw_m6 102 rfl
theorem q1431 : (Jvm.Cond.instanceMethod ({ cls := "EdgeWalkModel", name := "see", desc := "()I" } : Jvm.MethodName)) ∈ lw_all := lw_g (lw_at lw_m6 103 rfl) rfl
theorem q1432 : (Jvm.Cond.code ({ cls := "EdgeWalkModel", name := "see", desc := "()I" } : Jvm.MethodName) prog_19_method_7_code (1 : Nat) (Option.some Jvm.ClassFile.FieldType.int)) ∈ lw_all := lw_g (lw_at lw_m6 104 rfl) rfl
theorem q1433 : (Jvm.Cond.methodLink "EdgeWalkModel" (245 : Nat) ({ cls := "EdgeWalkModel", name := "isSheetWord", desc := "()Z" } : Jvm.MethodName)) ∈ lw_all := lw_g (lw_at lw_m6 105 rfl) rfl
theorem q1434 : (Jvm.Cond.privateMethod ({ cls := "EdgeWalkModel", name := "isSheetWord", desc := "()Z" } : Jvm.MethodName)) ∈ lw_tbl := lw_at lw_m6 106 rfl
theorem q1435 : (Jvm.Cond.instanceMethod ({ cls := "EdgeWalkModel", name := "isSheetWord", desc := "()Z" } : Jvm.MethodName)) ∈ lw_all := lw_g (lw_at lw_m6 107 rfl) rfl
theorem q1436 : (Jvm.Cond.code ({ cls := "EdgeWalkModel", name := "isSheetWord", desc := "()Z" } : Jvm.MethodName) prog_19_method_36_code (1 : Nat) (Option.some Jvm.ClassFile.FieldType.boolean)) ∈ lw_all := lw_g (lw_at lw_m6 108 rfl) rfl
theorem q1437 : (Jvm.Cond.constantLong "EdgeWalkModel" (229 : Nat) (495672714612 : Int64)) ∈ lw_all := lw_g (lw_at lw_m6 109 rfl) rfl
theorem q1438 : (Jvm.Cond.methodLink "EdgeWalkModel" (107 : Nat) ({ cls := "EdgeWalkModel", name := "isWord", desc := "(J)Z" } : Jvm.MethodName)) ∈ lw_all := lw_g (lw_at lw_m6 110 rfl) rfl
theorem q1439 : (Jvm.Cond.privateMethod ({ cls := "EdgeWalkModel", name := "isWord", desc := "(J)Z" } : Jvm.MethodName)) ∈ lw_tbl := lw_at lw_m6 111 rfl
theorem q1440 : (Jvm.Cond.instanceMethod ({ cls := "EdgeWalkModel", name := "isWord", desc := "(J)Z" } : Jvm.MethodName)) ∈ lw_all := lw_g (lw_at lw_m6 112 rfl) rfl
theorem q1441 : (Jvm.Cond.code ({ cls := "EdgeWalkModel", name := "isWord", desc := "(J)Z" } : Jvm.MethodName) prog_19_method_10_code (6 : Nat) (Option.some Jvm.ClassFile.FieldType.boolean)) ∈ lw_all := lw_g (lw_at lw_m6 113 rfl) rfl
theorem q1442 : (Jvm.Cond.methodLink "EdgeWalkModel" (103 : Nat) ({ cls := "EdgeWalkModel", name := "isLetter", desc := "(I)Z" } : Jvm.MethodName)) ∈ lw_all := lw_g (lw_at lw_m6 114 rfl) rfl
theorem q1443 : (Jvm.Cond.privateMethod ({ cls := "EdgeWalkModel", name := "isLetter", desc := "(I)Z" } : Jvm.MethodName)) ∈ lw_tbl := lw_at lw_m6 115 rfl
theorem q1444 : (Jvm.Cond.instanceMethod ({ cls := "EdgeWalkModel", name := "isLetter", desc := "(I)Z" } : Jvm.MethodName)) ∈ lw_all := lw_g (lw_at lw_m6 116 rfl) rfl
theorem q1445 : (Jvm.Cond.code ({ cls := "EdgeWalkModel", name := "isLetter", desc := "(I)Z" } : Jvm.MethodName) prog_19_method_9_code (2 : Nat) (Option.some Jvm.ClassFile.FieldType.boolean)) ∈ lw_all := lw_g (lw_at lw_m6 117 rfl) rfl
theorem q1446 : (Jvm.Cond.constantLong "EdgeWalkModel" (128 : Nat) (1735353714 : Int64)) ∈ lw_all := lw_g (lw_at lw_m6 118 rfl) rfl
theorem q1447 : (Jvm.Cond.constantLong "EdgeWalkModel" (237 : Nat) (1785686382 : Int64)) ∈ lw_all := lw_g (lw_at lw_m6 119 rfl) rfl
theorem q1448 : (Jvm.Cond.constantLong "EdgeWalkModel" (142 : Nat) (495874698853 : Int64)) ∈ lw_all := lw_g (lw_at lw_m6 120 rfl) rfl
theorem q1449 : (Jvm.Cond.constantLong "EdgeWalkModel" (248 : Nat) (1953854062 : Int64)) ∈ lw_all := lw_g (lw_at lw_m6 121 rfl) rfl
theorem q1450 : (Jvm.Cond.methodLink "EdgeWalkModel" (117 : Nat) ({ cls := "EdgeWalkModel", name := "fails", desc := "(II)Z" } : Jvm.MethodName)) ∈ lw_all := lw_g (lw_at lw_m6 122 rfl) rfl
theorem q1451 : (Jvm.Cond.privateMethod ({ cls := "EdgeWalkModel", name := "fails", desc := "(II)Z" } : Jvm.MethodName)) ∈ lw_tbl := lw_at lw_m6 123 rfl
theorem q1452 : (Jvm.Cond.instanceMethod ({ cls := "EdgeWalkModel", name := "fails", desc := "(II)Z" } : Jvm.MethodName)) ∈ lw_all := lw_g (lw_at lw_m6 124 rfl) rfl
theorem q1453 : (Jvm.Cond.code ({ cls := "EdgeWalkModel", name := "fails", desc := "(II)Z" } : Jvm.MethodName) prog_19_method_6_code (3 : Nat) (Option.some Jvm.ClassFile.FieldType.boolean)) ∈ lw_all := lw_g (lw_at lw_m6 125 rfl) rfl
theorem q1454 : (Jvm.Cond.methodLink "EdgeWalkModel" (253 : Nat) ({ cls := "EdgeWalkModel", name := "sheetLineHere", desc := "(I)Z" } : Jvm.MethodName)) ∈ lw_all := lw_g (lw_at lw_m6 126 rfl) rfl
theorem q1455 : (Jvm.Cond.privateMethod ({ cls := "EdgeWalkModel", name := "sheetLineHere", desc := "(I)Z" } : Jvm.MethodName)) ∈ lw_tbl := lw_at lw_m6 127 rfl
theorem q1456 : (Jvm.Cond.instanceMethod ({ cls := "EdgeWalkModel", name := "sheetLineHere", desc := "(I)Z" } : Jvm.MethodName)) ∈ lw_all := lw_g (lw_at lw_m6 128 rfl) rfl
theorem q1457 : (Jvm.Cond.code ({ cls := "EdgeWalkModel", name := "sheetLineHere", desc := "(I)Z" } : Jvm.MethodName) prog_19_method_35_code (2 : Nat) (Option.some Jvm.ClassFile.FieldType.boolean)) ∈ lw_all := lw_g (lw_at lw_m6 129 rfl) rfl
theorem q1458 : (Jvm.Cond.methodLink "EdgeWalkModel" (231 : Nat) ({ cls := "EdgeWalkModel", name := "isSheetHere", desc := "(I)Z" } : Jvm.MethodName)) ∈ lw_all := lw_g (lw_at lw_m6 130 rfl) rfl
theorem q1459 : (Jvm.Cond.privateMethod ({ cls := "EdgeWalkModel", name := "isSheetHere", desc := "(I)Z" } : Jvm.MethodName)) ∈ lw_tbl := lw_at lw_m6 131 rfl
theorem q1460 : (Jvm.Cond.instanceMethod ({ cls := "EdgeWalkModel", name := "isSheetHere", desc := "(I)Z" } : Jvm.MethodName)) ∈ lw_all := lw_g (lw_at lw_m6 132 rfl) rfl
theorem q1461 : (Jvm.Cond.code ({ cls := "EdgeWalkModel", name := "isSheetHere", desc := "(I)Z" } : Jvm.MethodName) prog_19_method_31_code (2 : Nat) (Option.some Jvm.ClassFile.FieldType.boolean)) ∈ lw_all := lw_g (lw_at lw_m6 133 rfl) rfl
theorem q1462 : (Jvm.Cond.methodLink "EdgeWalkModel" (111 : Nat) ({ cls := "EdgeWalkModel", name := "passWord", desc := "()V" } : Jvm.MethodName)) ∈ lw_all := lw_g (lw_at lw_m6 134 rfl) rfl
theorem q1463 : (Jvm.Cond.privateMethod ({ cls := "EdgeWalkModel", name := "passWord", desc := "()V" } : Jvm.MethodName)) ∈ lw_tbl := lw_at lw_m6 135 rfl
theorem q1464 : (Jvm.Cond.instanceMethod ({ cls := "EdgeWalkModel", name := "passWord", desc := "()V" } : Jvm.MethodName)) ∈ lw_all := lw_g (lw_at lw_m6 136 rfl) rfl
theorem q1465 : (Jvm.Cond.code ({ cls := "EdgeWalkModel", name := "passWord", desc := "()V" } : Jvm.MethodName) prog_19_method_11_code (1 : Nat) (Option.none : Option Jvm.ClassFile.FieldType)) ∈ lw_all := lw_g (lw_at lw_m6 137 rfl) rfl
theorem q1466 : (Jvm.Cond.methodLink "EdgeWalkModel" (222 : Nat) ({ cls := "EdgeWalkModel", name := "cellHere", desc := "(III)Z" } : Jvm.MethodName)) ∈ lw_all := lw_g (lw_at lw_m6 138 rfl) rfl
theorem q1467 : (Jvm.Cond.privateMethod ({ cls := "EdgeWalkModel", name := "cellHere", desc := "(III)Z" } : Jvm.MethodName)) ∈ lw_tbl := lw_at lw_m6 139 rfl
theorem q1468 : (Jvm.Cond.instanceMethod ({ cls := "EdgeWalkModel", name := "cellHere", desc := "(III)Z" } : Jvm.MethodName)) ∈ lw_all := lw_g (lw_at lw_m6 140 rfl) rfl
theorem q1469 : (Jvm.Cond.code ({ cls := "EdgeWalkModel", name := "cellHere", desc := "(III)Z" } : Jvm.MethodName) prog_19_method_29_code (4 : Nat) (Option.some Jvm.ClassFile.FieldType.boolean)) ∈ lw_all := lw_g (lw_at lw_m6 141 rfl) rfl
theorem q1470 : (Jvm.Cond.methodLink "EdgeWalkModel" (171 : Nat) ({ cls := "EdgeWalkModel", name := "numberHere", desc := "(II)Z" } : Jvm.MethodName)) ∈ lw_all := lw_g (lw_at lw_m6 142 rfl) rfl
theorem q1471 : (Jvm.Cond.privateMethod ({ cls := "EdgeWalkModel", name := "numberHere", desc := "(II)Z" } : Jvm.MethodName)) ∈ lw_tbl := lw_at lw_m6 143 rfl
theorem q1472 : (Jvm.Cond.instanceMethod ({ cls := "EdgeWalkModel", name := "numberHere", desc := "(II)Z" } : Jvm.MethodName)) ∈ lw_all := lw_g (lw_at lw_m6 144 rfl) rfl
theorem q1473 : (Jvm.Cond.code ({ cls := "EdgeWalkModel", name := "numberHere", desc := "(II)Z" } : Jvm.MethodName) prog_19_method_13_code (5 : Nat) (Option.some Jvm.ClassFile.FieldType.boolean)) ∈ lw_all := lw_g (lw_at lw_m6 145 rfl) rfl
theorem q1474 : (Jvm.Cond.methodLink "EdgeWalkModel" (114 : Nat) ({ cls := "EdgeWalkModel", name := "isDigit", desc := "(I)Z" } : Jvm.MethodName)) ∈ lw_all := lw_g (lw_at lw_m6 146 rfl) rfl
theorem q1475 : (Jvm.Cond.privateMethod ({ cls := "EdgeWalkModel", name := "isDigit", desc := "(I)Z" } : Jvm.MethodName)) ∈ lw_tbl := lw_at lw_m6 147 rfl
theorem q1476 : (Jvm.Cond.instanceMethod ({ cls := "EdgeWalkModel", name := "isDigit", desc := "(I)Z" } : Jvm.MethodName)) ∈ lw_all := lw_g (lw_at lw_m6 148 rfl) rfl
theorem q1477 : (Jvm.Cond.code ({ cls := "EdgeWalkModel", name := "isDigit", desc := "(I)Z" } : Jvm.MethodName) prog_19_method_8_code (2 : Nat) (Option.some Jvm.ClassFile.FieldType.boolean)) ∈ lw_all := lw_g (lw_at lw_m6 149 rfl) rfl
theorem q1478 : (Jvm.Cond.methodLink "EdgeWalkModel" (124 : Nat) ({ cls := "EdgeWalkModel", name := "in", desc := "(JJJ)Z" } : Jvm.MethodName)) ∈ lw_all := lw_g (lw_at lw_m6 150 rfl) rfl
theorem q1479 : (Jvm.Cond.static ({ cls := "EdgeWalkModel", name := "in", desc := "(JJJ)Z" } : Jvm.MethodName)) ∈ lw_all := lw_g (lw_at lw_m6 151 rfl) rfl
theorem q1480 : (Jvm.Cond.code ({ cls := "EdgeWalkModel", name := "in", desc := "(JJJ)Z" } : Jvm.MethodName) prog_19_method_2_code (6 : Nat) (Option.some Jvm.ClassFile.FieldType.boolean)) ∈ lw_all := lw_g (lw_at lw_m6 152 rfl) rfl
theorem q1481 : (Jvm.Cond.methodLink "EdgeWalkModel" (234 : Nat) ({ cls := "EdgeWalkModel", name := "isGoerHere", desc := "(I)Z" } : Jvm.MethodName)) ∈ lw_all := lw_g (lw_at lw_m6 153 rfl) rfl
theorem q1482 : (Jvm.Cond.privateMethod ({ cls := "EdgeWalkModel", name := "isGoerHere", desc := "(I)Z" } : Jvm.MethodName)) ∈ lw_tbl := lw_at lw_m6 154 rfl
theorem q1483 : (Jvm.Cond.instanceMethod ({ cls := "EdgeWalkModel", name := "isGoerHere", desc := "(I)Z" } : Jvm.MethodName)) ∈ lw_all := lw_g (lw_at lw_m6 155 rfl) rfl
theorem q1484 : (Jvm.Cond.code ({ cls := "EdgeWalkModel", name := "isGoerHere", desc := "(I)Z" } : Jvm.MethodName) prog_19_method_32_code (3 : Nat) (Option.some Jvm.ClassFile.FieldType.boolean)) ∈ lw_all := lw_g (lw_at lw_m6 156 rfl) rfl
theorem q1485 : (Jvm.Cond.methodLink "EdgeWalkModel" (226 : Nat) ({ cls := "EdgeWalkModel", name := "lastCell", desc := "()I" } : Jvm.MethodName)) ∈ lw_all := lw_g (lw_at lw_m6 157 rfl) rfl
theorem q1486 : (Jvm.Cond.privateMethod ({ cls := "EdgeWalkModel", name := "lastCell", desc := "()I" } : Jvm.MethodName)) ∈ lw_tbl := lw_at lw_m6 158 rfl
theorem q1487 : (Jvm.Cond.instanceMethod ({ cls := "EdgeWalkModel", name := "lastCell", desc := "()I" } : Jvm.MethodName)) ∈ lw_all := lw_g (lw_at lw_m6 159 rfl) rfl
theorem q1488 : (Jvm.Cond.code ({ cls := "EdgeWalkModel", name := "lastCell", desc := "()I" } : Jvm.MethodName) prog_19_method_30_code (1 : Nat) (Option.some Jvm.ClassFile.FieldType.int)) ∈ lw_all := lw_g (lw_at lw_m6 160 rfl) rfl
theorem q1489 : (Jvm.Cond.methodLink "EdgeWalkModel" (239 : Nat) ({ cls := "EdgeWalkModel", name := "isJoinHere", desc := "()Z" } : Jvm.MethodName)) ∈ lw_all := lw_g (lw_at lw_m6 161 rfl) rfl
theorem q1490 : (Jvm.Cond.privateMethod ({ cls := "EdgeWalkModel", name := "isJoinHere", desc := "()Z" } : Jvm.MethodName)) ∈ lw_tbl := lw_at lw_m6 162 rfl
theorem q1491 : (Jvm.Cond.instanceMethod ({ cls := "EdgeWalkModel", name := "isJoinHere", desc := "()Z" } : Jvm.MethodName)) ∈ lw_all := lw_g (lw_at lw_m6 163 rfl) rfl
theorem q1492 : (Jvm.Cond.code ({ cls := "EdgeWalkModel", name := "isJoinHere", desc := "()Z" } : Jvm.MethodName) prog_19_method_33_code (2 : Nat) (Option.some Jvm.ClassFile.FieldType.boolean)) ∈ lw_all := lw_g (lw_at lw_m6 164 rfl) rfl
theorem q1493 : (Jvm.Cond.methodLink "EdgeWalkModel" (242 : Nat) ({ cls := "EdgeWalkModel", name := "isStoneHere", desc := "()Z" } : Jvm.MethodName)) ∈ lw_all := lw_g (lw_at lw_m6 165 rfl) rfl
theorem q1494 : (Jvm.Cond.privateMethod ({ cls := "EdgeWalkModel", name := "isStoneHere", desc := "()Z" } : Jvm.MethodName)) ∈ lw_tbl := lw_at lw_m6 166 rfl
theorem q1495 : (Jvm.Cond.instanceMethod ({ cls := "EdgeWalkModel", name := "isStoneHere", desc := "()Z" } : Jvm.MethodName)) ∈ lw_all := lw_g (lw_at lw_m6 167 rfl) rfl
theorem q1496 : (Jvm.Cond.code ({ cls := "EdgeWalkModel", name := "isStoneHere", desc := "()Z" } : Jvm.MethodName) prog_19_method_34_code (1 : Nat) (Option.some Jvm.ClassFile.FieldType.boolean)) ∈ lw_all := lw_g (lw_at lw_m6 168 rfl) rfl
theorem q1497 : (Jvm.Cond.methodLink "EdgeWalkModel" (256 : Nat) ({ cls := "EdgeWalkModel", name := "isTurnHere", desc := "()Z" } : Jvm.MethodName)) ∈ lw_all := lw_g (lw_at lw_m6 169 rfl) rfl
theorem q1498 : (Jvm.Cond.privateMethod ({ cls := "EdgeWalkModel", name := "isTurnHere", desc := "()Z" } : Jvm.MethodName)) ∈ lw_tbl := lw_at lw_m6 170 rfl
theorem q1499 : (Jvm.Cond.instanceMethod ({ cls := "EdgeWalkModel", name := "isTurnHere", desc := "()Z" } : Jvm.MethodName)) ∈ lw_all := lw_g (lw_at lw_m6 171 rfl) rfl
theorem q1500 : (Jvm.Cond.code ({ cls := "EdgeWalkModel", name := "isTurnHere", desc := "()Z" } : Jvm.MethodName) prog_19_method_28_code (2 : Nat) (Option.some Jvm.ClassFile.FieldType.boolean)) ∈ lw_all := lw_g (lw_at lw_m6 172 rfl) rfl
theorem q1501 : (Jvm.Cond.methodLink "EdgeWalkModel" (187 : Nat) ({ cls := "EdgeWalkModel", name := "sum", desc := "()Z" } : Jvm.MethodName)) ∈ lw_all := lw_g (lw_at lw_m6 173 rfl) rfl
theorem q1502 : (Jvm.Cond.privateMethod ({ cls := "EdgeWalkModel", name := "sum", desc := "()Z" } : Jvm.MethodName)) ∈ lw_tbl := lw_at lw_m6 174 rfl
theorem q1503 : (Jvm.Cond.instanceMethod ({ cls := "EdgeWalkModel", name := "sum", desc := "()Z" } : Jvm.MethodName)) ∈ lw_all := lw_g (lw_at lw_m6 175 rfl) rfl
theorem q1504 : (Jvm.Cond.code ({ cls := "EdgeWalkModel", name := "sum", desc := "()Z" } : Jvm.MethodName) prog_19_method_22_code (2 : Nat) (Option.some Jvm.ClassFile.FieldType.boolean)) ∈ lw_all := lw_g (lw_at lw_m6 176 rfl) rfl
theorem q1505 : (Jvm.Cond.methodLink "EdgeWalkModel" (184 : Nat) ({ cls := "EdgeWalkModel", name := "term", desc := "()Z" } : Jvm.MethodName)) ∈ lw_all := lw_g (lw_at lw_m6 177 rfl) rfl
theorem q1506 : (Jvm.Cond.privateMethod ({ cls := "EdgeWalkModel", name := "term", desc := "()Z" } : Jvm.MethodName)) ∈ lw_tbl := lw_at lw_m6 178 rfl
theorem q1507 : (Jvm.Cond.instanceMethod ({ cls := "EdgeWalkModel", name := "term", desc := "()Z" } : Jvm.MethodName)) ∈ lw_all := lw_g (lw_at lw_m6 179 rfl) rfl
theorem q1508 : (Jvm.Cond.code ({ cls := "EdgeWalkModel", name := "term", desc := "()Z" } : Jvm.MethodName) prog_19_method_21_code (2 : Nat) (Option.some Jvm.ClassFile.FieldType.boolean)) ∈ lw_all := lw_g (lw_at lw_m6 180 rfl) rfl
theorem q1509 : (Jvm.Cond.methodLink "EdgeWalkModel" (180 : Nat) ({ cls := "EdgeWalkModel", name := "value", desc := "()Z" } : Jvm.MethodName)) ∈ lw_all := lw_g (lw_at lw_m6 181 rfl) rfl
theorem q1510 : (Jvm.Cond.privateMethod ({ cls := "EdgeWalkModel", name := "value", desc := "()Z" } : Jvm.MethodName)) ∈ lw_tbl := lw_at lw_m6 182 rfl
theorem q1511 : (Jvm.Cond.instanceMethod ({ cls := "EdgeWalkModel", name := "value", desc := "()Z" } : Jvm.MethodName)) ∈ lw_all := lw_g (lw_at lw_m6 183 rfl) rfl
theorem q1512 : (Jvm.Cond.code ({ cls := "EdgeWalkModel", name := "value", desc := "()Z" } : Jvm.MethodName) prog_19_method_20_code (3 : Nat) (Option.some Jvm.ClassFile.FieldType.boolean)) ∈ lw_all := lw_g (lw_at lw_m6 184 rfl) rfl
theorem q1513 : (Jvm.Cond.constant "EdgeWalkModel" (170 : Nat) (99999 : Int32)) ∈ lw_all := lw_g (lw_at lw_m6 185 rfl) rfl
theorem q1514 : (Jvm.Cond.methodLink "EdgeWalkModel" (174 : Nat) ({ cls := "EdgeWalkModel", name := "makes", desc := "(I)Z" } : Jvm.MethodName)) ∈ lw_all := lw_g (lw_at lw_m6 186 rfl) rfl
theorem q1515 : (Jvm.Cond.privateMethod ({ cls := "EdgeWalkModel", name := "makes", desc := "(I)Z" } : Jvm.MethodName)) ∈ lw_tbl := lw_at lw_m6 187 rfl
theorem q1516 : (Jvm.Cond.instanceMethod ({ cls := "EdgeWalkModel", name := "makes", desc := "(I)Z" } : Jvm.MethodName)) ∈ lw_all := lw_g (lw_at lw_m6 188 rfl) rfl
theorem q1517 : (Jvm.Cond.code ({ cls := "EdgeWalkModel", name := "makes", desc := "(I)Z" } : Jvm.MethodName) prog_19_method_16_code (2 : Nat) (Option.some Jvm.ClassFile.FieldType.boolean)) ∈ lw_all := lw_g (lw_at lw_m6 189 rfl) rfl
theorem q1518 : (Jvm.Cond.methodLink "EdgeWalkModel" (166 : Nat) ({ cls := "EdgeWalkModel", name := "puts", desc := "(II)V" } : Jvm.MethodName)) ∈ lw_all := lw_g (lw_at lw_m6 190 rfl) rfl
theorem q1519 : (Jvm.Cond.privateMethod ({ cls := "EdgeWalkModel", name := "puts", desc := "(II)V" } : Jvm.MethodName)) ∈ lw_tbl := lw_at lw_m6 191 rfl
theorem q1520 : (Jvm.Cond.instanceMethod ({ cls := "EdgeWalkModel", name := "puts", desc := "(II)V" } : Jvm.MethodName)) ∈ lw_all := lw_g (lw_at lw_m6 192 rfl) rfl
theorem q1521 : (Jvm.Cond.code ({ cls := "EdgeWalkModel", name := "puts", desc := "(II)V" } : Jvm.MethodName) prog_19_method_15_code (3 : Nat) (Option.none : Option Jvm.ClassFile.FieldType)) ∈ lw_all := lw_g (lw_at lw_m6 193 rfl) rfl
theorem q1522 : (Jvm.Cond.methodLink "EdgeWalkModel" (177 : Nat) ({ cls := "EdgeWalkModel", name := "wordHere", desc := "()I" } : Jvm.MethodName)) ∈ lw_all := lw_g (lw_at lw_m6 194 rfl) rfl
theorem q1523 : (Jvm.Cond.privateMethod ({ cls := "EdgeWalkModel", name := "wordHere", desc := "()I" } : Jvm.MethodName)) ∈ lw_tbl := lw_at lw_m6 195 rfl
theorem q1524 : (Jvm.Cond.instanceMethod ({ cls := "EdgeWalkModel", name := "wordHere", desc := "()I" } : Jvm.MethodName)) ∈ lw_all := lw_g (lw_at lw_m6 196 rfl) rfl
theorem q1525 : (Jvm.Cond.code ({ cls := "EdgeWalkModel", name := "wordHere", desc := "()I" } : Jvm.MethodName) prog_19_method_14_code (1 : Nat) (Option.some Jvm.ClassFile.FieldType.int)) ∈ lw_all := lw_g (lw_at lw_m6 197 rfl) rfl
theorem q1526 : (Jvm.Cond.constantLong "EdgeWalkModel" (130 : Nat) (1667591276 : Int64)) ∈ lw_all := lw_g (lw_at lw_m6 198 rfl) rfl
theorem q1527 : (Jvm.Cond.constantLong "EdgeWalkModel" (132 : Nat) (7499639 : Int64)) ∈ lw_all := lw_g (lw_at lw_m6 199 rfl) rfl
theorem q1528 : (Jvm.Cond.constantLong "EdgeWalkModel" (134 : Nat) (109330212154734 : Int64)) ∈ lw_all := lw_g (lw_at lw_m6 200 rfl) rfl
theorem q1529 : (Jvm.Cond.constantLong "EdgeWalkModel" (136 : Nat) (439720568179 : Int64)) ∈ lw_all := lw_g (lw_at lw_m6 201 rfl) rfl
theorem q1530 : (Jvm.Cond.constantLong "EdgeWalkModel" (138 : Nat) (1718579044 : Int64)) ∈ lw_all := lw_g (lw_at lw_m6 202 rfl) rfl
theorem q1531 : (Jvm.Cond.constantLong "EdgeWalkModel" (140 : Nat) (120265298635118 : Int64)) ∈ lw_all := lw_g (lw_at lw_m6 203 rfl) rfl
theorem q1532 : (Jvm.Cond.constantLong "EdgeWalkModel" (144 : Nat) (1751478885 : Int64)) ∈ lw_all := lw_g (lw_at lw_m6 204 rfl) rfl
theorem q1533 : (Jvm.Cond.constantLong "EdgeWalkModel" (146 : Nat) (1650812270 : Int64)) ∈ lw_all := lw_g (lw_at lw_m6 205 rfl) rfl
theorem q1534 : (Jvm.Cond.constantLong "EdgeWalkModel" (148 : Nat) (1937007984 : Int64)) ∈ lw_all := lw_g (lw_at lw_m6 206 rfl) rfl
theorem q1535 : (Jvm.Cond.constantLong "EdgeWalkModel" (214 : Nat) (26982 : Int64)) ∈ lw_all := lw_g (lw_at lw_m6 207 rfl) rfl
theorem q1536 : (Jvm.Cond.methodLink "EdgeWalkModel" (216 : Nat) ({ cls := "EdgeWalkModel", name := "takesWord", desc := "(J)Z" } : Jvm.MethodName)) ∈ lw_all := lw_g (lw_at lw_m6 208 rfl) rfl
theorem q1537 : (Jvm.Cond.privateMethod ({ cls := "EdgeWalkModel", name := "takesWord", desc := "(J)Z" } : Jvm.MethodName)) ∈ lw_tbl := lw_at lw_m6 209 rfl
theorem q1538 : (Jvm.Cond.instanceMethod ({ cls := "EdgeWalkModel", name := "takesWord", desc := "(J)Z" } : Jvm.MethodName)) ∈ lw_all := lw_g (lw_at lw_m6 210 rfl) rfl
theorem q1539 : (Jvm.Cond.code ({ cls := "EdgeWalkModel", name := "takesWord", desc := "(J)Z" } : Jvm.MethodName) prog_19_method_12_code (3 : Nat) (Option.some Jvm.ClassFile.FieldType.boolean)) ∈ lw_all := lw_g (lw_at lw_m6 211 rfl) rfl
theorem q1540 : (Jvm.Cond.methodLink "EdgeWalkModel" (219 : Nat) ({ cls := "EdgeWalkModel", name := "tested", desc := "()Z" } : Jvm.MethodName)) ∈ lw_all := lw_g (lw_at lw_m6 212 rfl) rfl
theorem q1541 : (Jvm.Cond.privateMethod ({ cls := "EdgeWalkModel", name := "tested", desc := "()Z" } : Jvm.MethodName)) ∈ lw_tbl := lw_at lw_m6 213 rfl
theorem q1542 : (Jvm.Cond.instanceMethod ({ cls := "EdgeWalkModel", name := "tested", desc := "()Z" } : Jvm.MethodName)) ∈ lw_all := lw_g (lw_at lw_m6 214 rfl) rfl
theorem q1543 : (Jvm.Cond.code ({ cls := "EdgeWalkModel", name := "tested", desc := "()Z" } : Jvm.MethodName) prog_19_method_27_code (3 : Nat) (Option.some Jvm.ClassFile.FieldType.boolean)) ∈ lw_all := lw_g (lw_at lw_m6 215 rfl) rfl
theorem q1544 : (Jvm.Cond.methodLink "EdgeWalkModel" (204 : Nat) ({ cls := "EdgeWalkModel", name := "fact", desc := "()Z" } : Jvm.MethodName)) ∈ lw_all := lw_g (lw_at lw_m6 216 rfl) rfl
theorem q1545 : (Jvm.Cond.privateMethod ({ cls := "EdgeWalkModel", name := "fact", desc := "()Z" } : Jvm.MethodName)) ∈ lw_tbl := lw_at lw_m6 217 rfl
theorem q1546 : (Jvm.Cond.instanceMethod ({ cls := "EdgeWalkModel", name := "fact", desc := "()Z" } : Jvm.MethodName)) ∈ lw_all := lw_g (lw_at lw_m6 218 rfl) rfl
theorem q1547 : (Jvm.Cond.code ({ cls := "EdgeWalkModel", name := "fact", desc := "()Z" } : Jvm.MethodName) prog_19_method_24_code (3 : Nat) (Option.some Jvm.ClassFile.FieldType.boolean)) ∈ lw_all := lw_g (lw_at lw_m6 219 rfl) rfl
theorem q1548 : (Jvm.Cond.constantLong "EdgeWalkModel" (190 : Nat) (7237492 : Int64)) ∈ lw_all := lw_g (lw_at lw_m6 220 rfl) rfl
theorem q1549 : (Jvm.Cond.methodLink "EdgeWalkModel" (192 : Nat) ({ cls := "EdgeWalkModel", name := "opens", desc := "(I)Z" } : Jvm.MethodName)) ∈ lw_all := lw_g (lw_at lw_m6 221 rfl) rfl
theorem q1550 : (Jvm.Cond.privateMethod ({ cls := "EdgeWalkModel", name := "opens", desc := "(I)Z" } : Jvm.MethodName)) ∈ lw_tbl := lw_at lw_m6 222 rfl
theorem q1551 : (Jvm.Cond.instanceMethod ({ cls := "EdgeWalkModel", name := "opens", desc := "(I)Z" } : Jvm.MethodName)) ∈ lw_all := lw_g (lw_at lw_m6 223 rfl) rfl
theorem q1552 : (Jvm.Cond.code ({ cls := "EdgeWalkModel", name := "opens", desc := "(I)Z" } : Jvm.MethodName) prog_19_method_17_code (2 : Nat) (Option.some Jvm.ClassFile.FieldType.boolean)) ∈ lw_all := lw_g (lw_at lw_m6 224 rfl) rfl
theorem q1553 : (Jvm.Cond.methodLink "EdgeWalkModel" (195 : Nat) ({ cls := "EdgeWalkModel", name := "compare", desc := "()Z" } : Jvm.MethodName)) ∈ lw_all := lw_g (lw_at lw_m6 225 rfl) rfl
theorem q1554 : (Jvm.Cond.privateMethod ({ cls := "EdgeWalkModel", name := "compare", desc := "()Z" } : Jvm.MethodName)) ∈ lw_tbl := lw_at lw_m6 226 rfl
theorem q1555 : (Jvm.Cond.instanceMethod ({ cls := "EdgeWalkModel", name := "compare", desc := "()Z" } : Jvm.MethodName)) ∈ lw_all := lw_g (lw_at lw_m6 227 rfl) rfl
theorem q1556 : (Jvm.Cond.code ({ cls := "EdgeWalkModel", name := "compare", desc := "()Z" } : Jvm.MethodName) prog_19_method_23_code (5 : Nat) (Option.some Jvm.ClassFile.FieldType.boolean)) ∈ lw_all := lw_g (lw_at lw_m6 228 rfl) rfl
theorem q1557 : (Jvm.Cond.methodLink "EdgeWalkModel" (207 : Nat) ({ cls := "EdgeWalkModel", name := "closes", desc := "()V" } : Jvm.MethodName)) ∈ lw_all := lw_g (lw_at lw_m6 229 rfl) rfl
theorem q1558 : (Jvm.Cond.privateMethod ({ cls := "EdgeWalkModel", name := "closes", desc := "()V" } : Jvm.MethodName)) ∈ lw_tbl := lw_at lw_m6 230 rfl
theorem q1559 : (Jvm.Cond.instanceMethod ({ cls := "EdgeWalkModel", name := "closes", desc := "()V" } : Jvm.MethodName)) ∈ lw_all := lw_g (lw_at lw_m6 231 rfl) rfl
theorem q1560 : (Jvm.Cond.code ({ cls := "EdgeWalkModel", name := "closes", desc := "()V" } : Jvm.MethodName) prog_19_method_26_code (1 : Nat) (Option.none : Option Jvm.ClassFile.FieldType)) ∈ lw_all := lw_g (lw_at lw_m6 232 rfl) rfl
theorem q1561 : (Jvm.Cond.methodLink "EdgeWalkModel" (198 : Nat) ({ cls := "EdgeWalkModel", name := "layDown", desc := "(I)V" } : Jvm.MethodName)) ∈ lw_all := lw_g (lw_at lw_m6 233 rfl) rfl
theorem q1562 : (Jvm.Cond.privateMethod ({ cls := "EdgeWalkModel", name := "layDown", desc := "(I)V" } : Jvm.MethodName)) ∈ lw_tbl := lw_at lw_m6 234 rfl
theorem q1563 : (Jvm.Cond.instanceMethod ({ cls := "EdgeWalkModel", name := "layDown", desc := "(I)V" } : Jvm.MethodName)) ∈ lw_all := lw_g (lw_at lw_m6 235 rfl) rfl
theorem q1564 : (Jvm.Cond.code ({ cls := "EdgeWalkModel", name := "layDown", desc := "(I)V" } : Jvm.MethodName) prog_19_method_19_code (2 : Nat) (Option.none : Option Jvm.ClassFile.FieldType)) ∈ lw_all := lw_g (lw_at lw_m6 236 rfl) rfl
theorem q1565 : (Jvm.Cond.methodLink "EdgeWalkModel" (162 : Nat) ({ cls := "EdgeWalkModel", name := "strength", desc := "(I)I" } : Jvm.MethodName)) ∈ lw_all := lw_g (lw_at lw_m6 237 rfl) rfl
theorem q1566 : (Jvm.Cond.static ({ cls := "EdgeWalkModel", name := "strength", desc := "(I)I" } : Jvm.MethodName)) ∈ lw_all := lw_g (lw_at lw_m6 238 rfl) rfl
theorem q1567 : (Jvm.Cond.code ({ cls := "EdgeWalkModel", name := "strength", desc := "(I)I" } : Jvm.MethodName) prog_19_method_18_code (1 : Nat) (Option.some Jvm.ClassFile.FieldType.int)) ∈ lw_all := lw_g (lw_at lw_m6 239 rfl) rfl
theorem q1568 : (Jvm.Cond.methodLink "EdgeWalkModel" (201 : Nat) ({ cls := "EdgeWalkModel", name := "isInside", desc := "()Z" } : Jvm.MethodName)) ∈ lw_all := lw_g (lw_at lw_m7 0 rfl) rfl
theorem q1569 : (Jvm.Cond.privateMethod ({ cls := "EdgeWalkModel", name := "isInside", desc := "()Z" } : Jvm.MethodName)) ∈ lw_tbl := lw_at lw_m7 1 rfl
theorem q1570 : (Jvm.Cond.instanceMethod ({ cls := "EdgeWalkModel", name := "isInside", desc := "()Z" } : Jvm.MethodName)) ∈ lw_all := lw_g (lw_at lw_m7 2 rfl) rfl
theorem q1571 : (Jvm.Cond.code ({ cls := "EdgeWalkModel", name := "isInside", desc := "()Z" } : Jvm.MethodName) prog_19_method_25_code (2 : Nat) (Option.some Jvm.ClassFile.FieldType.boolean)) ∈ lw_all := lw_g (lw_at lw_m7 3 rfl) rfl
theorem q1572 : (Jvm.Cond.constantLong "EdgeWalkModel" (210 : Nat) (6385252 : Int64)) ∈ lw_all := lw_g (lw_at lw_m7 4 rfl) rfl
theorem q1573 : (Jvm.Cond.constantLong "EdgeWalkModel" (212 : Nat) (28530 : Int64)) ∈ lw_all := lw_g (lw_at lw_m7 5 rfl) rfl
theorem q1575 : (Jvm.Cond.instanceMethod ({ cls := "EdgeWalkModel", name := "sheet", desc := "()I" } : Jvm.MethodName)) ∈ lw_all := lw_g (lw_at lw_m7 7 rfl) rfl
theorem q1576 : (Jvm.Cond.selects "EdgeWalkModel" ({ cls := "EdgeWalkModel", name := "sheet", desc := "()I" } : Jvm.MethodName) ({ cls := "EdgeWalkModel", name := "sheet", desc := "()I" } : Jvm.MethodName)) ∈ lw_all := lw_g (lw_at lw_m7 8 rfl) rfl
theorem q1577 : (Jvm.Cond.code ({ cls := "EdgeWalkModel", name := "sheet", desc := "()I" } : Jvm.MethodName) prog_19_method_40_code (2 : Nat) (Option.some Jvm.ClassFile.FieldType.int)) ∈ lw_all := lw_g (lw_at lw_m7 9 rfl) rfl
theorem q1578 : (Jvm.Cond.methodLink "EdgeWalkModel" (268 : Nat) ({ cls := "EdgeWalkModel", name := "begins", desc := "()V" } : Jvm.MethodName)) ∈ lw_all := lw_g (lw_at lw_m7 10 rfl) rfl
theorem q1579 : (Jvm.Cond.privateMethod ({ cls := "EdgeWalkModel", name := "begins", desc := "()V" } : Jvm.MethodName)) ∈ lw_tbl := lw_at lw_m7 11 rfl
theorem q1580 : (Jvm.Cond.instanceMethod ({ cls := "EdgeWalkModel", name := "begins", desc := "()V" } : Jvm.MethodName)) ∈ lw_all := lw_g (lw_at lw_m7 12 rfl) rfl
theorem q1581 : (Jvm.Cond.code ({ cls := "EdgeWalkModel", name := "begins", desc := "()V" } : Jvm.MethodName) prog_19_method_64_code (3 : Nat) (Option.none : Option Jvm.ClassFile.FieldType)) ∈ lw_all := lw_g (lw_at lw_m7 13 rfl) rfl
theorem q1583 : (Jvm.Cond.instanceMethod ({ cls := "EdgeWalkModel", name := "force", desc := "(I)I" } : Jvm.MethodName)) ∈ lw_all := lw_g (lw_at lw_m7 15 rfl) rfl
theorem q1584 : (Jvm.Cond.selects "EdgeWalkModel" ({ cls := "EdgeWalkModel", name := "force", desc := "(I)I" } : Jvm.MethodName) ({ cls := "EdgeWalkModel", name := "force", desc := "(I)I" } : Jvm.MethodName)) ∈ lw_all := lw_g (lw_at lw_m7 16 rfl) rfl
theorem q1585 : (Jvm.Cond.code ({ cls := "EdgeWalkModel", name := "force", desc := "(I)I" } : Jvm.MethodName) prog_19_method_65_code (3 : Nat) (Option.some Jvm.ClassFile.FieldType.int)) ∈ lw_all := lw_g (lw_at lw_m7 17 rfl) rfl
theorem q1586 : (Jvm.Cond.methodLink "EdgeWalkModel" (307 : Nat) ({ cls := "EdgeWalkModel", name := "isRule", desc := "(I)Z" } : Jvm.MethodName)) ∈ lw_all := lw_g (lw_at lw_m7 18 rfl) rfl
theorem q1587 : (Jvm.Cond.privateMethod ({ cls := "EdgeWalkModel", name := "isRule", desc := "(I)Z" } : Jvm.MethodName)) ∈ lw_tbl := lw_at lw_m7 19 rfl
theorem q1588 : (Jvm.Cond.instanceMethod ({ cls := "EdgeWalkModel", name := "isRule", desc := "(I)Z" } : Jvm.MethodName)) ∈ lw_all := lw_g (lw_at lw_m7 20 rfl) rfl
theorem q1589 : (Jvm.Cond.code ({ cls := "EdgeWalkModel", name := "isRule", desc := "(I)Z" } : Jvm.MethodName) prog_19_method_41_code (2 : Nat) (Option.some Jvm.ClassFile.FieldType.boolean)) ∈ lw_all := lw_g (lw_at lw_m7 21 rfl) rfl
theorem q1591 : (Jvm.Cond.instanceMethod ({ cls := "EdgeWalkModel", name := "goer", desc := "(II)I" } : Jvm.MethodName)) ∈ lw_all := lw_g (lw_at lw_m7 23 rfl) rfl
theorem q1592 : (Jvm.Cond.selects "EdgeWalkModel" ({ cls := "EdgeWalkModel", name := "goer", desc := "(II)I" } : Jvm.MethodName) ({ cls := "EdgeWalkModel", name := "goer", desc := "(II)I" } : Jvm.MethodName)) ∈ lw_all := lw_g (lw_at lw_m7 24 rfl) rfl
theorem q1593 : (Jvm.Cond.code ({ cls := "EdgeWalkModel", name := "goer", desc := "(II)I" } : Jvm.MethodName) prog_19_method_66_code (3 : Nat) (Option.some Jvm.ClassFile.FieldType.int)) ∈ lw_all := lw_g (lw_at lw_m7 25 rfl) rfl
theorem q1594 : (Jvm.Cond.methodLink "EdgeWalkModel" (310 : Nat) ({ cls := "EdgeWalkModel", name := "isGoer", desc := "(I)Z" } : Jvm.MethodName)) ∈ lw_all := lw_g (lw_at lw_m7 26 rfl) rfl
theorem q1595 : (Jvm.Cond.privateMethod ({ cls := "EdgeWalkModel", name := "isGoer", desc := "(I)Z" } : Jvm.MethodName)) ∈ lw_tbl := lw_at lw_m7 27 rfl
theorem q1596 : (Jvm.Cond.instanceMethod ({ cls := "EdgeWalkModel", name := "isGoer", desc := "(I)Z" } : Jvm.MethodName)) ∈ lw_all := lw_g (lw_at lw_m7 28 rfl) rfl
theorem q1597 : (Jvm.Cond.code ({ cls := "EdgeWalkModel", name := "isGoer", desc := "(I)Z" } : Jvm.MethodName) prog_19_method_49_code (2 : Nat) (Option.some Jvm.ClassFile.FieldType.boolean)) ∈ lw_all := lw_g (lw_at lw_m7 29 rfl) rfl
theorem q1598 : (Jvm.Cond.methodLink "EdgeWalkModel" (313 : Nat) ({ cls := "EdgeWalkModel", name := "isOn", desc := "(I)Z" } : Jvm.MethodName)) ∈ lw_all := lw_g (lw_at lw_m7 30 rfl) rfl
theorem q1599 : (Jvm.Cond.privateMethod ({ cls := "EdgeWalkModel", name := "isOn", desc := "(I)Z" } : Jvm.MethodName)) ∈ lw_tbl := lw_at lw_m7 31 rfl
theorem q1600 : (Jvm.Cond.instanceMethod ({ cls := "EdgeWalkModel", name := "isOn", desc := "(I)Z" } : Jvm.MethodName)) ∈ lw_all := lw_g (lw_at lw_m7 32 rfl) rfl
theorem q1601 : (Jvm.Cond.code ({ cls := "EdgeWalkModel", name := "isOn", desc := "(I)Z" } : Jvm.MethodName) prog_19_method_55_code (2 : Nat) (Option.some Jvm.ClassFile.FieldType.boolean)) ∈ lw_all := lw_g (lw_at lw_m7 33 rfl) rfl
theorem q1602 : (Jvm.Cond.methodLink "EdgeWalkModel" (297 : Nat) ({ cls := "EdgeWalkModel", name := "statusOf", desc := "(I)I" } : Jvm.MethodName)) ∈ lw_all := lw_g (lw_at lw_m7 34 rfl) rfl
theorem q1603 : (Jvm.Cond.privateMethod ({ cls := "EdgeWalkModel", name := "statusOf", desc := "(I)I" } : Jvm.MethodName)) ∈ lw_tbl := lw_at lw_m7 35 rfl
theorem q1604 : (Jvm.Cond.instanceMethod ({ cls := "EdgeWalkModel", name := "statusOf", desc := "(I)I" } : Jvm.MethodName)) ∈ lw_all := lw_g (lw_at lw_m7 36 rfl) rfl
theorem q1605 : (Jvm.Cond.code ({ cls := "EdgeWalkModel", name := "statusOf", desc := "(I)I" } : Jvm.MethodName) prog_19_method_54_code (2 : Nat) (Option.some Jvm.ClassFile.FieldType.int)) ∈ lw_all := lw_g (lw_at lw_m7 37 rfl) rfl
theorem q1606 : (Jvm.Cond.methodLink "EdgeWalkModel" (316 : Nat) ({ cls := "EdgeWalkModel", name := "cellOf", desc := "(I)I" } : Jvm.MethodName)) ∈ lw_all := lw_g (lw_at lw_m7 38 rfl) rfl
theorem q1607 : (Jvm.Cond.privateMethod ({ cls := "EdgeWalkModel", name := "cellOf", desc := "(I)I" } : Jvm.MethodName)) ∈ lw_tbl := lw_at lw_m7 39 rfl
theorem q1608 : (Jvm.Cond.instanceMethod ({ cls := "EdgeWalkModel", name := "cellOf", desc := "(I)I" } : Jvm.MethodName)) ∈ lw_all := lw_g (lw_at lw_m7 40 rfl) rfl
theorem q1609 : (Jvm.Cond.code ({ cls := "EdgeWalkModel", name := "cellOf", desc := "(I)I" } : Jvm.MethodName) prog_19_method_51_code (2 : Nat) (Option.some Jvm.ClassFile.FieldType.int)) ∈ lw_all := lw_g (lw_at lw_m7 41 rfl) rfl
theorem q1610 : (Jvm.Cond.methodLink "EdgeWalkModel" (319 : Nat) ({ cls := "EdgeWalkModel", name := "facesOf", desc := "(I)I" } : Jvm.MethodName)) ∈ lw_all := lw_g (lw_at lw_m7 42 rfl) rfl
theorem q1611 : (Jvm.Cond.privateMethod ({ cls := "EdgeWalkModel", name := "facesOf", desc := "(I)I" } : Jvm.MethodName)) ∈ lw_tbl := lw_at lw_m7 43 rfl
theorem q1612 : (Jvm.Cond.instanceMethod ({ cls := "EdgeWalkModel", name := "facesOf", desc := "(I)I" } : Jvm.MethodName)) ∈ lw_all := lw_g (lw_at lw_m7 44 rfl) rfl
theorem q1613 : (Jvm.Cond.code ({ cls := "EdgeWalkModel", name := "facesOf", desc := "(I)I" } : Jvm.MethodName) prog_19_method_52_code (2 : Nat) (Option.some Jvm.ClassFile.FieldType.int)) ∈ lw_all := lw_g (lw_at lw_m7 45 rfl) rfl
theorem q1614 : (Jvm.Cond.methodLink "EdgeWalkModel" (300 : Nat) ({ cls := "EdgeWalkModel", name := "foodOf", desc := "(I)I" } : Jvm.MethodName)) ∈ lw_all := lw_g (lw_at lw_m7 46 rfl) rfl
theorem q1615 : (Jvm.Cond.privateMethod ({ cls := "EdgeWalkModel", name := "foodOf", desc := "(I)I" } : Jvm.MethodName)) ∈ lw_tbl := lw_at lw_m7 47 rfl
theorem q1616 : (Jvm.Cond.instanceMethod ({ cls := "EdgeWalkModel", name := "foodOf", desc := "(I)I" } : Jvm.MethodName)) ∈ lw_all := lw_g (lw_at lw_m7 48 rfl) rfl
theorem q1617 : (Jvm.Cond.code ({ cls := "EdgeWalkModel", name := "foodOf", desc := "(I)I" } : Jvm.MethodName) prog_19_method_53_code (2 : Nat) (Option.some Jvm.ClassFile.FieldType.int)) ∈ lw_all := lw_g (lw_at lw_m7 49 rfl) rfl
theorem q1619 : (Jvm.Cond.instanceMethod ({ cls := "EdgeWalkModel", name := "join", desc := "(II)I" } : Jvm.MethodName)) ∈ lw_all := lw_g (lw_at lw_m7 51 rfl) rfl
theorem q1620 : (Jvm.Cond.selects "EdgeWalkModel" ({ cls := "EdgeWalkModel", name := "join", desc := "(II)I" } : Jvm.MethodName) ({ cls := "EdgeWalkModel", name := "join", desc := "(II)I" } : Jvm.MethodName)) ∈ lw_all := lw_g (lw_at lw_m7 52 rfl) rfl
theorem q1621 : (Jvm.Cond.code ({ cls := "EdgeWalkModel", name := "join", desc := "(II)I" } : Jvm.MethodName) prog_19_method_67_code (3 : Nat) (Option.some Jvm.ClassFile.FieldType.int)) ∈ lw_all := lw_g (lw_at lw_m7 53 rfl) rfl
theorem q1622 : (Jvm.Cond.methodLink "EdgeWalkModel" (322 : Nat) ({ cls := "EdgeWalkModel", name := "isEdge", desc := "(I)Z" } : Jvm.MethodName)) ∈ lw_all := lw_g (lw_at lw_m7 54 rfl) rfl
theorem q1623 : (Jvm.Cond.privateMethod ({ cls := "EdgeWalkModel", name := "isEdge", desc := "(I)Z" } : Jvm.MethodName)) ∈ lw_tbl := lw_at lw_m7 55 rfl
theorem q1624 : (Jvm.Cond.instanceMethod ({ cls := "EdgeWalkModel", name := "isEdge", desc := "(I)Z" } : Jvm.MethodName)) ∈ lw_all := lw_g (lw_at lw_m7 56 rfl) rfl
theorem q1625 : (Jvm.Cond.code ({ cls := "EdgeWalkModel", name := "isEdge", desc := "(I)Z" } : Jvm.MethodName) prog_19_method_50_code (2 : Nat) (Option.some Jvm.ClassFile.FieldType.boolean)) ∈ lw_all := lw_g (lw_at lw_m7 57 rfl) rfl
theorem q1626 : (Jvm.Cond.methodLink "EdgeWalkModel" (292 : Nat) ({ cls := "EdgeWalkModel", name := "isSheet", desc := "()Z" } : Jvm.MethodName)) ∈ lw_all := lw_g (lw_at lw_m7 58 rfl) rfl
theorem q1627 : (Jvm.Cond.privateMethod ({ cls := "EdgeWalkModel", name := "isSheet", desc := "()Z" } : Jvm.MethodName)) ∈ lw_tbl := lw_at lw_m7 59 rfl
theorem q1628 : (Jvm.Cond.instanceMethod ({ cls := "EdgeWalkModel", name := "isSheet", desc := "()Z" } : Jvm.MethodName)) ∈ lw_all := lw_g (lw_at lw_m7 60 rfl) rfl
theorem q1629 : (Jvm.Cond.code ({ cls := "EdgeWalkModel", name := "isSheet", desc := "()Z" } : Jvm.MethodName) prog_19_method_46_code (1 : Nat) (Option.some Jvm.ClassFile.FieldType.boolean)) ∈ lw_all := lw_g (lw_at lw_m7 61 rfl) rfl
theorem q1630 : (Jvm.Cond.constantLong "EdgeWalkModel" (295 : Nat) (3 : Int64)) ∈ lw_all := lw_g (lw_at lw_m7 62 rfl) rfl
theorem q1632 : (Jvm.Cond.instanceMethod ({ cls := "EdgeWalkModel", name := "stoneIn", desc := "(I)I" } : Jvm.MethodName)) ∈ lw_all := lw_g (lw_at lw_m7 64 rfl) rfl
theorem q1633 : (Jvm.Cond.selects "EdgeWalkModel" ({ cls := "EdgeWalkModel", name := "stoneIn", desc := "(I)I" } : Jvm.MethodName) ({ cls := "EdgeWalkModel", name := "stoneIn", desc := "(I)I" } : Jvm.MethodName)) ∈ lw_all := lw_g (lw_at lw_m7 65 rfl) rfl
theorem q1634 : (Jvm.Cond.code ({ cls := "EdgeWalkModel", name := "stoneIn", desc := "(I)I" } : Jvm.MethodName) prog_19_method_68_code (2 : Nat) (Option.some Jvm.ClassFile.FieldType.int)) ∈ lw_all := lw_g (lw_at lw_m7 66 rfl) rfl
theorem q1635 : (Jvm.Cond.methodLink "EdgeWalkModel" (325 : Nat) ({ cls := "EdgeWalkModel", name := "isCell", desc := "(I)Z" } : Jvm.MethodName)) ∈ lw_all := lw_g (lw_at lw_m7 67 rfl) rfl
theorem q1636 : (Jvm.Cond.privateMethod ({ cls := "EdgeWalkModel", name := "isCell", desc := "(I)Z" } : Jvm.MethodName)) ∈ lw_tbl := lw_at lw_m7 68 rfl
theorem q1637 : (Jvm.Cond.instanceMethod ({ cls := "EdgeWalkModel", name := "isCell", desc := "(I)Z" } : Jvm.MethodName)) ∈ lw_all := lw_g (lw_at lw_m7 69 rfl) rfl
theorem q1638 : (Jvm.Cond.code ({ cls := "EdgeWalkModel", name := "isCell", desc := "(I)Z" } : Jvm.MethodName) prog_19_method_48_code (2 : Nat) (Option.some Jvm.ClassFile.FieldType.boolean)) ∈ lw_all := lw_g (lw_at lw_m7 70 rfl) rfl
theorem q1639 : (Jvm.Cond.methodLink "EdgeWalkModel" (289 : Nat) ({ cls := "EdgeWalkModel", name := "cells", desc := "()I" } : Jvm.MethodName)) ∈ lw_all := lw_g (lw_at lw_m7 71 rfl) rfl
theorem q1640 : (Jvm.Cond.privateMethod ({ cls := "EdgeWalkModel", name := "cells", desc := "()I" } : Jvm.MethodName)) ∈ lw_tbl := lw_at lw_m7 72 rfl
theorem q1641 : (Jvm.Cond.instanceMethod ({ cls := "EdgeWalkModel", name := "cells", desc := "()I" } : Jvm.MethodName)) ∈ lw_all := lw_g (lw_at lw_m7 73 rfl) rfl
theorem q1642 : (Jvm.Cond.code ({ cls := "EdgeWalkModel", name := "cells", desc := "()I" } : Jvm.MethodName) prog_19_method_47_code (1 : Nat) (Option.some Jvm.ClassFile.FieldType.int)) ∈ lw_all := lw_g (lw_at lw_m7 74 rfl) rfl
theorem q1644 : (Jvm.Cond.instanceMethod ({ cls := "EdgeWalkModel", name := "undo", desc := "()I" } : Jvm.MethodName)) ∈ lw_all := lw_g (lw_at lw_m7 76 rfl) rfl
theorem q1645 : (Jvm.Cond.selects "EdgeWalkModel" ({ cls := "EdgeWalkModel", name := "undo", desc := "()I" } : Jvm.MethodName) ({ cls := "EdgeWalkModel", name := "undo", desc := "()I" } : Jvm.MethodName)) ∈ lw_all := lw_g (lw_at lw_m7 77 rfl) rfl
theorem q1646 : (Jvm.Cond.code ({ cls := "EdgeWalkModel", name := "undo", desc := "()I" } : Jvm.MethodName) prog_19_method_77_code (2 : Nat) (Option.some Jvm.ClassFile.FieldType.int)) ∈ lw_all := lw_g (lw_at lw_m7 78 rfl) rfl
theorem q1648 : (Jvm.Cond.instanceMethod ({ cls := "EdgeWalkModel", name := "step", desc := "()I" } : Jvm.MethodName)) ∈ lw_all := lw_g (lw_at lw_m7 80 rfl) rfl
theorem q1649 : (Jvm.Cond.selects "EdgeWalkModel" ({ cls := "EdgeWalkModel", name := "step", desc := "()I" } : Jvm.MethodName) ({ cls := "EdgeWalkModel", name := "step", desc := "()I" } : Jvm.MethodName)) ∈ lw_all := lw_g (lw_at lw_m7 81 rfl) rfl
theorem q1650 : (Jvm.Cond.code ({ cls := "EdgeWalkModel", name := "step", desc := "()I" } : Jvm.MethodName) prog_19_method_78_code (1 : Nat) (Option.some Jvm.ClassFile.FieldType.int)) ∈ lw_all := lw_g (lw_at lw_m7 82 rfl) rfl
theorem q1651 : (Jvm.Cond.methodLink "EdgeWalkModel" (363 : Nat) ({ cls := "EdgeWalkModel", name := "keepsAct", desc := "()V" } : Jvm.MethodName)) ∈ lw_all := lw_g (lw_at lw_m7 83 rfl) rfl
theorem q1652 : (Jvm.Cond.privateMethod ({ cls := "EdgeWalkModel", name := "keepsAct", desc := "()V" } : Jvm.MethodName)) ∈ lw_tbl := lw_at lw_m7 84 rfl
theorem q1653 : (Jvm.Cond.instanceMethod ({ cls := "EdgeWalkModel", name := "keepsAct", desc := "()V" } : Jvm.MethodName)) ∈ lw_all := lw_g (lw_at lw_m7 85 rfl) rfl
theorem q1654 : (Jvm.Cond.code ({ cls := "EdgeWalkModel", name := "keepsAct", desc := "()V" } : Jvm.MethodName) prog_19_method_76_code (2 : Nat) (Option.none : Option Jvm.ClassFile.FieldType)) ∈ lw_all := lw_g (lw_at lw_m7 86 rfl) rfl
theorem q1655 : (Jvm.Cond.methodLink "EdgeWalkModel" (360 : Nat) ({ cls := "EdgeWalkModel", name := "passes", desc := "()V" } : Jvm.MethodName)) ∈ lw_all := lw_g (lw_at lw_m7 87 rfl) rfl
theorem q1656 : (Jvm.Cond.privateMethod ({ cls := "EdgeWalkModel", name := "passes", desc := "()V" } : Jvm.MethodName)) ∈ lw_tbl := lw_at lw_m7 88 rfl
theorem q1657 : (Jvm.Cond.instanceMethod ({ cls := "EdgeWalkModel", name := "passes", desc := "()V" } : Jvm.MethodName)) ∈ lw_all := lw_g (lw_at lw_m7 89 rfl) rfl
theorem q1658 : (Jvm.Cond.code ({ cls := "EdgeWalkModel", name := "passes", desc := "()V" } : Jvm.MethodName) prog_19_method_74_code (2 : Nat) (Option.none : Option Jvm.ClassFile.FieldType)) ∈ lw_all := lw_g (lw_at lw_m7 90 rfl) rfl
theorem q1659 : (Jvm.Cond.methodLink "EdgeWalkModel" (354 : Nat) ({ cls := "EdgeWalkModel", name := "walks", desc := "(I)V" } : Jvm.MethodName)) ∈ lw_all := lw_g (lw_at lw_m7 91 rfl) rfl
theorem q1660 : (Jvm.Cond.privateMethod ({ cls := "EdgeWalkModel", name := "walks", desc := "(I)V" } : Jvm.MethodName)) ∈ lw_tbl := lw_at lw_m7 92 rfl
theorem q1661 : (Jvm.Cond.instanceMethod ({ cls := "EdgeWalkModel", name := "walks", desc := "(I)V" } : Jvm.MethodName)) ∈ lw_all := lw_g (lw_at lw_m7 93 rfl) rfl
theorem q1662 : (Jvm.Cond.code ({ cls := "EdgeWalkModel", name := "walks", desc := "(I)V" } : Jvm.MethodName) prog_19_method_71_code (4 : Nat) (Option.none : Option Jvm.ClassFile.FieldType)) ∈ lw_all := lw_g (lw_at lw_m7 94 rfl) rfl
theorem q1663 : (Jvm.Cond.methodLink "EdgeWalkModel" (342 : Nat) ({ cls := "EdgeWalkModel", name := "quartersOf", desc := "(I)I" } : Jvm.MethodName)) ∈ lw_all := lw_g (lw_at lw_m7 95 rfl) rfl
theorem q1664 : (Jvm.Cond.privateMethod ({ cls := "EdgeWalkModel", name := "quartersOf", desc := "(I)I" } : Jvm.MethodName)) ∈ lw_tbl := lw_at lw_m7 96 rfl
theorem q1665 : (Jvm.Cond.instanceMethod ({ cls := "EdgeWalkModel", name := "quartersOf", desc := "(I)I" } : Jvm.MethodName)) ∈ lw_all := lw_g (lw_at lw_m7 97 rfl) rfl
theorem q1666 : (Jvm.Cond.code ({ cls := "EdgeWalkModel", name := "quartersOf", desc := "(I)I" } : Jvm.MethodName) prog_19_method_70_code (6 : Nat) (Option.some Jvm.ClassFile.FieldType.int)) ∈ lw_all := lw_g (lw_at lw_m7 98 rfl) rfl
theorem q1667 : (Jvm.Cond.methodLink "EdgeWalkModel" (332 : Nat) ({ cls := "EdgeWalkModel", name := "nextOf", desc := "(II)I" } : Jvm.MethodName)) ∈ lw_all := lw_g (lw_at lw_m7 99 rfl) rfl
theorem q1668 : (Jvm.Cond.privateMethod ({ cls := "EdgeWalkModel", name := "nextOf", desc := "(II)I" } : Jvm.MethodName)) ∈ lw_tbl := lw_at lw_m7 100 rfl
theorem q1669 : (Jvm.Cond.instanceMethod ({ cls := "EdgeWalkModel", name := "nextOf", desc := "(II)I" } : Jvm.MethodName)) ∈ lw_all := lw_g (lw_at lw_m7 101 rfl) rfl
theorem q1670 : (Jvm.Cond.code ({ cls := "EdgeWalkModel", name := "nextOf", desc := "(II)I" } : Jvm.MethodName) prog_19_method_60_code (3 : Nat) (Option.some Jvm.ClassFile.FieldType.int)) ∈ lw_all := lw_g (lw_at lw_m7 102 rfl) rfl
theorem q1671 : (Jvm.Cond.methodLink "EdgeWalkModel" (303 : Nat) ({ cls := "EdgeWalkModel", name := "marginOf", desc := "(II)I" } : Jvm.MethodName)) ∈ lw_all := lw_g (lw_at lw_m7 103 rfl) rfl
theorem q1672 : (Jvm.Cond.privateMethod ({ cls := "EdgeWalkModel", name := "marginOf", desc := "(II)I" } : Jvm.MethodName)) ∈ lw_tbl := lw_at lw_m7 104 rfl
theorem q1673 : (Jvm.Cond.instanceMethod ({ cls := "EdgeWalkModel", name := "marginOf", desc := "(II)I" } : Jvm.MethodName)) ∈ lw_all := lw_g (lw_at lw_m7 105 rfl) rfl
theorem q1674 : (Jvm.Cond.code ({ cls := "EdgeWalkModel", name := "marginOf", desc := "(II)I" } : Jvm.MethodName) prog_19_method_59_code (4 : Nat) (Option.some Jvm.ClassFile.FieldType.int)) ∈ lw_all := lw_g (lw_at lw_m7 106 rfl) rfl
theorem q1675 : (Jvm.Cond.methodLink "EdgeWalkModel" (335 : Nat) ({ cls := "EdgeWalkModel", name := "isStone", desc := "(I)Z" } : Jvm.MethodName)) ∈ lw_all := lw_g (lw_at lw_m7 107 rfl) rfl
theorem q1676 : (Jvm.Cond.privateMethod ({ cls := "EdgeWalkModel", name := "isStone", desc := "(I)Z" } : Jvm.MethodName)) ∈ lw_tbl := lw_at lw_m7 108 rfl
theorem q1677 : (Jvm.Cond.instanceMethod ({ cls := "EdgeWalkModel", name := "isStone", desc := "(I)Z" } : Jvm.MethodName)) ∈ lw_all := lw_g (lw_at lw_m7 109 rfl) rfl
theorem q1678 : (Jvm.Cond.code ({ cls := "EdgeWalkModel", name := "isStone", desc := "(I)Z" } : Jvm.MethodName) prog_19_method_63_code (2 : Nat) (Option.some Jvm.ClassFile.FieldType.boolean)) ∈ lw_all := lw_g (lw_at lw_m7 110 rfl) rfl
theorem q1679 : (Jvm.Cond.methodLink "EdgeWalkModel" (338 : Nat) ({ cls := "EdgeWalkModel", name := "summedBy", desc := "(I)J" } : Jvm.MethodName)) ∈ lw_all := lw_g (lw_at lw_m7 111 rfl) rfl
theorem q1680 : (Jvm.Cond.privateMethod ({ cls := "EdgeWalkModel", name := "summedBy", desc := "(I)J" } : Jvm.MethodName)) ∈ lw_tbl := lw_at lw_m7 112 rfl
theorem q1681 : (Jvm.Cond.instanceMethod ({ cls := "EdgeWalkModel", name := "summedBy", desc := "(I)J" } : Jvm.MethodName)) ∈ lw_all := lw_g (lw_at lw_m7 113 rfl) rfl
theorem q1682 : (Jvm.Cond.code ({ cls := "EdgeWalkModel", name := "summedBy", desc := "(I)J" } : Jvm.MethodName) prog_19_method_69_code (4 : Nat) (Option.some Jvm.ClassFile.FieldType.long)) ∈ lw_all := lw_g (lw_at lw_m7 114 rfl) rfl
theorem q1683 : (Jvm.Cond.methodLink "EdgeWalkModel" (328 : Nat) ({ cls := "EdgeWalkModel", name := "reckons", desc := "(III)J" } : Jvm.MethodName)) ∈ lw_all := lw_g (lw_at lw_m7 115 rfl) rfl
theorem q1684 : (Jvm.Cond.privateMethod ({ cls := "EdgeWalkModel", name := "reckons", desc := "(III)J" } : Jvm.MethodName)) ∈ lw_tbl := lw_at lw_m7 116 rfl
theorem q1685 : (Jvm.Cond.instanceMethod ({ cls := "EdgeWalkModel", name := "reckons", desc := "(III)J" } : Jvm.MethodName)) ∈ lw_all := lw_g (lw_at lw_m7 117 rfl) rfl
theorem q1686 : (Jvm.Cond.code ({ cls := "EdgeWalkModel", name := "reckons", desc := "(III)J" } : Jvm.MethodName) prog_19_method_45_code (11 : Nat) (Option.some Jvm.ClassFile.FieldType.long)) ∈ lw_all := lw_g (lw_at lw_m7 118 rfl) rfl
theorem q1687 : (Jvm.Cond.methodLink "EdgeWalkModel" (277 : Nat) ({ cls := "EdgeWalkModel", name := "push", desc := "(J)V" } : Jvm.MethodName)) ∈ lw_all := lw_g (lw_at lw_m7 119 rfl) rfl
theorem q1688 : (Jvm.Cond.privateMethod ({ cls := "EdgeWalkModel", name := "push", desc := "(J)V" } : Jvm.MethodName)) ∈ lw_tbl := lw_at lw_m7 120 rfl
theorem q1689 : (Jvm.Cond.instanceMethod ({ cls := "EdgeWalkModel", name := "push", desc := "(J)V" } : Jvm.MethodName)) ∈ lw_all := lw_g (lw_at lw_m7 121 rfl) rfl
theorem q1690 : (Jvm.Cond.code ({ cls := "EdgeWalkModel", name := "push", desc := "(J)V" } : Jvm.MethodName) prog_19_method_42_code (3 : Nat) (Option.none : Option Jvm.ClassFile.FieldType)) ∈ lw_all := lw_g (lw_at lw_m7 122 rfl) rfl
theorem q1691 : (Jvm.Cond.methodLink "EdgeWalkModel" (281 : Nat) ({ cls := "EdgeWalkModel", name := "pop", desc := "()J" } : Jvm.MethodName)) ∈ lw_all := lw_g (lw_at lw_m7 123 rfl) rfl
theorem q1692 : (Jvm.Cond.privateMethod ({ cls := "EdgeWalkModel", name := "pop", desc := "()J" } : Jvm.MethodName)) ∈ lw_tbl := lw_at lw_m7 124 rfl
theorem q1693 : (Jvm.Cond.instanceMethod ({ cls := "EdgeWalkModel", name := "pop", desc := "()J" } : Jvm.MethodName)) ∈ lw_all := lw_g (lw_at lw_m7 125 rfl) rfl
theorem q1694 : (Jvm.Cond.code ({ cls := "EdgeWalkModel", name := "pop", desc := "()J" } : Jvm.MethodName) prog_19_method_43_code (1 : Nat) (Option.some Jvm.ClassFile.FieldType.long)) ∈ lw_all := lw_g (lw_at lw_m7 126 rfl) rfl
theorem q1695 : (Jvm.Cond.methodLink "EdgeWalkModel" (285 : Nat) ({ cls := "EdgeWalkModel", name := "one", desc := "(IJJ)J" } : Jvm.MethodName)) ∈ lw_all := lw_g (lw_at lw_m7 127 rfl) rfl
theorem q1696 : (Jvm.Cond.static ({ cls := "EdgeWalkModel", name := "one", desc := "(IJJ)J" } : Jvm.MethodName)) ∈ lw_all := lw_g (lw_at lw_m7 128 rfl) rfl
theorem q1697 : (Jvm.Cond.code ({ cls := "EdgeWalkModel", name := "one", desc := "(IJJ)J" } : Jvm.MethodName) prog_19_method_44_code (5 : Nat) (Option.some Jvm.ClassFile.FieldType.long)) ∈ lw_all := lw_g (lw_at lw_m7 129 rfl) rfl
theorem q1698 : (Jvm.Cond.methodLink "EdgeWalkModel" (345 : Nat) ({ cls := "EdgeWalkModel", name := "placeAlong", desc := "(II)I" } : Jvm.MethodName)) ∈ lw_all := lw_g (lw_at lw_m7 130 rfl) rfl
theorem q1699 : (Jvm.Cond.privateMethod ({ cls := "EdgeWalkModel", name := "placeAlong", desc := "(II)I" } : Jvm.MethodName)) ∈ lw_tbl := lw_at lw_m7 131 rfl
theorem q1700 : (Jvm.Cond.instanceMethod ({ cls := "EdgeWalkModel", name := "placeAlong", desc := "(II)I" } : Jvm.MethodName)) ∈ lw_all := lw_g (lw_at lw_m7 132 rfl) rfl
theorem q1701 : (Jvm.Cond.code ({ cls := "EdgeWalkModel", name := "placeAlong", desc := "(II)I" } : Jvm.MethodName) prog_19_method_62_code (3 : Nat) (Option.some Jvm.ClassFile.FieldType.int)) ∈ lw_all := lw_g (lw_at lw_m7 133 rfl) rfl
theorem q1702 : (Jvm.Cond.methodLink "EdgeWalkModel" (357 : Nat) ({ cls := "EdgeWalkModel", name := "goesOut", desc := "(I)V" } : Jvm.MethodName)) ∈ lw_all := lw_g (lw_at lw_m7 134 rfl) rfl
theorem q1703 : (Jvm.Cond.privateMethod ({ cls := "EdgeWalkModel", name := "goesOut", desc := "(I)V" } : Jvm.MethodName)) ∈ lw_tbl := lw_at lw_m7 135 rfl
theorem q1704 : (Jvm.Cond.instanceMethod ({ cls := "EdgeWalkModel", name := "goesOut", desc := "(I)V" } : Jvm.MethodName)) ∈ lw_all := lw_g (lw_at lw_m7 136 rfl) rfl
theorem q1705 : (Jvm.Cond.code ({ cls := "EdgeWalkModel", name := "goesOut", desc := "(I)V" } : Jvm.MethodName) prog_19_method_73_code (3 : Nat) (Option.none : Option Jvm.ClassFile.FieldType)) ∈ lw_all := lw_g (lw_at lw_m7 137 rfl) rfl
theorem q1706 : (Jvm.Cond.methodLink "EdgeWalkModel" (351 : Nat) ({ cls := "EdgeWalkModel", name := "comesOn", desc := "(I)V" } : Jvm.MethodName)) ∈ lw_all := lw_g (lw_at lw_m7 138 rfl) rfl
theorem q1707 : (Jvm.Cond.privateMethod ({ cls := "EdgeWalkModel", name := "comesOn", desc := "(I)V" } : Jvm.MethodName)) ∈ lw_tbl := lw_at lw_m7 139 rfl
theorem q1708 : (Jvm.Cond.instanceMethod ({ cls := "EdgeWalkModel", name := "comesOn", desc := "(I)V" } : Jvm.MethodName)) ∈ lw_all := lw_g (lw_at lw_m7 140 rfl) rfl
theorem q1709 : (Jvm.Cond.code ({ cls := "EdgeWalkModel", name := "comesOn", desc := "(I)V" } : Jvm.MethodName) prog_19_method_72_code (5 : Nat) (Option.none : Option Jvm.ClassFile.FieldType)) ∈ lw_all := lw_g (lw_at lw_m7 141 rfl) rfl
theorem q1710 : (Jvm.Cond.methodLink "EdgeWalkModel" (348 : Nat) ({ cls := "EdgeWalkModel", name := "cellAt", desc := "(II)I" } : Jvm.MethodName)) ∈ lw_all := lw_g (lw_at lw_m7 142 rfl) rfl
theorem q1711 : (Jvm.Cond.privateMethod ({ cls := "EdgeWalkModel", name := "cellAt", desc := "(II)I" } : Jvm.MethodName)) ∈ lw_tbl := lw_at lw_m7 143 rfl
theorem q1712 : (Jvm.Cond.instanceMethod ({ cls := "EdgeWalkModel", name := "cellAt", desc := "(II)I" } : Jvm.MethodName)) ∈ lw_all := lw_g (lw_at lw_m7 144 rfl) rfl
theorem q1713 : (Jvm.Cond.code ({ cls := "EdgeWalkModel", name := "cellAt", desc := "(II)I" } : Jvm.MethodName) prog_19_method_61_code (4 : Nat) (Option.some Jvm.ClassFile.FieldType.int)) ∈ lw_all := lw_g (lw_at lw_m7 145 rfl) rfl
theorem q1714 : (Jvm.Cond.methodLink "EdgeWalkModel" (366 : Nat) ({ cls := "EdgeWalkModel", name := "onesWhoAre", desc := "(I)I" } : Jvm.MethodName)) ∈ lw_all := lw_g (lw_at lw_m7 146 rfl) rfl
theorem q1715 : (Jvm.Cond.privateMethod ({ cls := "EdgeWalkModel", name := "onesWhoAre", desc := "(I)I" } : Jvm.MethodName)) ∈ lw_tbl := lw_at lw_m7 147 rfl
theorem q1716 : (Jvm.Cond.instanceMethod ({ cls := "EdgeWalkModel", name := "onesWhoAre", desc := "(I)I" } : Jvm.MethodName)) ∈ lw_all := lw_g (lw_at lw_m7 148 rfl) rfl
theorem q1717 : (Jvm.Cond.code ({ cls := "EdgeWalkModel", name := "onesWhoAre", desc := "(I)I" } : Jvm.MethodName) prog_19_method_56_code (4 : Nat) (Option.some Jvm.ClassFile.FieldType.int)) ∈ lw_all := lw_g (lw_at lw_m7 149 rfl) rfl
theorem q1719 : (Jvm.Cond.instanceMethod ({ cls := "EdgeWalkModel", name := "give", desc := "(II)I" } : Jvm.MethodName)) ∈ lw_all := lw_g (lw_at lw_m7 151 rfl) rfl
theorem q1720 : (Jvm.Cond.selects "EdgeWalkModel" ({ cls := "EdgeWalkModel", name := "give", desc := "(II)I" } : Jvm.MethodName) ({ cls := "EdgeWalkModel", name := "give", desc := "(II)I" } : Jvm.MethodName)) ∈ lw_all := lw_g (lw_at lw_m7 152 rfl) rfl
theorem q1721 : (Jvm.Cond.code ({ cls := "EdgeWalkModel", name := "give", desc := "(II)I" } : Jvm.MethodName) prog_19_method_79_code (4 : Nat) (Option.some Jvm.ClassFile.FieldType.int)) ∈ lw_all := lw_g (lw_at lw_m7 153 rfl) rfl
theorem q1722 : (Jvm.Cond.constantLong "EdgeWalkModel" (369 : Nat) (20 : Int64)) ∈ lw_all := lw_g (lw_at lw_m7 154 rfl) rfl
theorem q1724 : (Jvm.Cond.instanceMethod ({ cls := "EdgeWalkModel", name := "way", desc := "(II)I" } : Jvm.MethodName)) ∈ lw_all := lw_g (lw_at lw_m7 156 rfl) rfl
theorem q1725 : (Jvm.Cond.selects "EdgeWalkModel" ({ cls := "EdgeWalkModel", name := "way", desc := "(II)I" } : Jvm.MethodName) ({ cls := "EdgeWalkModel", name := "way", desc := "(II)I" } : Jvm.MethodName)) ∈ lw_all := lw_g (lw_at lw_m7 157 rfl) rfl
theorem q1726 : (Jvm.Cond.code ({ cls := "EdgeWalkModel", name := "way", desc := "(II)I" } : Jvm.MethodName) prog_19_method_80_code (4 : Nat) (Option.some Jvm.ClassFile.FieldType.int)) ∈ lw_all := lw_g (lw_at lw_m7 158 rfl) rfl
theorem q1728 : (Jvm.Cond.instanceMethod ({ cls := "EdgeWalkModel", name := "stone", desc := "(I)I" } : Jvm.MethodName)) ∈ lw_all := lw_g (lw_at lw_m7 160 rfl) rfl
theorem q1729 : (Jvm.Cond.selects "EdgeWalkModel" ({ cls := "EdgeWalkModel", name := "stone", desc := "(I)I" } : Jvm.MethodName) ({ cls := "EdgeWalkModel", name := "stone", desc := "(I)I" } : Jvm.MethodName)) ∈ lw_all := lw_g (lw_at lw_m7 161 rfl) rfl
theorem q1730 : (Jvm.Cond.code ({ cls := "EdgeWalkModel", name := "stone", desc := "(I)I" } : Jvm.MethodName) prog_19_method_81_code (2 : Nat) (Option.some Jvm.ClassFile.FieldType.int)) ∈ lw_all := lw_g (lw_at lw_m7 162 rfl) rfl
theorem q1732 : (Jvm.Cond.instanceMethod ({ cls := "EdgeWalkModel", name := "fold", desc := "(II)I" } : Jvm.MethodName)) ∈ lw_all := lw_g (lw_at lw_m7 164 rfl) rfl
theorem q1733 : (Jvm.Cond.selects "EdgeWalkModel" ({ cls := "EdgeWalkModel", name := "fold", desc := "(II)I" } : Jvm.MethodName) ({ cls := "EdgeWalkModel", name := "fold", desc := "(II)I" } : Jvm.MethodName)) ∈ lw_all := lw_g (lw_at lw_m7 165 rfl) rfl
theorem q1734 : (Jvm.Cond.code ({ cls := "EdgeWalkModel", name := "fold", desc := "(II)I" } : Jvm.MethodName) prog_19_method_82_code (4 : Nat) (Option.some Jvm.ClassFile.FieldType.int)) ∈ lw_all := lw_g (lw_at lw_m7 166 rfl) rfl
theorem q1736 : (Jvm.Cond.instanceMethod ({ cls := "EdgeWalkModel", name := "ahead", desc := "(III)I" } : Jvm.MethodName)) ∈ lw_all := lw_g (lw_at lw_m7 168 rfl) rfl
theorem q1737 : (Jvm.Cond.selects "EdgeWalkModel" ({ cls := "EdgeWalkModel", name := "ahead", desc := "(III)I" } : Jvm.MethodName) ({ cls := "EdgeWalkModel", name := "ahead", desc := "(III)I" } : Jvm.MethodName)) ∈ lw_all := lw_g (lw_at lw_m7 169 rfl) rfl
theorem q1738 : (Jvm.Cond.code ({ cls := "EdgeWalkModel", name := "ahead", desc := "(III)I" } : Jvm.MethodName) prog_19_method_85_code (5 : Nat) (Option.some Jvm.ClassFile.FieldType.int)) ∈ lw_all := lw_g (lw_at lw_m7 170 rfl) rfl
theorem q1739 : (Jvm.Cond.constantLong "EdgeWalkModel" (371 : Nat) (100 : Int64)) ∈ lw_all := lw_g (lw_at lw_m7 171 rfl) rfl
theorem q1740 : (Jvm.Cond.constantLong "EdgeWalkModel" (373 : Nat) (2 : Int64)) ∈ lw_all := lw_g (lw_at lw_m7 172 rfl) rfl
theorem q1741 : (Jvm.Cond.methodLink "EdgeWalkModel" (375 : Nat) ({ cls := "EdgeWalkModel", name := "keeps", desc := "()V" } : Jvm.MethodName)) ∈ lw_all := lw_g (lw_at lw_m7 173 rfl) rfl
theorem q1742 : (Jvm.Cond.privateMethod ({ cls := "EdgeWalkModel", name := "keeps", desc := "()V" } : Jvm.MethodName)) ∈ lw_tbl := lw_at lw_m7 174 rfl
theorem q1743 : (Jvm.Cond.instanceMethod ({ cls := "EdgeWalkModel", name := "keeps", desc := "()V" } : Jvm.MethodName)) ∈ lw_all := lw_g (lw_at lw_m7 175 rfl) rfl
theorem q1744 : (Jvm.Cond.code ({ cls := "EdgeWalkModel", name := "keeps", desc := "()V" } : Jvm.MethodName) prog_19_method_83_code (2 : Nat) (Option.none : Option Jvm.ClassFile.FieldType)) ∈ lw_all := lw_g (lw_at lw_m7 176 rfl) rfl
theorem q1745 : (Jvm.Cond.methodLink "EdgeWalkModel" (378 : Nat) ({ cls := "EdgeWalkModel", name := "passesAll", desc := "(I)V" } : Jvm.MethodName)) ∈ lw_all := lw_g (lw_at lw_m7 177 rfl) rfl
theorem q1746 : (Jvm.Cond.privateMethod ({ cls := "EdgeWalkModel", name := "passesAll", desc := "(I)V" } : Jvm.MethodName)) ∈ lw_tbl := lw_at lw_m7 178 rfl
theorem q1747 : (Jvm.Cond.instanceMethod ({ cls := "EdgeWalkModel", name := "passesAll", desc := "(I)V" } : Jvm.MethodName)) ∈ lw_all := lw_g (lw_at lw_m7 179 rfl) rfl
theorem q1748 : (Jvm.Cond.code ({ cls := "EdgeWalkModel", name := "passesAll", desc := "(I)V" } : Jvm.MethodName) prog_19_method_75_code (3 : Nat) (Option.none : Option Jvm.ClassFile.FieldType)) ∈ lw_all := lw_g (lw_at lw_m7 180 rfl) rfl
theorem q1749 : (Jvm.Cond.methodLink "EdgeWalkModel" (381 : Nat) ({ cls := "EdgeWalkModel", name := "laysBack", desc := "()V" } : Jvm.MethodName)) ∈ lw_all := lw_g (lw_at lw_m7 181 rfl) rfl
theorem q1750 : (Jvm.Cond.privateMethod ({ cls := "EdgeWalkModel", name := "laysBack", desc := "()V" } : Jvm.MethodName)) ∈ lw_tbl := lw_at lw_m7 182 rfl
theorem q1751 : (Jvm.Cond.instanceMethod ({ cls := "EdgeWalkModel", name := "laysBack", desc := "()V" } : Jvm.MethodName)) ∈ lw_all := lw_g (lw_at lw_m7 183 rfl) rfl
theorem q1752 : (Jvm.Cond.code ({ cls := "EdgeWalkModel", name := "laysBack", desc := "()V" } : Jvm.MethodName) prog_19_method_84_code (2 : Nat) (Option.none : Option Jvm.ClassFile.FieldType)) ∈ lw_all := lw_g (lw_at lw_m7 184 rfl) rfl
theorem q1754 : (Jvm.Cond.instanceMethod ({ cls := "EdgeWalkModel", name := "home", desc := "(I)I" } : Jvm.MethodName)) ∈ lw_all := lw_g (lw_at lw_m7 186 rfl) rfl
theorem q1755 : (Jvm.Cond.selects "EdgeWalkModel" ({ cls := "EdgeWalkModel", name := "home", desc := "(I)I" } : Jvm.MethodName) ({ cls := "EdgeWalkModel", name := "home", desc := "(I)I" } : Jvm.MethodName)) ∈ lw_all := lw_g (lw_at lw_m7 187 rfl) rfl
theorem q1756 : (Jvm.Cond.code ({ cls := "EdgeWalkModel", name := "home", desc := "(I)I" } : Jvm.MethodName) prog_19_method_86_code (4 : Nat) (Option.some Jvm.ClassFile.FieldType.int)) ∈ lw_all := lw_g (lw_at lw_m7 188 rfl) rfl
theorem q1758 : (Jvm.Cond.instanceMethod ({ cls := "EdgeWalkModel", name := "gone", desc := "(I)I" } : Jvm.MethodName)) ∈ lw_all := lw_g (lw_at lw_m7 190 rfl) rfl
theorem q1759 : (Jvm.Cond.selects "EdgeWalkModel" ({ cls := "EdgeWalkModel", name := "gone", desc := "(I)I" } : Jvm.MethodName) ({ cls := "EdgeWalkModel", name := "gone", desc := "(I)I" } : Jvm.MethodName)) ∈ lw_all := lw_g (lw_at lw_m7 191 rfl) rfl
theorem q1760 : (Jvm.Cond.code ({ cls := "EdgeWalkModel", name := "gone", desc := "(I)I" } : Jvm.MethodName) prog_19_method_87_code (3 : Nat) (Option.some Jvm.ClassFile.FieldType.int)) ∈ lw_all := lw_g (lw_at lw_m7 192 rfl) rfl
theorem q1762 : (Jvm.Cond.instanceMethod ({ cls := "EdgeWalkModel", name := "leastFood", desc := "(II)I" } : Jvm.MethodName)) ∈ lw_all := lw_g (lw_at lw_m7 194 rfl) rfl
theorem q1763 : (Jvm.Cond.selects "EdgeWalkModel" ({ cls := "EdgeWalkModel", name := "leastFood", desc := "(II)I" } : Jvm.MethodName) ({ cls := "EdgeWalkModel", name := "leastFood", desc := "(II)I" } : Jvm.MethodName)) ∈ lw_all := lw_g (lw_at lw_m7 195 rfl) rfl
theorem q1764 : (Jvm.Cond.code ({ cls := "EdgeWalkModel", name := "leastFood", desc := "(II)I" } : Jvm.MethodName) prog_19_method_88_code (5 : Nat) (Option.some Jvm.ClassFile.FieldType.int)) ∈ lw_all := lw_g (lw_at lw_m7 196 rfl) rfl
theorem q1766 : (Jvm.Cond.instanceMethod ({ cls := "EdgeWalkModel", name := "meet", desc := "(II)I" } : Jvm.MethodName)) ∈ lw_all := lw_g (lw_at lw_m7 198 rfl) rfl
theorem q1767 : (Jvm.Cond.selects "EdgeWalkModel" ({ cls := "EdgeWalkModel", name := "meet", desc := "(II)I" } : Jvm.MethodName) ({ cls := "EdgeWalkModel", name := "meet", desc := "(II)I" } : Jvm.MethodName)) ∈ lw_all := lw_g (lw_at lw_m7 199 rfl) rfl
theorem q1768 : (Jvm.Cond.code ({ cls := "EdgeWalkModel", name := "meet", desc := "(II)I" } : Jvm.MethodName) prog_19_method_89_code (5 : Nat) (Option.some Jvm.ClassFile.FieldType.int)) ∈ lw_all := lw_g (lw_at lw_m7 200 rfl) rfl
theorem q1770 : (Jvm.Cond.instanceMethod ({ cls := "EdgeWalkModel", name := "shortest", desc := "(II)I" } : Jvm.MethodName)) ∈ lw_all := lw_g (lw_at lw_m7 202 rfl) rfl
theorem q1771 : (Jvm.Cond.selects "EdgeWalkModel" ({ cls := "EdgeWalkModel", name := "shortest", desc := "(II)I" } : Jvm.MethodName) ({ cls := "EdgeWalkModel", name := "shortest", desc := "(II)I" } : Jvm.MethodName)) ∈ lw_all := lw_g (lw_at lw_m7 203 rfl) rfl
theorem q1772 : (Jvm.Cond.code ({ cls := "EdgeWalkModel", name := "shortest", desc := "(II)I" } : Jvm.MethodName) prog_19_method_92_code (6 : Nat) (Option.some Jvm.ClassFile.FieldType.int)) ∈ lw_all := lw_g (lw_at lw_m7 204 rfl) rfl
theorem q1773 : (Jvm.Cond.methodLink "EdgeWalkModel" (387 : Nat) ({ cls := "EdgeWalkModel", name := "goesFrom", desc := "(II)Z" } : Jvm.MethodName)) ∈ lw_all := lw_g (lw_at lw_m7 205 rfl) rfl
theorem q1774 : (Jvm.Cond.privateMethod ({ cls := "EdgeWalkModel", name := "goesFrom", desc := "(II)Z" } : Jvm.MethodName)) ∈ lw_tbl := lw_at lw_m7 206 rfl
theorem q1775 : (Jvm.Cond.instanceMethod ({ cls := "EdgeWalkModel", name := "goesFrom", desc := "(II)Z" } : Jvm.MethodName)) ∈ lw_all := lw_g (lw_at lw_m7 207 rfl) rfl
theorem q1776 : (Jvm.Cond.code ({ cls := "EdgeWalkModel", name := "goesFrom", desc := "(II)Z" } : Jvm.MethodName) prog_19_method_91_code (4 : Nat) (Option.some Jvm.ClassFile.FieldType.boolean)) ∈ lw_all := lw_g (lw_at lw_m7 208 rfl) rfl
theorem q1777 : (Jvm.Cond.methodLink "EdgeWalkModel" (384 : Nat) ({ cls := "EdgeWalkModel", name := "nears", desc := "(II)Z" } : Jvm.MethodName)) ∈ lw_all := lw_g (lw_at lw_m7 209 rfl) rfl
theorem q1778 : (Jvm.Cond.privateMethod ({ cls := "EdgeWalkModel", name := "nears", desc := "(II)Z" } : Jvm.MethodName)) ∈ lw_tbl := lw_at lw_m7 210 rfl
theorem q1779 : (Jvm.Cond.instanceMethod ({ cls := "EdgeWalkModel", name := "nears", desc := "(II)Z" } : Jvm.MethodName)) ∈ lw_all := lw_g (lw_at lw_m7 211 rfl) rfl
theorem q1780 : (Jvm.Cond.code ({ cls := "EdgeWalkModel", name := "nears", desc := "(II)Z" } : Jvm.MethodName) prog_19_method_90_code (3 : Nat) (Option.some Jvm.ClassFile.FieldType.boolean)) ∈ lw_all := lw_g (lw_at lw_m7 212 rfl) rfl
theorem q1782 : (Jvm.Cond.instanceMethod ({ cls := "EdgeWalkModel", name := "seen", desc := "(II)I" } : Jvm.MethodName)) ∈ lw_all := lw_g (lw_at lw_m7 214 rfl) rfl
theorem q1783 : (Jvm.Cond.selects "EdgeWalkModel" ({ cls := "EdgeWalkModel", name := "seen", desc := "(II)I" } : Jvm.MethodName) ({ cls := "EdgeWalkModel", name := "seen", desc := "(II)I" } : Jvm.MethodName)) ∈ lw_all := lw_g (lw_at lw_m7 215 rfl) rfl
theorem q1784 : (Jvm.Cond.code ({ cls := "EdgeWalkModel", name := "seen", desc := "(II)I" } : Jvm.MethodName) prog_19_method_93_code (5 : Nat) (Option.some Jvm.ClassFile.FieldType.int)) ∈ lw_all := lw_g (lw_at lw_m7 216 rfl) rfl
theorem q1786 : (Jvm.Cond.instanceMethod ({ cls := "EdgeWalkModel", name := "longest", desc := "(II)I" } : Jvm.MethodName)) ∈ lw_all := lw_g (lw_at lw_m7 218 rfl) rfl
theorem q1787 : (Jvm.Cond.selects "EdgeWalkModel" ({ cls := "EdgeWalkModel", name := "longest", desc := "(II)I" } : Jvm.MethodName) ({ cls := "EdgeWalkModel", name := "longest", desc := "(II)I" } : Jvm.MethodName)) ∈ lw_all := lw_g (lw_at lw_m7 219 rfl) rfl
theorem q1788 : (Jvm.Cond.code ({ cls := "EdgeWalkModel", name := "longest", desc := "(II)I" } : Jvm.MethodName) prog_19_method_94_code (7 : Nat) (Option.some Jvm.ClassFile.FieldType.int)) ∈ lw_all := lw_g (lw_at lw_m7 220 rfl) rfl
theorem q1790 : (Jvm.Cond.instanceMethod ({ cls := "EdgeWalkModel", name := "bestFold", desc := "(II)I" } : Jvm.MethodName)) ∈ lw_all := lw_g (lw_at lw_m7 222 rfl) rfl
theorem q1791 : (Jvm.Cond.selects "EdgeWalkModel" ({ cls := "EdgeWalkModel", name := "bestFold", desc := "(II)I" } : Jvm.MethodName) ({ cls := "EdgeWalkModel", name := "bestFold", desc := "(II)I" } : Jvm.MethodName)) ∈ lw_all := lw_g (lw_at lw_m7 223 rfl) rfl
theorem q1792 : (Jvm.Cond.code ({ cls := "EdgeWalkModel", name := "bestFold", desc := "(II)I" } : Jvm.MethodName) prog_19_method_96_code (4 : Nat) (Option.some Jvm.ClassFile.FieldType.int)) ∈ lw_all := lw_g (lw_at lw_m7 224 rfl) rfl
theorem q1793 : (Jvm.Cond.constantLong "EdgeWalkModel" (405 : Nat) (40 : Int64)) ∈ lw_all := lw_g (lw_at lw_m7 225 rfl) rfl
theorem q1794 : (Jvm.Cond.methodLink "EdgeWalkModel" (407 : Nat) ({ cls := "EdgeWalkModel", name := "weighs", desc := "(II)V" } : Jvm.MethodName)) ∈ lw_all := lw_g (lw_at lw_m7 226 rfl) rfl
theorem q1795 : (Jvm.Cond.privateMethod ({ cls := "EdgeWalkModel", name := "weighs", desc := "(II)V" } : Jvm.MethodName)) ∈ lw_tbl := lw_at lw_m7 227 rfl
theorem q1796 : (Jvm.Cond.instanceMethod ({ cls := "EdgeWalkModel", name := "weighs", desc := "(II)V" } : Jvm.MethodName)) ∈ lw_all := lw_g (lw_at lw_m7 228 rfl) rfl
theorem q1797 : (Jvm.Cond.code ({ cls := "EdgeWalkModel", name := "weighs", desc := "(II)V" } : Jvm.MethodName) prog_19_method_95_code (5 : Nat) (Option.none : Option Jvm.ClassFile.FieldType)) ∈ lw_all := lw_g (lw_at lw_m7 229 rfl) rfl
theorem q1798 : (Jvm.Cond.methodLink "EdgeWalkModel" (390 : Nat) ({ cls := "EdgeWalkModel", name := "bits", desc := "(I)I" } : Jvm.MethodName)) ∈ lw_all := lw_g (lw_at lw_m7 230 rfl) rfl
theorem q1799 : (Jvm.Cond.static ({ cls := "EdgeWalkModel", name := "bits", desc := "(I)I" } : Jvm.MethodName)) ∈ lw_all := lw_g (lw_at lw_m7 231 rfl) rfl
theorem q1800 : (Jvm.Cond.code ({ cls := "EdgeWalkModel", name := "bits", desc := "(I)I" } : Jvm.MethodName) prog_19_method_57_code (3 : Nat) (Option.some Jvm.ClassFile.FieldType.int)) ∈ lw_all := lw_g (lw_at lw_m7 232 rfl) rfl
theorem q1801 : (Jvm.Cond.methodLink "EdgeWalkModel" (393 : Nat) ({ cls := "EdgeWalkModel", name := "foodAll", desc := "()I" } : Jvm.MethodName)) ∈ lw_all := lw_g (lw_at lw_m7 233 rfl) rfl
theorem q1802 : (Jvm.Cond.privateMethod ({ cls := "EdgeWalkModel", name := "foodAll", desc := "()I" } : Jvm.MethodName)) ∈ lw_tbl := lw_at lw_m7 234 rfl
theorem q1803 : (Jvm.Cond.instanceMethod ({ cls := "EdgeWalkModel", name := "foodAll", desc := "()I" } : Jvm.MethodName)) ∈ lw_all := lw_g (lw_at lw_m7 235 rfl) rfl
theorem q1804 : (Jvm.Cond.code ({ cls := "EdgeWalkModel", name := "foodAll", desc := "()I" } : Jvm.MethodName) prog_19_method_58_code (3 : Nat) (Option.some Jvm.ClassFile.FieldType.int)) ∈ lw_all := lw_g (lw_at lw_m7 236 rfl) rfl
theorem q1806 : (Jvm.Cond.instanceMethod ({ cls := "EdgeWalkModel", name := "bestStone", desc := "(II)I" } : Jvm.MethodName)) ∈ lw_all := lw_g (lw_at lw_m7 238 rfl) rfl
theorem q1807 : (Jvm.Cond.selects "EdgeWalkModel" ({ cls := "EdgeWalkModel", name := "bestStone", desc := "(II)I" } : Jvm.MethodName) ({ cls := "EdgeWalkModel", name := "bestStone", desc := "(II)I" } : Jvm.MethodName)) ∈ lw_all := lw_g (lw_at lw_m7 239 rfl) rfl
theorem q1808 : (Jvm.Cond.code ({ cls := "EdgeWalkModel", name := "bestStone", desc := "(II)I" } : Jvm.MethodName) prog_19_method_97_code (4 : Nat) (Option.some Jvm.ClassFile.FieldType.int)) ∈ lw_all := lw_g (lw_at lw_m8 0 rfl) rfl
theorem q1810 : (Jvm.Cond.instanceMethod ({ cls := "EdgeWalkModel", name := "rests", desc := "(IIII)I" } : Jvm.MethodName)) ∈ lw_all := lw_g (lw_at lw_m8 2 rfl) rfl
theorem q1811 : (Jvm.Cond.selects "EdgeWalkModel" ({ cls := "EdgeWalkModel", name := "rests", desc := "(IIII)I" } : Jvm.MethodName) ({ cls := "EdgeWalkModel", name := "rests", desc := "(IIII)I" } : Jvm.MethodName)) ∈ lw_all := lw_g (lw_at lw_m8 3 rfl) rfl
theorem q1812 : (Jvm.Cond.code ({ cls := "EdgeWalkModel", name := "rests", desc := "(IIII)I" } : Jvm.MethodName) prog_19_method_99_code (8 : Nat) (Option.some Jvm.ClassFile.FieldType.int)) ∈ lw_all := lw_g (lw_at lw_m8 4 rfl) rfl
theorem q1813 : (Jvm.Cond.methodLink "EdgeWalkModel" (410 : Nat) ({ cls := "EdgeWalkModel", name := "isRest", desc := "(II)Z" } : Jvm.MethodName)) ∈ lw_all := lw_g (lw_at lw_m8 5 rfl) rfl
theorem q1814 : (Jvm.Cond.privateMethod ({ cls := "EdgeWalkModel", name := "isRest", desc := "(II)Z" } : Jvm.MethodName)) ∈ lw_tbl := lw_at lw_m8 6 rfl
theorem q1815 : (Jvm.Cond.instanceMethod ({ cls := "EdgeWalkModel", name := "isRest", desc := "(II)Z" } : Jvm.MethodName)) ∈ lw_all := lw_g (lw_at lw_m8 7 rfl) rfl
theorem q1816 : (Jvm.Cond.code ({ cls := "EdgeWalkModel", name := "isRest", desc := "(II)Z" } : Jvm.MethodName) prog_19_method_98_code (4 : Nat) (Option.some Jvm.ClassFile.FieldType.boolean)) ∈ lw_all := lw_g (lw_at lw_m8 8 rfl) rfl
theorem q1818 : (Jvm.Cond.instanceMethod ({ cls := "EdgeWalkModel", name := "ring", desc := "(I)I" } : Jvm.MethodName)) ∈ lw_all := lw_g (lw_at lw_m8 10 rfl) rfl
theorem q1819 : (Jvm.Cond.selects "EdgeWalkModel" ({ cls := "EdgeWalkModel", name := "ring", desc := "(I)I" } : Jvm.MethodName) ({ cls := "EdgeWalkModel", name := "ring", desc := "(I)I" } : Jvm.MethodName)) ∈ lw_all := lw_g (lw_at lw_m8 11 rfl) rfl
theorem q1820 : (Jvm.Cond.code ({ cls := "EdgeWalkModel", name := "ring", desc := "(I)I" } : Jvm.MethodName) prog_19_method_102_code (4 : Nat) (Option.some Jvm.ClassFile.FieldType.int)) ∈ lw_all := lw_g (lw_at lw_m8 12 rfl) rfl
theorem q1821 : (Jvm.Cond.methodLink "EdgeWalkModel" (413 : Nat) ({ cls := "EdgeWalkModel", name := "whereOf", desc := "(I)I" } : Jvm.MethodName)) ∈ lw_all := lw_g (lw_at lw_m8 13 rfl) rfl
theorem q1822 : (Jvm.Cond.privateMethod ({ cls := "EdgeWalkModel", name := "whereOf", desc := "(I)I" } : Jvm.MethodName)) ∈ lw_tbl := lw_at lw_m8 14 rfl
theorem q1823 : (Jvm.Cond.instanceMethod ({ cls := "EdgeWalkModel", name := "whereOf", desc := "(I)I" } : Jvm.MethodName)) ∈ lw_all := lw_g (lw_at lw_m8 15 rfl) rfl
theorem q1824 : (Jvm.Cond.code ({ cls := "EdgeWalkModel", name := "whereOf", desc := "(I)I" } : Jvm.MethodName) prog_19_method_100_code (4 : Nat) (Option.some Jvm.ClassFile.FieldType.int)) ∈ lw_all := lw_g (lw_at lw_m8 16 rfl) rfl
theorem q1825 : (Jvm.Cond.methodLink "EdgeWalkModel" (416 : Nat) ({ cls := "EdgeWalkModel", name := "areAlike", desc := "(II)Z" } : Jvm.MethodName)) ∈ lw_all := lw_g (lw_at lw_m8 17 rfl) rfl
theorem q1826 : (Jvm.Cond.privateMethod ({ cls := "EdgeWalkModel", name := "areAlike", desc := "(II)Z" } : Jvm.MethodName)) ∈ lw_tbl := lw_at lw_m8 18 rfl
theorem q1827 : (Jvm.Cond.instanceMethod ({ cls := "EdgeWalkModel", name := "areAlike", desc := "(II)Z" } : Jvm.MethodName)) ∈ lw_all := lw_g (lw_at lw_m8 19 rfl) rfl
theorem q1828 : (Jvm.Cond.code ({ cls := "EdgeWalkModel", name := "areAlike", desc := "(II)Z" } : Jvm.MethodName) prog_19_method_101_code (4 : Nat) (Option.some Jvm.ClassFile.FieldType.boolean)) ∈ lw_all := lw_g (lw_at lw_m8 20 rfl) rfl
theorem q1830 : (Jvm.Cond.instanceMethod ({ cls := "EdgeWalkModel", name := "bread", desc := "(II)I" } : Jvm.MethodName)) ∈ lw_all := lw_g (lw_at lw_m8 22 rfl) rfl
theorem q1831 : (Jvm.Cond.selects "EdgeWalkModel" ({ cls := "EdgeWalkModel", name := "bread", desc := "(II)I" } : Jvm.MethodName) ({ cls := "EdgeWalkModel", name := "bread", desc := "(II)I" } : Jvm.MethodName)) ∈ lw_all := lw_g (lw_at lw_m8 23 rfl) rfl
theorem q1832 : (Jvm.Cond.code ({ cls := "EdgeWalkModel", name := "bread", desc := "(II)I" } : Jvm.MethodName) prog_19_method_104_code (10 : Nat) (Option.some Jvm.ClassFile.FieldType.int)) ∈ lw_all := lw_g (lw_at lw_m8 24 rfl) rfl
theorem q1833 : (Jvm.Cond.constantLong "EdgeWalkModel" (419 : Nat) (9999 : Int64)) ∈ lw_all := lw_g (lw_at lw_m8 25 rfl) rfl
theorem q1834 : (Jvm.Cond.methodLink "EdgeWalkModel" (421 : Nat) ({ cls := "EdgeWalkModel", name := "shortOf", desc := "(I)I" } : Jvm.MethodName)) ∈ lw_all := lw_g (lw_at lw_m8 26 rfl) rfl
theorem q1835 : (Jvm.Cond.privateMethod ({ cls := "EdgeWalkModel", name := "shortOf", desc := "(I)I" } : Jvm.MethodName)) ∈ lw_tbl := lw_at lw_m8 27 rfl
theorem q1836 : (Jvm.Cond.instanceMethod ({ cls := "EdgeWalkModel", name := "shortOf", desc := "(I)I" } : Jvm.MethodName)) ∈ lw_all := lw_g (lw_at lw_m8 28 rfl) rfl
theorem q1837 : (Jvm.Cond.code ({ cls := "EdgeWalkModel", name := "shortOf", desc := "(I)I" } : Jvm.MethodName) prog_19_method_103_code (2 : Nat) (Option.some Jvm.ClassFile.FieldType.int)) ∈ lw_all := lw_g (lw_at lw_m8 29 rfl) rfl
theorem q1839 : (Jvm.Cond.instanceMethod ({ cls := "EdgeWalkModel", name := "note", desc := "(III)I" } : Jvm.MethodName)) ∈ lw_all := lw_g (lw_at lw_m8 31 rfl) rfl
theorem q1840 : (Jvm.Cond.selects "EdgeWalkModel" ({ cls := "EdgeWalkModel", name := "note", desc := "(III)I" } : Jvm.MethodName) ({ cls := "EdgeWalkModel", name := "note", desc := "(III)I" } : Jvm.MethodName)) ∈ lw_all := lw_g (lw_at lw_m8 32 rfl) rfl
theorem q1841 : (Jvm.Cond.code ({ cls := "EdgeWalkModel", name := "note", desc := "(III)I" } : Jvm.MethodName) prog_19_method_105_code (5 : Nat) (Option.some Jvm.ClassFile.FieldType.int)) ∈ lw_all := lw_g (lw_at lw_m8 33 rfl) rfl
theorem q1842 : (Jvm.Cond.constantLong "EdgeWalkModel" (424 : Nat) (60 : Int64)) ∈ lw_all := lw_g (lw_at lw_m8 34 rfl) rfl
theorem q1844 : (Jvm.Cond.instanceMethod ({ cls := "EdgeWalkModel", name := "ruled", desc := "(I)I" } : Jvm.MethodName)) ∈ lw_all := lw_g (lw_at lw_m8 36 rfl) rfl
theorem q1845 : (Jvm.Cond.selects "EdgeWalkModel" ({ cls := "EdgeWalkModel", name := "ruled", desc := "(I)I" } : Jvm.MethodName) ({ cls := "EdgeWalkModel", name := "ruled", desc := "(I)I" } : Jvm.MethodName)) ∈ lw_all := lw_g (lw_at lw_m8 37 rfl) rfl
theorem q1846 : (Jvm.Cond.code ({ cls := "EdgeWalkModel", name := "ruled", desc := "(I)I" } : Jvm.MethodName) prog_19_method_110_code (5 : Nat) (Option.some Jvm.ClassFile.FieldType.int)) ∈ lw_all := lw_g (lw_at lw_m8 38 rfl) rfl
theorem q1847 : (Jvm.Cond.methodLink "EdgeWalkModel" (435 : Nat) ({ cls := "EdgeWalkModel", name := "fillsFits", desc := "(I)V" } : Jvm.MethodName)) ∈ lw_all := lw_g (lw_at lw_m8 39 rfl) rfl
theorem q1848 : (Jvm.Cond.privateMethod ({ cls := "EdgeWalkModel", name := "fillsFits", desc := "(I)V" } : Jvm.MethodName)) ∈ lw_tbl := lw_at lw_m8 40 rfl
theorem q1849 : (Jvm.Cond.instanceMethod ({ cls := "EdgeWalkModel", name := "fillsFits", desc := "(I)V" } : Jvm.MethodName)) ∈ lw_all := lw_g (lw_at lw_m8 41 rfl) rfl
theorem q1850 : (Jvm.Cond.code ({ cls := "EdgeWalkModel", name := "fillsFits", desc := "(I)V" } : Jvm.MethodName) prog_19_method_109_code (4 : Nat) (Option.none : Option Jvm.ClassFile.FieldType)) ∈ lw_all := lw_g (lw_at lw_m8 42 rfl) rfl
theorem q1851 : (Jvm.Cond.methodLink "EdgeWalkModel" (432 : Nat) ({ cls := "EdgeWalkModel", name := "areAllSo", desc := "(II)Z" } : Jvm.MethodName)) ∈ lw_all := lw_g (lw_at lw_m8 43 rfl) rfl
theorem q1852 : (Jvm.Cond.privateMethod ({ cls := "EdgeWalkModel", name := "areAllSo", desc := "(II)Z" } : Jvm.MethodName)) ∈ lw_tbl := lw_at lw_m8 44 rfl
theorem q1853 : (Jvm.Cond.instanceMethod ({ cls := "EdgeWalkModel", name := "areAllSo", desc := "(II)Z" } : Jvm.MethodName)) ∈ lw_all := lw_g (lw_at lw_m8 45 rfl) rfl
theorem q1854 : (Jvm.Cond.code ({ cls := "EdgeWalkModel", name := "areAllSo", desc := "(II)Z" } : Jvm.MethodName) prog_19_method_108_code (6 : Nat) (Option.some Jvm.ClassFile.FieldType.boolean)) ∈ lw_all := lw_g (lw_at lw_m8 46 rfl) rfl
theorem q1855 : (Jvm.Cond.methodLink "EdgeWalkModel" (429 : Nat) ({ cls := "EdgeWalkModel", name := "areNotesSo", desc := "(I)Z" } : Jvm.MethodName)) ∈ lw_all := lw_g (lw_at lw_m8 47 rfl) rfl
theorem q1856 : (Jvm.Cond.privateMethod ({ cls := "EdgeWalkModel", name := "areNotesSo", desc := "(I)Z" } : Jvm.MethodName)) ∈ lw_tbl := lw_at lw_m8 48 rfl
theorem q1857 : (Jvm.Cond.instanceMethod ({ cls := "EdgeWalkModel", name := "areNotesSo", desc := "(I)Z" } : Jvm.MethodName)) ∈ lw_all := lw_g (lw_at lw_m8 49 rfl) rfl
theorem q1858 : (Jvm.Cond.code ({ cls := "EdgeWalkModel", name := "areNotesSo", desc := "(I)Z" } : Jvm.MethodName) prog_19_method_107_code (3 : Nat) (Option.some Jvm.ClassFile.FieldType.boolean)) ∈ lw_all := lw_g (lw_at lw_m8 50 rfl) rfl
theorem q1859 : (Jvm.Cond.methodLink "EdgeWalkModel" (426 : Nat) ({ cls := "EdgeWalkModel", name := "cellOn", desc := "(I)I" } : Jvm.MethodName)) ∈ lw_all := lw_g (lw_at lw_m8 51 rfl) rfl
theorem q1860 : (Jvm.Cond.privateMethod ({ cls := "EdgeWalkModel", name := "cellOn", desc := "(I)I" } : Jvm.MethodName)) ∈ lw_tbl := lw_at lw_m8 52 rfl
theorem q1861 : (Jvm.Cond.instanceMethod ({ cls := "EdgeWalkModel", name := "cellOn", desc := "(I)I" } : Jvm.MethodName)) ∈ lw_all := lw_g (lw_at lw_m8 53 rfl) rfl
theorem q1862 : (Jvm.Cond.code ({ cls := "EdgeWalkModel", name := "cellOn", desc := "(I)I" } : Jvm.MethodName) prog_19_method_106_code (2 : Nat) (Option.some Jvm.ClassFile.FieldType.int)) ∈ lw_all := lw_g (lw_at lw_m8 54 rfl) rfl
theorem q1864 : (Jvm.Cond.instanceMethod ({ cls := "EdgeWalkModel", name := "look", desc := "(II)I" } : Jvm.MethodName)) ∈ lw_all := lw_g (lw_at lw_m8 56 rfl) rfl
theorem q1865 : (Jvm.Cond.selects "EdgeWalkModel" ({ cls := "EdgeWalkModel", name := "look", desc := "(II)I" } : Jvm.MethodName) ({ cls := "EdgeWalkModel", name := "look", desc := "(II)I" } : Jvm.MethodName)) ∈ lw_all := lw_g (lw_at lw_m8 57 rfl) rfl
theorem q1866 : (Jvm.Cond.code ({ cls := "EdgeWalkModel", name := "look", desc := "(II)I" } : Jvm.MethodName) prog_19_method_112_code (7 : Nat) (Option.some Jvm.ClassFile.FieldType.int)) ∈ lw_all := lw_g (lw_at lw_m8 58 rfl) rfl
theorem q1867 : (Jvm.Cond.methodLink "EdgeWalkModel" (438 : Nat) ({ cls := "EdgeWalkModel", name := "alikeAt", desc := "(I)I" } : Jvm.MethodName)) ∈ lw_all := lw_g (lw_at lw_m8 59 rfl) rfl
theorem q1868 : (Jvm.Cond.privateMethod ({ cls := "EdgeWalkModel", name := "alikeAt", desc := "(I)I" } : Jvm.MethodName)) ∈ lw_tbl := lw_at lw_m8 60 rfl
theorem q1869 : (Jvm.Cond.instanceMethod ({ cls := "EdgeWalkModel", name := "alikeAt", desc := "(I)I" } : Jvm.MethodName)) ∈ lw_all := lw_g (lw_at lw_m8 61 rfl) rfl
theorem q1870 : (Jvm.Cond.code ({ cls := "EdgeWalkModel", name := "alikeAt", desc := "(I)I" } : Jvm.MethodName) prog_19_method_111_code (6 : Nat) (Option.some Jvm.ClassFile.FieldType.int)) ∈ lw_all := lw_g (lw_at lw_m8 62 rfl) rfl
theorem q1872 : (Jvm.Cond.instanceMethod ({ cls := "EdgeWalkModel", name := "folds", desc := "(I)I" } : Jvm.MethodName)) ∈ lw_all := lw_g (lw_at lw_m8 64 rfl) rfl
theorem q1873 : (Jvm.Cond.selects "EdgeWalkModel" ({ cls := "EdgeWalkModel", name := "folds", desc := "(I)I" } : Jvm.MethodName) ({ cls := "EdgeWalkModel", name := "folds", desc := "(I)I" } : Jvm.MethodName)) ∈ lw_all := lw_g (lw_at lw_m8 65 rfl) rfl
theorem q1874 : (Jvm.Cond.code ({ cls := "EdgeWalkModel", name := "folds", desc := "(I)I" } : Jvm.MethodName) prog_19_method_113_code (6 : Nat) (Option.some Jvm.ClassFile.FieldType.int)) ∈ lw_all := lw_g (lw_at lw_m8 66 rfl) rfl
theorem q1875 : (Jvm.Cond.constantLong "EdgeWalkModel" (441 : Nat) (-1 : Int64)) ∈ lw_all := lw_g (lw_at lw_m8 67 rfl) rfl
theorem q1877 : (Jvm.Cond.instanceMethod ({ cls := "EdgeWalkModel", name := "seed", desc := "(I)I" } : Jvm.MethodName)) ∈ lw_all := lw_g (lw_at lw_m8 69 rfl) rfl
theorem q1878 : (Jvm.Cond.selects "EdgeWalkModel" ({ cls := "EdgeWalkModel", name := "seed", desc := "(I)I" } : Jvm.MethodName) ({ cls := "EdgeWalkModel", name := "seed", desc := "(I)I" } : Jvm.MethodName)) ∈ lw_all := lw_g (lw_at lw_m8 70 rfl) rfl
theorem q1879 : (Jvm.Cond.code ({ cls := "EdgeWalkModel", name := "seed", desc := "(I)I" } : Jvm.MethodName) prog_19_method_114_code (3 : Nat) (Option.some Jvm.ClassFile.FieldType.int)) ∈ lw_all := lw_g (lw_at lw_m8 71 rfl) rfl
theorem q1881 : (Jvm.Cond.instanceMethod ({ cls := "EdgeWalkModel", name := "gusts", desc := "(IIII)I" } : Jvm.MethodName)) ∈ lw_all := lw_g (lw_at lw_m8 73 rfl) rfl
theorem q1882 : (Jvm.Cond.selects "EdgeWalkModel" ({ cls := "EdgeWalkModel", name := "gusts", desc := "(IIII)I" } : Jvm.MethodName) ({ cls := "EdgeWalkModel", name := "gusts", desc := "(IIII)I" } : Jvm.MethodName)) ∈ lw_all := lw_g (lw_at lw_m8 74 rfl) rfl
theorem q1883 : (Jvm.Cond.code ({ cls := "EdgeWalkModel", name := "gusts", desc := "(IIII)I" } : Jvm.MethodName) prog_19_method_117_code (9 : Nat) (Option.some Jvm.ClassFile.FieldType.int)) ∈ lw_all := lw_g (lw_at lw_m8 75 rfl) rfl
theorem q1884 : (Jvm.Cond.constantLong "EdgeWalkModel" (461 : Nat) (10 : Int64)) ∈ lw_all := lw_g (lw_at lw_m8 76 rfl) rfl
theorem q1885 : (Jvm.Cond.methodLink "EdgeWalkModel" (458 : Nat) ({ cls := "EdgeWalkModel", name := "draw", desc := "(I)I" } : Jvm.MethodName)) ∈ lw_all := lw_g (lw_at lw_m8 77 rfl) rfl
theorem q1886 : (Jvm.Cond.privateMethod ({ cls := "EdgeWalkModel", name := "draw", desc := "(I)I" } : Jvm.MethodName)) ∈ lw_tbl := lw_at lw_m8 78 rfl
theorem q1887 : (Jvm.Cond.instanceMethod ({ cls := "EdgeWalkModel", name := "draw", desc := "(I)I" } : Jvm.MethodName)) ∈ lw_all := lw_g (lw_at lw_m8 79 rfl) rfl
theorem q1888 : (Jvm.Cond.code ({ cls := "EdgeWalkModel", name := "draw", desc := "(I)I" } : Jvm.MethodName) prog_19_method_115_code (2 : Nat) (Option.some Jvm.ClassFile.FieldType.int)) ∈ lw_all := lw_g (lw_at lw_m8 80 rfl) rfl
theorem q1889 : (Jvm.Cond.constantLong "EdgeWalkModel" (450 : Nat) (1103515245 : Int64)) ∈ lw_all := lw_g (lw_at lw_m8 81 rfl) rfl
theorem q1890 : (Jvm.Cond.constantLong "EdgeWalkModel" (452 : Nat) (12345 : Int64)) ∈ lw_all := lw_g (lw_at lw_m8 82 rfl) rfl
theorem q1891 : (Jvm.Cond.constantLong "EdgeWalkModel" (454 : Nat) (2147483648 : Int64)) ∈ lw_all := lw_g (lw_at lw_m8 83 rfl) rfl
theorem q1892 : (Jvm.Cond.constantLong "EdgeWalkModel" (456 : Nat) (65536 : Int64)) ∈ lw_all := lw_g (lw_at lw_m8 84 rfl) rfl
theorem q1893 : (Jvm.Cond.methodLink "EdgeWalkModel" (463 : Nat) ({ cls := "EdgeWalkModel", name := "blows", desc := "()V" } : Jvm.MethodName)) ∈ lw_all := lw_g (lw_at lw_m8 85 rfl) rfl
theorem q1894 : (Jvm.Cond.privateMethod ({ cls := "EdgeWalkModel", name := "blows", desc := "()V" } : Jvm.MethodName)) ∈ lw_tbl := lw_at lw_m8 86 rfl
theorem q1895 : (Jvm.Cond.instanceMethod ({ cls := "EdgeWalkModel", name := "blows", desc := "()V" } : Jvm.MethodName)) ∈ lw_all := lw_g (lw_at lw_m8 87 rfl) rfl
theorem q1896 : (Jvm.Cond.code ({ cls := "EdgeWalkModel", name := "blows", desc := "()V" } : Jvm.MethodName) prog_19_method_116_code (3 : Nat) (Option.none : Option Jvm.ClassFile.FieldType)) ∈ lw_all := lw_g (lw_at lw_m8 88 rfl) rfl
theorem q1898 : (Jvm.Cond.instanceMethod ({ cls := "EdgeWalkModel", name := "count", desc := "(I)I" } : Jvm.MethodName)) ∈ lw_all := lw_g (lw_at lw_m8 90 rfl) rfl
theorem q1899 : (Jvm.Cond.selects "EdgeWalkModel" ({ cls := "EdgeWalkModel", name := "count", desc := "(I)I" } : Jvm.MethodName) ({ cls := "EdgeWalkModel", name := "count", desc := "(I)I" } : Jvm.MethodName)) ∈ lw_all := lw_g (lw_at lw_m8 91 rfl) rfl
theorem q1900 : (Jvm.Cond.code ({ cls := "EdgeWalkModel", name := "count", desc := "(I)I" } : Jvm.MethodName) prog_19_method_118_code (4 : Nat) (Option.some Jvm.ClassFile.FieldType.int)) ∈ lw_all := lw_g (lw_at lw_m8 92 rfl) rfl
theorem q1902 : (Jvm.Cond.instanceMethod ({ cls := "EdgeWalkModel", name := "image", desc := "(I)I" } : Jvm.MethodName)) ∈ lw_all := lw_g (lw_at lw_m8 94 rfl) rfl
theorem q1903 : (Jvm.Cond.selects "EdgeWalkModel" ({ cls := "EdgeWalkModel", name := "image", desc := "(I)I" } : Jvm.MethodName) ({ cls := "EdgeWalkModel", name := "image", desc := "(I)I" } : Jvm.MethodName)) ∈ lw_all := lw_g (lw_at lw_m8 95 rfl) rfl
theorem q1904 : (Jvm.Cond.code ({ cls := "EdgeWalkModel", name := "image", desc := "(I)I" } : Jvm.MethodName) prog_19_method_119_code (3 : Nat) (Option.some Jvm.ClassFile.FieldType.int)) ∈ lw_all := lw_g (lw_at lw_m8 96 rfl) rfl
theorem q1906 : (Jvm.Cond.instanceMethod ({ cls := "EdgeWalkModel", name := "back", desc := "(I)I" } : Jvm.MethodName)) ∈ lw_all := lw_g (lw_at lw_m8 98 rfl) rfl
theorem q1907 : (Jvm.Cond.selects "EdgeWalkModel" ({ cls := "EdgeWalkModel", name := "back", desc := "(I)I" } : Jvm.MethodName) ({ cls := "EdgeWalkModel", name := "back", desc := "(I)I" } : Jvm.MethodName)) ∈ lw_all := lw_g (lw_at lw_m8 99 rfl) rfl
theorem q1908 : (Jvm.Cond.code ({ cls := "EdgeWalkModel", name := "back", desc := "(I)I" } : Jvm.MethodName) prog_19_method_120_code (3 : Nat) (Option.some Jvm.ClassFile.FieldType.int)) ∈ lw_all := lw_g (lw_at lw_m8 100 rfl) rfl
theorem q1918 : (Jvm.Cond.castable "EdgeWalkModel" "java/lang/Object") ∈ lw_tbl := lw_at lw_m8 110 rfl
theorem in_X4 : ∀ w ∈ wsX40, w ∈ lw_all := lw_in wsX40 [1321, 1323, 1325, 1327, 1329, 1331, 1333, 1335, 1337, 1339, 1341, 1343, 1345, 1347, 1349, 1351, 1353, 1355, 1357, 1359, 1361, 1363, 1365, 1367, 1369, 1371, 1373, 1375, 1377, 1379, 1381, 1383, 1385, 1387, 1389, 1391, 1393, 1395, 1397, 1399, 1401] (by decide +kernel) (by decide +kernel)
