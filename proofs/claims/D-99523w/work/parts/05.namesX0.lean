/-! EdgeWalk -/
set_option maxRecDepth 100000
def RX0 : String := "EdgeWalk"
def TX0 : u_T := fun k => match k with
  | 0 => ("EdgeWalk", "sheet", "LEdgeWalk$Sheet;", false)
  | 1 => ("EdgeWalk", "state", "LEdgeWalk$State;", true)
  | 2 => ("EdgeWalk", "kept", "LEdgeWalk$State;", true)
  | 3 => ("EdgeWalk", "rules", "Ljava/util/ArrayList;", true)
  | 4 => ("EdgeWalk", "inForce", "I", false)
  | 5 => ("EdgeWalk", "wrong", "LEdgeWalk$Wrong;", true)
  | 6 => ("EdgeWalk", "tape", "[B", true)
  | 7 => ("EdgeWalk", "taped", "I", false)
  | 8 => ("EdgeWalk", "noteWhen", "[I", true)
  | 9 => ("EdgeWalk", "noteWho", "[I", true)
  | 10 => ("EdgeWalk", "noteWhere", "[I", true)
  | 11 => ("EdgeWalk", "notes", "I", false)
  | 12 => ("EdgeWalk", "draw", "I", false)
  | 13 => ("EdgeWalk", "words", "[J", true)
  | 14 => ("EdgeWalk", "past", "[LEdgeWalk$State;", true)
  | 15 => ("EdgeWalk", "pastMany", "I", false)
  | 16 => ("EdgeWalk", "pastAt", "I", false)
  | 17 => ("EdgeWalk", "steps", "[I", true)
  | 18 => ("EdgeWalk", "fewestLost", "I", false)
  | 19 => ("EdgeWalk", "mostFood", "I", false)
  | 20 => ("EdgeWalk", "firstHas", "[I", true)
  | 21 => ("EdgeWalk", "secondHas", "[I", true)
  | 22 => ("EdgeWalk", "lay", "[I", true)
  | 23 => ("EdgeWalk", "shows", "[I", true)
  | _ => ("EdgeWalk", "images", "[LEdgeWalk$Image;", true)
def tyX0 : Nat → FieldType := fun k => match k with
  | 0 => .object "EdgeWalk$Sheet"
  | 1 => .object "EdgeWalk$State"
  | 2 => .object "EdgeWalk$State"
  | 3 => .object "java/util/ArrayList"
  | 4 => .int
  | 5 => .object "EdgeWalk$Wrong"
  | 6 => .array .byte
  | 7 => .int
  | 8 => .array .int
  | 9 => .array .int
  | 10 => .array .int
  | 11 => .int
  | 12 => .int
  | 13 => .array .long
  | 14 => .array (.object "EdgeWalk$State")
  | 15 => .int
  | 16 => .int
  | 17 => .array .int
  | 18 => .int
  | 19 => .int
  | 20 => .array .int
  | 21 => .array .int
  | 22 => .array .int
  | 23 => .array .int
  | _ => .array (.object "EdgeWalk$Image")
abbrev wsX00 : List Cond := u_ws RX0 TX0 25
set_option maxRecDepth 100000 in
theorem nmX0 : ∀ a, a < 25 → ∀ b, b < 25 → a ≠ b → (TX0 a).2.1 ≠ (TX0 b).2.1 := by decide +kernel
set_option maxRecDepth 100000 in
theorem tyX0_ok : ∀ k, k < 25 → parseFieldDescriptor (TX0 k).2.2.1 = some (tyX0 k) := by decide +kernel
abbrev cX0_init : ByteArray := prog_1_method_4_code
def yX0_init : MethodName := ⟨RX0, "<init>", "()V"⟩
def dkwX0_init_7 : List UInt8 := [181, 0, 93, 177]
abbrev dktX0_init_7 : List UInt8 := dkwX0_init_7 ++ []
def dkwX0_init_6 : List UInt8 := [42, 17, 5, 245, 188, 10, 181, 0, 85, 42, 16, 35, 188, 10, 181, 0, 88, 42, 7, 189, 0, 91]
abbrev dktX0_init_6 : List UInt8 := dkwX0_init_6 ++ dktX0_init_7
def dkwX0_init_5 : List UInt8 := [42, 16, 36, 188, 10, 181, 0, 76, 42, 16, 16, 188, 10, 181, 0, 79, 42, 16, 16, 188, 10, 181, 0, 82]
abbrev dktX0_init_5 : List UInt8 := dkwX0_init_5 ++ dktX0_init_6
def dkwX0_init_4 : List UInt8 := [188, 10, 181, 0, 57, 42, 178, 0, 60, 190, 188, 11, 181, 0, 64, 42, 16, 20, 184, 0, 68, 181, 0, 72]
abbrev dktX0_init_4 : List UInt8 := dkwX0_init_4 ++ dktX0_init_5
def dkwX0_init_3 : List UInt8 := [188, 8, 181, 0, 46, 42, 16, 10, 188, 10, 181, 0, 50, 42, 16, 10, 188, 10, 181, 0, 54, 42, 16, 10]
abbrev dktX0_init_3 : List UInt8 := dkwX0_init_3 ++ dktX0_init_4
def dkwX0_init_2 : List UInt8 := [181, 0, 31, 42, 2, 181, 0, 35, 42, 187, 0, 39, 89, 183, 0, 41, 181, 0, 42, 42, 17, 1, 144]
abbrev dktX0_init_2 : List UInt8 := dkwX0_init_2 ++ dktX0_init_3
def dkwX0_init_1 : List UInt8 := [181, 0, 19, 42, 187, 0, 16, 89, 183, 0, 18, 181, 0, 23, 42, 187, 0, 26, 89, 5, 183, 0, 28]
abbrev dktX0_init_1 : List UInt8 := dkwX0_init_1 ++ dktX0_init_2
def dkwX0_init_0 : List UInt8 := [42, 183, 0, 1, 42, 187, 0, 7, 89, 183, 0, 9, 181, 0, 10, 42, 187, 0, 16, 89, 183, 0, 18]
abbrev dktX0_init_0 : List UInt8 := dkwX0_init_0 ++ dktX0_init_1
theorem dksX0_init_0 : cX0_init.data.toList.drop 0 = dktX0_init_0 := by decide +kernel
theorem dksX0_init_1 : cX0_init.data.toList.drop 23 = dktX0_init_1 := dk_seg dksX0_init_0 23 rfl rfl
theorem dksX0_init_2 : cX0_init.data.toList.drop 46 = dktX0_init_2 := dk_seg dksX0_init_1 23 rfl rfl
theorem dksX0_init_3 : cX0_init.data.toList.drop 69 = dktX0_init_3 := dk_seg dksX0_init_2 23 rfl rfl
theorem dksX0_init_4 : cX0_init.data.toList.drop 93 = dktX0_init_4 := dk_seg dksX0_init_3 24 rfl rfl
theorem dksX0_init_5 : cX0_init.data.toList.drop 117 = dktX0_init_5 := dk_seg dksX0_init_4 24 rfl rfl
theorem dksX0_init_6 : cX0_init.data.toList.drop 141 = dktX0_init_6 := dk_seg dksX0_init_5 24 rfl rfl
theorem dksX0_init_7 : cX0_init.data.toList.drop 163 = dktX0_init_7 := dk_seg dksX0_init_6 22 rfl rfl
theorem dX0_init_0 : decode cX0_init 0 = .ok (.aload_n 0, 1) := dk_42 (dk_at dksX0_init_0 0 rfl rfl)
theorem dX0_init_1 : decode cX0_init 1 = .ok (.invokespecial 1, 3) := dk_183 0 1 (dk_at dksX0_init_0 1 rfl rfl)
theorem dX0_init_4 : decode cX0_init 4 = .ok (.aload_n 0, 1) := dk_42 (dk_at dksX0_init_0 4 rfl rfl)
theorem dX0_init_5 : decode cX0_init 5 = .ok (.new 7, 3) := dk_187 0 7 (dk_at dksX0_init_0 5 rfl rfl)
theorem dX0_init_8 : decode cX0_init 8 = .ok (.dup, 1) := dk_89 (dk_at dksX0_init_0 8 rfl rfl)
theorem dX0_init_9 : decode cX0_init 9 = .ok (.invokespecial 9, 3) := dk_183 0 9 (dk_at dksX0_init_0 9 rfl rfl)
theorem dX0_init_12 : decode cX0_init 12 = .ok (.putfield 10, 3) := dk_181 0 10 (dk_at dksX0_init_0 12 rfl rfl)
theorem dX0_init_15 : decode cX0_init 15 = .ok (.aload_n 0, 1) := dk_42 (dk_at dksX0_init_0 15 rfl rfl)
theorem dX0_init_16 : decode cX0_init 16 = .ok (.new 16, 3) := dk_187 0 16 (dk_at dksX0_init_0 16 rfl rfl)
theorem dX0_init_19 : decode cX0_init 19 = .ok (.dup, 1) := dk_89 (dk_at dksX0_init_0 19 rfl rfl)
theorem dX0_init_20 : decode cX0_init 20 = .ok (.invokespecial 18, 3) := dk_183 0 18 (dk_at dksX0_init_0 20 rfl rfl)
theorem dX0_init_23 : decode cX0_init 23 = .ok (.putfield 19, 3) := dk_181 0 19 (dk_at dksX0_init_1 0 rfl rfl)
theorem dX0_init_26 : decode cX0_init 26 = .ok (.aload_n 0, 1) := dk_42 (dk_at dksX0_init_1 3 rfl rfl)
theorem dX0_init_27 : decode cX0_init 27 = .ok (.new 16, 3) := dk_187 0 16 (dk_at dksX0_init_1 4 rfl rfl)
theorem dX0_init_30 : decode cX0_init 30 = .ok (.dup, 1) := dk_89 (dk_at dksX0_init_1 7 rfl rfl)
theorem dX0_init_31 : decode cX0_init 31 = .ok (.invokespecial 18, 3) := dk_183 0 18 (dk_at dksX0_init_1 8 rfl rfl)
theorem dX0_init_34 : decode cX0_init 34 = .ok (.putfield 23, 3) := dk_181 0 23 (dk_at dksX0_init_1 11 rfl rfl)
theorem dX0_init_37 : decode cX0_init 37 = .ok (.aload_n 0, 1) := dk_42 (dk_at dksX0_init_1 14 rfl rfl)
theorem dX0_init_38 : decode cX0_init 38 = .ok (.new 26, 3) := dk_187 0 26 (dk_at dksX0_init_1 15 rfl rfl)
theorem dX0_init_41 : decode cX0_init 41 = .ok (.dup, 1) := dk_89 (dk_at dksX0_init_1 18 rfl rfl)
theorem dX0_init_42 : decode cX0_init 42 = .ok (.iconst 2, 1) := dk_5 (dk_at dksX0_init_1 19 rfl rfl)
theorem dX0_init_43 : decode cX0_init 43 = .ok (.invokespecial 28, 3) := dk_183 0 28 (dk_at dksX0_init_1 20 rfl rfl)
theorem dX0_init_46 : decode cX0_init 46 = .ok (.putfield 31, 3) := dk_181 0 31 (dk_at dksX0_init_2 0 rfl rfl)
theorem dX0_init_49 : decode cX0_init 49 = .ok (.aload_n 0, 1) := dk_42 (dk_at dksX0_init_2 3 rfl rfl)
theorem dX0_init_50 : decode cX0_init 50 = .ok (.iconst (-1), 1) := dk_2 (dk_at dksX0_init_2 4 rfl rfl)
theorem dX0_init_51 : decode cX0_init 51 = .ok (.putfield 35, 3) := dk_181 0 35 (dk_at dksX0_init_2 5 rfl rfl)
theorem dX0_init_54 : decode cX0_init 54 = .ok (.aload_n 0, 1) := dk_42 (dk_at dksX0_init_2 8 rfl rfl)
theorem dX0_init_55 : decode cX0_init 55 = .ok (.new 39, 3) := dk_187 0 39 (dk_at dksX0_init_2 9 rfl rfl)
theorem dX0_init_58 : decode cX0_init 58 = .ok (.dup, 1) := dk_89 (dk_at dksX0_init_2 12 rfl rfl)
theorem dX0_init_59 : decode cX0_init 59 = .ok (.invokespecial 41, 3) := dk_183 0 41 (dk_at dksX0_init_2 13 rfl rfl)
theorem dX0_init_62 : decode cX0_init 62 = .ok (.putfield 42, 3) := dk_181 0 42 (dk_at dksX0_init_2 16 rfl rfl)
theorem dX0_init_65 : decode cX0_init 65 = .ok (.aload_n 0, 1) := dk_42 (dk_at dksX0_init_2 19 rfl rfl)
theorem dX0_init_66 : decode cX0_init 66 = .ok (.sipush 400, 3) := dk_17 1 144 (dk_at dksX0_init_2 20 rfl rfl)
theorem dX0_init_69 : decode cX0_init 69 = .ok (.newarray .byte, 2) := dk_188_8 (dk_at dksX0_init_3 0 rfl rfl)
theorem dX0_init_71 : decode cX0_init 71 = .ok (.putfield 46, 3) := dk_181 0 46 (dk_at dksX0_init_3 2 rfl rfl)
theorem dX0_init_74 : decode cX0_init 74 = .ok (.aload_n 0, 1) := dk_42 (dk_at dksX0_init_3 5 rfl rfl)
theorem dX0_init_75 : decode cX0_init 75 = .ok (.bipush 10, 2) := dk_16 10 (dk_at dksX0_init_3 6 rfl rfl)
theorem dX0_init_77 : decode cX0_init 77 = .ok (.newarray .int, 2) := dk_188_10 (dk_at dksX0_init_3 8 rfl rfl)
theorem dX0_init_79 : decode cX0_init 79 = .ok (.putfield 50, 3) := dk_181 0 50 (dk_at dksX0_init_3 10 rfl rfl)
theorem dX0_init_82 : decode cX0_init 82 = .ok (.aload_n 0, 1) := dk_42 (dk_at dksX0_init_3 13 rfl rfl)
theorem dX0_init_83 : decode cX0_init 83 = .ok (.bipush 10, 2) := dk_16 10 (dk_at dksX0_init_3 14 rfl rfl)
theorem dX0_init_85 : decode cX0_init 85 = .ok (.newarray .int, 2) := dk_188_10 (dk_at dksX0_init_3 16 rfl rfl)
theorem dX0_init_87 : decode cX0_init 87 = .ok (.putfield 54, 3) := dk_181 0 54 (dk_at dksX0_init_3 18 rfl rfl)
theorem dX0_init_90 : decode cX0_init 90 = .ok (.aload_n 0, 1) := dk_42 (dk_at dksX0_init_3 21 rfl rfl)
theorem dX0_init_91 : decode cX0_init 91 = .ok (.bipush 10, 2) := dk_16 10 (dk_at dksX0_init_3 22 rfl rfl)
theorem dX0_init_93 : decode cX0_init 93 = .ok (.newarray .int, 2) := dk_188_10 (dk_at dksX0_init_4 0 rfl rfl)
theorem dX0_init_95 : decode cX0_init 95 = .ok (.putfield 57, 3) := dk_181 0 57 (dk_at dksX0_init_4 2 rfl rfl)
theorem dX0_init_98 : decode cX0_init 98 = .ok (.aload_n 0, 1) := dk_42 (dk_at dksX0_init_4 5 rfl rfl)
theorem dX0_init_99 : decode cX0_init 99 = .ok (.getstatic 60, 3) := dk_178 0 60 (dk_at dksX0_init_4 6 rfl rfl)
theorem dX0_init_102 : decode cX0_init 102 = .ok (.arraylength, 1) := dk_190 (dk_at dksX0_init_4 9 rfl rfl)
theorem dX0_init_103 : decode cX0_init 103 = .ok (.newarray .long, 2) := dk_188_11 (dk_at dksX0_init_4 10 rfl rfl)
theorem dX0_init_105 : decode cX0_init 105 = .ok (.putfield 64, 3) := dk_181 0 64 (dk_at dksX0_init_4 12 rfl rfl)
theorem dX0_init_108 : decode cX0_init 108 = .ok (.aload_n 0, 1) := dk_42 (dk_at dksX0_init_4 15 rfl rfl)
theorem dX0_init_109 : decode cX0_init 109 = .ok (.bipush 20, 2) := dk_16 20 (dk_at dksX0_init_4 16 rfl rfl)
theorem dX0_init_111 : decode cX0_init 111 = .ok (.invokestatic 68, 3) := dk_184 0 68 (dk_at dksX0_init_4 18 rfl rfl)
theorem dX0_init_114 : decode cX0_init 114 = .ok (.putfield 72, 3) := dk_181 0 72 (dk_at dksX0_init_4 21 rfl rfl)
theorem dX0_init_117 : decode cX0_init 117 = .ok (.aload_n 0, 1) := dk_42 (dk_at dksX0_init_5 0 rfl rfl)
theorem dX0_init_118 : decode cX0_init 118 = .ok (.bipush 36, 2) := dk_16 36 (dk_at dksX0_init_5 1 rfl rfl)
theorem dX0_init_120 : decode cX0_init 120 = .ok (.newarray .int, 2) := dk_188_10 (dk_at dksX0_init_5 3 rfl rfl)
theorem dX0_init_122 : decode cX0_init 122 = .ok (.putfield 76, 3) := dk_181 0 76 (dk_at dksX0_init_5 5 rfl rfl)
theorem dX0_init_125 : decode cX0_init 125 = .ok (.aload_n 0, 1) := dk_42 (dk_at dksX0_init_5 8 rfl rfl)
theorem dX0_init_126 : decode cX0_init 126 = .ok (.bipush 16, 2) := dk_16 16 (dk_at dksX0_init_5 9 rfl rfl)
theorem dX0_init_128 : decode cX0_init 128 = .ok (.newarray .int, 2) := dk_188_10 (dk_at dksX0_init_5 11 rfl rfl)
theorem dX0_init_130 : decode cX0_init 130 = .ok (.putfield 79, 3) := dk_181 0 79 (dk_at dksX0_init_5 13 rfl rfl)
theorem dX0_init_133 : decode cX0_init 133 = .ok (.aload_n 0, 1) := dk_42 (dk_at dksX0_init_5 16 rfl rfl)
theorem dX0_init_134 : decode cX0_init 134 = .ok (.bipush 16, 2) := dk_16 16 (dk_at dksX0_init_5 17 rfl rfl)
theorem dX0_init_136 : decode cX0_init 136 = .ok (.newarray .int, 2) := dk_188_10 (dk_at dksX0_init_5 19 rfl rfl)
theorem dX0_init_138 : decode cX0_init 138 = .ok (.putfield 82, 3) := dk_181 0 82 (dk_at dksX0_init_5 21 rfl rfl)
theorem dX0_init_141 : decode cX0_init 141 = .ok (.aload_n 0, 1) := dk_42 (dk_at dksX0_init_6 0 rfl rfl)
theorem dX0_init_142 : decode cX0_init 142 = .ok (.sipush 1525, 3) := dk_17 5 245 (dk_at dksX0_init_6 1 rfl rfl)
theorem dX0_init_145 : decode cX0_init 145 = .ok (.newarray .int, 2) := dk_188_10 (dk_at dksX0_init_6 4 rfl rfl)
theorem dX0_init_147 : decode cX0_init 147 = .ok (.putfield 85, 3) := dk_181 0 85 (dk_at dksX0_init_6 6 rfl rfl)
theorem dX0_init_150 : decode cX0_init 150 = .ok (.aload_n 0, 1) := dk_42 (dk_at dksX0_init_6 9 rfl rfl)
theorem dX0_init_151 : decode cX0_init 151 = .ok (.bipush 35, 2) := dk_16 35 (dk_at dksX0_init_6 10 rfl rfl)
theorem dX0_init_153 : decode cX0_init 153 = .ok (.newarray .int, 2) := dk_188_10 (dk_at dksX0_init_6 12 rfl rfl)
theorem dX0_init_155 : decode cX0_init 155 = .ok (.putfield 88, 3) := dk_181 0 88 (dk_at dksX0_init_6 14 rfl rfl)
theorem dX0_init_158 : decode cX0_init 158 = .ok (.aload_n 0, 1) := dk_42 (dk_at dksX0_init_6 17 rfl rfl)
theorem dX0_init_159 : decode cX0_init 159 = .ok (.iconst 4, 1) := dk_7 (dk_at dksX0_init_6 18 rfl rfl)
theorem dX0_init_160 : decode cX0_init 160 = .ok (.anewarray 91, 3) := dk_189 0 91 (dk_at dksX0_init_6 19 rfl rfl)
theorem dX0_init_163 : decode cX0_init 163 = .ok (.putfield 93, 3) := dk_181 0 93 (dk_at dksX0_init_7 0 rfl rfl)
theorem dX0_init_166 : decode cX0_init 166 = .ok (.return_, 1) := dk_177 (dk_at dksX0_init_7 3 rfl rfl)
abbrev cX0_newStates : ByteArray := prog_1_method_22_code
def yX0_newStates : MethodName := ⟨RX0, "newStates", "(I)[LEdgeWalk$State;"⟩
def dkwX0_newStates_1 : List UInt8 := [132, 2, 1, 167, 255, 238, 43, 176]
abbrev dktX0_newStates_1 : List UInt8 := dkwX0_newStates_1 ++ []
def dkwX0_newStates_0 : List UInt8 := [26, 189, 0, 16, 76, 3, 61, 28, 26, 162, 0, 19, 43, 28, 187, 0, 16, 89, 183, 0, 18, 83]
abbrev dktX0_newStates_0 : List UInt8 := dkwX0_newStates_0 ++ dktX0_newStates_1
theorem dksX0_newStates_0 : cX0_newStates.data.toList.drop 0 = dktX0_newStates_0 := by decide +kernel
theorem dksX0_newStates_1 : cX0_newStates.data.toList.drop 22 = dktX0_newStates_1 := dk_seg dksX0_newStates_0 22 rfl rfl
theorem dX0_newStates_0 : decode cX0_newStates 0 = .ok (.iload_n 0, 1) := dk_26 (dk_at dksX0_newStates_0 0 rfl rfl)
theorem dX0_newStates_1 : decode cX0_newStates 1 = .ok (.anewarray 16, 3) := dk_189 0 16 (dk_at dksX0_newStates_0 1 rfl rfl)
theorem dX0_newStates_4 : decode cX0_newStates 4 = .ok (.astore_n 1, 1) := dk_76 (dk_at dksX0_newStates_0 4 rfl rfl)
theorem dX0_newStates_5 : decode cX0_newStates 5 = .ok (.iconst 0, 1) := dk_3 (dk_at dksX0_newStates_0 5 rfl rfl)
theorem dX0_newStates_6 : decode cX0_newStates 6 = .ok (.istore_n 2, 1) := dk_61 (dk_at dksX0_newStates_0 6 rfl rfl)
theorem dX0_newStates_7 : decode cX0_newStates 7 = .ok (.iload_n 2, 1) := dk_28 (dk_at dksX0_newStates_0 7 rfl rfl)
theorem dX0_newStates_8 : decode cX0_newStates 8 = .ok (.iload_n 0, 1) := dk_26 (dk_at dksX0_newStates_0 8 rfl rfl)
theorem dX0_newStates_9 : decode cX0_newStates 9 = .ok (.if_icmp .ge 19, 3) := dk_162 0 19 (dk_at dksX0_newStates_0 9 rfl rfl)
theorem dX0_newStates_12 : decode cX0_newStates 12 = .ok (.aload_n 1, 1) := dk_43 (dk_at dksX0_newStates_0 12 rfl rfl)
theorem dX0_newStates_13 : decode cX0_newStates 13 = .ok (.iload_n 2, 1) := dk_28 (dk_at dksX0_newStates_0 13 rfl rfl)
theorem dX0_newStates_14 : decode cX0_newStates 14 = .ok (.new 16, 3) := dk_187 0 16 (dk_at dksX0_newStates_0 14 rfl rfl)
theorem dX0_newStates_17 : decode cX0_newStates 17 = .ok (.dup, 1) := dk_89 (dk_at dksX0_newStates_0 17 rfl rfl)
theorem dX0_newStates_18 : decode cX0_newStates 18 = .ok (.invokespecial 18, 3) := dk_183 0 18 (dk_at dksX0_newStates_0 18 rfl rfl)
theorem dX0_newStates_21 : decode cX0_newStates 21 = .ok (.aastore, 1) := dk_83 (dk_at dksX0_newStates_0 21 rfl rfl)
theorem dX0_newStates_22 : decode cX0_newStates 22 = .ok (.iinc 2 1, 3) := dk_132 2 1 (dk_at dksX0_newStates_1 0 rfl rfl)
theorem dX0_newStates_25 : decode cX0_newStates 25 = .ok (.goto (-18), 3) := dk_167 255 238 (dk_at dksX0_newStates_1 3 rfl rfl)
theorem dX0_newStates_28 : decode cX0_newStates 28 = .ok (.aload_n 1, 1) := dk_43 (dk_at dksX0_newStates_1 6 rfl rfl)
theorem dX0_newStates_29 : decode cX0_newStates 29 = .ok (.areturn, 1) := dk_176 (dk_at dksX0_newStates_1 7 rfl rfl)
abbrev cX0_feed : ByteArray := prog_1_method_9_code
def yX0_feed : MethodName := ⟨RX0, "feed", "(IIIII)I"⟩
def dkwX0_feed_2 : List UInt8 := [172]
abbrev dktX0_feed_2 : List UInt8 := dkwX0_feed_2 ++ []
def dkwX0_feed_1 : List UInt8 := [182, 0, 117, 42, 29, 182, 0, 117, 42, 21, 4, 182, 0, 117, 42, 21, 5, 182, 0, 117, 42, 180, 0, 114]
abbrev dktX0_feed_1 : List UInt8 := dkwX0_feed_1 ++ dktX0_feed_2
def dkwX0_feed_0 : List UInt8 := [42, 180, 0, 114, 16, 20, 96, 17, 1, 144, 164, 0, 5, 2, 172, 42, 27, 182, 0, 117, 42, 28]
abbrev dktX0_feed_0 : List UInt8 := dkwX0_feed_0 ++ dktX0_feed_1
theorem dksX0_feed_0 : cX0_feed.data.toList.drop 0 = dktX0_feed_0 := by decide +kernel
theorem dksX0_feed_1 : cX0_feed.data.toList.drop 22 = dktX0_feed_1 := dk_seg dksX0_feed_0 22 rfl rfl
theorem dksX0_feed_2 : cX0_feed.data.toList.drop 46 = dktX0_feed_2 := dk_seg dksX0_feed_1 24 rfl rfl
theorem dX0_feed_0 : decode cX0_feed 0 = .ok (.aload_n 0, 1) := dk_42 (dk_at dksX0_feed_0 0 rfl rfl)
theorem dX0_feed_1 : decode cX0_feed 1 = .ok (.getfield 114, 3) := dk_180 0 114 (dk_at dksX0_feed_0 1 rfl rfl)
theorem dX0_feed_4 : decode cX0_feed 4 = .ok (.bipush 20, 2) := dk_16 20 (dk_at dksX0_feed_0 4 rfl rfl)
theorem dX0_feed_6 : decode cX0_feed 6 = .ok (.iadd, 1) := dk_96 (dk_at dksX0_feed_0 6 rfl rfl)
theorem dX0_feed_7 : decode cX0_feed 7 = .ok (.sipush 400, 3) := dk_17 1 144 (dk_at dksX0_feed_0 7 rfl rfl)
theorem dX0_feed_10 : decode cX0_feed 10 = .ok (.if_icmp .le 5, 3) := dk_164 0 5 (dk_at dksX0_feed_0 10 rfl rfl)
theorem dX0_feed_13 : decode cX0_feed 13 = .ok (.iconst (-1), 1) := dk_2 (dk_at dksX0_feed_0 13 rfl rfl)
theorem dX0_feed_14 : decode cX0_feed 14 = .ok (.ireturn, 1) := dk_172 (dk_at dksX0_feed_0 14 rfl rfl)
theorem dX0_feed_15 : decode cX0_feed 15 = .ok (.aload_n 0, 1) := dk_42 (dk_at dksX0_feed_0 15 rfl rfl)
theorem dX0_feed_16 : decode cX0_feed 16 = .ok (.iload_n 1, 1) := dk_27 (dk_at dksX0_feed_0 16 rfl rfl)
theorem dX0_feed_17 : decode cX0_feed 17 = .ok (.invokevirtual 117, 3) := dk_182 0 117 (dk_at dksX0_feed_0 17 rfl rfl)
theorem dX0_feed_20 : decode cX0_feed 20 = .ok (.aload_n 0, 1) := dk_42 (dk_at dksX0_feed_0 20 rfl rfl)
theorem dX0_feed_21 : decode cX0_feed 21 = .ok (.iload_n 2, 1) := dk_28 (dk_at dksX0_feed_0 21 rfl rfl)
theorem dX0_feed_22 : decode cX0_feed 22 = .ok (.invokevirtual 117, 3) := dk_182 0 117 (dk_at dksX0_feed_1 0 rfl rfl)
theorem dX0_feed_25 : decode cX0_feed 25 = .ok (.aload_n 0, 1) := dk_42 (dk_at dksX0_feed_1 3 rfl rfl)
theorem dX0_feed_26 : decode cX0_feed 26 = .ok (.iload_n 3, 1) := dk_29 (dk_at dksX0_feed_1 4 rfl rfl)
theorem dX0_feed_27 : decode cX0_feed 27 = .ok (.invokevirtual 117, 3) := dk_182 0 117 (dk_at dksX0_feed_1 5 rfl rfl)
theorem dX0_feed_30 : decode cX0_feed 30 = .ok (.aload_n 0, 1) := dk_42 (dk_at dksX0_feed_1 8 rfl rfl)
theorem dX0_feed_31 : decode cX0_feed 31 = .ok (.iload 4, 2) := dk_21 4 (dk_at dksX0_feed_1 9 rfl rfl)
theorem dX0_feed_33 : decode cX0_feed 33 = .ok (.invokevirtual 117, 3) := dk_182 0 117 (dk_at dksX0_feed_1 11 rfl rfl)
theorem dX0_feed_36 : decode cX0_feed 36 = .ok (.aload_n 0, 1) := dk_42 (dk_at dksX0_feed_1 14 rfl rfl)
theorem dX0_feed_37 : decode cX0_feed 37 = .ok (.iload 5, 2) := dk_21 5 (dk_at dksX0_feed_1 15 rfl rfl)
theorem dX0_feed_39 : decode cX0_feed 39 = .ok (.invokevirtual 117, 3) := dk_182 0 117 (dk_at dksX0_feed_1 17 rfl rfl)
theorem dX0_feed_42 : decode cX0_feed 42 = .ok (.aload_n 0, 1) := dk_42 (dk_at dksX0_feed_1 20 rfl rfl)
theorem dX0_feed_43 : decode cX0_feed 43 = .ok (.getfield 114, 3) := dk_180 0 114 (dk_at dksX0_feed_1 21 rfl rfl)
theorem dX0_feed_46 : decode cX0_feed 46 = .ok (.ireturn, 1) := dk_172 (dk_at dksX0_feed_2 0 rfl rfl)
abbrev cX0_put : ByteArray := prog_1_method_10_code
def yX0_put : MethodName := ⟨RX0, "put", "(I)V"⟩
def dkwX0_put_1 : List UInt8 := [180, 0, 114, 4, 96, 181, 0, 114, 132, 2, 248, 167, 255, 226, 177]
abbrev dktX0_put_1 : List UInt8 := dkwX0_put_1 ++ []
def dkwX0_put_0 : List UInt8 := [16, 24, 61, 28, 155, 0, 32, 42, 180, 0, 46, 42, 180, 0, 114, 27, 28, 122, 145, 84, 42, 89]
abbrev dktX0_put_0 : List UInt8 := dkwX0_put_0 ++ dktX0_put_1
theorem dksX0_put_0 : cX0_put.data.toList.drop 0 = dktX0_put_0 := by decide +kernel
theorem dksX0_put_1 : cX0_put.data.toList.drop 22 = dktX0_put_1 := dk_seg dksX0_put_0 22 rfl rfl
theorem dX0_put_0 : decode cX0_put 0 = .ok (.bipush 24, 2) := dk_16 24 (dk_at dksX0_put_0 0 rfl rfl)
theorem dX0_put_2 : decode cX0_put 2 = .ok (.istore_n 2, 1) := dk_61 (dk_at dksX0_put_0 2 rfl rfl)
theorem dX0_put_3 : decode cX0_put 3 = .ok (.iload_n 2, 1) := dk_28 (dk_at dksX0_put_0 3 rfl rfl)
theorem dX0_put_4 : decode cX0_put 4 = .ok (.ifCond .lt 32, 3) := dk_155 0 32 (dk_at dksX0_put_0 4 rfl rfl)
theorem dX0_put_7 : decode cX0_put 7 = .ok (.aload_n 0, 1) := dk_42 (dk_at dksX0_put_0 7 rfl rfl)
theorem dX0_put_8 : decode cX0_put 8 = .ok (.getfield 46, 3) := dk_180 0 46 (dk_at dksX0_put_0 8 rfl rfl)
theorem dX0_put_11 : decode cX0_put 11 = .ok (.aload_n 0, 1) := dk_42 (dk_at dksX0_put_0 11 rfl rfl)
theorem dX0_put_12 : decode cX0_put 12 = .ok (.getfield 114, 3) := dk_180 0 114 (dk_at dksX0_put_0 12 rfl rfl)
theorem dX0_put_15 : decode cX0_put 15 = .ok (.iload_n 1, 1) := dk_27 (dk_at dksX0_put_0 15 rfl rfl)
theorem dX0_put_16 : decode cX0_put 16 = .ok (.iload_n 2, 1) := dk_28 (dk_at dksX0_put_0 16 rfl rfl)
theorem dX0_put_17 : decode cX0_put 17 = .ok (.ishr, 1) := dk_122 (dk_at dksX0_put_0 17 rfl rfl)
theorem dX0_put_18 : decode cX0_put 18 = .ok (.i2b, 1) := dk_145 (dk_at dksX0_put_0 18 rfl rfl)
theorem dX0_put_19 : decode cX0_put 19 = .ok (.bastore, 1) := dk_84 (dk_at dksX0_put_0 19 rfl rfl)
theorem dX0_put_20 : decode cX0_put 20 = .ok (.aload_n 0, 1) := dk_42 (dk_at dksX0_put_0 20 rfl rfl)
theorem dX0_put_21 : decode cX0_put 21 = .ok (.dup, 1) := dk_89 (dk_at dksX0_put_0 21 rfl rfl)
theorem dX0_put_22 : decode cX0_put 22 = .ok (.getfield 114, 3) := dk_180 0 114 (dk_at dksX0_put_1 0 rfl rfl)
theorem dX0_put_25 : decode cX0_put 25 = .ok (.iconst 1, 1) := dk_4 (dk_at dksX0_put_1 3 rfl rfl)
theorem dX0_put_26 : decode cX0_put 26 = .ok (.iadd, 1) := dk_96 (dk_at dksX0_put_1 4 rfl rfl)
theorem dX0_put_27 : decode cX0_put 27 = .ok (.putfield 114, 3) := dk_181 0 114 (dk_at dksX0_put_1 5 rfl rfl)
theorem dX0_put_30 : decode cX0_put 30 = .ok (.iinc 2 (-8), 3) := dk_132 2 248 (dk_at dksX0_put_1 8 rfl rfl)
theorem dX0_put_33 : decode cX0_put 33 = .ok (.goto (-30), 3) := dk_167 255 226 (dk_at dksX0_put_1 11 rfl rfl)
theorem dX0_put_36 : decode cX0_put 36 = .ok (.return_, 1) := dk_177 (dk_at dksX0_put_1 14 rfl rfl)
abbrev cX0_end : ByteArray := prog_1_method_11_code
def yX0_end : MethodName := ⟨RX0, "end", "(I)I"⟩
def dkwX0_end_0 : List UInt8 := [27, 155, 0, 11, 27, 42, 180, 0, 114, 164, 0, 5, 2, 172, 42, 27, 181, 0, 114, 27, 172]
abbrev dktX0_end_0 : List UInt8 := dkwX0_end_0 ++ []
theorem dksX0_end_0 : cX0_end.data.toList.drop 0 = dktX0_end_0 := by decide +kernel
theorem dX0_end_0 : decode cX0_end 0 = .ok (.iload_n 1, 1) := dk_27 (dk_at dksX0_end_0 0 rfl rfl)
theorem dX0_end_1 : decode cX0_end 1 = .ok (.ifCond .lt 11, 3) := dk_155 0 11 (dk_at dksX0_end_0 1 rfl rfl)
theorem dX0_end_4 : decode cX0_end 4 = .ok (.iload_n 1, 1) := dk_27 (dk_at dksX0_end_0 4 rfl rfl)
theorem dX0_end_5 : decode cX0_end 5 = .ok (.aload_n 0, 1) := dk_42 (dk_at dksX0_end_0 5 rfl rfl)
theorem dX0_end_6 : decode cX0_end 6 = .ok (.getfield 114, 3) := dk_180 0 114 (dk_at dksX0_end_0 6 rfl rfl)
theorem dX0_end_9 : decode cX0_end 9 = .ok (.if_icmp .le 5, 3) := dk_164 0 5 (dk_at dksX0_end_0 9 rfl rfl)
theorem dX0_end_12 : decode cX0_end 12 = .ok (.iconst (-1), 1) := dk_2 (dk_at dksX0_end_0 12 rfl rfl)
theorem dX0_end_13 : decode cX0_end 13 = .ok (.ireturn, 1) := dk_172 (dk_at dksX0_end_0 13 rfl rfl)
theorem dX0_end_14 : decode cX0_end 14 = .ok (.aload_n 0, 1) := dk_42 (dk_at dksX0_end_0 14 rfl rfl)
theorem dX0_end_15 : decode cX0_end 15 = .ok (.iload_n 1, 1) := dk_27 (dk_at dksX0_end_0 15 rfl rfl)
theorem dX0_end_16 : decode cX0_end 16 = .ok (.putfield 114, 3) := dk_181 0 114 (dk_at dksX0_end_0 16 rfl rfl)
theorem dX0_end_19 : decode cX0_end 19 = .ok (.iload_n 1, 1) := dk_27 (dk_at dksX0_end_0 19 rfl rfl)
theorem dX0_end_20 : decode cX0_end 20 = .ok (.ireturn, 1) := dk_172 (dk_at dksX0_end_0 20 rfl rfl)
abbrev cX0_sheet : ByteArray := prog_1_method_12_code
def yX0_sheet : MethodName := ⟨RX0, "sheet", "()I"⟩
def dkwX0_sheet_3 : List UInt8 := [78, 42, 3, 181, 0, 114, 45, 191]
abbrev dktX0_sheet_3 : List UInt8 := dkwX0_sheet_3 ++ []
def dkwX0_sheet_2 : List UInt8 := [60, 42, 3, 181, 0, 114, 27, 172, 76, 16, 254, 43, 180, 0, 111, 100, 61, 42, 3, 181, 0, 114, 28, 172]
abbrev dktX0_sheet_2 : List UInt8 := dkwX0_sheet_2 ++ dktX0_sheet_3
def dkwX0_sheet_1 : List UInt8 := [42, 180, 0, 10, 182, 0, 128, 42, 3, 181, 0, 132, 42, 3, 181, 0, 135, 42, 180, 0, 10, 182, 0, 100]
abbrev dktX0_sheet_1 : List UInt8 := dkwX0_sheet_1 ++ dktX0_sheet_2
def dkwX0_sheet_0 : List UInt8 := [42, 187, 0, 120, 89, 42, 178, 0, 60, 16, 40, 183, 0, 122, 182, 0, 125, 181, 0, 10, 42, 180, 0, 19]
abbrev dktX0_sheet_0 : List UInt8 := dkwX0_sheet_0 ++ dktX0_sheet_1
theorem dksX0_sheet_0 : cX0_sheet.data.toList.drop 0 = dktX0_sheet_0 := by decide +kernel
theorem dksX0_sheet_1 : cX0_sheet.data.toList.drop 24 = dktX0_sheet_1 := dk_seg dksX0_sheet_0 24 rfl rfl
theorem dksX0_sheet_2 : cX0_sheet.data.toList.drop 48 = dktX0_sheet_2 := dk_seg dksX0_sheet_1 24 rfl rfl
theorem dksX0_sheet_3 : cX0_sheet.data.toList.drop 72 = dktX0_sheet_3 := dk_seg dksX0_sheet_2 24 rfl rfl
theorem dX0_sheet_0 : decode cX0_sheet 0 = .ok (.aload_n 0, 1) := dk_42 (dk_at dksX0_sheet_0 0 rfl rfl)
theorem dX0_sheet_1 : decode cX0_sheet 1 = .ok (.new 120, 3) := dk_187 0 120 (dk_at dksX0_sheet_0 1 rfl rfl)
theorem dX0_sheet_4 : decode cX0_sheet 4 = .ok (.dup, 1) := dk_89 (dk_at dksX0_sheet_0 4 rfl rfl)
theorem dX0_sheet_5 : decode cX0_sheet 5 = .ok (.aload_n 0, 1) := dk_42 (dk_at dksX0_sheet_0 5 rfl rfl)
theorem dX0_sheet_6 : decode cX0_sheet 6 = .ok (.getstatic 60, 3) := dk_178 0 60 (dk_at dksX0_sheet_0 6 rfl rfl)
theorem dX0_sheet_9 : decode cX0_sheet 9 = .ok (.bipush 40, 2) := dk_16 40 (dk_at dksX0_sheet_0 9 rfl rfl)
theorem dX0_sheet_11 : decode cX0_sheet 11 = .ok (.invokespecial 122, 3) := dk_183 0 122 (dk_at dksX0_sheet_0 11 rfl rfl)
theorem dX0_sheet_14 : decode cX0_sheet 14 = .ok (.invokevirtual 125, 3) := dk_182 0 125 (dk_at dksX0_sheet_0 14 rfl rfl)
theorem dX0_sheet_17 : decode cX0_sheet 17 = .ok (.putfield 10, 3) := dk_181 0 10 (dk_at dksX0_sheet_0 17 rfl rfl)
theorem dX0_sheet_20 : decode cX0_sheet 20 = .ok (.aload_n 0, 1) := dk_42 (dk_at dksX0_sheet_0 20 rfl rfl)
theorem dX0_sheet_21 : decode cX0_sheet 21 = .ok (.getfield 19, 3) := dk_180 0 19 (dk_at dksX0_sheet_0 21 rfl rfl)
theorem dX0_sheet_24 : decode cX0_sheet 24 = .ok (.aload_n 0, 1) := dk_42 (dk_at dksX0_sheet_1 0 rfl rfl)
theorem dX0_sheet_25 : decode cX0_sheet 25 = .ok (.getfield 10, 3) := dk_180 0 10 (dk_at dksX0_sheet_1 1 rfl rfl)
theorem dX0_sheet_28 : decode cX0_sheet 28 = .ok (.invokevirtual 128, 3) := dk_182 0 128 (dk_at dksX0_sheet_1 4 rfl rfl)
theorem dX0_sheet_31 : decode cX0_sheet 31 = .ok (.aload_n 0, 1) := dk_42 (dk_at dksX0_sheet_1 7 rfl rfl)
theorem dX0_sheet_32 : decode cX0_sheet 32 = .ok (.iconst 0, 1) := dk_3 (dk_at dksX0_sheet_1 8 rfl rfl)
theorem dX0_sheet_33 : decode cX0_sheet 33 = .ok (.putfield 132, 3) := dk_181 0 132 (dk_at dksX0_sheet_1 9 rfl rfl)
theorem dX0_sheet_36 : decode cX0_sheet 36 = .ok (.aload_n 0, 1) := dk_42 (dk_at dksX0_sheet_1 12 rfl rfl)
theorem dX0_sheet_37 : decode cX0_sheet 37 = .ok (.iconst 0, 1) := dk_3 (dk_at dksX0_sheet_1 13 rfl rfl)
theorem dX0_sheet_38 : decode cX0_sheet 38 = .ok (.putfield 135, 3) := dk_181 0 135 (dk_at dksX0_sheet_1 14 rfl rfl)
theorem dX0_sheet_41 : decode cX0_sheet 41 = .ok (.aload_n 0, 1) := dk_42 (dk_at dksX0_sheet_1 17 rfl rfl)
theorem dX0_sheet_42 : decode cX0_sheet 42 = .ok (.getfield 10, 3) := dk_180 0 10 (dk_at dksX0_sheet_1 18 rfl rfl)
theorem dX0_sheet_45 : decode cX0_sheet 45 = .ok (.invokevirtual 100, 3) := dk_182 0 100 (dk_at dksX0_sheet_1 21 rfl rfl)
theorem dX0_sheet_48 : decode cX0_sheet 48 = .ok (.istore_n 1, 1) := dk_60 (dk_at dksX0_sheet_2 0 rfl rfl)
theorem dX0_sheet_49 : decode cX0_sheet 49 = .ok (.aload_n 0, 1) := dk_42 (dk_at dksX0_sheet_2 1 rfl rfl)
theorem dX0_sheet_50 : decode cX0_sheet 50 = .ok (.iconst 0, 1) := dk_3 (dk_at dksX0_sheet_2 2 rfl rfl)
theorem dX0_sheet_51 : decode cX0_sheet 51 = .ok (.putfield 114, 3) := dk_181 0 114 (dk_at dksX0_sheet_2 3 rfl rfl)
theorem dX0_sheet_54 : decode cX0_sheet 54 = .ok (.iload_n 1, 1) := dk_27 (dk_at dksX0_sheet_2 6 rfl rfl)
theorem dX0_sheet_55 : decode cX0_sheet 55 = .ok (.ireturn, 1) := dk_172 (dk_at dksX0_sheet_2 7 rfl rfl)
theorem dX0_sheet_56 : decode cX0_sheet 56 = .ok (.astore_n 1, 1) := dk_76 (dk_at dksX0_sheet_2 8 rfl rfl)
theorem dX0_sheet_57 : decode cX0_sheet 57 = .ok (.bipush (-2), 2) := dk_16 254 (dk_at dksX0_sheet_2 9 rfl rfl)
theorem dX0_sheet_59 : decode cX0_sheet 59 = .ok (.aload_n 1, 1) := dk_43 (dk_at dksX0_sheet_2 11 rfl rfl)
theorem dX0_sheet_60 : decode cX0_sheet 60 = .ok (.getfield 111, 3) := dk_180 0 111 (dk_at dksX0_sheet_2 12 rfl rfl)
theorem dX0_sheet_63 : decode cX0_sheet 63 = .ok (.isub, 1) := dk_100 (dk_at dksX0_sheet_2 15 rfl rfl)
theorem dX0_sheet_64 : decode cX0_sheet 64 = .ok (.istore_n 2, 1) := dk_61 (dk_at dksX0_sheet_2 16 rfl rfl)
theorem dX0_sheet_65 : decode cX0_sheet 65 = .ok (.aload_n 0, 1) := dk_42 (dk_at dksX0_sheet_2 17 rfl rfl)
theorem dX0_sheet_66 : decode cX0_sheet 66 = .ok (.iconst 0, 1) := dk_3 (dk_at dksX0_sheet_2 18 rfl rfl)
theorem dX0_sheet_67 : decode cX0_sheet 67 = .ok (.putfield 114, 3) := dk_181 0 114 (dk_at dksX0_sheet_2 19 rfl rfl)
theorem dX0_sheet_70 : decode cX0_sheet 70 = .ok (.iload_n 2, 1) := dk_28 (dk_at dksX0_sheet_2 22 rfl rfl)
theorem dX0_sheet_71 : decode cX0_sheet 71 = .ok (.ireturn, 1) := dk_172 (dk_at dksX0_sheet_2 23 rfl rfl)
theorem dX0_sheet_72 : decode cX0_sheet 72 = .ok (.astore_n 3, 1) := dk_78 (dk_at dksX0_sheet_3 0 rfl rfl)
theorem dX0_sheet_73 : decode cX0_sheet 73 = .ok (.aload_n 0, 1) := dk_42 (dk_at dksX0_sheet_3 1 rfl rfl)
theorem dX0_sheet_74 : decode cX0_sheet 74 = .ok (.iconst 0, 1) := dk_3 (dk_at dksX0_sheet_3 2 rfl rfl)
theorem dX0_sheet_75 : decode cX0_sheet 75 = .ok (.putfield 114, 3) := dk_181 0 114 (dk_at dksX0_sheet_3 3 rfl rfl)
theorem dX0_sheet_78 : decode cX0_sheet 78 = .ok (.aload_n 3, 1) := dk_45 (dk_at dksX0_sheet_3 6 rfl rfl)
theorem dX0_sheet_79 : decode cX0_sheet 79 = .ok (.athrow, 1) := dk_191 (dk_at dksX0_sheet_3 7 rfl rfl)
abbrev cX0_in : ByteArray := prog_1_method_1_code
def yX0_in : MethodName := ⟨RX0, "in", "(JJJ)Z"⟩
def dkwX0_in_0 : List UInt8 := [30, 32, 148, 155, 0, 14, 30, 22, 4, 148, 157, 0, 7, 4, 167, 0, 4, 3, 172]
abbrev dktX0_in_0 : List UInt8 := dkwX0_in_0 ++ []
theorem dksX0_in_0 : cX0_in.data.toList.drop 0 = dktX0_in_0 := by decide +kernel
theorem dX0_in_0 : decode cX0_in 0 = .ok (.lload_n 0, 1) := dk_30 (dk_at dksX0_in_0 0 rfl rfl)
theorem dX0_in_1 : decode cX0_in 1 = .ok (.lload_n 2, 1) := dk_32 (dk_at dksX0_in_0 1 rfl rfl)
theorem dX0_in_2 : decode cX0_in 2 = .ok (.lcmp, 1) := dk_148 (dk_at dksX0_in_0 2 rfl rfl)
theorem dX0_in_3 : decode cX0_in 3 = .ok (.ifCond .lt 14, 3) := dk_155 0 14 (dk_at dksX0_in_0 3 rfl rfl)
theorem dX0_in_6 : decode cX0_in 6 = .ok (.lload_n 0, 1) := dk_30 (dk_at dksX0_in_0 6 rfl rfl)
theorem dX0_in_7 : decode cX0_in 7 = .ok (.lload 4, 2) := dk_22 4 (dk_at dksX0_in_0 7 rfl rfl)
theorem dX0_in_9 : decode cX0_in 9 = .ok (.lcmp, 1) := dk_148 (dk_at dksX0_in_0 9 rfl rfl)
theorem dX0_in_10 : decode cX0_in 10 = .ok (.ifCond .gt 7, 3) := dk_157 0 7 (dk_at dksX0_in_0 10 rfl rfl)
theorem dX0_in_13 : decode cX0_in 13 = .ok (.iconst 1, 1) := dk_4 (dk_at dksX0_in_0 13 rfl rfl)
theorem dX0_in_14 : decode cX0_in 14 = .ok (.goto 4, 3) := dk_167 0 4 (dk_at dksX0_in_0 14 rfl rfl)
theorem dX0_in_17 : decode cX0_in 17 = .ok (.iconst 0, 1) := dk_3 (dk_at dksX0_in_0 17 rfl rfl)
theorem dX0_in_18 : decode cX0_in 18 = .ok (.ireturn, 1) := dk_172 (dk_at dksX0_in_0 18 rfl rfl)
abbrev cX0_fails : ByteArray := prog_1_method_8_code
def yX0_fails : MethodName := ⟨RX0, "fails", "(II)LEdgeWalk$Wrong;"⟩
def dkwX0_fails_0 : List UInt8 := [42, 180, 0, 42, 4, 16, 8, 28, 104, 96, 27, 96, 181, 0, 111, 42, 180, 0, 42, 176]
abbrev dktX0_fails_0 : List UInt8 := dkwX0_fails_0 ++ []
theorem dksX0_fails_0 : cX0_fails.data.toList.drop 0 = dktX0_fails_0 := by decide +kernel
theorem dX0_fails_0 : decode cX0_fails 0 = .ok (.aload_n 0, 1) := dk_42 (dk_at dksX0_fails_0 0 rfl rfl)
theorem dX0_fails_1 : decode cX0_fails 1 = .ok (.getfield 42, 3) := dk_180 0 42 (dk_at dksX0_fails_0 1 rfl rfl)
theorem dX0_fails_4 : decode cX0_fails 4 = .ok (.iconst 1, 1) := dk_4 (dk_at dksX0_fails_0 4 rfl rfl)
theorem dX0_fails_5 : decode cX0_fails 5 = .ok (.bipush 8, 2) := dk_16 8 (dk_at dksX0_fails_0 5 rfl rfl)
theorem dX0_fails_7 : decode cX0_fails 7 = .ok (.iload_n 2, 1) := dk_28 (dk_at dksX0_fails_0 7 rfl rfl)
theorem dX0_fails_8 : decode cX0_fails 8 = .ok (.imul, 1) := dk_104 (dk_at dksX0_fails_0 8 rfl rfl)
theorem dX0_fails_9 : decode cX0_fails 9 = .ok (.iadd, 1) := dk_96 (dk_at dksX0_fails_0 9 rfl rfl)
theorem dX0_fails_10 : decode cX0_fails 10 = .ok (.iload_n 1, 1) := dk_27 (dk_at dksX0_fails_0 10 rfl rfl)
theorem dX0_fails_11 : decode cX0_fails 11 = .ok (.iadd, 1) := dk_96 (dk_at dksX0_fails_0 11 rfl rfl)
theorem dX0_fails_12 : decode cX0_fails 12 = .ok (.putfield 111, 3) := dk_181 0 111 (dk_at dksX0_fails_0 12 rfl rfl)
theorem dX0_fails_15 : decode cX0_fails 15 = .ok (.aload_n 0, 1) := dk_42 (dk_at dksX0_fails_0 15 rfl rfl)
theorem dX0_fails_16 : decode cX0_fails 16 = .ok (.getfield 42, 3) := dk_180 0 42 (dk_at dksX0_fails_0 16 rfl rfl)
theorem dX0_fails_19 : decode cX0_fails 19 = .ok (.areturn, 1) := dk_176 (dk_at dksX0_fails_0 19 rfl rfl)
abbrev cX0_rule : ByteArray := prog_1_method_13_code
def yX0_rule : MethodName := ⟨RX0, "rule", "()I"⟩
def dkwX0_rule_2 : List UInt8 := [3, 181, 0, 114, 28, 172, 78, 42, 3, 181, 0, 114, 45, 191]
abbrev dktX0_rule_2 : List UInt8 := dkwX0_rule_2 ++ []
def dkwX0_rule_1 : List UInt8 := [183, 0, 122, 182, 0, 141, 60, 42, 3, 181, 0, 114, 27, 172, 76, 16, 254, 43, 180, 0, 111, 100, 61, 42]
abbrev dktX0_rule_1 : List UInt8 := dkwX0_rule_1 ++ dktX0_rule_2
def dkwX0_rule_0 : List UInt8 := [42, 180, 0, 31, 182, 0, 138, 16, 6, 160, 0, 5, 2, 172, 187, 0, 120, 89, 42, 178, 0, 60, 16, 12]
abbrev dktX0_rule_0 : List UInt8 := dkwX0_rule_0 ++ dktX0_rule_1
theorem dksX0_rule_0 : cX0_rule.data.toList.drop 0 = dktX0_rule_0 := by decide +kernel
theorem dksX0_rule_1 : cX0_rule.data.toList.drop 24 = dktX0_rule_1 := dk_seg dksX0_rule_0 24 rfl rfl
theorem dksX0_rule_2 : cX0_rule.data.toList.drop 48 = dktX0_rule_2 := dk_seg dksX0_rule_1 24 rfl rfl
theorem dX0_rule_0 : decode cX0_rule 0 = .ok (.aload_n 0, 1) := dk_42 (dk_at dksX0_rule_0 0 rfl rfl)
theorem dX0_rule_1 : decode cX0_rule 1 = .ok (.getfield 31, 3) := dk_180 0 31 (dk_at dksX0_rule_0 1 rfl rfl)
theorem dX0_rule_4 : decode cX0_rule 4 = .ok (.invokevirtual 138, 3) := dk_182 0 138 (dk_at dksX0_rule_0 4 rfl rfl)
theorem dX0_rule_7 : decode cX0_rule 7 = .ok (.bipush 6, 2) := dk_16 6 (dk_at dksX0_rule_0 7 rfl rfl)
theorem dX0_rule_9 : decode cX0_rule 9 = .ok (.if_icmp .ne 5, 3) := dk_160 0 5 (dk_at dksX0_rule_0 9 rfl rfl)
theorem dX0_rule_12 : decode cX0_rule 12 = .ok (.iconst (-1), 1) := dk_2 (dk_at dksX0_rule_0 12 rfl rfl)
theorem dX0_rule_13 : decode cX0_rule 13 = .ok (.ireturn, 1) := dk_172 (dk_at dksX0_rule_0 13 rfl rfl)
theorem dX0_rule_14 : decode cX0_rule 14 = .ok (.new 120, 3) := dk_187 0 120 (dk_at dksX0_rule_0 14 rfl rfl)
theorem dX0_rule_17 : decode cX0_rule 17 = .ok (.dup, 1) := dk_89 (dk_at dksX0_rule_0 17 rfl rfl)
theorem dX0_rule_18 : decode cX0_rule 18 = .ok (.aload_n 0, 1) := dk_42 (dk_at dksX0_rule_0 18 rfl rfl)
theorem dX0_rule_19 : decode cX0_rule 19 = .ok (.getstatic 60, 3) := dk_178 0 60 (dk_at dksX0_rule_0 19 rfl rfl)
theorem dX0_rule_22 : decode cX0_rule 22 = .ok (.bipush 12, 2) := dk_16 12 (dk_at dksX0_rule_0 22 rfl rfl)
theorem dX0_rule_24 : decode cX0_rule 24 = .ok (.invokespecial 122, 3) := dk_183 0 122 (dk_at dksX0_rule_1 0 rfl rfl)
theorem dX0_rule_27 : decode cX0_rule 27 = .ok (.invokevirtual 141, 3) := dk_182 0 141 (dk_at dksX0_rule_1 3 rfl rfl)
theorem dX0_rule_30 : decode cX0_rule 30 = .ok (.istore_n 1, 1) := dk_60 (dk_at dksX0_rule_1 6 rfl rfl)
theorem dX0_rule_31 : decode cX0_rule 31 = .ok (.aload_n 0, 1) := dk_42 (dk_at dksX0_rule_1 7 rfl rfl)
theorem dX0_rule_32 : decode cX0_rule 32 = .ok (.iconst 0, 1) := dk_3 (dk_at dksX0_rule_1 8 rfl rfl)
theorem dX0_rule_33 : decode cX0_rule 33 = .ok (.putfield 114, 3) := dk_181 0 114 (dk_at dksX0_rule_1 9 rfl rfl)
theorem dX0_rule_36 : decode cX0_rule 36 = .ok (.iload_n 1, 1) := dk_27 (dk_at dksX0_rule_1 12 rfl rfl)
theorem dX0_rule_37 : decode cX0_rule 37 = .ok (.ireturn, 1) := dk_172 (dk_at dksX0_rule_1 13 rfl rfl)
theorem dX0_rule_38 : decode cX0_rule 38 = .ok (.astore_n 1, 1) := dk_76 (dk_at dksX0_rule_1 14 rfl rfl)
theorem dX0_rule_39 : decode cX0_rule 39 = .ok (.bipush (-2), 2) := dk_16 254 (dk_at dksX0_rule_1 15 rfl rfl)
theorem dX0_rule_41 : decode cX0_rule 41 = .ok (.aload_n 1, 1) := dk_43 (dk_at dksX0_rule_1 17 rfl rfl)
theorem dX0_rule_42 : decode cX0_rule 42 = .ok (.getfield 111, 3) := dk_180 0 111 (dk_at dksX0_rule_1 18 rfl rfl)
theorem dX0_rule_45 : decode cX0_rule 45 = .ok (.isub, 1) := dk_100 (dk_at dksX0_rule_1 21 rfl rfl)
theorem dX0_rule_46 : decode cX0_rule 46 = .ok (.istore_n 2, 1) := dk_61 (dk_at dksX0_rule_1 22 rfl rfl)
theorem dX0_rule_47 : decode cX0_rule 47 = .ok (.aload_n 0, 1) := dk_42 (dk_at dksX0_rule_1 23 rfl rfl)
theorem dX0_rule_48 : decode cX0_rule 48 = .ok (.iconst 0, 1) := dk_3 (dk_at dksX0_rule_2 0 rfl rfl)
theorem dX0_rule_49 : decode cX0_rule 49 = .ok (.putfield 114, 3) := dk_181 0 114 (dk_at dksX0_rule_2 1 rfl rfl)
theorem dX0_rule_52 : decode cX0_rule 52 = .ok (.iload_n 2, 1) := dk_28 (dk_at dksX0_rule_2 4 rfl rfl)
theorem dX0_rule_53 : decode cX0_rule 53 = .ok (.ireturn, 1) := dk_172 (dk_at dksX0_rule_2 5 rfl rfl)
theorem dX0_rule_54 : decode cX0_rule 54 = .ok (.astore_n 3, 1) := dk_78 (dk_at dksX0_rule_2 6 rfl rfl)
theorem dX0_rule_55 : decode cX0_rule 55 = .ok (.aload_n 0, 1) := dk_42 (dk_at dksX0_rule_2 7 rfl rfl)
theorem dX0_rule_56 : decode cX0_rule 56 = .ok (.iconst 0, 1) := dk_3 (dk_at dksX0_rule_2 8 rfl rfl)
theorem dX0_rule_57 : decode cX0_rule 57 = .ok (.putfield 114, 3) := dk_181 0 114 (dk_at dksX0_rule_2 9 rfl rfl)
theorem dX0_rule_60 : decode cX0_rule 60 = .ok (.aload_n 3, 1) := dk_45 (dk_at dksX0_rule_2 12 rfl rfl)
theorem dX0_rule_61 : decode cX0_rule 61 = .ok (.athrow, 1) := dk_191 (dk_at dksX0_rule_2 13 rfl rfl)
abbrev cX0_force : ByteArray := prog_1_method_14_code
def yX0_force : MethodName := ⟨RX0, "force", "(I)I"⟩
def dkwX0_force_1 : List UInt8 := [42, 180, 0, 35, 61, 42, 27, 181, 0, 35, 28, 172]
abbrev dktX0_force_1 : List UInt8 := dkwX0_force_1 ++ []
def dkwX0_force_0 : List UInt8 := [27, 133, 20, 0, 144, 42, 180, 0, 31, 182, 0, 138, 4, 100, 133, 184, 0, 104, 154, 0, 6, 16, 254, 172]
abbrev dktX0_force_0 : List UInt8 := dkwX0_force_0 ++ dktX0_force_1
theorem dksX0_force_0 : cX0_force.data.toList.drop 0 = dktX0_force_0 := by decide +kernel
theorem dksX0_force_1 : cX0_force.data.toList.drop 24 = dktX0_force_1 := dk_seg dksX0_force_0 24 rfl rfl
theorem dX0_force_0 : decode cX0_force 0 = .ok (.iload_n 1, 1) := dk_27 (dk_at dksX0_force_0 0 rfl rfl)
theorem dX0_force_1 : decode cX0_force 1 = .ok (.i2l, 1) := dk_133 (dk_at dksX0_force_0 1 rfl rfl)
theorem dX0_force_2 : decode cX0_force 2 = .ok (.ldc2_w 144, 3) := dk_20 0 144 (dk_at dksX0_force_0 2 rfl rfl)
theorem dX0_force_5 : decode cX0_force 5 = .ok (.aload_n 0, 1) := dk_42 (dk_at dksX0_force_0 5 rfl rfl)
theorem dX0_force_6 : decode cX0_force 6 = .ok (.getfield 31, 3) := dk_180 0 31 (dk_at dksX0_force_0 6 rfl rfl)
theorem dX0_force_9 : decode cX0_force 9 = .ok (.invokevirtual 138, 3) := dk_182 0 138 (dk_at dksX0_force_0 9 rfl rfl)
theorem dX0_force_12 : decode cX0_force 12 = .ok (.iconst 1, 1) := dk_4 (dk_at dksX0_force_0 12 rfl rfl)
theorem dX0_force_13 : decode cX0_force 13 = .ok (.isub, 1) := dk_100 (dk_at dksX0_force_0 13 rfl rfl)
theorem dX0_force_14 : decode cX0_force 14 = .ok (.i2l, 1) := dk_133 (dk_at dksX0_force_0 14 rfl rfl)
theorem dX0_force_15 : decode cX0_force 15 = .ok (.invokestatic 104, 3) := dk_184 0 104 (dk_at dksX0_force_0 15 rfl rfl)
theorem dX0_force_18 : decode cX0_force 18 = .ok (.ifCond .ne 6, 3) := dk_154 0 6 (dk_at dksX0_force_0 18 rfl rfl)
theorem dX0_force_21 : decode cX0_force 21 = .ok (.bipush (-2), 2) := dk_16 254 (dk_at dksX0_force_0 21 rfl rfl)
theorem dX0_force_23 : decode cX0_force 23 = .ok (.ireturn, 1) := dk_172 (dk_at dksX0_force_0 23 rfl rfl)
theorem dX0_force_24 : decode cX0_force 24 = .ok (.aload_n 0, 1) := dk_42 (dk_at dksX0_force_1 0 rfl rfl)
theorem dX0_force_25 : decode cX0_force 25 = .ok (.getfield 35, 3) := dk_180 0 35 (dk_at dksX0_force_1 1 rfl rfl)
theorem dX0_force_28 : decode cX0_force 28 = .ok (.istore_n 2, 1) := dk_61 (dk_at dksX0_force_1 4 rfl rfl)
theorem dX0_force_29 : decode cX0_force 29 = .ok (.aload_n 0, 1) := dk_42 (dk_at dksX0_force_1 5 rfl rfl)
theorem dX0_force_30 : decode cX0_force 30 = .ok (.iload_n 1, 1) := dk_27 (dk_at dksX0_force_1 6 rfl rfl)
theorem dX0_force_31 : decode cX0_force 31 = .ok (.putfield 35, 3) := dk_181 0 35 (dk_at dksX0_force_1 7 rfl rfl)
theorem dX0_force_34 : decode cX0_force 34 = .ok (.iload_n 2, 1) := dk_28 (dk_at dksX0_force_1 10 rfl rfl)
theorem dX0_force_35 : decode cX0_force 35 = .ok (.ireturn, 1) := dk_172 (dk_at dksX0_force_1 11 rfl rfl)
abbrev cX0_goer : ByteArray := prog_1_method_15_code
def yX0_goer : MethodName := ⟨RX0, "goer", "(II)I"⟩
def dkwX0_goer_4 : List UInt8 := [46, 172, 42, 180, 0, 19, 180, 0, 165, 27, 46, 172, 16, 254, 172]
abbrev dktX0_goer_4 : List UInt8 := dkwX0_goer_4 ++ []
def dkwX0_goer_3 : List UInt8 := [180, 0, 156, 27, 46, 172, 42, 180, 0, 19, 180, 0, 159, 27, 46, 172, 42, 180, 0, 19, 180, 0, 162, 27]
abbrev dktX0_goer_3 : List UInt8 := dkwX0_goer_3 ++ dktX0_goer_4
def dkwX0_goer_2 : List UInt8 := [42, 180, 0, 19, 180, 0, 150, 27, 46, 172, 42, 180, 0, 19, 180, 0, 153, 27, 46, 172, 42, 180, 0, 19]
abbrev dktX0_goer_2 : List UInt8 := dkwX0_goer_2 ++ dktX0_goer_3
def dkwX0_goer_1 : List UInt8 := [170, 0, 0, 0, 0, 0, 0, 100, 0, 0, 0, 0, 0, 0, 0, 5, 0, 0, 0, 40, 0, 0, 0, 50, 0, 0, 0, 60, 0, 0, 0, 70, 0, 0, 0, 80, 0, 0, 0, 90]
abbrev dktX0_goer_1 : List UInt8 := dkwX0_goer_1 ++ dktX0_goer_2
def dkwX0_goer_0 : List UInt8 := [42, 27, 182, 0, 146, 154, 0, 6, 16, 254, 172, 28]
abbrev dktX0_goer_0 : List UInt8 := dkwX0_goer_0 ++ dktX0_goer_1
theorem dksX0_goer_0 : cX0_goer.data.toList.drop 0 = dktX0_goer_0 := by decide +kernel
theorem dksX0_goer_1 : cX0_goer.data.toList.drop 12 = dktX0_goer_1 := dk_seg dksX0_goer_0 12 rfl rfl
theorem dksX0_goer_2 : cX0_goer.data.toList.drop 52 = dktX0_goer_2 := dk_seg dksX0_goer_1 40 rfl rfl
theorem dksX0_goer_3 : cX0_goer.data.toList.drop 76 = dktX0_goer_3 := dk_seg dksX0_goer_2 24 rfl rfl
theorem dksX0_goer_4 : cX0_goer.data.toList.drop 100 = dktX0_goer_4 := dk_seg dksX0_goer_3 24 rfl rfl
theorem dX0_goer_0 : decode cX0_goer 0 = .ok (.aload_n 0, 1) := dk_42 (dk_at dksX0_goer_0 0 rfl rfl)
theorem dX0_goer_1 : decode cX0_goer 1 = .ok (.iload_n 1, 1) := dk_27 (dk_at dksX0_goer_0 1 rfl rfl)
theorem dX0_goer_2 : decode cX0_goer 2 = .ok (.invokevirtual 146, 3) := dk_182 0 146 (dk_at dksX0_goer_0 2 rfl rfl)
theorem dX0_goer_5 : decode cX0_goer 5 = .ok (.ifCond .ne 6, 3) := dk_154 0 6 (dk_at dksX0_goer_0 5 rfl rfl)
theorem dX0_goer_8 : decode cX0_goer 8 = .ok (.bipush (-2), 2) := dk_16 254 (dk_at dksX0_goer_0 8 rfl rfl)
theorem dX0_goer_10 : decode cX0_goer 10 = .ok (.ireturn, 1) := dk_172 (dk_at dksX0_goer_0 10 rfl rfl)
theorem dX0_goer_11 : decode cX0_goer 11 = .ok (.iload_n 2, 1) := dk_28 (dk_at dksX0_goer_0 11 rfl rfl)
theorem dX0_goer_12 : decode cX0_goer 12 = .ok (.tableswitch 100 0 5 #[40, 50, 60, 70, 80, 90], 40) := by decide +kernel
theorem dX0_goer_52 : decode cX0_goer 52 = .ok (.aload_n 0, 1) := dk_42 (dk_at dksX0_goer_2 0 rfl rfl)
theorem dX0_goer_53 : decode cX0_goer 53 = .ok (.getfield 19, 3) := dk_180 0 19 (dk_at dksX0_goer_2 1 rfl rfl)
theorem dX0_goer_56 : decode cX0_goer 56 = .ok (.getfield 150, 3) := dk_180 0 150 (dk_at dksX0_goer_2 4 rfl rfl)
theorem dX0_goer_59 : decode cX0_goer 59 = .ok (.iload_n 1, 1) := dk_27 (dk_at dksX0_goer_2 7 rfl rfl)
theorem dX0_goer_60 : decode cX0_goer 60 = .ok (.iaload, 1) := dk_46 (dk_at dksX0_goer_2 8 rfl rfl)
theorem dX0_goer_61 : decode cX0_goer 61 = .ok (.ireturn, 1) := dk_172 (dk_at dksX0_goer_2 9 rfl rfl)
theorem dX0_goer_62 : decode cX0_goer 62 = .ok (.aload_n 0, 1) := dk_42 (dk_at dksX0_goer_2 10 rfl rfl)
theorem dX0_goer_63 : decode cX0_goer 63 = .ok (.getfield 19, 3) := dk_180 0 19 (dk_at dksX0_goer_2 11 rfl rfl)
theorem dX0_goer_66 : decode cX0_goer 66 = .ok (.getfield 153, 3) := dk_180 0 153 (dk_at dksX0_goer_2 14 rfl rfl)
theorem dX0_goer_69 : decode cX0_goer 69 = .ok (.iload_n 1, 1) := dk_27 (dk_at dksX0_goer_2 17 rfl rfl)
theorem dX0_goer_70 : decode cX0_goer 70 = .ok (.iaload, 1) := dk_46 (dk_at dksX0_goer_2 18 rfl rfl)
theorem dX0_goer_71 : decode cX0_goer 71 = .ok (.ireturn, 1) := dk_172 (dk_at dksX0_goer_2 19 rfl rfl)
theorem dX0_goer_72 : decode cX0_goer 72 = .ok (.aload_n 0, 1) := dk_42 (dk_at dksX0_goer_2 20 rfl rfl)
theorem dX0_goer_73 : decode cX0_goer 73 = .ok (.getfield 19, 3) := dk_180 0 19 (dk_at dksX0_goer_2 21 rfl rfl)
theorem dX0_goer_76 : decode cX0_goer 76 = .ok (.getfield 156, 3) := dk_180 0 156 (dk_at dksX0_goer_3 0 rfl rfl)
theorem dX0_goer_79 : decode cX0_goer 79 = .ok (.iload_n 1, 1) := dk_27 (dk_at dksX0_goer_3 3 rfl rfl)
theorem dX0_goer_80 : decode cX0_goer 80 = .ok (.iaload, 1) := dk_46 (dk_at dksX0_goer_3 4 rfl rfl)
theorem dX0_goer_81 : decode cX0_goer 81 = .ok (.ireturn, 1) := dk_172 (dk_at dksX0_goer_3 5 rfl rfl)
theorem dX0_goer_82 : decode cX0_goer 82 = .ok (.aload_n 0, 1) := dk_42 (dk_at dksX0_goer_3 6 rfl rfl)
theorem dX0_goer_83 : decode cX0_goer 83 = .ok (.getfield 19, 3) := dk_180 0 19 (dk_at dksX0_goer_3 7 rfl rfl)
theorem dX0_goer_86 : decode cX0_goer 86 = .ok (.getfield 159, 3) := dk_180 0 159 (dk_at dksX0_goer_3 10 rfl rfl)
theorem dX0_goer_89 : decode cX0_goer 89 = .ok (.iload_n 1, 1) := dk_27 (dk_at dksX0_goer_3 13 rfl rfl)
theorem dX0_goer_90 : decode cX0_goer 90 = .ok (.iaload, 1) := dk_46 (dk_at dksX0_goer_3 14 rfl rfl)
theorem dX0_goer_91 : decode cX0_goer 91 = .ok (.ireturn, 1) := dk_172 (dk_at dksX0_goer_3 15 rfl rfl)
theorem dX0_goer_92 : decode cX0_goer 92 = .ok (.aload_n 0, 1) := dk_42 (dk_at dksX0_goer_3 16 rfl rfl)
theorem dX0_goer_93 : decode cX0_goer 93 = .ok (.getfield 19, 3) := dk_180 0 19 (dk_at dksX0_goer_3 17 rfl rfl)
theorem dX0_goer_96 : decode cX0_goer 96 = .ok (.getfield 162, 3) := dk_180 0 162 (dk_at dksX0_goer_3 20 rfl rfl)
theorem dX0_goer_99 : decode cX0_goer 99 = .ok (.iload_n 1, 1) := dk_27 (dk_at dksX0_goer_3 23 rfl rfl)
theorem dX0_goer_100 : decode cX0_goer 100 = .ok (.iaload, 1) := dk_46 (dk_at dksX0_goer_4 0 rfl rfl)
theorem dX0_goer_101 : decode cX0_goer 101 = .ok (.ireturn, 1) := dk_172 (dk_at dksX0_goer_4 1 rfl rfl)
theorem dX0_goer_102 : decode cX0_goer 102 = .ok (.aload_n 0, 1) := dk_42 (dk_at dksX0_goer_4 2 rfl rfl)
theorem dX0_goer_103 : decode cX0_goer 103 = .ok (.getfield 19, 3) := dk_180 0 19 (dk_at dksX0_goer_4 3 rfl rfl)
theorem dX0_goer_106 : decode cX0_goer 106 = .ok (.getfield 165, 3) := dk_180 0 165 (dk_at dksX0_goer_4 6 rfl rfl)
theorem dX0_goer_109 : decode cX0_goer 109 = .ok (.iload_n 1, 1) := dk_27 (dk_at dksX0_goer_4 9 rfl rfl)
theorem dX0_goer_110 : decode cX0_goer 110 = .ok (.iaload, 1) := dk_46 (dk_at dksX0_goer_4 10 rfl rfl)
theorem dX0_goer_111 : decode cX0_goer 111 = .ok (.ireturn, 1) := dk_172 (dk_at dksX0_goer_4 11 rfl rfl)
theorem dX0_goer_112 : decode cX0_goer 112 = .ok (.bipush (-2), 2) := dk_16 254 (dk_at dksX0_goer_4 12 rfl rfl)
theorem dX0_goer_114 : decode cX0_goer 114 = .ok (.ireturn, 1) := dk_172 (dk_at dksX0_goer_4 14 rfl rfl)
abbrev cX0_isGoer : ByteArray := prog_1_method_6_code
def yX0_isGoer : MethodName := ⟨RX0, "isGoer", "(I)Z"⟩
def dkwX0_isGoer_0 : List UInt8 := [27, 133, 9, 42, 180, 0, 10, 182, 0, 100, 4, 100, 133, 184, 0, 104, 172]
abbrev dktX0_isGoer_0 : List UInt8 := dkwX0_isGoer_0 ++ []
theorem dksX0_isGoer_0 : cX0_isGoer.data.toList.drop 0 = dktX0_isGoer_0 := by decide +kernel
theorem dX0_isGoer_0 : decode cX0_isGoer 0 = .ok (.iload_n 1, 1) := dk_27 (dk_at dksX0_isGoer_0 0 rfl rfl)
theorem dX0_isGoer_1 : decode cX0_isGoer 1 = .ok (.i2l, 1) := dk_133 (dk_at dksX0_isGoer_0 1 rfl rfl)
theorem dX0_isGoer_2 : decode cX0_isGoer 2 = .ok (.lconst 0, 1) := dk_9 (dk_at dksX0_isGoer_0 2 rfl rfl)
theorem dX0_isGoer_3 : decode cX0_isGoer 3 = .ok (.aload_n 0, 1) := dk_42 (dk_at dksX0_isGoer_0 3 rfl rfl)
theorem dX0_isGoer_4 : decode cX0_isGoer 4 = .ok (.getfield 10, 3) := dk_180 0 10 (dk_at dksX0_isGoer_0 4 rfl rfl)
theorem dX0_isGoer_7 : decode cX0_isGoer 7 = .ok (.invokevirtual 100, 3) := dk_182 0 100 (dk_at dksX0_isGoer_0 7 rfl rfl)
theorem dX0_isGoer_10 : decode cX0_isGoer 10 = .ok (.iconst 1, 1) := dk_4 (dk_at dksX0_isGoer_0 10 rfl rfl)
theorem dX0_isGoer_11 : decode cX0_isGoer 11 = .ok (.isub, 1) := dk_100 (dk_at dksX0_isGoer_0 11 rfl rfl)
theorem dX0_isGoer_12 : decode cX0_isGoer 12 = .ok (.i2l, 1) := dk_133 (dk_at dksX0_isGoer_0 12 rfl rfl)
theorem dX0_isGoer_13 : decode cX0_isGoer 13 = .ok (.invokestatic 104, 3) := dk_184 0 104 (dk_at dksX0_isGoer_0 13 rfl rfl)
theorem dX0_isGoer_16 : decode cX0_isGoer 16 = .ok (.ireturn, 1) := dk_172 (dk_at dksX0_isGoer_0 16 rfl rfl)
abbrev cX0_join : ByteArray := prog_1_method_16_code
def yX0_join : MethodName := ⟨RX0, "join", "(II)I"⟩
def dkwX0_join_2 : List UInt8 := [42, 180, 0, 10, 180, 0, 177, 27, 46, 172]
abbrev dktX0_join_2 : List UInt8 := dkwX0_join_2 ++ []
def dkwX0_join_1 : List UInt8 := [184, 0, 104, 154, 0, 5, 2, 172, 28, 154, 0, 15, 42, 180, 0, 19, 180, 0, 174, 27, 46, 167, 0, 12]
abbrev dktX0_join_1 : List UInt8 := dkwX0_join_1 ++ dktX0_join_2
def dkwX0_join_0 : List UInt8 := [42, 182, 0, 168, 153, 0, 25, 27, 133, 9, 20, 0, 172, 184, 0, 104, 153, 0, 13, 28, 133, 9, 10]
abbrev dktX0_join_0 : List UInt8 := dkwX0_join_0 ++ dktX0_join_1
theorem dksX0_join_0 : cX0_join.data.toList.drop 0 = dktX0_join_0 := by decide +kernel
theorem dksX0_join_1 : cX0_join.data.toList.drop 23 = dktX0_join_1 := dk_seg dksX0_join_0 23 rfl rfl
theorem dksX0_join_2 : cX0_join.data.toList.drop 47 = dktX0_join_2 := dk_seg dksX0_join_1 24 rfl rfl
theorem dX0_join_0 : decode cX0_join 0 = .ok (.aload_n 0, 1) := dk_42 (dk_at dksX0_join_0 0 rfl rfl)
theorem dX0_join_1 : decode cX0_join 1 = .ok (.invokevirtual 168, 3) := dk_182 0 168 (dk_at dksX0_join_0 1 rfl rfl)
theorem dX0_join_4 : decode cX0_join 4 = .ok (.ifCond .eq 25, 3) := dk_153 0 25 (dk_at dksX0_join_0 4 rfl rfl)
theorem dX0_join_7 : decode cX0_join 7 = .ok (.iload_n 1, 1) := dk_27 (dk_at dksX0_join_0 7 rfl rfl)
theorem dX0_join_8 : decode cX0_join 8 = .ok (.i2l, 1) := dk_133 (dk_at dksX0_join_0 8 rfl rfl)
theorem dX0_join_9 : decode cX0_join 9 = .ok (.lconst 0, 1) := dk_9 (dk_at dksX0_join_0 9 rfl rfl)
theorem dX0_join_10 : decode cX0_join 10 = .ok (.ldc2_w 172, 3) := dk_20 0 172 (dk_at dksX0_join_0 10 rfl rfl)
theorem dX0_join_13 : decode cX0_join 13 = .ok (.invokestatic 104, 3) := dk_184 0 104 (dk_at dksX0_join_0 13 rfl rfl)
theorem dX0_join_16 : decode cX0_join 16 = .ok (.ifCond .eq 13, 3) := dk_153 0 13 (dk_at dksX0_join_0 16 rfl rfl)
theorem dX0_join_19 : decode cX0_join 19 = .ok (.iload_n 2, 1) := dk_28 (dk_at dksX0_join_0 19 rfl rfl)
theorem dX0_join_20 : decode cX0_join 20 = .ok (.i2l, 1) := dk_133 (dk_at dksX0_join_0 20 rfl rfl)
theorem dX0_join_21 : decode cX0_join 21 = .ok (.lconst 0, 1) := dk_9 (dk_at dksX0_join_0 21 rfl rfl)
theorem dX0_join_22 : decode cX0_join 22 = .ok (.lconst 1, 1) := dk_10 (dk_at dksX0_join_0 22 rfl rfl)
theorem dX0_join_23 : decode cX0_join 23 = .ok (.invokestatic 104, 3) := dk_184 0 104 (dk_at dksX0_join_1 0 rfl rfl)
theorem dX0_join_26 : decode cX0_join 26 = .ok (.ifCond .ne 5, 3) := dk_154 0 5 (dk_at dksX0_join_1 3 rfl rfl)
theorem dX0_join_29 : decode cX0_join 29 = .ok (.iconst (-1), 1) := dk_2 (dk_at dksX0_join_1 6 rfl rfl)
theorem dX0_join_30 : decode cX0_join 30 = .ok (.ireturn, 1) := dk_172 (dk_at dksX0_join_1 7 rfl rfl)
theorem dX0_join_31 : decode cX0_join 31 = .ok (.iload_n 2, 1) := dk_28 (dk_at dksX0_join_1 8 rfl rfl)
theorem dX0_join_32 : decode cX0_join 32 = .ok (.ifCond .ne 15, 3) := dk_154 0 15 (dk_at dksX0_join_1 9 rfl rfl)
theorem dX0_join_35 : decode cX0_join 35 = .ok (.aload_n 0, 1) := dk_42 (dk_at dksX0_join_1 12 rfl rfl)
theorem dX0_join_36 : decode cX0_join 36 = .ok (.getfield 19, 3) := dk_180 0 19 (dk_at dksX0_join_1 13 rfl rfl)
theorem dX0_join_39 : decode cX0_join 39 = .ok (.getfield 174, 3) := dk_180 0 174 (dk_at dksX0_join_1 16 rfl rfl)
theorem dX0_join_42 : decode cX0_join 42 = .ok (.iload_n 1, 1) := dk_27 (dk_at dksX0_join_1 19 rfl rfl)
theorem dX0_join_43 : decode cX0_join 43 = .ok (.iaload, 1) := dk_46 (dk_at dksX0_join_1 20 rfl rfl)
theorem dX0_join_44 : decode cX0_join 44 = .ok (.goto 12, 3) := dk_167 0 12 (dk_at dksX0_join_1 21 rfl rfl)
theorem dX0_join_47 : decode cX0_join 47 = .ok (.aload_n 0, 1) := dk_42 (dk_at dksX0_join_2 0 rfl rfl)
theorem dX0_join_48 : decode cX0_join 48 = .ok (.getfield 10, 3) := dk_180 0 10 (dk_at dksX0_join_2 1 rfl rfl)
theorem dX0_join_51 : decode cX0_join 51 = .ok (.getfield 177, 3) := dk_180 0 177 (dk_at dksX0_join_2 4 rfl rfl)
theorem dX0_join_54 : decode cX0_join 54 = .ok (.iload_n 1, 1) := dk_27 (dk_at dksX0_join_2 7 rfl rfl)
theorem dX0_join_55 : decode cX0_join 55 = .ok (.iaload, 1) := dk_46 (dk_at dksX0_join_2 8 rfl rfl)
theorem dX0_join_56 : decode cX0_join 56 = .ok (.ireturn, 1) := dk_172 (dk_at dksX0_join_2 9 rfl rfl)
abbrev cX0_isSheet : ByteArray := prog_1_method_5_code
def yX0_isSheet : MethodName := ⟨RX0, "isSheet", "()Z"⟩
def dkwX0_isSheet_0 : List UInt8 := [42, 180, 0, 10, 180, 0, 97, 158, 0, 7, 4, 167, 0, 4, 3, 172]
abbrev dktX0_isSheet_0 : List UInt8 := dkwX0_isSheet_0 ++ []
theorem dksX0_isSheet_0 : cX0_isSheet.data.toList.drop 0 = dktX0_isSheet_0 := by decide +kernel
theorem dX0_isSheet_0 : decode cX0_isSheet 0 = .ok (.aload_n 0, 1) := dk_42 (dk_at dksX0_isSheet_0 0 rfl rfl)
theorem dX0_isSheet_1 : decode cX0_isSheet 1 = .ok (.getfield 10, 3) := dk_180 0 10 (dk_at dksX0_isSheet_0 1 rfl rfl)
theorem dX0_isSheet_4 : decode cX0_isSheet 4 = .ok (.getfield 97, 3) := dk_180 0 97 (dk_at dksX0_isSheet_0 4 rfl rfl)
theorem dX0_isSheet_7 : decode cX0_isSheet 7 = .ok (.ifCond .le 7, 3) := dk_158 0 7 (dk_at dksX0_isSheet_0 7 rfl rfl)
theorem dX0_isSheet_10 : decode cX0_isSheet 10 = .ok (.iconst 1, 1) := dk_4 (dk_at dksX0_isSheet_0 10 rfl rfl)
theorem dX0_isSheet_11 : decode cX0_isSheet 11 = .ok (.goto 4, 3) := dk_167 0 4 (dk_at dksX0_isSheet_0 11 rfl rfl)
theorem dX0_isSheet_14 : decode cX0_isSheet 14 = .ok (.iconst 0, 1) := dk_3 (dk_at dksX0_isSheet_0 14 rfl rfl)
theorem dX0_isSheet_15 : decode cX0_isSheet 15 = .ok (.ireturn, 1) := dk_172 (dk_at dksX0_isSheet_0 15 rfl rfl)
abbrev cX0_stoneIn : ByteArray := prog_1_method_17_code
def yX0_stoneIn : MethodName := ⟨RX0, "stoneIn", "(I)I"⟩
def dkwX0_stoneIn_0 : List UInt8 := [42, 27, 182, 0, 180, 153, 0, 17, 42, 180, 0, 19, 27, 182, 0, 183, 184, 0, 186, 167, 0, 4, 2, 172]
abbrev dktX0_stoneIn_0 : List UInt8 := dkwX0_stoneIn_0 ++ []
theorem dksX0_stoneIn_0 : cX0_stoneIn.data.toList.drop 0 = dktX0_stoneIn_0 := by decide +kernel
theorem dX0_stoneIn_0 : decode cX0_stoneIn 0 = .ok (.aload_n 0, 1) := dk_42 (dk_at dksX0_stoneIn_0 0 rfl rfl)
theorem dX0_stoneIn_1 : decode cX0_stoneIn 1 = .ok (.iload_n 1, 1) := dk_27 (dk_at dksX0_stoneIn_0 1 rfl rfl)
theorem dX0_stoneIn_2 : decode cX0_stoneIn 2 = .ok (.invokevirtual 180, 3) := dk_182 0 180 (dk_at dksX0_stoneIn_0 2 rfl rfl)
theorem dX0_stoneIn_5 : decode cX0_stoneIn 5 = .ok (.ifCond .eq 17, 3) := dk_153 0 17 (dk_at dksX0_stoneIn_0 5 rfl rfl)
theorem dX0_stoneIn_8 : decode cX0_stoneIn 8 = .ok (.aload_n 0, 1) := dk_42 (dk_at dksX0_stoneIn_0 8 rfl rfl)
theorem dX0_stoneIn_9 : decode cX0_stoneIn 9 = .ok (.getfield 19, 3) := dk_180 0 19 (dk_at dksX0_stoneIn_0 9 rfl rfl)
theorem dX0_stoneIn_12 : decode cX0_stoneIn 12 = .ok (.iload_n 1, 1) := dk_27 (dk_at dksX0_stoneIn_0 12 rfl rfl)
theorem dX0_stoneIn_13 : decode cX0_stoneIn 13 = .ok (.invokevirtual 183, 3) := dk_182 0 183 (dk_at dksX0_stoneIn_0 13 rfl rfl)
theorem dX0_stoneIn_16 : decode cX0_stoneIn 16 = .ok (.invokestatic 186, 3) := dk_184 0 186 (dk_at dksX0_stoneIn_0 16 rfl rfl)
theorem dX0_stoneIn_19 : decode cX0_stoneIn 19 = .ok (.goto 4, 3) := dk_167 0 4 (dk_at dksX0_stoneIn_0 19 rfl rfl)
theorem dX0_stoneIn_22 : decode cX0_stoneIn 22 = .ok (.iconst (-1), 1) := dk_2 (dk_at dksX0_stoneIn_0 22 rfl rfl)
theorem dX0_stoneIn_23 : decode cX0_stoneIn 23 = .ok (.ireturn, 1) := dk_172 (dk_at dksX0_stoneIn_0 23 rfl rfl)
abbrev cX0_isCell : ByteArray := prog_1_method_7_code
def yX0_isCell : MethodName := ⟨RX0, "isCell", "(I)Z"⟩
def dkwX0_isCell_0 : List UInt8 := [27, 133, 9, 42, 180, 0, 10, 182, 0, 108, 4, 100, 133, 184, 0, 104, 172]
abbrev dktX0_isCell_0 : List UInt8 := dkwX0_isCell_0 ++ []
theorem dksX0_isCell_0 : cX0_isCell.data.toList.drop 0 = dktX0_isCell_0 := by decide +kernel
theorem dX0_isCell_0 : decode cX0_isCell 0 = .ok (.iload_n 1, 1) := dk_27 (dk_at dksX0_isCell_0 0 rfl rfl)
theorem dX0_isCell_1 : decode cX0_isCell 1 = .ok (.i2l, 1) := dk_133 (dk_at dksX0_isCell_0 1 rfl rfl)
theorem dX0_isCell_2 : decode cX0_isCell 2 = .ok (.lconst 0, 1) := dk_9 (dk_at dksX0_isCell_0 2 rfl rfl)
theorem dX0_isCell_3 : decode cX0_isCell 3 = .ok (.aload_n 0, 1) := dk_42 (dk_at dksX0_isCell_0 3 rfl rfl)
theorem dX0_isCell_4 : decode cX0_isCell 4 = .ok (.getfield 10, 3) := dk_180 0 10 (dk_at dksX0_isCell_0 4 rfl rfl)
theorem dX0_isCell_7 : decode cX0_isCell 7 = .ok (.invokevirtual 108, 3) := dk_182 0 108 (dk_at dksX0_isCell_0 7 rfl rfl)
theorem dX0_isCell_10 : decode cX0_isCell 10 = .ok (.iconst 1, 1) := dk_4 (dk_at dksX0_isCell_0 10 rfl rfl)
theorem dX0_isCell_11 : decode cX0_isCell 11 = .ok (.isub, 1) := dk_100 (dk_at dksX0_isCell_0 11 rfl rfl)
theorem dX0_isCell_12 : decode cX0_isCell 12 = .ok (.i2l, 1) := dk_133 (dk_at dksX0_isCell_0 12 rfl rfl)
theorem dX0_isCell_13 : decode cX0_isCell 13 = .ok (.invokestatic 104, 3) := dk_184 0 104 (dk_at dksX0_isCell_0 13 rfl rfl)
theorem dX0_isCell_16 : decode cX0_isCell 16 = .ok (.ireturn, 1) := dk_172 (dk_at dksX0_isCell_0 16 rfl rfl)
abbrev cX0_bit : ByteArray := prog_1_method_3_code
def yX0_bit : MethodName := ⟨RX0, "bit", "(Z)I"⟩
def dkwX0_bit_0 : List UInt8 := [26, 153, 0, 7, 4, 167, 0, 4, 3, 172]
abbrev dktX0_bit_0 : List UInt8 := dkwX0_bit_0 ++ []
theorem dksX0_bit_0 : cX0_bit.data.toList.drop 0 = dktX0_bit_0 := by decide +kernel
theorem dX0_bit_0 : decode cX0_bit 0 = .ok (.iload_n 0, 1) := dk_26 (dk_at dksX0_bit_0 0 rfl rfl)
theorem dX0_bit_1 : decode cX0_bit 1 = .ok (.ifCond .eq 7, 3) := dk_153 0 7 (dk_at dksX0_bit_0 1 rfl rfl)
theorem dX0_bit_4 : decode cX0_bit 4 = .ok (.iconst 1, 1) := dk_4 (dk_at dksX0_bit_0 4 rfl rfl)
theorem dX0_bit_5 : decode cX0_bit 5 = .ok (.goto 4, 3) := dk_167 0 4 (dk_at dksX0_bit_0 5 rfl rfl)
theorem dX0_bit_8 : decode cX0_bit 8 = .ok (.iconst 0, 1) := dk_3 (dk_at dksX0_bit_0 8 rfl rfl)
theorem dX0_bit_9 : decode cX0_bit 9 = .ok (.ireturn, 1) := dk_172 (dk_at dksX0_bit_0 9 rfl rfl)
abbrev cX0_undo : ByteArray := prog_1_method_24_code
def yX0_undo : MethodName := ⟨RX0, "undo", "()I"⟩
def dkwX0_undo_2 : List UInt8 := [180, 0, 233, 50, 182, 0, 236, 42, 180, 0, 135, 172]
abbrev dktX0_undo_2 : List UInt8 := dkwX0_undo_2 ++ []
def dkwX0_undo_1 : List UInt8 := [181, 0, 233, 42, 89, 180, 0, 135, 4, 100, 181, 0, 135, 42, 180, 0, 19, 42, 180, 0, 72, 42]
abbrev dktX0_undo_1 : List UInt8 := dkwX0_undo_1 ++ dktX0_undo_2
def dkwX0_undo_0 : List UInt8 := [42, 180, 0, 135, 154, 0, 5, 2, 172, 42, 42, 180, 0, 233, 16, 20, 96, 4, 100, 16, 20, 112]
abbrev dktX0_undo_0 : List UInt8 := dkwX0_undo_0 ++ dktX0_undo_1
theorem dksX0_undo_0 : cX0_undo.data.toList.drop 0 = dktX0_undo_0 := by decide +kernel
theorem dksX0_undo_1 : cX0_undo.data.toList.drop 22 = dktX0_undo_1 := dk_seg dksX0_undo_0 22 rfl rfl
theorem dksX0_undo_2 : cX0_undo.data.toList.drop 44 = dktX0_undo_2 := dk_seg dksX0_undo_1 22 rfl rfl
theorem dX0_undo_0 : decode cX0_undo 0 = .ok (.aload_n 0, 1) := dk_42 (dk_at dksX0_undo_0 0 rfl rfl)
theorem dX0_undo_1 : decode cX0_undo 1 = .ok (.getfield 135, 3) := dk_180 0 135 (dk_at dksX0_undo_0 1 rfl rfl)
theorem dX0_undo_4 : decode cX0_undo 4 = .ok (.ifCond .ne 5, 3) := dk_154 0 5 (dk_at dksX0_undo_0 4 rfl rfl)
theorem dX0_undo_7 : decode cX0_undo 7 = .ok (.iconst (-1), 1) := dk_2 (dk_at dksX0_undo_0 7 rfl rfl)
theorem dX0_undo_8 : decode cX0_undo 8 = .ok (.ireturn, 1) := dk_172 (dk_at dksX0_undo_0 8 rfl rfl)
theorem dX0_undo_9 : decode cX0_undo 9 = .ok (.aload_n 0, 1) := dk_42 (dk_at dksX0_undo_0 9 rfl rfl)
theorem dX0_undo_10 : decode cX0_undo 10 = .ok (.aload_n 0, 1) := dk_42 (dk_at dksX0_undo_0 10 rfl rfl)
theorem dX0_undo_11 : decode cX0_undo 11 = .ok (.getfield 233, 3) := dk_180 0 233 (dk_at dksX0_undo_0 11 rfl rfl)
theorem dX0_undo_14 : decode cX0_undo 14 = .ok (.bipush 20, 2) := dk_16 20 (dk_at dksX0_undo_0 14 rfl rfl)
theorem dX0_undo_16 : decode cX0_undo 16 = .ok (.iadd, 1) := dk_96 (dk_at dksX0_undo_0 16 rfl rfl)
theorem dX0_undo_17 : decode cX0_undo 17 = .ok (.iconst 1, 1) := dk_4 (dk_at dksX0_undo_0 17 rfl rfl)
theorem dX0_undo_18 : decode cX0_undo 18 = .ok (.isub, 1) := dk_100 (dk_at dksX0_undo_0 18 rfl rfl)
theorem dX0_undo_19 : decode cX0_undo 19 = .ok (.bipush 20, 2) := dk_16 20 (dk_at dksX0_undo_0 19 rfl rfl)
theorem dX0_undo_21 : decode cX0_undo 21 = .ok (.irem, 1) := dk_112 (dk_at dksX0_undo_0 21 rfl rfl)
theorem dX0_undo_22 : decode cX0_undo 22 = .ok (.putfield 233, 3) := dk_181 0 233 (dk_at dksX0_undo_1 0 rfl rfl)
theorem dX0_undo_25 : decode cX0_undo 25 = .ok (.aload_n 0, 1) := dk_42 (dk_at dksX0_undo_1 3 rfl rfl)
theorem dX0_undo_26 : decode cX0_undo 26 = .ok (.dup, 1) := dk_89 (dk_at dksX0_undo_1 4 rfl rfl)
theorem dX0_undo_27 : decode cX0_undo 27 = .ok (.getfield 135, 3) := dk_180 0 135 (dk_at dksX0_undo_1 5 rfl rfl)
theorem dX0_undo_30 : decode cX0_undo 30 = .ok (.iconst 1, 1) := dk_4 (dk_at dksX0_undo_1 8 rfl rfl)
theorem dX0_undo_31 : decode cX0_undo 31 = .ok (.isub, 1) := dk_100 (dk_at dksX0_undo_1 9 rfl rfl)
theorem dX0_undo_32 : decode cX0_undo 32 = .ok (.putfield 135, 3) := dk_181 0 135 (dk_at dksX0_undo_1 10 rfl rfl)
theorem dX0_undo_35 : decode cX0_undo 35 = .ok (.aload_n 0, 1) := dk_42 (dk_at dksX0_undo_1 13 rfl rfl)
theorem dX0_undo_36 : decode cX0_undo 36 = .ok (.getfield 19, 3) := dk_180 0 19 (dk_at dksX0_undo_1 14 rfl rfl)
theorem dX0_undo_39 : decode cX0_undo 39 = .ok (.aload_n 0, 1) := dk_42 (dk_at dksX0_undo_1 17 rfl rfl)
theorem dX0_undo_40 : decode cX0_undo 40 = .ok (.getfield 72, 3) := dk_180 0 72 (dk_at dksX0_undo_1 18 rfl rfl)
theorem dX0_undo_43 : decode cX0_undo 43 = .ok (.aload_n 0, 1) := dk_42 (dk_at dksX0_undo_1 21 rfl rfl)
theorem dX0_undo_44 : decode cX0_undo 44 = .ok (.getfield 233, 3) := dk_180 0 233 (dk_at dksX0_undo_2 0 rfl rfl)
theorem dX0_undo_47 : decode cX0_undo 47 = .ok (.aaload, 1) := dk_50 (dk_at dksX0_undo_2 3 rfl rfl)
theorem dX0_undo_48 : decode cX0_undo 48 = .ok (.invokevirtual 236, 3) := dk_182 0 236 (dk_at dksX0_undo_2 4 rfl rfl)
theorem dX0_undo_51 : decode cX0_undo 51 = .ok (.aload_n 0, 1) := dk_42 (dk_at dksX0_undo_2 7 rfl rfl)
theorem dX0_undo_52 : decode cX0_undo 52 = .ok (.getfield 135, 3) := dk_180 0 135 (dk_at dksX0_undo_2 8 rfl rfl)
theorem dX0_undo_55 : decode cX0_undo 55 = .ok (.ireturn, 1) := dk_172 (dk_at dksX0_undo_2 11 rfl rfl)
abbrev cX0_step : ByteArray := prog_1_method_25_code
def yX0_step : MethodName := ⟨RX0, "step", "()I"⟩
def dkwX0_step_1 : List UInt8 := [182, 0, 245, 42, 42, 180, 0, 19, 182, 0, 230, 172]
abbrev dktX0_step_1 : List UInt8 := dkwX0_step_1 ++ []
def dkwX0_step_0 : List UInt8 := [42, 182, 0, 168, 153, 0, 16, 42, 180, 0, 19, 180, 0, 201, 17, 3, 231, 160, 0, 5, 2, 172, 42]
abbrev dktX0_step_0 : List UInt8 := dkwX0_step_0 ++ dktX0_step_1
theorem dksX0_step_0 : cX0_step.data.toList.drop 0 = dktX0_step_0 := by decide +kernel
theorem dksX0_step_1 : cX0_step.data.toList.drop 23 = dktX0_step_1 := dk_seg dksX0_step_0 23 rfl rfl
theorem dX0_step_0 : decode cX0_step 0 = .ok (.aload_n 0, 1) := dk_42 (dk_at dksX0_step_0 0 rfl rfl)
theorem dX0_step_1 : decode cX0_step 1 = .ok (.invokevirtual 168, 3) := dk_182 0 168 (dk_at dksX0_step_0 1 rfl rfl)
theorem dX0_step_4 : decode cX0_step 4 = .ok (.ifCond .eq 16, 3) := dk_153 0 16 (dk_at dksX0_step_0 4 rfl rfl)
theorem dX0_step_7 : decode cX0_step 7 = .ok (.aload_n 0, 1) := dk_42 (dk_at dksX0_step_0 7 rfl rfl)
theorem dX0_step_8 : decode cX0_step 8 = .ok (.getfield 19, 3) := dk_180 0 19 (dk_at dksX0_step_0 8 rfl rfl)
theorem dX0_step_11 : decode cX0_step 11 = .ok (.getfield 201, 3) := dk_180 0 201 (dk_at dksX0_step_0 11 rfl rfl)
theorem dX0_step_14 : decode cX0_step 14 = .ok (.sipush 999, 3) := dk_17 3 231 (dk_at dksX0_step_0 14 rfl rfl)
theorem dX0_step_17 : decode cX0_step 17 = .ok (.if_icmp .ne 5, 3) := dk_160 0 5 (dk_at dksX0_step_0 17 rfl rfl)
theorem dX0_step_20 : decode cX0_step 20 = .ok (.iconst (-1), 1) := dk_2 (dk_at dksX0_step_0 20 rfl rfl)
theorem dX0_step_21 : decode cX0_step 21 = .ok (.ireturn, 1) := dk_172 (dk_at dksX0_step_0 21 rfl rfl)
theorem dX0_step_22 : decode cX0_step 22 = .ok (.aload_n 0, 1) := dk_42 (dk_at dksX0_step_0 22 rfl rfl)
theorem dX0_step_23 : decode cX0_step 23 = .ok (.invokevirtual 245, 3) := dk_182 0 245 (dk_at dksX0_step_1 0 rfl rfl)
theorem dX0_step_26 : decode cX0_step 26 = .ok (.aload_n 0, 1) := dk_42 (dk_at dksX0_step_1 3 rfl rfl)
theorem dX0_step_27 : decode cX0_step 27 = .ok (.aload_n 0, 1) := dk_42 (dk_at dksX0_step_1 4 rfl rfl)
theorem dX0_step_28 : decode cX0_step 28 = .ok (.getfield 19, 3) := dk_180 0 19 (dk_at dksX0_step_1 5 rfl rfl)
theorem dX0_step_31 : decode cX0_step 31 = .ok (.invokevirtual 230, 3) := dk_182 0 230 (dk_at dksX0_step_1 8 rfl rfl)
theorem dX0_step_34 : decode cX0_step 34 = .ok (.ireturn, 1) := dk_172 (dk_at dksX0_step_1 11 rfl rfl)
abbrev cX0_keeps : ByteArray := prog_1_method_23_code
def yX0_keeps : MethodName := ⟨RX0, "keeps", "()V"⟩
def dkwX0_keeps_1 : List UInt8 := [16, 20, 112, 181, 0, 233, 42, 16, 20, 42, 180, 0, 135, 4, 96, 184, 0, 240, 181, 0, 135, 177]
abbrev dktX0_keeps_1 : List UInt8 := dkwX0_keeps_1 ++ []
def dkwX0_keeps_0 : List UInt8 := [42, 180, 0, 72, 42, 180, 0, 233, 50, 42, 180, 0, 19, 182, 0, 236, 42, 42, 180, 0, 233, 4, 96]
abbrev dktX0_keeps_0 : List UInt8 := dkwX0_keeps_0 ++ dktX0_keeps_1
theorem dksX0_keeps_0 : cX0_keeps.data.toList.drop 0 = dktX0_keeps_0 := by decide +kernel
theorem dksX0_keeps_1 : cX0_keeps.data.toList.drop 23 = dktX0_keeps_1 := dk_seg dksX0_keeps_0 23 rfl rfl
theorem dX0_keeps_0 : decode cX0_keeps 0 = .ok (.aload_n 0, 1) := dk_42 (dk_at dksX0_keeps_0 0 rfl rfl)
theorem dX0_keeps_1 : decode cX0_keeps 1 = .ok (.getfield 72, 3) := dk_180 0 72 (dk_at dksX0_keeps_0 1 rfl rfl)
theorem dX0_keeps_4 : decode cX0_keeps 4 = .ok (.aload_n 0, 1) := dk_42 (dk_at dksX0_keeps_0 4 rfl rfl)
theorem dX0_keeps_5 : decode cX0_keeps 5 = .ok (.getfield 233, 3) := dk_180 0 233 (dk_at dksX0_keeps_0 5 rfl rfl)
theorem dX0_keeps_8 : decode cX0_keeps 8 = .ok (.aaload, 1) := dk_50 (dk_at dksX0_keeps_0 8 rfl rfl)
theorem dX0_keeps_9 : decode cX0_keeps 9 = .ok (.aload_n 0, 1) := dk_42 (dk_at dksX0_keeps_0 9 rfl rfl)
theorem dX0_keeps_10 : decode cX0_keeps 10 = .ok (.getfield 19, 3) := dk_180 0 19 (dk_at dksX0_keeps_0 10 rfl rfl)
theorem dX0_keeps_13 : decode cX0_keeps 13 = .ok (.invokevirtual 236, 3) := dk_182 0 236 (dk_at dksX0_keeps_0 13 rfl rfl)
theorem dX0_keeps_16 : decode cX0_keeps 16 = .ok (.aload_n 0, 1) := dk_42 (dk_at dksX0_keeps_0 16 rfl rfl)
theorem dX0_keeps_17 : decode cX0_keeps 17 = .ok (.aload_n 0, 1) := dk_42 (dk_at dksX0_keeps_0 17 rfl rfl)
theorem dX0_keeps_18 : decode cX0_keeps 18 = .ok (.getfield 233, 3) := dk_180 0 233 (dk_at dksX0_keeps_0 18 rfl rfl)
theorem dX0_keeps_21 : decode cX0_keeps 21 = .ok (.iconst 1, 1) := dk_4 (dk_at dksX0_keeps_0 21 rfl rfl)
theorem dX0_keeps_22 : decode cX0_keeps 22 = .ok (.iadd, 1) := dk_96 (dk_at dksX0_keeps_0 22 rfl rfl)
theorem dX0_keeps_23 : decode cX0_keeps 23 = .ok (.bipush 20, 2) := dk_16 20 (dk_at dksX0_keeps_1 0 rfl rfl)
theorem dX0_keeps_25 : decode cX0_keeps 25 = .ok (.irem, 1) := dk_112 (dk_at dksX0_keeps_1 2 rfl rfl)
theorem dX0_keeps_26 : decode cX0_keeps 26 = .ok (.putfield 233, 3) := dk_181 0 233 (dk_at dksX0_keeps_1 3 rfl rfl)
theorem dX0_keeps_29 : decode cX0_keeps 29 = .ok (.aload_n 0, 1) := dk_42 (dk_at dksX0_keeps_1 6 rfl rfl)
theorem dX0_keeps_30 : decode cX0_keeps 30 = .ok (.bipush 20, 2) := dk_16 20 (dk_at dksX0_keeps_1 7 rfl rfl)
theorem dX0_keeps_32 : decode cX0_keeps 32 = .ok (.aload_n 0, 1) := dk_42 (dk_at dksX0_keeps_1 9 rfl rfl)
theorem dX0_keeps_33 : decode cX0_keeps 33 = .ok (.getfield 135, 3) := dk_180 0 135 (dk_at dksX0_keeps_1 10 rfl rfl)
theorem dX0_keeps_36 : decode cX0_keeps 36 = .ok (.iconst 1, 1) := dk_4 (dk_at dksX0_keeps_1 13 rfl rfl)
theorem dX0_keeps_37 : decode cX0_keeps 37 = .ok (.iadd, 1) := dk_96 (dk_at dksX0_keeps_1 14 rfl rfl)
theorem dX0_keeps_38 : decode cX0_keeps 38 = .ok (.invokestatic 240, 3) := dk_184 0 240 (dk_at dksX0_keeps_1 15 rfl rfl)
theorem dX0_keeps_41 : decode cX0_keeps 41 = .ok (.putfield 135, 3) := dk_181 0 135 (dk_at dksX0_keeps_1 18 rfl rfl)
theorem dX0_keeps_44 : decode cX0_keeps 44 = .ok (.return_, 1) := dk_177 (dk_at dksX0_keeps_1 21 rfl rfl)
abbrev cX0_goesOn : ByteArray := prog_1_method_19_code
def yX0_goesOn : MethodName := ⟨RX0, "goesOn", "(LEdgeWalk$State;)I"⟩
def dkwX0_goesOn_4 : List UInt8 := [182, 0, 225, 172]
abbrev dktX0_goesOn_4 : List UInt8 := dkwX0_goesOn_4 ++ []
def dkwX0_goesOn_3 : List UInt8 := [182, 0, 222, 132, 2, 1, 167, 255, 181, 43, 89, 180, 0, 201, 4, 96, 181, 0, 201, 42, 43, 3]
abbrev dktX0_goesOn_3 : List UInt8 := dkwX0_goesOn_3 ++ dktX0_goesOn_4
def dkwX0_goesOn_2 : List UInt8 := [28, 43, 180, 0, 153, 28, 46, 42, 43, 28, 182, 0, 218, 96, 7, 112, 79, 43, 42, 180, 0, 10, 28]
abbrev dktX0_goesOn_2 : List UInt8 := dkwX0_goesOn_2 ++ dktX0_goesOn_3
def dkwX0_goesOn_1 : List UInt8 := [42, 180, 0, 10, 28, 182, 0, 214, 167, 0, 42, 43, 180, 0, 159, 28, 46, 154, 0, 33, 43, 180, 0, 153]
abbrev dktX0_goesOn_1 : List UInt8 := dkwX0_goesOn_1 ++ dktX0_goesOn_2
def dkwX0_goesOn_0 : List UInt8 := [3, 61, 28, 42, 180, 0, 10, 182, 0, 100, 162, 0, 70, 43, 180, 0, 159, 28, 46, 4, 160, 0, 15, 43]
abbrev dktX0_goesOn_0 : List UInt8 := dkwX0_goesOn_0 ++ dktX0_goesOn_1
theorem dksX0_goesOn_0 : cX0_goesOn.data.toList.drop 0 = dktX0_goesOn_0 := by decide +kernel
theorem dksX0_goesOn_1 : cX0_goesOn.data.toList.drop 24 = dktX0_goesOn_1 := dk_seg dksX0_goesOn_0 24 rfl rfl
theorem dksX0_goesOn_2 : cX0_goesOn.data.toList.drop 48 = dktX0_goesOn_2 := dk_seg dksX0_goesOn_1 24 rfl rfl
theorem dksX0_goesOn_3 : cX0_goesOn.data.toList.drop 71 = dktX0_goesOn_3 := dk_seg dksX0_goesOn_2 23 rfl rfl
theorem dksX0_goesOn_4 : cX0_goesOn.data.toList.drop 93 = dktX0_goesOn_4 := dk_seg dksX0_goesOn_3 22 rfl rfl
theorem dX0_goesOn_0 : decode cX0_goesOn 0 = .ok (.iconst 0, 1) := dk_3 (dk_at dksX0_goesOn_0 0 rfl rfl)
theorem dX0_goesOn_1 : decode cX0_goesOn 1 = .ok (.istore_n 2, 1) := dk_61 (dk_at dksX0_goesOn_0 1 rfl rfl)
theorem dX0_goesOn_2 : decode cX0_goesOn 2 = .ok (.iload_n 2, 1) := dk_28 (dk_at dksX0_goesOn_0 2 rfl rfl)
theorem dX0_goesOn_3 : decode cX0_goesOn 3 = .ok (.aload_n 0, 1) := dk_42 (dk_at dksX0_goesOn_0 3 rfl rfl)
theorem dX0_goesOn_4 : decode cX0_goesOn 4 = .ok (.getfield 10, 3) := dk_180 0 10 (dk_at dksX0_goesOn_0 4 rfl rfl)
theorem dX0_goesOn_7 : decode cX0_goesOn 7 = .ok (.invokevirtual 100, 3) := dk_182 0 100 (dk_at dksX0_goesOn_0 7 rfl rfl)
theorem dX0_goesOn_10 : decode cX0_goesOn 10 = .ok (.if_icmp .ge 70, 3) := dk_162 0 70 (dk_at dksX0_goesOn_0 10 rfl rfl)
theorem dX0_goesOn_13 : decode cX0_goesOn 13 = .ok (.aload_n 1, 1) := dk_43 (dk_at dksX0_goesOn_0 13 rfl rfl)
theorem dX0_goesOn_14 : decode cX0_goesOn 14 = .ok (.getfield 159, 3) := dk_180 0 159 (dk_at dksX0_goesOn_0 14 rfl rfl)
theorem dX0_goesOn_17 : decode cX0_goesOn 17 = .ok (.iload_n 2, 1) := dk_28 (dk_at dksX0_goesOn_0 17 rfl rfl)
theorem dX0_goesOn_18 : decode cX0_goesOn 18 = .ok (.iaload, 1) := dk_46 (dk_at dksX0_goesOn_0 18 rfl rfl)
theorem dX0_goesOn_19 : decode cX0_goesOn 19 = .ok (.iconst 1, 1) := dk_4 (dk_at dksX0_goesOn_0 19 rfl rfl)
theorem dX0_goesOn_20 : decode cX0_goesOn 20 = .ok (.if_icmp .ne 15, 3) := dk_160 0 15 (dk_at dksX0_goesOn_0 20 rfl rfl)
theorem dX0_goesOn_23 : decode cX0_goesOn 23 = .ok (.aload_n 1, 1) := dk_43 (dk_at dksX0_goesOn_0 23 rfl rfl)
theorem dX0_goesOn_24 : decode cX0_goesOn 24 = .ok (.aload_n 0, 1) := dk_42 (dk_at dksX0_goesOn_1 0 rfl rfl)
theorem dX0_goesOn_25 : decode cX0_goesOn 25 = .ok (.getfield 10, 3) := dk_180 0 10 (dk_at dksX0_goesOn_1 1 rfl rfl)
theorem dX0_goesOn_28 : decode cX0_goesOn 28 = .ok (.iload_n 2, 1) := dk_28 (dk_at dksX0_goesOn_1 4 rfl rfl)
theorem dX0_goesOn_29 : decode cX0_goesOn 29 = .ok (.invokevirtual 214, 3) := dk_182 0 214 (dk_at dksX0_goesOn_1 5 rfl rfl)
theorem dX0_goesOn_32 : decode cX0_goesOn 32 = .ok (.goto 42, 3) := dk_167 0 42 (dk_at dksX0_goesOn_1 8 rfl rfl)
theorem dX0_goesOn_35 : decode cX0_goesOn 35 = .ok (.aload_n 1, 1) := dk_43 (dk_at dksX0_goesOn_1 11 rfl rfl)
theorem dX0_goesOn_36 : decode cX0_goesOn 36 = .ok (.getfield 159, 3) := dk_180 0 159 (dk_at dksX0_goesOn_1 12 rfl rfl)
theorem dX0_goesOn_39 : decode cX0_goesOn 39 = .ok (.iload_n 2, 1) := dk_28 (dk_at dksX0_goesOn_1 15 rfl rfl)
theorem dX0_goesOn_40 : decode cX0_goesOn 40 = .ok (.iaload, 1) := dk_46 (dk_at dksX0_goesOn_1 16 rfl rfl)
theorem dX0_goesOn_41 : decode cX0_goesOn 41 = .ok (.ifCond .ne 33, 3) := dk_154 0 33 (dk_at dksX0_goesOn_1 17 rfl rfl)
theorem dX0_goesOn_44 : decode cX0_goesOn 44 = .ok (.aload_n 1, 1) := dk_43 (dk_at dksX0_goesOn_1 20 rfl rfl)
theorem dX0_goesOn_45 : decode cX0_goesOn 45 = .ok (.getfield 153, 3) := dk_180 0 153 (dk_at dksX0_goesOn_1 21 rfl rfl)
theorem dX0_goesOn_48 : decode cX0_goesOn 48 = .ok (.iload_n 2, 1) := dk_28 (dk_at dksX0_goesOn_2 0 rfl rfl)
theorem dX0_goesOn_49 : decode cX0_goesOn 49 = .ok (.aload_n 1, 1) := dk_43 (dk_at dksX0_goesOn_2 1 rfl rfl)
theorem dX0_goesOn_50 : decode cX0_goesOn 50 = .ok (.getfield 153, 3) := dk_180 0 153 (dk_at dksX0_goesOn_2 2 rfl rfl)
theorem dX0_goesOn_53 : decode cX0_goesOn 53 = .ok (.iload_n 2, 1) := dk_28 (dk_at dksX0_goesOn_2 5 rfl rfl)
theorem dX0_goesOn_54 : decode cX0_goesOn 54 = .ok (.iaload, 1) := dk_46 (dk_at dksX0_goesOn_2 6 rfl rfl)
theorem dX0_goesOn_55 : decode cX0_goesOn 55 = .ok (.aload_n 0, 1) := dk_42 (dk_at dksX0_goesOn_2 7 rfl rfl)
theorem dX0_goesOn_56 : decode cX0_goesOn 56 = .ok (.aload_n 1, 1) := dk_43 (dk_at dksX0_goesOn_2 8 rfl rfl)
theorem dX0_goesOn_57 : decode cX0_goesOn 57 = .ok (.iload_n 2, 1) := dk_28 (dk_at dksX0_goesOn_2 9 rfl rfl)
theorem dX0_goesOn_58 : decode cX0_goesOn 58 = .ok (.invokevirtual 218, 3) := dk_182 0 218 (dk_at dksX0_goesOn_2 10 rfl rfl)
theorem dX0_goesOn_61 : decode cX0_goesOn 61 = .ok (.iadd, 1) := dk_96 (dk_at dksX0_goesOn_2 13 rfl rfl)
theorem dX0_goesOn_62 : decode cX0_goesOn 62 = .ok (.iconst 4, 1) := dk_7 (dk_at dksX0_goesOn_2 14 rfl rfl)
theorem dX0_goesOn_63 : decode cX0_goesOn 63 = .ok (.irem, 1) := dk_112 (dk_at dksX0_goesOn_2 15 rfl rfl)
theorem dX0_goesOn_64 : decode cX0_goesOn 64 = .ok (.iastore, 1) := dk_79 (dk_at dksX0_goesOn_2 16 rfl rfl)
theorem dX0_goesOn_65 : decode cX0_goesOn 65 = .ok (.aload_n 1, 1) := dk_43 (dk_at dksX0_goesOn_2 17 rfl rfl)
theorem dX0_goesOn_66 : decode cX0_goesOn 66 = .ok (.aload_n 0, 1) := dk_42 (dk_at dksX0_goesOn_2 18 rfl rfl)
theorem dX0_goesOn_67 : decode cX0_goesOn 67 = .ok (.getfield 10, 3) := dk_180 0 10 (dk_at dksX0_goesOn_2 19 rfl rfl)
theorem dX0_goesOn_70 : decode cX0_goesOn 70 = .ok (.iload_n 2, 1) := dk_28 (dk_at dksX0_goesOn_2 22 rfl rfl)
theorem dX0_goesOn_71 : decode cX0_goesOn 71 = .ok (.invokevirtual 222, 3) := dk_182 0 222 (dk_at dksX0_goesOn_3 0 rfl rfl)
theorem dX0_goesOn_74 : decode cX0_goesOn 74 = .ok (.iinc 2 1, 3) := dk_132 2 1 (dk_at dksX0_goesOn_3 3 rfl rfl)
theorem dX0_goesOn_77 : decode cX0_goesOn 77 = .ok (.goto (-75), 3) := dk_167 255 181 (dk_at dksX0_goesOn_3 6 rfl rfl)
theorem dX0_goesOn_80 : decode cX0_goesOn 80 = .ok (.aload_n 1, 1) := dk_43 (dk_at dksX0_goesOn_3 9 rfl rfl)
theorem dX0_goesOn_81 : decode cX0_goesOn 81 = .ok (.dup, 1) := dk_89 (dk_at dksX0_goesOn_3 10 rfl rfl)
theorem dX0_goesOn_82 : decode cX0_goesOn 82 = .ok (.getfield 201, 3) := dk_180 0 201 (dk_at dksX0_goesOn_3 11 rfl rfl)
theorem dX0_goesOn_85 : decode cX0_goesOn 85 = .ok (.iconst 1, 1) := dk_4 (dk_at dksX0_goesOn_3 14 rfl rfl)
theorem dX0_goesOn_86 : decode cX0_goesOn 86 = .ok (.iadd, 1) := dk_96 (dk_at dksX0_goesOn_3 15 rfl rfl)
theorem dX0_goesOn_87 : decode cX0_goesOn 87 = .ok (.putfield 201, 3) := dk_181 0 201 (dk_at dksX0_goesOn_3 16 rfl rfl)
theorem dX0_goesOn_90 : decode cX0_goesOn 90 = .ok (.aload_n 0, 1) := dk_42 (dk_at dksX0_goesOn_3 19 rfl rfl)
theorem dX0_goesOn_91 : decode cX0_goesOn 91 = .ok (.aload_n 1, 1) := dk_43 (dk_at dksX0_goesOn_3 20 rfl rfl)
theorem dX0_goesOn_92 : decode cX0_goesOn 92 = .ok (.iconst 0, 1) := dk_3 (dk_at dksX0_goesOn_3 21 rfl rfl)
theorem dX0_goesOn_93 : decode cX0_goesOn 93 = .ok (.invokevirtual 225, 3) := dk_182 0 225 (dk_at dksX0_goesOn_4 0 rfl rfl)
theorem dX0_goesOn_96 : decode cX0_goesOn 96 = .ok (.ireturn, 1) := dk_172 (dk_at dksX0_goesOn_4 3 rfl rfl)
abbrev cX0_turnOf : ByteArray := prog_1_method_18_code
def yX0_turnOf : MethodName := ⟨RX0, "turnOf", "(LEdgeWalk$State;I)I"⟩
def dkwX0_turnOf_9 : List UInt8 := [192, 0, 208, 42, 180, 0, 64, 182, 0, 210, 172]
abbrev dktX0_turnOf_9 : List UInt8 := dkwX0_turnOf_9 ++ []
def dkwX0_turnOf_8 : List UInt8 := [180, 0, 64, 16, 10, 43, 180, 0, 201, 133, 80, 42, 180, 0, 31, 42, 180, 0, 35, 182, 0, 204]
abbrev dktX0_turnOf_8 : List UInt8 := dkwX0_turnOf_8 ++ dktX0_turnOf_9
def dkwX0_turnOf_7 : List UInt8 := [16, 8, 43, 28, 182, 0, 197, 133, 80, 42, 180, 0, 64, 16, 9, 43, 180, 0, 165, 28, 46, 133, 80, 42]
abbrev dktX0_turnOf_7 : List UInt8 := dkwX0_turnOf_7 ++ dktX0_turnOf_8
def dkwX0_turnOf_6 : List UInt8 := [182, 0, 194, 182, 0, 183, 153, 0, 7, 4, 167, 0, 4, 3, 184, 0, 186, 133, 80, 42, 180, 0, 64]
abbrev dktX0_turnOf_6 : List UInt8 := dkwX0_turnOf_6 ++ dktX0_turnOf_7
def dkwX0_turnOf_5 : List UInt8 := [180, 0, 64, 16, 7, 21, 4, 158, 0, 28, 43, 42, 180, 0, 10, 29, 43, 180, 0, 153, 28, 46]
abbrev dktX0_turnOf_5 : List UInt8 := dkwX0_turnOf_5 ++ dktX0_turnOf_6
def dkwX0_turnOf_4 : List UInt8 := [180, 0, 64, 8, 43, 180, 0, 156, 28, 46, 133, 80, 42, 180, 0, 64, 16, 6, 21, 4, 133, 80, 42]
abbrev dktX0_turnOf_4 : List UInt8 := dkwX0_turnOf_4 ++ dktX0_turnOf_5
def dkwX0_turnOf_3 : List UInt8 := [42, 180, 0, 10, 180, 0, 97, 112, 133, 80, 42, 180, 0, 64, 7, 43, 180, 0, 153, 28, 46, 133, 80, 42]
abbrev dktX0_turnOf_3 : List UInt8 := dkwX0_turnOf_3 ++ dktX0_turnOf_4
def dkwX0_turnOf_2 : List UInt8 := [133, 80, 42, 180, 0, 64, 5, 29, 42, 180, 0, 10, 180, 0, 97, 108, 133, 80, 42, 180, 0, 64, 6, 29]
abbrev dktX0_turnOf_2 : List UInt8 := dkwX0_turnOf_2 ++ dktX0_turnOf_3
def dkwX0_turnOf_1 : List UInt8 := [180, 0, 153, 28, 46, 182, 0, 190, 54, 4, 42, 180, 0, 64, 3, 28, 133, 80, 42, 180, 0, 64, 4, 29]
abbrev dktX0_turnOf_1 : List UInt8 := dkwX0_turnOf_1 ++ dktX0_turnOf_2
def dkwX0_turnOf_0 : List UInt8 := [42, 180, 0, 35, 2, 160, 0, 5, 3, 172, 43, 180, 0, 150, 28, 46, 62, 42, 180, 0, 10, 29, 43]
abbrev dktX0_turnOf_0 : List UInt8 := dkwX0_turnOf_0 ++ dktX0_turnOf_1
theorem dksX0_turnOf_0 : cX0_turnOf.data.toList.drop 0 = dktX0_turnOf_0 := by decide +kernel
theorem dksX0_turnOf_1 : cX0_turnOf.data.toList.drop 23 = dktX0_turnOf_1 := dk_seg dksX0_turnOf_0 23 rfl rfl
theorem dksX0_turnOf_2 : cX0_turnOf.data.toList.drop 47 = dktX0_turnOf_2 := dk_seg dksX0_turnOf_1 24 rfl rfl
theorem dksX0_turnOf_3 : cX0_turnOf.data.toList.drop 71 = dktX0_turnOf_3 := dk_seg dksX0_turnOf_2 24 rfl rfl
theorem dksX0_turnOf_4 : cX0_turnOf.data.toList.drop 95 = dktX0_turnOf_4 := dk_seg dksX0_turnOf_3 24 rfl rfl
theorem dksX0_turnOf_5 : cX0_turnOf.data.toList.drop 118 = dktX0_turnOf_5 := dk_seg dksX0_turnOf_4 23 rfl rfl
theorem dksX0_turnOf_6 : cX0_turnOf.data.toList.drop 140 = dktX0_turnOf_6 := dk_seg dksX0_turnOf_5 22 rfl rfl
theorem dksX0_turnOf_7 : cX0_turnOf.data.toList.drop 163 = dktX0_turnOf_7 := dk_seg dksX0_turnOf_6 23 rfl rfl
theorem dksX0_turnOf_8 : cX0_turnOf.data.toList.drop 187 = dktX0_turnOf_8 := dk_seg dksX0_turnOf_7 24 rfl rfl
theorem dksX0_turnOf_9 : cX0_turnOf.data.toList.drop 209 = dktX0_turnOf_9 := dk_seg dksX0_turnOf_8 22 rfl rfl
theorem dX0_turnOf_0 : decode cX0_turnOf 0 = .ok (.aload_n 0, 1) := dk_42 (dk_at dksX0_turnOf_0 0 rfl rfl)
theorem dX0_turnOf_1 : decode cX0_turnOf 1 = .ok (.getfield 35, 3) := dk_180 0 35 (dk_at dksX0_turnOf_0 1 rfl rfl)
theorem dX0_turnOf_4 : decode cX0_turnOf 4 = .ok (.iconst (-1), 1) := dk_2 (dk_at dksX0_turnOf_0 4 rfl rfl)
theorem dX0_turnOf_5 : decode cX0_turnOf 5 = .ok (.if_icmp .ne 5, 3) := dk_160 0 5 (dk_at dksX0_turnOf_0 5 rfl rfl)
theorem dX0_turnOf_8 : decode cX0_turnOf 8 = .ok (.iconst 0, 1) := dk_3 (dk_at dksX0_turnOf_0 8 rfl rfl)
theorem dX0_turnOf_9 : decode cX0_turnOf 9 = .ok (.ireturn, 1) := dk_172 (dk_at dksX0_turnOf_0 9 rfl rfl)
theorem dX0_turnOf_10 : decode cX0_turnOf 10 = .ok (.aload_n 1, 1) := dk_43 (dk_at dksX0_turnOf_0 10 rfl rfl)
theorem dX0_turnOf_11 : decode cX0_turnOf 11 = .ok (.getfield 150, 3) := dk_180 0 150 (dk_at dksX0_turnOf_0 11 rfl rfl)
theorem dX0_turnOf_14 : decode cX0_turnOf 14 = .ok (.iload_n 2, 1) := dk_28 (dk_at dksX0_turnOf_0 14 rfl rfl)
theorem dX0_turnOf_15 : decode cX0_turnOf 15 = .ok (.iaload, 1) := dk_46 (dk_at dksX0_turnOf_0 15 rfl rfl)
theorem dX0_turnOf_16 : decode cX0_turnOf 16 = .ok (.istore_n 3, 1) := dk_62 (dk_at dksX0_turnOf_0 16 rfl rfl)
theorem dX0_turnOf_17 : decode cX0_turnOf 17 = .ok (.aload_n 0, 1) := dk_42 (dk_at dksX0_turnOf_0 17 rfl rfl)
theorem dX0_turnOf_18 : decode cX0_turnOf 18 = .ok (.getfield 10, 3) := dk_180 0 10 (dk_at dksX0_turnOf_0 18 rfl rfl)
theorem dX0_turnOf_21 : decode cX0_turnOf 21 = .ok (.iload_n 3, 1) := dk_29 (dk_at dksX0_turnOf_0 21 rfl rfl)
theorem dX0_turnOf_22 : decode cX0_turnOf 22 = .ok (.aload_n 1, 1) := dk_43 (dk_at dksX0_turnOf_0 22 rfl rfl)
theorem dX0_turnOf_23 : decode cX0_turnOf 23 = .ok (.getfield 153, 3) := dk_180 0 153 (dk_at dksX0_turnOf_1 0 rfl rfl)
theorem dX0_turnOf_26 : decode cX0_turnOf 26 = .ok (.iload_n 2, 1) := dk_28 (dk_at dksX0_turnOf_1 3 rfl rfl)
theorem dX0_turnOf_27 : decode cX0_turnOf 27 = .ok (.iaload, 1) := dk_46 (dk_at dksX0_turnOf_1 4 rfl rfl)
theorem dX0_turnOf_28 : decode cX0_turnOf 28 = .ok (.invokevirtual 190, 3) := dk_182 0 190 (dk_at dksX0_turnOf_1 5 rfl rfl)
theorem dX0_turnOf_31 : decode cX0_turnOf 31 = .ok (.istore 4, 2) := dk_54 4 (dk_at dksX0_turnOf_1 8 rfl rfl)
theorem dX0_turnOf_33 : decode cX0_turnOf 33 = .ok (.aload_n 0, 1) := dk_42 (dk_at dksX0_turnOf_1 10 rfl rfl)
theorem dX0_turnOf_34 : decode cX0_turnOf 34 = .ok (.getfield 64, 3) := dk_180 0 64 (dk_at dksX0_turnOf_1 11 rfl rfl)
theorem dX0_turnOf_37 : decode cX0_turnOf 37 = .ok (.iconst 0, 1) := dk_3 (dk_at dksX0_turnOf_1 14 rfl rfl)
theorem dX0_turnOf_38 : decode cX0_turnOf 38 = .ok (.iload_n 2, 1) := dk_28 (dk_at dksX0_turnOf_1 15 rfl rfl)
theorem dX0_turnOf_39 : decode cX0_turnOf 39 = .ok (.i2l, 1) := dk_133 (dk_at dksX0_turnOf_1 16 rfl rfl)
theorem dX0_turnOf_40 : decode cX0_turnOf 40 = .ok (.lastore, 1) := dk_80 (dk_at dksX0_turnOf_1 17 rfl rfl)
theorem dX0_turnOf_41 : decode cX0_turnOf 41 = .ok (.aload_n 0, 1) := dk_42 (dk_at dksX0_turnOf_1 18 rfl rfl)
theorem dX0_turnOf_42 : decode cX0_turnOf 42 = .ok (.getfield 64, 3) := dk_180 0 64 (dk_at dksX0_turnOf_1 19 rfl rfl)
theorem dX0_turnOf_45 : decode cX0_turnOf 45 = .ok (.iconst 1, 1) := dk_4 (dk_at dksX0_turnOf_1 22 rfl rfl)
theorem dX0_turnOf_46 : decode cX0_turnOf 46 = .ok (.iload_n 3, 1) := dk_29 (dk_at dksX0_turnOf_1 23 rfl rfl)
theorem dX0_turnOf_47 : decode cX0_turnOf 47 = .ok (.i2l, 1) := dk_133 (dk_at dksX0_turnOf_2 0 rfl rfl)
theorem dX0_turnOf_48 : decode cX0_turnOf 48 = .ok (.lastore, 1) := dk_80 (dk_at dksX0_turnOf_2 1 rfl rfl)
theorem dX0_turnOf_49 : decode cX0_turnOf 49 = .ok (.aload_n 0, 1) := dk_42 (dk_at dksX0_turnOf_2 2 rfl rfl)
theorem dX0_turnOf_50 : decode cX0_turnOf 50 = .ok (.getfield 64, 3) := dk_180 0 64 (dk_at dksX0_turnOf_2 3 rfl rfl)
theorem dX0_turnOf_53 : decode cX0_turnOf 53 = .ok (.iconst 2, 1) := dk_5 (dk_at dksX0_turnOf_2 6 rfl rfl)
theorem dX0_turnOf_54 : decode cX0_turnOf 54 = .ok (.iload_n 3, 1) := dk_29 (dk_at dksX0_turnOf_2 7 rfl rfl)
theorem dX0_turnOf_55 : decode cX0_turnOf 55 = .ok (.aload_n 0, 1) := dk_42 (dk_at dksX0_turnOf_2 8 rfl rfl)
theorem dX0_turnOf_56 : decode cX0_turnOf 56 = .ok (.getfield 10, 3) := dk_180 0 10 (dk_at dksX0_turnOf_2 9 rfl rfl)
theorem dX0_turnOf_59 : decode cX0_turnOf 59 = .ok (.getfield 97, 3) := dk_180 0 97 (dk_at dksX0_turnOf_2 12 rfl rfl)
theorem dX0_turnOf_62 : decode cX0_turnOf 62 = .ok (.idiv, 1) := dk_108 (dk_at dksX0_turnOf_2 15 rfl rfl)
theorem dX0_turnOf_63 : decode cX0_turnOf 63 = .ok (.i2l, 1) := dk_133 (dk_at dksX0_turnOf_2 16 rfl rfl)
theorem dX0_turnOf_64 : decode cX0_turnOf 64 = .ok (.lastore, 1) := dk_80 (dk_at dksX0_turnOf_2 17 rfl rfl)
theorem dX0_turnOf_65 : decode cX0_turnOf 65 = .ok (.aload_n 0, 1) := dk_42 (dk_at dksX0_turnOf_2 18 rfl rfl)
theorem dX0_turnOf_66 : decode cX0_turnOf 66 = .ok (.getfield 64, 3) := dk_180 0 64 (dk_at dksX0_turnOf_2 19 rfl rfl)
theorem dX0_turnOf_69 : decode cX0_turnOf 69 = .ok (.iconst 3, 1) := dk_6 (dk_at dksX0_turnOf_2 22 rfl rfl)
theorem dX0_turnOf_70 : decode cX0_turnOf 70 = .ok (.iload_n 3, 1) := dk_29 (dk_at dksX0_turnOf_2 23 rfl rfl)
theorem dX0_turnOf_71 : decode cX0_turnOf 71 = .ok (.aload_n 0, 1) := dk_42 (dk_at dksX0_turnOf_3 0 rfl rfl)
theorem dX0_turnOf_72 : decode cX0_turnOf 72 = .ok (.getfield 10, 3) := dk_180 0 10 (dk_at dksX0_turnOf_3 1 rfl rfl)
theorem dX0_turnOf_75 : decode cX0_turnOf 75 = .ok (.getfield 97, 3) := dk_180 0 97 (dk_at dksX0_turnOf_3 4 rfl rfl)
theorem dX0_turnOf_78 : decode cX0_turnOf 78 = .ok (.irem, 1) := dk_112 (dk_at dksX0_turnOf_3 7 rfl rfl)
theorem dX0_turnOf_79 : decode cX0_turnOf 79 = .ok (.i2l, 1) := dk_133 (dk_at dksX0_turnOf_3 8 rfl rfl)
theorem dX0_turnOf_80 : decode cX0_turnOf 80 = .ok (.lastore, 1) := dk_80 (dk_at dksX0_turnOf_3 9 rfl rfl)
theorem dX0_turnOf_81 : decode cX0_turnOf 81 = .ok (.aload_n 0, 1) := dk_42 (dk_at dksX0_turnOf_3 10 rfl rfl)
theorem dX0_turnOf_82 : decode cX0_turnOf 82 = .ok (.getfield 64, 3) := dk_180 0 64 (dk_at dksX0_turnOf_3 11 rfl rfl)
theorem dX0_turnOf_85 : decode cX0_turnOf 85 = .ok (.iconst 4, 1) := dk_7 (dk_at dksX0_turnOf_3 14 rfl rfl)
theorem dX0_turnOf_86 : decode cX0_turnOf 86 = .ok (.aload_n 1, 1) := dk_43 (dk_at dksX0_turnOf_3 15 rfl rfl)
theorem dX0_turnOf_87 : decode cX0_turnOf 87 = .ok (.getfield 153, 3) := dk_180 0 153 (dk_at dksX0_turnOf_3 16 rfl rfl)
theorem dX0_turnOf_90 : decode cX0_turnOf 90 = .ok (.iload_n 2, 1) := dk_28 (dk_at dksX0_turnOf_3 19 rfl rfl)
theorem dX0_turnOf_91 : decode cX0_turnOf 91 = .ok (.iaload, 1) := dk_46 (dk_at dksX0_turnOf_3 20 rfl rfl)
theorem dX0_turnOf_92 : decode cX0_turnOf 92 = .ok (.i2l, 1) := dk_133 (dk_at dksX0_turnOf_3 21 rfl rfl)
theorem dX0_turnOf_93 : decode cX0_turnOf 93 = .ok (.lastore, 1) := dk_80 (dk_at dksX0_turnOf_3 22 rfl rfl)
theorem dX0_turnOf_94 : decode cX0_turnOf 94 = .ok (.aload_n 0, 1) := dk_42 (dk_at dksX0_turnOf_3 23 rfl rfl)
theorem dX0_turnOf_95 : decode cX0_turnOf 95 = .ok (.getfield 64, 3) := dk_180 0 64 (dk_at dksX0_turnOf_4 0 rfl rfl)
theorem dX0_turnOf_98 : decode cX0_turnOf 98 = .ok (.iconst 5, 1) := dk_8 (dk_at dksX0_turnOf_4 3 rfl rfl)
theorem dX0_turnOf_99 : decode cX0_turnOf 99 = .ok (.aload_n 1, 1) := dk_43 (dk_at dksX0_turnOf_4 4 rfl rfl)
theorem dX0_turnOf_100 : decode cX0_turnOf 100 = .ok (.getfield 156, 3) := dk_180 0 156 (dk_at dksX0_turnOf_4 5 rfl rfl)
theorem dX0_turnOf_103 : decode cX0_turnOf 103 = .ok (.iload_n 2, 1) := dk_28 (dk_at dksX0_turnOf_4 8 rfl rfl)
theorem dX0_turnOf_104 : decode cX0_turnOf 104 = .ok (.iaload, 1) := dk_46 (dk_at dksX0_turnOf_4 9 rfl rfl)
theorem dX0_turnOf_105 : decode cX0_turnOf 105 = .ok (.i2l, 1) := dk_133 (dk_at dksX0_turnOf_4 10 rfl rfl)
theorem dX0_turnOf_106 : decode cX0_turnOf 106 = .ok (.lastore, 1) := dk_80 (dk_at dksX0_turnOf_4 11 rfl rfl)
theorem dX0_turnOf_107 : decode cX0_turnOf 107 = .ok (.aload_n 0, 1) := dk_42 (dk_at dksX0_turnOf_4 12 rfl rfl)
theorem dX0_turnOf_108 : decode cX0_turnOf 108 = .ok (.getfield 64, 3) := dk_180 0 64 (dk_at dksX0_turnOf_4 13 rfl rfl)
theorem dX0_turnOf_111 : decode cX0_turnOf 111 = .ok (.bipush 6, 2) := dk_16 6 (dk_at dksX0_turnOf_4 16 rfl rfl)
theorem dX0_turnOf_113 : decode cX0_turnOf 113 = .ok (.iload 4, 2) := dk_21 4 (dk_at dksX0_turnOf_4 18 rfl rfl)
theorem dX0_turnOf_115 : decode cX0_turnOf 115 = .ok (.i2l, 1) := dk_133 (dk_at dksX0_turnOf_4 20 rfl rfl)
theorem dX0_turnOf_116 : decode cX0_turnOf 116 = .ok (.lastore, 1) := dk_80 (dk_at dksX0_turnOf_4 21 rfl rfl)
theorem dX0_turnOf_117 : decode cX0_turnOf 117 = .ok (.aload_n 0, 1) := dk_42 (dk_at dksX0_turnOf_4 22 rfl rfl)
theorem dX0_turnOf_118 : decode cX0_turnOf 118 = .ok (.getfield 64, 3) := dk_180 0 64 (dk_at dksX0_turnOf_5 0 rfl rfl)
theorem dX0_turnOf_121 : decode cX0_turnOf 121 = .ok (.bipush 7, 2) := dk_16 7 (dk_at dksX0_turnOf_5 3 rfl rfl)
theorem dX0_turnOf_123 : decode cX0_turnOf 123 = .ok (.iload 4, 2) := dk_21 4 (dk_at dksX0_turnOf_5 5 rfl rfl)
theorem dX0_turnOf_125 : decode cX0_turnOf 125 = .ok (.ifCond .le 28, 3) := dk_158 0 28 (dk_at dksX0_turnOf_5 7 rfl rfl)
theorem dX0_turnOf_128 : decode cX0_turnOf 128 = .ok (.aload_n 1, 1) := dk_43 (dk_at dksX0_turnOf_5 10 rfl rfl)
theorem dX0_turnOf_129 : decode cX0_turnOf 129 = .ok (.aload_n 0, 1) := dk_42 (dk_at dksX0_turnOf_5 11 rfl rfl)
theorem dX0_turnOf_130 : decode cX0_turnOf 130 = .ok (.getfield 10, 3) := dk_180 0 10 (dk_at dksX0_turnOf_5 12 rfl rfl)
theorem dX0_turnOf_133 : decode cX0_turnOf 133 = .ok (.iload_n 3, 1) := dk_29 (dk_at dksX0_turnOf_5 15 rfl rfl)
theorem dX0_turnOf_134 : decode cX0_turnOf 134 = .ok (.aload_n 1, 1) := dk_43 (dk_at dksX0_turnOf_5 16 rfl rfl)
theorem dX0_turnOf_135 : decode cX0_turnOf 135 = .ok (.getfield 153, 3) := dk_180 0 153 (dk_at dksX0_turnOf_5 17 rfl rfl)
theorem dX0_turnOf_138 : decode cX0_turnOf 138 = .ok (.iload_n 2, 1) := dk_28 (dk_at dksX0_turnOf_5 20 rfl rfl)
theorem dX0_turnOf_139 : decode cX0_turnOf 139 = .ok (.iaload, 1) := dk_46 (dk_at dksX0_turnOf_5 21 rfl rfl)
theorem dX0_turnOf_140 : decode cX0_turnOf 140 = .ok (.invokevirtual 194, 3) := dk_182 0 194 (dk_at dksX0_turnOf_6 0 rfl rfl)
theorem dX0_turnOf_143 : decode cX0_turnOf 143 = .ok (.invokevirtual 183, 3) := dk_182 0 183 (dk_at dksX0_turnOf_6 3 rfl rfl)
theorem dX0_turnOf_146 : decode cX0_turnOf 146 = .ok (.ifCond .eq 7, 3) := dk_153 0 7 (dk_at dksX0_turnOf_6 6 rfl rfl)
theorem dX0_turnOf_149 : decode cX0_turnOf 149 = .ok (.iconst 1, 1) := dk_4 (dk_at dksX0_turnOf_6 9 rfl rfl)
theorem dX0_turnOf_150 : decode cX0_turnOf 150 = .ok (.goto 4, 3) := dk_167 0 4 (dk_at dksX0_turnOf_6 10 rfl rfl)
theorem dX0_turnOf_153 : decode cX0_turnOf 153 = .ok (.iconst 0, 1) := dk_3 (dk_at dksX0_turnOf_6 13 rfl rfl)
theorem dX0_turnOf_154 : decode cX0_turnOf 154 = .ok (.invokestatic 186, 3) := dk_184 0 186 (dk_at dksX0_turnOf_6 14 rfl rfl)
theorem dX0_turnOf_157 : decode cX0_turnOf 157 = .ok (.i2l, 1) := dk_133 (dk_at dksX0_turnOf_6 17 rfl rfl)
theorem dX0_turnOf_158 : decode cX0_turnOf 158 = .ok (.lastore, 1) := dk_80 (dk_at dksX0_turnOf_6 18 rfl rfl)
theorem dX0_turnOf_159 : decode cX0_turnOf 159 = .ok (.aload_n 0, 1) := dk_42 (dk_at dksX0_turnOf_6 19 rfl rfl)
theorem dX0_turnOf_160 : decode cX0_turnOf 160 = .ok (.getfield 64, 3) := dk_180 0 64 (dk_at dksX0_turnOf_6 20 rfl rfl)
theorem dX0_turnOf_163 : decode cX0_turnOf 163 = .ok (.bipush 8, 2) := dk_16 8 (dk_at dksX0_turnOf_7 0 rfl rfl)
theorem dX0_turnOf_165 : decode cX0_turnOf 165 = .ok (.aload_n 1, 1) := dk_43 (dk_at dksX0_turnOf_7 2 rfl rfl)
theorem dX0_turnOf_166 : decode cX0_turnOf 166 = .ok (.iload_n 2, 1) := dk_28 (dk_at dksX0_turnOf_7 3 rfl rfl)
theorem dX0_turnOf_167 : decode cX0_turnOf 167 = .ok (.invokevirtual 197, 3) := dk_182 0 197 (dk_at dksX0_turnOf_7 4 rfl rfl)
theorem dX0_turnOf_170 : decode cX0_turnOf 170 = .ok (.i2l, 1) := dk_133 (dk_at dksX0_turnOf_7 7 rfl rfl)
theorem dX0_turnOf_171 : decode cX0_turnOf 171 = .ok (.lastore, 1) := dk_80 (dk_at dksX0_turnOf_7 8 rfl rfl)
theorem dX0_turnOf_172 : decode cX0_turnOf 172 = .ok (.aload_n 0, 1) := dk_42 (dk_at dksX0_turnOf_7 9 rfl rfl)
theorem dX0_turnOf_173 : decode cX0_turnOf 173 = .ok (.getfield 64, 3) := dk_180 0 64 (dk_at dksX0_turnOf_7 10 rfl rfl)
theorem dX0_turnOf_176 : decode cX0_turnOf 176 = .ok (.bipush 9, 2) := dk_16 9 (dk_at dksX0_turnOf_7 13 rfl rfl)
theorem dX0_turnOf_178 : decode cX0_turnOf 178 = .ok (.aload_n 1, 1) := dk_43 (dk_at dksX0_turnOf_7 15 rfl rfl)
theorem dX0_turnOf_179 : decode cX0_turnOf 179 = .ok (.getfield 165, 3) := dk_180 0 165 (dk_at dksX0_turnOf_7 16 rfl rfl)
theorem dX0_turnOf_182 : decode cX0_turnOf 182 = .ok (.iload_n 2, 1) := dk_28 (dk_at dksX0_turnOf_7 19 rfl rfl)
theorem dX0_turnOf_183 : decode cX0_turnOf 183 = .ok (.iaload, 1) := dk_46 (dk_at dksX0_turnOf_7 20 rfl rfl)
theorem dX0_turnOf_184 : decode cX0_turnOf 184 = .ok (.i2l, 1) := dk_133 (dk_at dksX0_turnOf_7 21 rfl rfl)
theorem dX0_turnOf_185 : decode cX0_turnOf 185 = .ok (.lastore, 1) := dk_80 (dk_at dksX0_turnOf_7 22 rfl rfl)
theorem dX0_turnOf_186 : decode cX0_turnOf 186 = .ok (.aload_n 0, 1) := dk_42 (dk_at dksX0_turnOf_7 23 rfl rfl)
theorem dX0_turnOf_187 : decode cX0_turnOf 187 = .ok (.getfield 64, 3) := dk_180 0 64 (dk_at dksX0_turnOf_8 0 rfl rfl)
theorem dX0_turnOf_190 : decode cX0_turnOf 190 = .ok (.bipush 10, 2) := dk_16 10 (dk_at dksX0_turnOf_8 3 rfl rfl)
theorem dX0_turnOf_192 : decode cX0_turnOf 192 = .ok (.aload_n 1, 1) := dk_43 (dk_at dksX0_turnOf_8 5 rfl rfl)
theorem dX0_turnOf_193 : decode cX0_turnOf 193 = .ok (.getfield 201, 3) := dk_180 0 201 (dk_at dksX0_turnOf_8 6 rfl rfl)
theorem dX0_turnOf_196 : decode cX0_turnOf 196 = .ok (.i2l, 1) := dk_133 (dk_at dksX0_turnOf_8 9 rfl rfl)
theorem dX0_turnOf_197 : decode cX0_turnOf 197 = .ok (.lastore, 1) := dk_80 (dk_at dksX0_turnOf_8 10 rfl rfl)
theorem dX0_turnOf_198 : decode cX0_turnOf 198 = .ok (.aload_n 0, 1) := dk_42 (dk_at dksX0_turnOf_8 11 rfl rfl)
theorem dX0_turnOf_199 : decode cX0_turnOf 199 = .ok (.getfield 31, 3) := dk_180 0 31 (dk_at dksX0_turnOf_8 12 rfl rfl)
theorem dX0_turnOf_202 : decode cX0_turnOf 202 = .ok (.aload_n 0, 1) := dk_42 (dk_at dksX0_turnOf_8 15 rfl rfl)
theorem dX0_turnOf_203 : decode cX0_turnOf 203 = .ok (.getfield 35, 3) := dk_180 0 35 (dk_at dksX0_turnOf_8 16 rfl rfl)
theorem dX0_turnOf_206 : decode cX0_turnOf 206 = .ok (.invokevirtual 204, 3) := dk_182 0 204 (dk_at dksX0_turnOf_8 19 rfl rfl)
theorem dX0_turnOf_209 : decode cX0_turnOf 209 = .ok (.checkcast 208, 3) := dk_192 0 208 (dk_at dksX0_turnOf_9 0 rfl rfl)
theorem dX0_turnOf_212 : decode cX0_turnOf 212 = .ok (.aload_n 0, 1) := dk_42 (dk_at dksX0_turnOf_9 3 rfl rfl)
theorem dX0_turnOf_213 : decode cX0_turnOf 213 = .ok (.getfield 64, 3) := dk_180 0 64 (dk_at dksX0_turnOf_9 4 rfl rfl)
theorem dX0_turnOf_216 : decode cX0_turnOf 216 = .ok (.invokevirtual 210, 3) := dk_182 0 210 (dk_at dksX0_turnOf_9 7 rfl rfl)
theorem dX0_turnOf_219 : decode cX0_turnOf 219 = .ok (.ireturn, 1) := dk_172 (dk_at dksX0_turnOf_9 10 rfl rfl)
abbrev cX0_those : ByteArray := prog_1_method_20_code
def yX0_those : MethodName := ⟨RX0, "those", "(LEdgeWalk$State;I)I"⟩
def dkwX0_those_0 : List UInt8 := [43, 28, 42, 180, 0, 10, 182, 0, 100, 182, 0, 228, 172]
abbrev dktX0_those_0 : List UInt8 := dkwX0_those_0 ++ []
theorem dksX0_those_0 : cX0_those.data.toList.drop 0 = dktX0_those_0 := by decide +kernel
theorem dX0_those_0 : decode cX0_those 0 = .ok (.aload_n 1, 1) := dk_43 (dk_at dksX0_those_0 0 rfl rfl)
theorem dX0_those_1 : decode cX0_those 1 = .ok (.iload_n 2, 1) := dk_28 (dk_at dksX0_those_0 1 rfl rfl)
theorem dX0_those_2 : decode cX0_those 2 = .ok (.aload_n 0, 1) := dk_42 (dk_at dksX0_those_0 2 rfl rfl)
theorem dX0_those_3 : decode cX0_those 3 = .ok (.getfield 10, 3) := dk_180 0 10 (dk_at dksX0_those_0 3 rfl rfl)
theorem dX0_those_6 : decode cX0_those 6 = .ok (.invokevirtual 100, 3) := dk_182 0 100 (dk_at dksX0_those_0 6 rfl rfl)
theorem dX0_those_9 : decode cX0_those 9 = .ok (.invokevirtual 228, 3) := dk_182 0 228 (dk_at dksX0_those_0 9 rfl rfl)
theorem dX0_those_12 : decode cX0_those 12 = .ok (.ireturn, 1) := dk_172 (dk_at dksX0_those_0 12 rfl rfl)
abbrev cX0_give : ByteArray := prog_1_method_26_code
def yX0_give : MethodName := ⟨RX0, "give", "(II)I"⟩
def dkwX0_give_3 : List UInt8 := [27, 46, 172]
abbrev dktX0_give_3 : List UInt8 := dkwX0_give_3 ++ []
def dkwX0_give_2 : List UInt8 := [16, 99, 42, 180, 0, 19, 180, 0, 156, 27, 46, 28, 96, 184, 0, 240, 79, 42, 180, 0, 19, 180, 0, 156]
abbrev dktX0_give_2 : List UInt8 := dkwX0_give_2 ++ dktX0_give_3
def dkwX0_give_1 : List UInt8 := [180, 0, 159, 27, 46, 5, 160, 0, 5, 2, 172, 42, 182, 0, 245, 42, 180, 0, 19, 180, 0, 156, 27]
abbrev dktX0_give_1 : List UInt8 := dkwX0_give_1 ++ dktX0_give_2
def dkwX0_give_0 : List UInt8 := [42, 27, 182, 0, 146, 153, 0, 28, 28, 133, 10, 20, 0, 248, 184, 0, 104, 153, 0, 16, 42, 180, 0, 19]
abbrev dktX0_give_0 : List UInt8 := dkwX0_give_0 ++ dktX0_give_1
theorem dksX0_give_0 : cX0_give.data.toList.drop 0 = dktX0_give_0 := by decide +kernel
theorem dksX0_give_1 : cX0_give.data.toList.drop 24 = dktX0_give_1 := dk_seg dksX0_give_0 24 rfl rfl
theorem dksX0_give_2 : cX0_give.data.toList.drop 47 = dktX0_give_2 := dk_seg dksX0_give_1 23 rfl rfl
theorem dksX0_give_3 : cX0_give.data.toList.drop 71 = dktX0_give_3 := dk_seg dksX0_give_2 24 rfl rfl
theorem dX0_give_0 : decode cX0_give 0 = .ok (.aload_n 0, 1) := dk_42 (dk_at dksX0_give_0 0 rfl rfl)
theorem dX0_give_1 : decode cX0_give 1 = .ok (.iload_n 1, 1) := dk_27 (dk_at dksX0_give_0 1 rfl rfl)
theorem dX0_give_2 : decode cX0_give 2 = .ok (.invokevirtual 146, 3) := dk_182 0 146 (dk_at dksX0_give_0 2 rfl rfl)
theorem dX0_give_5 : decode cX0_give 5 = .ok (.ifCond .eq 28, 3) := dk_153 0 28 (dk_at dksX0_give_0 5 rfl rfl)
theorem dX0_give_8 : decode cX0_give 8 = .ok (.iload_n 2, 1) := dk_28 (dk_at dksX0_give_0 8 rfl rfl)
theorem dX0_give_9 : decode cX0_give 9 = .ok (.i2l, 1) := dk_133 (dk_at dksX0_give_0 9 rfl rfl)
theorem dX0_give_10 : decode cX0_give 10 = .ok (.lconst 1, 1) := dk_10 (dk_at dksX0_give_0 10 rfl rfl)
theorem dX0_give_11 : decode cX0_give 11 = .ok (.ldc2_w 248, 3) := dk_20 0 248 (dk_at dksX0_give_0 11 rfl rfl)
theorem dX0_give_14 : decode cX0_give 14 = .ok (.invokestatic 104, 3) := dk_184 0 104 (dk_at dksX0_give_0 14 rfl rfl)
theorem dX0_give_17 : decode cX0_give 17 = .ok (.ifCond .eq 16, 3) := dk_153 0 16 (dk_at dksX0_give_0 17 rfl rfl)
theorem dX0_give_20 : decode cX0_give 20 = .ok (.aload_n 0, 1) := dk_42 (dk_at dksX0_give_0 20 rfl rfl)
theorem dX0_give_21 : decode cX0_give 21 = .ok (.getfield 19, 3) := dk_180 0 19 (dk_at dksX0_give_0 21 rfl rfl)
theorem dX0_give_24 : decode cX0_give 24 = .ok (.getfield 159, 3) := dk_180 0 159 (dk_at dksX0_give_1 0 rfl rfl)
theorem dX0_give_27 : decode cX0_give 27 = .ok (.iload_n 1, 1) := dk_27 (dk_at dksX0_give_1 3 rfl rfl)
theorem dX0_give_28 : decode cX0_give 28 = .ok (.iaload, 1) := dk_46 (dk_at dksX0_give_1 4 rfl rfl)
theorem dX0_give_29 : decode cX0_give 29 = .ok (.iconst 2, 1) := dk_5 (dk_at dksX0_give_1 5 rfl rfl)
theorem dX0_give_30 : decode cX0_give 30 = .ok (.if_icmp .ne 5, 3) := dk_160 0 5 (dk_at dksX0_give_1 6 rfl rfl)
theorem dX0_give_33 : decode cX0_give 33 = .ok (.iconst (-1), 1) := dk_2 (dk_at dksX0_give_1 9 rfl rfl)
theorem dX0_give_34 : decode cX0_give 34 = .ok (.ireturn, 1) := dk_172 (dk_at dksX0_give_1 10 rfl rfl)
theorem dX0_give_35 : decode cX0_give 35 = .ok (.aload_n 0, 1) := dk_42 (dk_at dksX0_give_1 11 rfl rfl)
theorem dX0_give_36 : decode cX0_give 36 = .ok (.invokevirtual 245, 3) := dk_182 0 245 (dk_at dksX0_give_1 12 rfl rfl)
theorem dX0_give_39 : decode cX0_give 39 = .ok (.aload_n 0, 1) := dk_42 (dk_at dksX0_give_1 15 rfl rfl)
theorem dX0_give_40 : decode cX0_give 40 = .ok (.getfield 19, 3) := dk_180 0 19 (dk_at dksX0_give_1 16 rfl rfl)
theorem dX0_give_43 : decode cX0_give 43 = .ok (.getfield 156, 3) := dk_180 0 156 (dk_at dksX0_give_1 19 rfl rfl)
theorem dX0_give_46 : decode cX0_give 46 = .ok (.iload_n 1, 1) := dk_27 (dk_at dksX0_give_1 22 rfl rfl)
theorem dX0_give_47 : decode cX0_give 47 = .ok (.bipush 99, 2) := dk_16 99 (dk_at dksX0_give_2 0 rfl rfl)
theorem dX0_give_49 : decode cX0_give 49 = .ok (.aload_n 0, 1) := dk_42 (dk_at dksX0_give_2 2 rfl rfl)
theorem dX0_give_50 : decode cX0_give 50 = .ok (.getfield 19, 3) := dk_180 0 19 (dk_at dksX0_give_2 3 rfl rfl)
theorem dX0_give_53 : decode cX0_give 53 = .ok (.getfield 156, 3) := dk_180 0 156 (dk_at dksX0_give_2 6 rfl rfl)
theorem dX0_give_56 : decode cX0_give 56 = .ok (.iload_n 1, 1) := dk_27 (dk_at dksX0_give_2 9 rfl rfl)
theorem dX0_give_57 : decode cX0_give 57 = .ok (.iaload, 1) := dk_46 (dk_at dksX0_give_2 10 rfl rfl)
theorem dX0_give_58 : decode cX0_give 58 = .ok (.iload_n 2, 1) := dk_28 (dk_at dksX0_give_2 11 rfl rfl)
theorem dX0_give_59 : decode cX0_give 59 = .ok (.iadd, 1) := dk_96 (dk_at dksX0_give_2 12 rfl rfl)
theorem dX0_give_60 : decode cX0_give 60 = .ok (.invokestatic 240, 3) := dk_184 0 240 (dk_at dksX0_give_2 13 rfl rfl)
theorem dX0_give_63 : decode cX0_give 63 = .ok (.iastore, 1) := dk_79 (dk_at dksX0_give_2 16 rfl rfl)
theorem dX0_give_64 : decode cX0_give 64 = .ok (.aload_n 0, 1) := dk_42 (dk_at dksX0_give_2 17 rfl rfl)
theorem dX0_give_65 : decode cX0_give 65 = .ok (.getfield 19, 3) := dk_180 0 19 (dk_at dksX0_give_2 18 rfl rfl)
theorem dX0_give_68 : decode cX0_give 68 = .ok (.getfield 156, 3) := dk_180 0 156 (dk_at dksX0_give_2 21 rfl rfl)
theorem dX0_give_71 : decode cX0_give 71 = .ok (.iload_n 1, 1) := dk_27 (dk_at dksX0_give_3 0 rfl rfl)
theorem dX0_give_72 : decode cX0_give 72 = .ok (.iaload, 1) := dk_46 (dk_at dksX0_give_3 1 rfl rfl)
theorem dX0_give_73 : decode cX0_give 73 = .ok (.ireturn, 1) := dk_172 (dk_at dksX0_give_3 2 rfl rfl)
abbrev cX0_way : ByteArray := prog_1_method_27_code
def yX0_way : MethodName := ⟨RX0, "way", "(II)I"⟩
def dkwX0_way_3 : List UInt8 := [172]
abbrev dktX0_way_3 : List UInt8 := dkwX0_way_3 ++ []
def dkwX0_way_2 : List UInt8 := [182, 0, 245, 42, 180, 0, 19, 180, 0, 153, 27, 46, 62, 42, 180, 0, 19, 180, 0, 153, 27, 28, 79, 29]
abbrev dktX0_way_2 : List UInt8 := dkwX0_way_2 ++ dktX0_way_3
def dkwX0_way_1 : List UInt8 := [180, 0, 159, 27, 46, 154, 0, 16, 42, 180, 0, 19, 180, 0, 153, 27, 46, 28, 160, 0, 5, 2, 172, 42]
abbrev dktX0_way_1 : List UInt8 := dkwX0_way_1 ++ dktX0_way_2
def dkwX0_way_0 : List UInt8 := [42, 27, 182, 0, 146, 153, 0, 40, 28, 133, 9, 20, 0, 172, 184, 0, 104, 153, 0, 28, 42, 180, 0, 19]
abbrev dktX0_way_0 : List UInt8 := dkwX0_way_0 ++ dktX0_way_1
theorem dksX0_way_0 : cX0_way.data.toList.drop 0 = dktX0_way_0 := by decide +kernel
theorem dksX0_way_1 : cX0_way.data.toList.drop 24 = dktX0_way_1 := dk_seg dksX0_way_0 24 rfl rfl
theorem dksX0_way_2 : cX0_way.data.toList.drop 48 = dktX0_way_2 := dk_seg dksX0_way_1 24 rfl rfl
theorem dksX0_way_3 : cX0_way.data.toList.drop 72 = dktX0_way_3 := dk_seg dksX0_way_2 24 rfl rfl
theorem dX0_way_0 : decode cX0_way 0 = .ok (.aload_n 0, 1) := dk_42 (dk_at dksX0_way_0 0 rfl rfl)
theorem dX0_way_1 : decode cX0_way 1 = .ok (.iload_n 1, 1) := dk_27 (dk_at dksX0_way_0 1 rfl rfl)
theorem dX0_way_2 : decode cX0_way 2 = .ok (.invokevirtual 146, 3) := dk_182 0 146 (dk_at dksX0_way_0 2 rfl rfl)
theorem dX0_way_5 : decode cX0_way 5 = .ok (.ifCond .eq 40, 3) := dk_153 0 40 (dk_at dksX0_way_0 5 rfl rfl)
theorem dX0_way_8 : decode cX0_way 8 = .ok (.iload_n 2, 1) := dk_28 (dk_at dksX0_way_0 8 rfl rfl)
theorem dX0_way_9 : decode cX0_way 9 = .ok (.i2l, 1) := dk_133 (dk_at dksX0_way_0 9 rfl rfl)
theorem dX0_way_10 : decode cX0_way 10 = .ok (.lconst 0, 1) := dk_9 (dk_at dksX0_way_0 10 rfl rfl)
theorem dX0_way_11 : decode cX0_way 11 = .ok (.ldc2_w 172, 3) := dk_20 0 172 (dk_at dksX0_way_0 11 rfl rfl)
theorem dX0_way_14 : decode cX0_way 14 = .ok (.invokestatic 104, 3) := dk_184 0 104 (dk_at dksX0_way_0 14 rfl rfl)
theorem dX0_way_17 : decode cX0_way 17 = .ok (.ifCond .eq 28, 3) := dk_153 0 28 (dk_at dksX0_way_0 17 rfl rfl)
theorem dX0_way_20 : decode cX0_way 20 = .ok (.aload_n 0, 1) := dk_42 (dk_at dksX0_way_0 20 rfl rfl)
theorem dX0_way_21 : decode cX0_way 21 = .ok (.getfield 19, 3) := dk_180 0 19 (dk_at dksX0_way_0 21 rfl rfl)
theorem dX0_way_24 : decode cX0_way 24 = .ok (.getfield 159, 3) := dk_180 0 159 (dk_at dksX0_way_1 0 rfl rfl)
theorem dX0_way_27 : decode cX0_way 27 = .ok (.iload_n 1, 1) := dk_27 (dk_at dksX0_way_1 3 rfl rfl)
theorem dX0_way_28 : decode cX0_way 28 = .ok (.iaload, 1) := dk_46 (dk_at dksX0_way_1 4 rfl rfl)
theorem dX0_way_29 : decode cX0_way 29 = .ok (.ifCond .ne 16, 3) := dk_154 0 16 (dk_at dksX0_way_1 5 rfl rfl)
theorem dX0_way_32 : decode cX0_way 32 = .ok (.aload_n 0, 1) := dk_42 (dk_at dksX0_way_1 8 rfl rfl)
theorem dX0_way_33 : decode cX0_way 33 = .ok (.getfield 19, 3) := dk_180 0 19 (dk_at dksX0_way_1 9 rfl rfl)
theorem dX0_way_36 : decode cX0_way 36 = .ok (.getfield 153, 3) := dk_180 0 153 (dk_at dksX0_way_1 12 rfl rfl)
theorem dX0_way_39 : decode cX0_way 39 = .ok (.iload_n 1, 1) := dk_27 (dk_at dksX0_way_1 15 rfl rfl)
theorem dX0_way_40 : decode cX0_way 40 = .ok (.iaload, 1) := dk_46 (dk_at dksX0_way_1 16 rfl rfl)
theorem dX0_way_41 : decode cX0_way 41 = .ok (.iload_n 2, 1) := dk_28 (dk_at dksX0_way_1 17 rfl rfl)
theorem dX0_way_42 : decode cX0_way 42 = .ok (.if_icmp .ne 5, 3) := dk_160 0 5 (dk_at dksX0_way_1 18 rfl rfl)
theorem dX0_way_45 : decode cX0_way 45 = .ok (.iconst (-1), 1) := dk_2 (dk_at dksX0_way_1 21 rfl rfl)
theorem dX0_way_46 : decode cX0_way 46 = .ok (.ireturn, 1) := dk_172 (dk_at dksX0_way_1 22 rfl rfl)
theorem dX0_way_47 : decode cX0_way 47 = .ok (.aload_n 0, 1) := dk_42 (dk_at dksX0_way_1 23 rfl rfl)
theorem dX0_way_48 : decode cX0_way 48 = .ok (.invokevirtual 245, 3) := dk_182 0 245 (dk_at dksX0_way_2 0 rfl rfl)
theorem dX0_way_51 : decode cX0_way 51 = .ok (.aload_n 0, 1) := dk_42 (dk_at dksX0_way_2 3 rfl rfl)
theorem dX0_way_52 : decode cX0_way 52 = .ok (.getfield 19, 3) := dk_180 0 19 (dk_at dksX0_way_2 4 rfl rfl)
theorem dX0_way_55 : decode cX0_way 55 = .ok (.getfield 153, 3) := dk_180 0 153 (dk_at dksX0_way_2 7 rfl rfl)
theorem dX0_way_58 : decode cX0_way 58 = .ok (.iload_n 1, 1) := dk_27 (dk_at dksX0_way_2 10 rfl rfl)
theorem dX0_way_59 : decode cX0_way 59 = .ok (.iaload, 1) := dk_46 (dk_at dksX0_way_2 11 rfl rfl)
theorem dX0_way_60 : decode cX0_way 60 = .ok (.istore_n 3, 1) := dk_62 (dk_at dksX0_way_2 12 rfl rfl)
theorem dX0_way_61 : decode cX0_way 61 = .ok (.aload_n 0, 1) := dk_42 (dk_at dksX0_way_2 13 rfl rfl)
theorem dX0_way_62 : decode cX0_way 62 = .ok (.getfield 19, 3) := dk_180 0 19 (dk_at dksX0_way_2 14 rfl rfl)
theorem dX0_way_65 : decode cX0_way 65 = .ok (.getfield 153, 3) := dk_180 0 153 (dk_at dksX0_way_2 17 rfl rfl)
theorem dX0_way_68 : decode cX0_way 68 = .ok (.iload_n 1, 1) := dk_27 (dk_at dksX0_way_2 20 rfl rfl)
theorem dX0_way_69 : decode cX0_way 69 = .ok (.iload_n 2, 1) := dk_28 (dk_at dksX0_way_2 21 rfl rfl)
theorem dX0_way_70 : decode cX0_way 70 = .ok (.iastore, 1) := dk_79 (dk_at dksX0_way_2 22 rfl rfl)
theorem dX0_way_71 : decode cX0_way 71 = .ok (.iload_n 3, 1) := dk_29 (dk_at dksX0_way_2 23 rfl rfl)
theorem dX0_way_72 : decode cX0_way 72 = .ok (.ireturn, 1) := dk_172 (dk_at dksX0_way_3 0 rfl rfl)
abbrev cX0_stone : ByteArray := prog_1_method_28_code
def yX0_stone : MethodName := ⟨RX0, "stone", "(I)I"⟩
def dkwX0_stone_1 : List UInt8 := [121, 131, 181, 0, 250, 42, 27, 182, 0, 254, 172]
abbrev dktX0_stone_1 : List UInt8 := dkwX0_stone_1 ++ []
def dkwX0_stone_0 : List UInt8 := [42, 27, 182, 0, 180, 154, 0, 5, 2, 172, 42, 182, 0, 245, 42, 180, 0, 19, 89, 180, 0, 250, 10, 27]
abbrev dktX0_stone_0 : List UInt8 := dkwX0_stone_0 ++ dktX0_stone_1
theorem dksX0_stone_0 : cX0_stone.data.toList.drop 0 = dktX0_stone_0 := by decide +kernel
theorem dksX0_stone_1 : cX0_stone.data.toList.drop 24 = dktX0_stone_1 := dk_seg dksX0_stone_0 24 rfl rfl
theorem dX0_stone_0 : decode cX0_stone 0 = .ok (.aload_n 0, 1) := dk_42 (dk_at dksX0_stone_0 0 rfl rfl)
theorem dX0_stone_1 : decode cX0_stone 1 = .ok (.iload_n 1, 1) := dk_27 (dk_at dksX0_stone_0 1 rfl rfl)
theorem dX0_stone_2 : decode cX0_stone 2 = .ok (.invokevirtual 180, 3) := dk_182 0 180 (dk_at dksX0_stone_0 2 rfl rfl)
theorem dX0_stone_5 : decode cX0_stone 5 = .ok (.ifCond .ne 5, 3) := dk_154 0 5 (dk_at dksX0_stone_0 5 rfl rfl)
theorem dX0_stone_8 : decode cX0_stone 8 = .ok (.iconst (-1), 1) := dk_2 (dk_at dksX0_stone_0 8 rfl rfl)
theorem dX0_stone_9 : decode cX0_stone 9 = .ok (.ireturn, 1) := dk_172 (dk_at dksX0_stone_0 9 rfl rfl)
theorem dX0_stone_10 : decode cX0_stone 10 = .ok (.aload_n 0, 1) := dk_42 (dk_at dksX0_stone_0 10 rfl rfl)
theorem dX0_stone_11 : decode cX0_stone 11 = .ok (.invokevirtual 245, 3) := dk_182 0 245 (dk_at dksX0_stone_0 11 rfl rfl)
theorem dX0_stone_14 : decode cX0_stone 14 = .ok (.aload_n 0, 1) := dk_42 (dk_at dksX0_stone_0 14 rfl rfl)
theorem dX0_stone_15 : decode cX0_stone 15 = .ok (.getfield 19, 3) := dk_180 0 19 (dk_at dksX0_stone_0 15 rfl rfl)
theorem dX0_stone_18 : decode cX0_stone 18 = .ok (.dup, 1) := dk_89 (dk_at dksX0_stone_0 18 rfl rfl)
theorem dX0_stone_19 : decode cX0_stone 19 = .ok (.getfield 250, 3) := dk_180 0 250 (dk_at dksX0_stone_0 19 rfl rfl)
theorem dX0_stone_22 : decode cX0_stone 22 = .ok (.lconst 1, 1) := dk_10 (dk_at dksX0_stone_0 22 rfl rfl)
theorem dX0_stone_23 : decode cX0_stone 23 = .ok (.iload_n 1, 1) := dk_27 (dk_at dksX0_stone_0 23 rfl rfl)
theorem dX0_stone_24 : decode cX0_stone 24 = .ok (.lshl, 1) := dk_121 (dk_at dksX0_stone_1 0 rfl rfl)
theorem dX0_stone_25 : decode cX0_stone 25 = .ok (.lxor, 1) := dk_131 (dk_at dksX0_stone_1 1 rfl rfl)
theorem dX0_stone_26 : decode cX0_stone 26 = .ok (.putfield 250, 3) := dk_181 0 250 (dk_at dksX0_stone_1 2 rfl rfl)
theorem dX0_stone_29 : decode cX0_stone 29 = .ok (.aload_n 0, 1) := dk_42 (dk_at dksX0_stone_1 5 rfl rfl)
theorem dX0_stone_30 : decode cX0_stone 30 = .ok (.iload_n 1, 1) := dk_27 (dk_at dksX0_stone_1 6 rfl rfl)
theorem dX0_stone_31 : decode cX0_stone 31 = .ok (.invokevirtual 254, 3) := dk_182 0 254 (dk_at dksX0_stone_1 7 rfl rfl)
theorem dX0_stone_34 : decode cX0_stone 34 = .ok (.ireturn, 1) := dk_172 (dk_at dksX0_stone_1 10 rfl rfl)
abbrev cX0_fold : ByteArray := prog_1_method_29_code
def yX0_fold : MethodName := ⟨RX0, "fold", "(II)I"⟩
def dkwX0_fold_3 : List UInt8 := [29, 172]
abbrev dktX0_fold_3 : List UInt8 := dkwX0_fold_3 ++ []
def dkwX0_fold_2 : List UInt8 := [42, 182, 0, 245, 42, 180, 0, 19, 180, 0, 174, 27, 46, 62, 42, 180, 0, 19, 180, 0, 174, 27, 28, 79]
abbrev dktX0_fold_2 : List UInt8 := dkwX0_fold_2 ++ dktX0_fold_3
def dkwX0_fold_1 : List UInt8 := [20, 0, 172, 184, 0, 104, 153, 0, 16, 42, 180, 0, 19, 180, 0, 174, 27, 46, 28, 160, 0, 5, 2, 172]
abbrev dktX0_fold_1 : List UInt8 := dkwX0_fold_1 ++ dktX0_fold_2
def dkwX0_fold_0 : List UInt8 := [42, 182, 0, 168, 153, 0, 40, 27, 133, 9, 20, 0, 172, 184, 0, 104, 153, 0, 28, 28, 133, 9]
abbrev dktX0_fold_0 : List UInt8 := dkwX0_fold_0 ++ dktX0_fold_1
theorem dksX0_fold_0 : cX0_fold.data.toList.drop 0 = dktX0_fold_0 := by decide +kernel
theorem dksX0_fold_1 : cX0_fold.data.toList.drop 22 = dktX0_fold_1 := dk_seg dksX0_fold_0 22 rfl rfl
theorem dksX0_fold_2 : cX0_fold.data.toList.drop 46 = dktX0_fold_2 := dk_seg dksX0_fold_1 24 rfl rfl
theorem dksX0_fold_3 : cX0_fold.data.toList.drop 70 = dktX0_fold_3 := dk_seg dksX0_fold_2 24 rfl rfl
theorem dX0_fold_0 : decode cX0_fold 0 = .ok (.aload_n 0, 1) := dk_42 (dk_at dksX0_fold_0 0 rfl rfl)
theorem dX0_fold_1 : decode cX0_fold 1 = .ok (.invokevirtual 168, 3) := dk_182 0 168 (dk_at dksX0_fold_0 1 rfl rfl)
theorem dX0_fold_4 : decode cX0_fold 4 = .ok (.ifCond .eq 40, 3) := dk_153 0 40 (dk_at dksX0_fold_0 4 rfl rfl)
theorem dX0_fold_7 : decode cX0_fold 7 = .ok (.iload_n 1, 1) := dk_27 (dk_at dksX0_fold_0 7 rfl rfl)
theorem dX0_fold_8 : decode cX0_fold 8 = .ok (.i2l, 1) := dk_133 (dk_at dksX0_fold_0 8 rfl rfl)
theorem dX0_fold_9 : decode cX0_fold 9 = .ok (.lconst 0, 1) := dk_9 (dk_at dksX0_fold_0 9 rfl rfl)
theorem dX0_fold_10 : decode cX0_fold 10 = .ok (.ldc2_w 172, 3) := dk_20 0 172 (dk_at dksX0_fold_0 10 rfl rfl)
theorem dX0_fold_13 : decode cX0_fold 13 = .ok (.invokestatic 104, 3) := dk_184 0 104 (dk_at dksX0_fold_0 13 rfl rfl)
theorem dX0_fold_16 : decode cX0_fold 16 = .ok (.ifCond .eq 28, 3) := dk_153 0 28 (dk_at dksX0_fold_0 16 rfl rfl)
theorem dX0_fold_19 : decode cX0_fold 19 = .ok (.iload_n 2, 1) := dk_28 (dk_at dksX0_fold_0 19 rfl rfl)
theorem dX0_fold_20 : decode cX0_fold 20 = .ok (.i2l, 1) := dk_133 (dk_at dksX0_fold_0 20 rfl rfl)
theorem dX0_fold_21 : decode cX0_fold 21 = .ok (.lconst 0, 1) := dk_9 (dk_at dksX0_fold_0 21 rfl rfl)
theorem dX0_fold_22 : decode cX0_fold 22 = .ok (.ldc2_w 172, 3) := dk_20 0 172 (dk_at dksX0_fold_1 0 rfl rfl)
theorem dX0_fold_25 : decode cX0_fold 25 = .ok (.invokestatic 104, 3) := dk_184 0 104 (dk_at dksX0_fold_1 3 rfl rfl)
theorem dX0_fold_28 : decode cX0_fold 28 = .ok (.ifCond .eq 16, 3) := dk_153 0 16 (dk_at dksX0_fold_1 6 rfl rfl)
theorem dX0_fold_31 : decode cX0_fold 31 = .ok (.aload_n 0, 1) := dk_42 (dk_at dksX0_fold_1 9 rfl rfl)
theorem dX0_fold_32 : decode cX0_fold 32 = .ok (.getfield 19, 3) := dk_180 0 19 (dk_at dksX0_fold_1 10 rfl rfl)
theorem dX0_fold_35 : decode cX0_fold 35 = .ok (.getfield 174, 3) := dk_180 0 174 (dk_at dksX0_fold_1 13 rfl rfl)
theorem dX0_fold_38 : decode cX0_fold 38 = .ok (.iload_n 1, 1) := dk_27 (dk_at dksX0_fold_1 16 rfl rfl)
theorem dX0_fold_39 : decode cX0_fold 39 = .ok (.iaload, 1) := dk_46 (dk_at dksX0_fold_1 17 rfl rfl)
theorem dX0_fold_40 : decode cX0_fold 40 = .ok (.iload_n 2, 1) := dk_28 (dk_at dksX0_fold_1 18 rfl rfl)
theorem dX0_fold_41 : decode cX0_fold 41 = .ok (.if_icmp .ne 5, 3) := dk_160 0 5 (dk_at dksX0_fold_1 19 rfl rfl)
theorem dX0_fold_44 : decode cX0_fold 44 = .ok (.iconst (-1), 1) := dk_2 (dk_at dksX0_fold_1 22 rfl rfl)
theorem dX0_fold_45 : decode cX0_fold 45 = .ok (.ireturn, 1) := dk_172 (dk_at dksX0_fold_1 23 rfl rfl)
theorem dX0_fold_46 : decode cX0_fold 46 = .ok (.aload_n 0, 1) := dk_42 (dk_at dksX0_fold_2 0 rfl rfl)
theorem dX0_fold_47 : decode cX0_fold 47 = .ok (.invokevirtual 245, 3) := dk_182 0 245 (dk_at dksX0_fold_2 1 rfl rfl)
theorem dX0_fold_50 : decode cX0_fold 50 = .ok (.aload_n 0, 1) := dk_42 (dk_at dksX0_fold_2 4 rfl rfl)
theorem dX0_fold_51 : decode cX0_fold 51 = .ok (.getfield 19, 3) := dk_180 0 19 (dk_at dksX0_fold_2 5 rfl rfl)
theorem dX0_fold_54 : decode cX0_fold 54 = .ok (.getfield 174, 3) := dk_180 0 174 (dk_at dksX0_fold_2 8 rfl rfl)
theorem dX0_fold_57 : decode cX0_fold 57 = .ok (.iload_n 1, 1) := dk_27 (dk_at dksX0_fold_2 11 rfl rfl)
theorem dX0_fold_58 : decode cX0_fold 58 = .ok (.iaload, 1) := dk_46 (dk_at dksX0_fold_2 12 rfl rfl)
theorem dX0_fold_59 : decode cX0_fold 59 = .ok (.istore_n 3, 1) := dk_62 (dk_at dksX0_fold_2 13 rfl rfl)
theorem dX0_fold_60 : decode cX0_fold 60 = .ok (.aload_n 0, 1) := dk_42 (dk_at dksX0_fold_2 14 rfl rfl)
theorem dX0_fold_61 : decode cX0_fold 61 = .ok (.getfield 19, 3) := dk_180 0 19 (dk_at dksX0_fold_2 15 rfl rfl)
theorem dX0_fold_64 : decode cX0_fold 64 = .ok (.getfield 174, 3) := dk_180 0 174 (dk_at dksX0_fold_2 18 rfl rfl)
theorem dX0_fold_67 : decode cX0_fold 67 = .ok (.iload_n 1, 1) := dk_27 (dk_at dksX0_fold_2 21 rfl rfl)
theorem dX0_fold_68 : decode cX0_fold 68 = .ok (.iload_n 2, 1) := dk_28 (dk_at dksX0_fold_2 22 rfl rfl)
theorem dX0_fold_69 : decode cX0_fold 69 = .ok (.iastore, 1) := dk_79 (dk_at dksX0_fold_2 23 rfl rfl)
theorem dX0_fold_70 : decode cX0_fold 70 = .ok (.iload_n 3, 1) := dk_29 (dk_at dksX0_fold_3 0 rfl rfl)
theorem dX0_fold_71 : decode cX0_fold 71 = .ok (.ireturn, 1) := dk_172 (dk_at dksX0_fold_3 1 rfl rfl)
abbrev cX0_ahead : ByteArray := prog_1_method_30_code
def yX0_ahead : MethodName := ⟨RX0, "ahead", "(III)I"⟩
def dkwX0_ahead_4 : List UInt8 := [172]
abbrev dktX0_ahead_4 : List UInt8 := dkwX0_ahead_4 ++ []
def dkwX0_ahead_3 : List UInt8 := [160, 0, 15, 42, 180, 0, 23, 180, 0, 153, 27, 46, 167, 0, 12, 42, 180, 0, 23, 180, 0, 156, 27, 46]
abbrev dktX0_ahead_3 : List UInt8 := dkwX0_ahead_3 ++ dktX0_ahead_4
def dkwX0_ahead_2 : List UInt8 := [28, 182, 1, 5, 29, 154, 0, 15, 42, 180, 0, 23, 180, 0, 150, 27, 46, 167, 0, 29, 29, 4]
abbrev dktX0_ahead_2 : List UInt8 := dkwX0_ahead_2 ++ dktX0_ahead_3
def dkwX0_ahead_1 : List UInt8 := [20, 1, 3, 184, 0, 104, 154, 0, 6, 16, 254, 172, 42, 180, 0, 23, 42, 180, 0, 19, 182, 0, 236, 42]
abbrev dktX0_ahead_1 : List UInt8 := dkwX0_ahead_1 ++ dktX0_ahead_2
def dkwX0_ahead_0 : List UInt8 := [42, 27, 182, 0, 146, 153, 0, 27, 28, 133, 9, 20, 1, 1, 184, 0, 104, 153, 0, 15, 29, 133, 9]
abbrev dktX0_ahead_0 : List UInt8 := dkwX0_ahead_0 ++ dktX0_ahead_1
theorem dksX0_ahead_0 : cX0_ahead.data.toList.drop 0 = dktX0_ahead_0 := by decide +kernel
theorem dksX0_ahead_1 : cX0_ahead.data.toList.drop 23 = dktX0_ahead_1 := dk_seg dksX0_ahead_0 23 rfl rfl
theorem dksX0_ahead_2 : cX0_ahead.data.toList.drop 47 = dktX0_ahead_2 := dk_seg dksX0_ahead_1 24 rfl rfl
theorem dksX0_ahead_3 : cX0_ahead.data.toList.drop 69 = dktX0_ahead_3 := dk_seg dksX0_ahead_2 22 rfl rfl
theorem dksX0_ahead_4 : cX0_ahead.data.toList.drop 93 = dktX0_ahead_4 := dk_seg dksX0_ahead_3 24 rfl rfl
theorem dX0_ahead_0 : decode cX0_ahead 0 = .ok (.aload_n 0, 1) := dk_42 (dk_at dksX0_ahead_0 0 rfl rfl)
theorem dX0_ahead_1 : decode cX0_ahead 1 = .ok (.iload_n 1, 1) := dk_27 (dk_at dksX0_ahead_0 1 rfl rfl)
theorem dX0_ahead_2 : decode cX0_ahead 2 = .ok (.invokevirtual 146, 3) := dk_182 0 146 (dk_at dksX0_ahead_0 2 rfl rfl)
theorem dX0_ahead_5 : decode cX0_ahead 5 = .ok (.ifCond .eq 27, 3) := dk_153 0 27 (dk_at dksX0_ahead_0 5 rfl rfl)
theorem dX0_ahead_8 : decode cX0_ahead 8 = .ok (.iload_n 2, 1) := dk_28 (dk_at dksX0_ahead_0 8 rfl rfl)
theorem dX0_ahead_9 : decode cX0_ahead 9 = .ok (.i2l, 1) := dk_133 (dk_at dksX0_ahead_0 9 rfl rfl)
theorem dX0_ahead_10 : decode cX0_ahead 10 = .ok (.lconst 0, 1) := dk_9 (dk_at dksX0_ahead_0 10 rfl rfl)
theorem dX0_ahead_11 : decode cX0_ahead 11 = .ok (.ldc2_w 257, 3) := dk_20 1 1 (dk_at dksX0_ahead_0 11 rfl rfl)
theorem dX0_ahead_14 : decode cX0_ahead 14 = .ok (.invokestatic 104, 3) := dk_184 0 104 (dk_at dksX0_ahead_0 14 rfl rfl)
theorem dX0_ahead_17 : decode cX0_ahead 17 = .ok (.ifCond .eq 15, 3) := dk_153 0 15 (dk_at dksX0_ahead_0 17 rfl rfl)
theorem dX0_ahead_20 : decode cX0_ahead 20 = .ok (.iload_n 3, 1) := dk_29 (dk_at dksX0_ahead_0 20 rfl rfl)
theorem dX0_ahead_21 : decode cX0_ahead 21 = .ok (.i2l, 1) := dk_133 (dk_at dksX0_ahead_0 21 rfl rfl)
theorem dX0_ahead_22 : decode cX0_ahead 22 = .ok (.lconst 0, 1) := dk_9 (dk_at dksX0_ahead_0 22 rfl rfl)
theorem dX0_ahead_23 : decode cX0_ahead 23 = .ok (.ldc2_w 259, 3) := dk_20 1 3 (dk_at dksX0_ahead_1 0 rfl rfl)
theorem dX0_ahead_26 : decode cX0_ahead 26 = .ok (.invokestatic 104, 3) := dk_184 0 104 (dk_at dksX0_ahead_1 3 rfl rfl)
theorem dX0_ahead_29 : decode cX0_ahead 29 = .ok (.ifCond .ne 6, 3) := dk_154 0 6 (dk_at dksX0_ahead_1 6 rfl rfl)
theorem dX0_ahead_32 : decode cX0_ahead 32 = .ok (.bipush (-2), 2) := dk_16 254 (dk_at dksX0_ahead_1 9 rfl rfl)
theorem dX0_ahead_34 : decode cX0_ahead 34 = .ok (.ireturn, 1) := dk_172 (dk_at dksX0_ahead_1 11 rfl rfl)
theorem dX0_ahead_35 : decode cX0_ahead 35 = .ok (.aload_n 0, 1) := dk_42 (dk_at dksX0_ahead_1 12 rfl rfl)
theorem dX0_ahead_36 : decode cX0_ahead 36 = .ok (.getfield 23, 3) := dk_180 0 23 (dk_at dksX0_ahead_1 13 rfl rfl)
theorem dX0_ahead_39 : decode cX0_ahead 39 = .ok (.aload_n 0, 1) := dk_42 (dk_at dksX0_ahead_1 16 rfl rfl)
theorem dX0_ahead_40 : decode cX0_ahead 40 = .ok (.getfield 19, 3) := dk_180 0 19 (dk_at dksX0_ahead_1 17 rfl rfl)
theorem dX0_ahead_43 : decode cX0_ahead 43 = .ok (.invokevirtual 236, 3) := dk_182 0 236 (dk_at dksX0_ahead_1 20 rfl rfl)
theorem dX0_ahead_46 : decode cX0_ahead 46 = .ok (.aload_n 0, 1) := dk_42 (dk_at dksX0_ahead_1 23 rfl rfl)
theorem dX0_ahead_47 : decode cX0_ahead 47 = .ok (.iload_n 2, 1) := dk_28 (dk_at dksX0_ahead_2 0 rfl rfl)
theorem dX0_ahead_48 : decode cX0_ahead 48 = .ok (.invokevirtual 261, 3) := dk_182 1 5 (dk_at dksX0_ahead_2 1 rfl rfl)
theorem dX0_ahead_51 : decode cX0_ahead 51 = .ok (.iload_n 3, 1) := dk_29 (dk_at dksX0_ahead_2 4 rfl rfl)
theorem dX0_ahead_52 : decode cX0_ahead 52 = .ok (.ifCond .ne 15, 3) := dk_154 0 15 (dk_at dksX0_ahead_2 5 rfl rfl)
theorem dX0_ahead_55 : decode cX0_ahead 55 = .ok (.aload_n 0, 1) := dk_42 (dk_at dksX0_ahead_2 8 rfl rfl)
theorem dX0_ahead_56 : decode cX0_ahead 56 = .ok (.getfield 23, 3) := dk_180 0 23 (dk_at dksX0_ahead_2 9 rfl rfl)
theorem dX0_ahead_59 : decode cX0_ahead 59 = .ok (.getfield 150, 3) := dk_180 0 150 (dk_at dksX0_ahead_2 12 rfl rfl)
theorem dX0_ahead_62 : decode cX0_ahead 62 = .ok (.iload_n 1, 1) := dk_27 (dk_at dksX0_ahead_2 15 rfl rfl)
theorem dX0_ahead_63 : decode cX0_ahead 63 = .ok (.iaload, 1) := dk_46 (dk_at dksX0_ahead_2 16 rfl rfl)
theorem dX0_ahead_64 : decode cX0_ahead 64 = .ok (.goto 29, 3) := dk_167 0 29 (dk_at dksX0_ahead_2 17 rfl rfl)
theorem dX0_ahead_67 : decode cX0_ahead 67 = .ok (.iload_n 3, 1) := dk_29 (dk_at dksX0_ahead_2 20 rfl rfl)
theorem dX0_ahead_68 : decode cX0_ahead 68 = .ok (.iconst 1, 1) := dk_4 (dk_at dksX0_ahead_2 21 rfl rfl)
theorem dX0_ahead_69 : decode cX0_ahead 69 = .ok (.if_icmp .ne 15, 3) := dk_160 0 15 (dk_at dksX0_ahead_3 0 rfl rfl)
theorem dX0_ahead_72 : decode cX0_ahead 72 = .ok (.aload_n 0, 1) := dk_42 (dk_at dksX0_ahead_3 3 rfl rfl)
theorem dX0_ahead_73 : decode cX0_ahead 73 = .ok (.getfield 23, 3) := dk_180 0 23 (dk_at dksX0_ahead_3 4 rfl rfl)
theorem dX0_ahead_76 : decode cX0_ahead 76 = .ok (.getfield 153, 3) := dk_180 0 153 (dk_at dksX0_ahead_3 7 rfl rfl)
theorem dX0_ahead_79 : decode cX0_ahead 79 = .ok (.iload_n 1, 1) := dk_27 (dk_at dksX0_ahead_3 10 rfl rfl)
theorem dX0_ahead_80 : decode cX0_ahead 80 = .ok (.iaload, 1) := dk_46 (dk_at dksX0_ahead_3 11 rfl rfl)
theorem dX0_ahead_81 : decode cX0_ahead 81 = .ok (.goto 12, 3) := dk_167 0 12 (dk_at dksX0_ahead_3 12 rfl rfl)
theorem dX0_ahead_84 : decode cX0_ahead 84 = .ok (.aload_n 0, 1) := dk_42 (dk_at dksX0_ahead_3 15 rfl rfl)
theorem dX0_ahead_85 : decode cX0_ahead 85 = .ok (.getfield 23, 3) := dk_180 0 23 (dk_at dksX0_ahead_3 16 rfl rfl)
theorem dX0_ahead_88 : decode cX0_ahead 88 = .ok (.getfield 156, 3) := dk_180 0 156 (dk_at dksX0_ahead_3 19 rfl rfl)
theorem dX0_ahead_91 : decode cX0_ahead 91 = .ok (.iload_n 1, 1) := dk_27 (dk_at dksX0_ahead_3 22 rfl rfl)
theorem dX0_ahead_92 : decode cX0_ahead 92 = .ok (.iaload, 1) := dk_46 (dk_at dksX0_ahead_3 23 rfl rfl)
theorem dX0_ahead_93 : decode cX0_ahead 93 = .ok (.ireturn, 1) := dk_172 (dk_at dksX0_ahead_4 0 rfl rfl)
abbrev cX0_goesTill : ByteArray := prog_1_method_21_code
def yX0_goesTill : MethodName := ⟨RX0, "goesTill", "(I)V"⟩
def dkwX0_goesTill_0 : List UInt8 := [3, 61, 28, 27, 162, 0, 18, 42, 42, 180, 0, 23, 182, 0, 230, 87, 132, 2, 1, 167, 255, 239, 177]
abbrev dktX0_goesTill_0 : List UInt8 := dkwX0_goesTill_0 ++ []
theorem dksX0_goesTill_0 : cX0_goesTill.data.toList.drop 0 = dktX0_goesTill_0 := by decide +kernel
theorem dX0_goesTill_0 : decode cX0_goesTill 0 = .ok (.iconst 0, 1) := dk_3 (dk_at dksX0_goesTill_0 0 rfl rfl)
theorem dX0_goesTill_1 : decode cX0_goesTill 1 = .ok (.istore_n 2, 1) := dk_61 (dk_at dksX0_goesTill_0 1 rfl rfl)
theorem dX0_goesTill_2 : decode cX0_goesTill 2 = .ok (.iload_n 2, 1) := dk_28 (dk_at dksX0_goesTill_0 2 rfl rfl)
theorem dX0_goesTill_3 : decode cX0_goesTill 3 = .ok (.iload_n 1, 1) := dk_27 (dk_at dksX0_goesTill_0 3 rfl rfl)
theorem dX0_goesTill_4 : decode cX0_goesTill 4 = .ok (.if_icmp .ge 18, 3) := dk_162 0 18 (dk_at dksX0_goesTill_0 4 rfl rfl)
theorem dX0_goesTill_7 : decode cX0_goesTill 7 = .ok (.aload_n 0, 1) := dk_42 (dk_at dksX0_goesTill_0 7 rfl rfl)
theorem dX0_goesTill_8 : decode cX0_goesTill 8 = .ok (.aload_n 0, 1) := dk_42 (dk_at dksX0_goesTill_0 8 rfl rfl)
theorem dX0_goesTill_9 : decode cX0_goesTill 9 = .ok (.getfield 23, 3) := dk_180 0 23 (dk_at dksX0_goesTill_0 9 rfl rfl)
theorem dX0_goesTill_12 : decode cX0_goesTill 12 = .ok (.invokevirtual 230, 3) := dk_182 0 230 (dk_at dksX0_goesTill_0 12 rfl rfl)
theorem dX0_goesTill_15 : decode cX0_goesTill 15 = .ok (.pop, 1) := dk_87 (dk_at dksX0_goesTill_0 15 rfl rfl)
theorem dX0_goesTill_16 : decode cX0_goesTill 16 = .ok (.iinc 2 1, 3) := dk_132 2 1 (dk_at dksX0_goesTill_0 16 rfl rfl)
theorem dX0_goesTill_19 : decode cX0_goesTill 19 = .ok (.goto (-17), 3) := dk_167 255 239 (dk_at dksX0_goesTill_0 19 rfl rfl)
theorem dX0_goesTill_22 : decode cX0_goesTill 22 = .ok (.return_, 1) := dk_177 (dk_at dksX0_goesTill_0 22 rfl rfl)
abbrev cX0_home : ByteArray := prog_1_method_31_code
def yX0_home : MethodName := ⟨RX0, "home", "(I)I"⟩
def dkwX0_home_2 : List UInt8 := [180, 0, 201, 172, 42, 42, 180, 0, 23, 182, 0, 230, 87, 132, 2, 1, 167, 255, 217, 16, 254, 172]
abbrev dktX0_home_2 : List UInt8 := dkwX0_home_2 ++ []
def dkwX0_home_1 : List UInt8 := [17, 0, 200, 162, 0, 38, 42, 180, 0, 23, 180, 0, 159, 27, 46, 154, 0, 11, 42, 180, 0, 23]
abbrev dktX0_home_1 : List UInt8 := dkwX0_home_1 ++ dktX0_home_2
def dkwX0_home_0 : List UInt8 := [42, 27, 182, 0, 146, 154, 0, 5, 2, 172, 42, 180, 0, 23, 42, 180, 0, 19, 182, 0, 236, 3, 61, 28]
abbrev dktX0_home_0 : List UInt8 := dkwX0_home_0 ++ dktX0_home_1
theorem dksX0_home_0 : cX0_home.data.toList.drop 0 = dktX0_home_0 := by decide +kernel
theorem dksX0_home_1 : cX0_home.data.toList.drop 24 = dktX0_home_1 := dk_seg dksX0_home_0 24 rfl rfl
theorem dksX0_home_2 : cX0_home.data.toList.drop 46 = dktX0_home_2 := dk_seg dksX0_home_1 22 rfl rfl
theorem dX0_home_0 : decode cX0_home 0 = .ok (.aload_n 0, 1) := dk_42 (dk_at dksX0_home_0 0 rfl rfl)
theorem dX0_home_1 : decode cX0_home 1 = .ok (.iload_n 1, 1) := dk_27 (dk_at dksX0_home_0 1 rfl rfl)
theorem dX0_home_2 : decode cX0_home 2 = .ok (.invokevirtual 146, 3) := dk_182 0 146 (dk_at dksX0_home_0 2 rfl rfl)
theorem dX0_home_5 : decode cX0_home 5 = .ok (.ifCond .ne 5, 3) := dk_154 0 5 (dk_at dksX0_home_0 5 rfl rfl)
theorem dX0_home_8 : decode cX0_home 8 = .ok (.iconst (-1), 1) := dk_2 (dk_at dksX0_home_0 8 rfl rfl)
theorem dX0_home_9 : decode cX0_home 9 = .ok (.ireturn, 1) := dk_172 (dk_at dksX0_home_0 9 rfl rfl)
theorem dX0_home_10 : decode cX0_home 10 = .ok (.aload_n 0, 1) := dk_42 (dk_at dksX0_home_0 10 rfl rfl)
theorem dX0_home_11 : decode cX0_home 11 = .ok (.getfield 23, 3) := dk_180 0 23 (dk_at dksX0_home_0 11 rfl rfl)
theorem dX0_home_14 : decode cX0_home 14 = .ok (.aload_n 0, 1) := dk_42 (dk_at dksX0_home_0 14 rfl rfl)
theorem dX0_home_15 : decode cX0_home 15 = .ok (.getfield 19, 3) := dk_180 0 19 (dk_at dksX0_home_0 15 rfl rfl)
theorem dX0_home_18 : decode cX0_home 18 = .ok (.invokevirtual 236, 3) := dk_182 0 236 (dk_at dksX0_home_0 18 rfl rfl)
theorem dX0_home_21 : decode cX0_home 21 = .ok (.iconst 0, 1) := dk_3 (dk_at dksX0_home_0 21 rfl rfl)
theorem dX0_home_22 : decode cX0_home 22 = .ok (.istore_n 2, 1) := dk_61 (dk_at dksX0_home_0 22 rfl rfl)
theorem dX0_home_23 : decode cX0_home 23 = .ok (.iload_n 2, 1) := dk_28 (dk_at dksX0_home_0 23 rfl rfl)
theorem dX0_home_24 : decode cX0_home 24 = .ok (.sipush 200, 3) := dk_17 0 200 (dk_at dksX0_home_1 0 rfl rfl)
theorem dX0_home_27 : decode cX0_home 27 = .ok (.if_icmp .ge 38, 3) := dk_162 0 38 (dk_at dksX0_home_1 3 rfl rfl)
theorem dX0_home_30 : decode cX0_home 30 = .ok (.aload_n 0, 1) := dk_42 (dk_at dksX0_home_1 6 rfl rfl)
theorem dX0_home_31 : decode cX0_home 31 = .ok (.getfield 23, 3) := dk_180 0 23 (dk_at dksX0_home_1 7 rfl rfl)
theorem dX0_home_34 : decode cX0_home 34 = .ok (.getfield 159, 3) := dk_180 0 159 (dk_at dksX0_home_1 10 rfl rfl)
theorem dX0_home_37 : decode cX0_home 37 = .ok (.iload_n 1, 1) := dk_27 (dk_at dksX0_home_1 13 rfl rfl)
theorem dX0_home_38 : decode cX0_home 38 = .ok (.iaload, 1) := dk_46 (dk_at dksX0_home_1 14 rfl rfl)
theorem dX0_home_39 : decode cX0_home 39 = .ok (.ifCond .ne 11, 3) := dk_154 0 11 (dk_at dksX0_home_1 15 rfl rfl)
theorem dX0_home_42 : decode cX0_home 42 = .ok (.aload_n 0, 1) := dk_42 (dk_at dksX0_home_1 18 rfl rfl)
theorem dX0_home_43 : decode cX0_home 43 = .ok (.getfield 23, 3) := dk_180 0 23 (dk_at dksX0_home_1 19 rfl rfl)
theorem dX0_home_46 : decode cX0_home 46 = .ok (.getfield 201, 3) := dk_180 0 201 (dk_at dksX0_home_2 0 rfl rfl)
theorem dX0_home_49 : decode cX0_home 49 = .ok (.ireturn, 1) := dk_172 (dk_at dksX0_home_2 3 rfl rfl)
theorem dX0_home_50 : decode cX0_home 50 = .ok (.aload_n 0, 1) := dk_42 (dk_at dksX0_home_2 4 rfl rfl)
theorem dX0_home_51 : decode cX0_home 51 = .ok (.aload_n 0, 1) := dk_42 (dk_at dksX0_home_2 5 rfl rfl)
theorem dX0_home_52 : decode cX0_home 52 = .ok (.getfield 23, 3) := dk_180 0 23 (dk_at dksX0_home_2 6 rfl rfl)
theorem dX0_home_55 : decode cX0_home 55 = .ok (.invokevirtual 230, 3) := dk_182 0 230 (dk_at dksX0_home_2 9 rfl rfl)
theorem dX0_home_58 : decode cX0_home 58 = .ok (.pop, 1) := dk_87 (dk_at dksX0_home_2 12 rfl rfl)
theorem dX0_home_59 : decode cX0_home 59 = .ok (.iinc 2 1, 3) := dk_132 2 1 (dk_at dksX0_home_2 13 rfl rfl)
theorem dX0_home_62 : decode cX0_home 62 = .ok (.goto (-39), 3) := dk_167 255 217 (dk_at dksX0_home_2 16 rfl rfl)
theorem dX0_home_65 : decode cX0_home 65 = .ok (.bipush (-2), 2) := dk_16 254 (dk_at dksX0_home_2 19 rfl rfl)
theorem dX0_home_67 : decode cX0_home 67 = .ok (.ireturn, 1) := dk_172 (dk_at dksX0_home_2 21 rfl rfl)
abbrev cX0_gone : ByteArray := prog_1_method_32_code
def yX0_gone : MethodName := ⟨RX0, "gone", "(I)I"⟩
def dkwX0_gone_2 : List UInt8 := [172]
abbrev dktX0_gone_2 : List UInt8 := dkwX0_gone_2 ++ []
def dkwX0_gone_1 : List UInt8 := [180, 0, 23, 42, 180, 0, 19, 182, 0, 236, 42, 27, 182, 1, 5, 42, 42, 180, 0, 23, 5, 182, 0, 225]
abbrev dktX0_gone_1 : List UInt8 := dkwX0_gone_1 ++ dktX0_gone_2
def dkwX0_gone_0 : List UInt8 := [42, 182, 0, 168, 153, 0, 15, 27, 133, 9, 20, 1, 1, 184, 0, 104, 154, 0, 5, 2, 172, 42]
abbrev dktX0_gone_0 : List UInt8 := dkwX0_gone_0 ++ dktX0_gone_1
theorem dksX0_gone_0 : cX0_gone.data.toList.drop 0 = dktX0_gone_0 := by decide +kernel
theorem dksX0_gone_1 : cX0_gone.data.toList.drop 22 = dktX0_gone_1 := dk_seg dksX0_gone_0 22 rfl rfl
theorem dksX0_gone_2 : cX0_gone.data.toList.drop 46 = dktX0_gone_2 := dk_seg dksX0_gone_1 24 rfl rfl
theorem dX0_gone_0 : decode cX0_gone 0 = .ok (.aload_n 0, 1) := dk_42 (dk_at dksX0_gone_0 0 rfl rfl)
theorem dX0_gone_1 : decode cX0_gone 1 = .ok (.invokevirtual 168, 3) := dk_182 0 168 (dk_at dksX0_gone_0 1 rfl rfl)
theorem dX0_gone_4 : decode cX0_gone 4 = .ok (.ifCond .eq 15, 3) := dk_153 0 15 (dk_at dksX0_gone_0 4 rfl rfl)
theorem dX0_gone_7 : decode cX0_gone 7 = .ok (.iload_n 1, 1) := dk_27 (dk_at dksX0_gone_0 7 rfl rfl)
theorem dX0_gone_8 : decode cX0_gone 8 = .ok (.i2l, 1) := dk_133 (dk_at dksX0_gone_0 8 rfl rfl)
theorem dX0_gone_9 : decode cX0_gone 9 = .ok (.lconst 0, 1) := dk_9 (dk_at dksX0_gone_0 9 rfl rfl)
theorem dX0_gone_10 : decode cX0_gone 10 = .ok (.ldc2_w 257, 3) := dk_20 1 1 (dk_at dksX0_gone_0 10 rfl rfl)
theorem dX0_gone_13 : decode cX0_gone 13 = .ok (.invokestatic 104, 3) := dk_184 0 104 (dk_at dksX0_gone_0 13 rfl rfl)
theorem dX0_gone_16 : decode cX0_gone 16 = .ok (.ifCond .ne 5, 3) := dk_154 0 5 (dk_at dksX0_gone_0 16 rfl rfl)
theorem dX0_gone_19 : decode cX0_gone 19 = .ok (.iconst (-1), 1) := dk_2 (dk_at dksX0_gone_0 19 rfl rfl)
theorem dX0_gone_20 : decode cX0_gone 20 = .ok (.ireturn, 1) := dk_172 (dk_at dksX0_gone_0 20 rfl rfl)
theorem dX0_gone_21 : decode cX0_gone 21 = .ok (.aload_n 0, 1) := dk_42 (dk_at dksX0_gone_0 21 rfl rfl)
theorem dX0_gone_22 : decode cX0_gone 22 = .ok (.getfield 23, 3) := dk_180 0 23 (dk_at dksX0_gone_1 0 rfl rfl)
theorem dX0_gone_25 : decode cX0_gone 25 = .ok (.aload_n 0, 1) := dk_42 (dk_at dksX0_gone_1 3 rfl rfl)
theorem dX0_gone_26 : decode cX0_gone 26 = .ok (.getfield 19, 3) := dk_180 0 19 (dk_at dksX0_gone_1 4 rfl rfl)
theorem dX0_gone_29 : decode cX0_gone 29 = .ok (.invokevirtual 236, 3) := dk_182 0 236 (dk_at dksX0_gone_1 7 rfl rfl)
theorem dX0_gone_32 : decode cX0_gone 32 = .ok (.aload_n 0, 1) := dk_42 (dk_at dksX0_gone_1 10 rfl rfl)
theorem dX0_gone_33 : decode cX0_gone 33 = .ok (.iload_n 1, 1) := dk_27 (dk_at dksX0_gone_1 11 rfl rfl)
theorem dX0_gone_34 : decode cX0_gone 34 = .ok (.invokevirtual 261, 3) := dk_182 1 5 (dk_at dksX0_gone_1 12 rfl rfl)
theorem dX0_gone_37 : decode cX0_gone 37 = .ok (.aload_n 0, 1) := dk_42 (dk_at dksX0_gone_1 15 rfl rfl)
theorem dX0_gone_38 : decode cX0_gone 38 = .ok (.aload_n 0, 1) := dk_42 (dk_at dksX0_gone_1 16 rfl rfl)
theorem dX0_gone_39 : decode cX0_gone 39 = .ok (.getfield 23, 3) := dk_180 0 23 (dk_at dksX0_gone_1 17 rfl rfl)
theorem dX0_gone_42 : decode cX0_gone 42 = .ok (.iconst 2, 1) := dk_5 (dk_at dksX0_gone_1 20 rfl rfl)
theorem dX0_gone_43 : decode cX0_gone 43 = .ok (.invokevirtual 225, 3) := dk_182 0 225 (dk_at dksX0_gone_1 21 rfl rfl)
theorem dX0_gone_46 : decode cX0_gone 46 = .ok (.ireturn, 1) := dk_172 (dk_at dksX0_gone_2 0 rfl rfl)
abbrev cX0_leastFood : ByteArray := prog_1_method_33_code
def yX0_leastFood : MethodName := ⟨RX0, "leastFood", "(II)I"⟩
def dkwX0_leastFood_3 : List UInt8 := [132, 3, 1, 167, 255, 206, 16, 254, 172]
abbrev dktX0_leastFood_3 : List UInt8 := dkwX0_leastFood_3 ++ []
def dkwX0_leastFood_2 : List UInt8 := [27, 29, 79, 42, 28, 182, 1, 5, 42, 180, 0, 23, 180, 0, 159, 27, 46, 5, 159, 0, 5, 29, 172]
abbrev dktX0_leastFood_2 : List UInt8 := dkwX0_leastFood_2 ++ dktX0_leastFood_3
def dkwX0_leastFood_1 : List UInt8 := [29, 16, 60, 163, 0, 50, 42, 180, 0, 23, 42, 180, 0, 19, 182, 0, 236, 42, 180, 0, 23, 180, 0, 156]
abbrev dktX0_leastFood_1 : List UInt8 := dkwX0_leastFood_1 ++ dktX0_leastFood_2
def dkwX0_leastFood_0 : List UInt8 := [42, 27, 182, 0, 146, 153, 0, 15, 28, 133, 10, 20, 1, 1, 184, 0, 104, 154, 0, 5, 2, 172, 3, 62]
abbrev dktX0_leastFood_0 : List UInt8 := dkwX0_leastFood_0 ++ dktX0_leastFood_1
theorem dksX0_leastFood_0 : cX0_leastFood.data.toList.drop 0 = dktX0_leastFood_0 := by decide +kernel
theorem dksX0_leastFood_1 : cX0_leastFood.data.toList.drop 24 = dktX0_leastFood_1 := dk_seg dksX0_leastFood_0 24 rfl rfl
theorem dksX0_leastFood_2 : cX0_leastFood.data.toList.drop 48 = dktX0_leastFood_2 := dk_seg dksX0_leastFood_1 24 rfl rfl
theorem dksX0_leastFood_3 : cX0_leastFood.data.toList.drop 71 = dktX0_leastFood_3 := dk_seg dksX0_leastFood_2 23 rfl rfl
theorem dX0_leastFood_0 : decode cX0_leastFood 0 = .ok (.aload_n 0, 1) := dk_42 (dk_at dksX0_leastFood_0 0 rfl rfl)
theorem dX0_leastFood_1 : decode cX0_leastFood 1 = .ok (.iload_n 1, 1) := dk_27 (dk_at dksX0_leastFood_0 1 rfl rfl)
theorem dX0_leastFood_2 : decode cX0_leastFood 2 = .ok (.invokevirtual 146, 3) := dk_182 0 146 (dk_at dksX0_leastFood_0 2 rfl rfl)
theorem dX0_leastFood_5 : decode cX0_leastFood 5 = .ok (.ifCond .eq 15, 3) := dk_153 0 15 (dk_at dksX0_leastFood_0 5 rfl rfl)
theorem dX0_leastFood_8 : decode cX0_leastFood 8 = .ok (.iload_n 2, 1) := dk_28 (dk_at dksX0_leastFood_0 8 rfl rfl)
theorem dX0_leastFood_9 : decode cX0_leastFood 9 = .ok (.i2l, 1) := dk_133 (dk_at dksX0_leastFood_0 9 rfl rfl)
theorem dX0_leastFood_10 : decode cX0_leastFood 10 = .ok (.lconst 1, 1) := dk_10 (dk_at dksX0_leastFood_0 10 rfl rfl)
theorem dX0_leastFood_11 : decode cX0_leastFood 11 = .ok (.ldc2_w 257, 3) := dk_20 1 1 (dk_at dksX0_leastFood_0 11 rfl rfl)
theorem dX0_leastFood_14 : decode cX0_leastFood 14 = .ok (.invokestatic 104, 3) := dk_184 0 104 (dk_at dksX0_leastFood_0 14 rfl rfl)
theorem dX0_leastFood_17 : decode cX0_leastFood 17 = .ok (.ifCond .ne 5, 3) := dk_154 0 5 (dk_at dksX0_leastFood_0 17 rfl rfl)
theorem dX0_leastFood_20 : decode cX0_leastFood 20 = .ok (.iconst (-1), 1) := dk_2 (dk_at dksX0_leastFood_0 20 rfl rfl)
theorem dX0_leastFood_21 : decode cX0_leastFood 21 = .ok (.ireturn, 1) := dk_172 (dk_at dksX0_leastFood_0 21 rfl rfl)
theorem dX0_leastFood_22 : decode cX0_leastFood 22 = .ok (.iconst 0, 1) := dk_3 (dk_at dksX0_leastFood_0 22 rfl rfl)
theorem dX0_leastFood_23 : decode cX0_leastFood 23 = .ok (.istore_n 3, 1) := dk_62 (dk_at dksX0_leastFood_0 23 rfl rfl)
theorem dX0_leastFood_24 : decode cX0_leastFood 24 = .ok (.iload_n 3, 1) := dk_29 (dk_at dksX0_leastFood_1 0 rfl rfl)
theorem dX0_leastFood_25 : decode cX0_leastFood 25 = .ok (.bipush 60, 2) := dk_16 60 (dk_at dksX0_leastFood_1 1 rfl rfl)
theorem dX0_leastFood_27 : decode cX0_leastFood 27 = .ok (.if_icmp .gt 50, 3) := dk_163 0 50 (dk_at dksX0_leastFood_1 3 rfl rfl)
theorem dX0_leastFood_30 : decode cX0_leastFood 30 = .ok (.aload_n 0, 1) := dk_42 (dk_at dksX0_leastFood_1 6 rfl rfl)
theorem dX0_leastFood_31 : decode cX0_leastFood 31 = .ok (.getfield 23, 3) := dk_180 0 23 (dk_at dksX0_leastFood_1 7 rfl rfl)
theorem dX0_leastFood_34 : decode cX0_leastFood 34 = .ok (.aload_n 0, 1) := dk_42 (dk_at dksX0_leastFood_1 10 rfl rfl)
theorem dX0_leastFood_35 : decode cX0_leastFood 35 = .ok (.getfield 19, 3) := dk_180 0 19 (dk_at dksX0_leastFood_1 11 rfl rfl)
theorem dX0_leastFood_38 : decode cX0_leastFood 38 = .ok (.invokevirtual 236, 3) := dk_182 0 236 (dk_at dksX0_leastFood_1 14 rfl rfl)
theorem dX0_leastFood_41 : decode cX0_leastFood 41 = .ok (.aload_n 0, 1) := dk_42 (dk_at dksX0_leastFood_1 17 rfl rfl)
theorem dX0_leastFood_42 : decode cX0_leastFood 42 = .ok (.getfield 23, 3) := dk_180 0 23 (dk_at dksX0_leastFood_1 18 rfl rfl)
theorem dX0_leastFood_45 : decode cX0_leastFood 45 = .ok (.getfield 156, 3) := dk_180 0 156 (dk_at dksX0_leastFood_1 21 rfl rfl)
theorem dX0_leastFood_48 : decode cX0_leastFood 48 = .ok (.iload_n 1, 1) := dk_27 (dk_at dksX0_leastFood_2 0 rfl rfl)
theorem dX0_leastFood_49 : decode cX0_leastFood 49 = .ok (.iload_n 3, 1) := dk_29 (dk_at dksX0_leastFood_2 1 rfl rfl)
theorem dX0_leastFood_50 : decode cX0_leastFood 50 = .ok (.iastore, 1) := dk_79 (dk_at dksX0_leastFood_2 2 rfl rfl)
theorem dX0_leastFood_51 : decode cX0_leastFood 51 = .ok (.aload_n 0, 1) := dk_42 (dk_at dksX0_leastFood_2 3 rfl rfl)
theorem dX0_leastFood_52 : decode cX0_leastFood 52 = .ok (.iload_n 2, 1) := dk_28 (dk_at dksX0_leastFood_2 4 rfl rfl)
theorem dX0_leastFood_53 : decode cX0_leastFood 53 = .ok (.invokevirtual 261, 3) := dk_182 1 5 (dk_at dksX0_leastFood_2 5 rfl rfl)
theorem dX0_leastFood_56 : decode cX0_leastFood 56 = .ok (.aload_n 0, 1) := dk_42 (dk_at dksX0_leastFood_2 8 rfl rfl)
theorem dX0_leastFood_57 : decode cX0_leastFood 57 = .ok (.getfield 23, 3) := dk_180 0 23 (dk_at dksX0_leastFood_2 9 rfl rfl)
theorem dX0_leastFood_60 : decode cX0_leastFood 60 = .ok (.getfield 159, 3) := dk_180 0 159 (dk_at dksX0_leastFood_2 12 rfl rfl)
theorem dX0_leastFood_63 : decode cX0_leastFood 63 = .ok (.iload_n 1, 1) := dk_27 (dk_at dksX0_leastFood_2 15 rfl rfl)
theorem dX0_leastFood_64 : decode cX0_leastFood 64 = .ok (.iaload, 1) := dk_46 (dk_at dksX0_leastFood_2 16 rfl rfl)
theorem dX0_leastFood_65 : decode cX0_leastFood 65 = .ok (.iconst 2, 1) := dk_5 (dk_at dksX0_leastFood_2 17 rfl rfl)
theorem dX0_leastFood_66 : decode cX0_leastFood 66 = .ok (.if_icmp .eq 5, 3) := dk_159 0 5 (dk_at dksX0_leastFood_2 18 rfl rfl)
theorem dX0_leastFood_69 : decode cX0_leastFood 69 = .ok (.iload_n 3, 1) := dk_29 (dk_at dksX0_leastFood_2 21 rfl rfl)
theorem dX0_leastFood_70 : decode cX0_leastFood 70 = .ok (.ireturn, 1) := dk_172 (dk_at dksX0_leastFood_2 22 rfl rfl)
theorem dX0_leastFood_71 : decode cX0_leastFood 71 = .ok (.iinc 3 1, 3) := dk_132 3 1 (dk_at dksX0_leastFood_3 0 rfl rfl)
theorem dX0_leastFood_74 : decode cX0_leastFood 74 = .ok (.goto (-50), 3) := dk_167 255 206 (dk_at dksX0_leastFood_3 3 rfl rfl)
theorem dX0_leastFood_77 : decode cX0_leastFood 77 = .ok (.bipush (-2), 2) := dk_16 254 (dk_at dksX0_leastFood_3 6 rfl rfl)
theorem dX0_leastFood_79 : decode cX0_leastFood 79 = .ok (.ireturn, 1) := dk_172 (dk_at dksX0_leastFood_3 8 rfl rfl)
abbrev cX0_meet : ByteArray := prog_1_method_34_code
def yX0_meet : MethodName := ⟨RX0, "meet", "(II)I"⟩
def dkwX0_meet_4 : List UInt8 := [172, 42, 42, 180, 0, 23, 182, 0, 230, 87, 132, 3, 1, 167, 255, 184, 16, 254, 172]
abbrev dktX0_meet_4 : List UInt8 := dkwX0_meet_4 ++ []
def dkwX0_meet_3 : List UInt8 := [180, 0, 150, 27, 46, 42, 180, 0, 23, 180, 0, 150, 28, 46, 160, 0, 11, 42, 180, 0, 23, 180, 0, 201]
abbrev dktX0_meet_3 : List UInt8 := dkwX0_meet_3 ++ dktX0_meet_4
def dkwX0_meet_2 : List UInt8 := [180, 0, 159, 27, 46, 154, 0, 44, 42, 180, 0, 23, 180, 0, 159, 28, 46, 154, 0, 32, 42, 180, 0, 23]
abbrev dktX0_meet_2 : List UInt8 := dkwX0_meet_2 ++ dktX0_meet_3
def dkwX0_meet_1 : List UInt8 := [180, 0, 23, 42, 180, 0, 19, 182, 0, 236, 3, 62, 29, 17, 0, 200, 162, 0, 71, 42, 180, 0, 23]
abbrev dktX0_meet_1 : List UInt8 := dkwX0_meet_1 ++ dktX0_meet_2
def dkwX0_meet_0 : List UInt8 := [42, 27, 182, 0, 146, 153, 0, 16, 42, 28, 182, 0, 146, 153, 0, 8, 27, 28, 160, 0, 5, 2, 172, 42]
abbrev dktX0_meet_0 : List UInt8 := dkwX0_meet_0 ++ dktX0_meet_1
theorem dksX0_meet_0 : cX0_meet.data.toList.drop 0 = dktX0_meet_0 := by decide +kernel
theorem dksX0_meet_1 : cX0_meet.data.toList.drop 24 = dktX0_meet_1 := dk_seg dksX0_meet_0 24 rfl rfl
theorem dksX0_meet_2 : cX0_meet.data.toList.drop 47 = dktX0_meet_2 := dk_seg dksX0_meet_1 23 rfl rfl
theorem dksX0_meet_3 : cX0_meet.data.toList.drop 71 = dktX0_meet_3 := dk_seg dksX0_meet_2 24 rfl rfl
theorem dksX0_meet_4 : cX0_meet.data.toList.drop 95 = dktX0_meet_4 := dk_seg dksX0_meet_3 24 rfl rfl
theorem dX0_meet_0 : decode cX0_meet 0 = .ok (.aload_n 0, 1) := dk_42 (dk_at dksX0_meet_0 0 rfl rfl)
theorem dX0_meet_1 : decode cX0_meet 1 = .ok (.iload_n 1, 1) := dk_27 (dk_at dksX0_meet_0 1 rfl rfl)
theorem dX0_meet_2 : decode cX0_meet 2 = .ok (.invokevirtual 146, 3) := dk_182 0 146 (dk_at dksX0_meet_0 2 rfl rfl)
theorem dX0_meet_5 : decode cX0_meet 5 = .ok (.ifCond .eq 16, 3) := dk_153 0 16 (dk_at dksX0_meet_0 5 rfl rfl)
theorem dX0_meet_8 : decode cX0_meet 8 = .ok (.aload_n 0, 1) := dk_42 (dk_at dksX0_meet_0 8 rfl rfl)
theorem dX0_meet_9 : decode cX0_meet 9 = .ok (.iload_n 2, 1) := dk_28 (dk_at dksX0_meet_0 9 rfl rfl)
theorem dX0_meet_10 : decode cX0_meet 10 = .ok (.invokevirtual 146, 3) := dk_182 0 146 (dk_at dksX0_meet_0 10 rfl rfl)
theorem dX0_meet_13 : decode cX0_meet 13 = .ok (.ifCond .eq 8, 3) := dk_153 0 8 (dk_at dksX0_meet_0 13 rfl rfl)
theorem dX0_meet_16 : decode cX0_meet 16 = .ok (.iload_n 1, 1) := dk_27 (dk_at dksX0_meet_0 16 rfl rfl)
theorem dX0_meet_17 : decode cX0_meet 17 = .ok (.iload_n 2, 1) := dk_28 (dk_at dksX0_meet_0 17 rfl rfl)
theorem dX0_meet_18 : decode cX0_meet 18 = .ok (.if_icmp .ne 5, 3) := dk_160 0 5 (dk_at dksX0_meet_0 18 rfl rfl)
theorem dX0_meet_21 : decode cX0_meet 21 = .ok (.iconst (-1), 1) := dk_2 (dk_at dksX0_meet_0 21 rfl rfl)
theorem dX0_meet_22 : decode cX0_meet 22 = .ok (.ireturn, 1) := dk_172 (dk_at dksX0_meet_0 22 rfl rfl)
theorem dX0_meet_23 : decode cX0_meet 23 = .ok (.aload_n 0, 1) := dk_42 (dk_at dksX0_meet_0 23 rfl rfl)
theorem dX0_meet_24 : decode cX0_meet 24 = .ok (.getfield 23, 3) := dk_180 0 23 (dk_at dksX0_meet_1 0 rfl rfl)
theorem dX0_meet_27 : decode cX0_meet 27 = .ok (.aload_n 0, 1) := dk_42 (dk_at dksX0_meet_1 3 rfl rfl)
theorem dX0_meet_28 : decode cX0_meet 28 = .ok (.getfield 19, 3) := dk_180 0 19 (dk_at dksX0_meet_1 4 rfl rfl)
theorem dX0_meet_31 : decode cX0_meet 31 = .ok (.invokevirtual 236, 3) := dk_182 0 236 (dk_at dksX0_meet_1 7 rfl rfl)
theorem dX0_meet_34 : decode cX0_meet 34 = .ok (.iconst 0, 1) := dk_3 (dk_at dksX0_meet_1 10 rfl rfl)
theorem dX0_meet_35 : decode cX0_meet 35 = .ok (.istore_n 3, 1) := dk_62 (dk_at dksX0_meet_1 11 rfl rfl)
theorem dX0_meet_36 : decode cX0_meet 36 = .ok (.iload_n 3, 1) := dk_29 (dk_at dksX0_meet_1 12 rfl rfl)
theorem dX0_meet_37 : decode cX0_meet 37 = .ok (.sipush 200, 3) := dk_17 0 200 (dk_at dksX0_meet_1 13 rfl rfl)
theorem dX0_meet_40 : decode cX0_meet 40 = .ok (.if_icmp .ge 71, 3) := dk_162 0 71 (dk_at dksX0_meet_1 16 rfl rfl)
theorem dX0_meet_43 : decode cX0_meet 43 = .ok (.aload_n 0, 1) := dk_42 (dk_at dksX0_meet_1 19 rfl rfl)
theorem dX0_meet_44 : decode cX0_meet 44 = .ok (.getfield 23, 3) := dk_180 0 23 (dk_at dksX0_meet_1 20 rfl rfl)
theorem dX0_meet_47 : decode cX0_meet 47 = .ok (.getfield 159, 3) := dk_180 0 159 (dk_at dksX0_meet_2 0 rfl rfl)
theorem dX0_meet_50 : decode cX0_meet 50 = .ok (.iload_n 1, 1) := dk_27 (dk_at dksX0_meet_2 3 rfl rfl)
theorem dX0_meet_51 : decode cX0_meet 51 = .ok (.iaload, 1) := dk_46 (dk_at dksX0_meet_2 4 rfl rfl)
theorem dX0_meet_52 : decode cX0_meet 52 = .ok (.ifCond .ne 44, 3) := dk_154 0 44 (dk_at dksX0_meet_2 5 rfl rfl)
theorem dX0_meet_55 : decode cX0_meet 55 = .ok (.aload_n 0, 1) := dk_42 (dk_at dksX0_meet_2 8 rfl rfl)
theorem dX0_meet_56 : decode cX0_meet 56 = .ok (.getfield 23, 3) := dk_180 0 23 (dk_at dksX0_meet_2 9 rfl rfl)
theorem dX0_meet_59 : decode cX0_meet 59 = .ok (.getfield 159, 3) := dk_180 0 159 (dk_at dksX0_meet_2 12 rfl rfl)
theorem dX0_meet_62 : decode cX0_meet 62 = .ok (.iload_n 2, 1) := dk_28 (dk_at dksX0_meet_2 15 rfl rfl)
theorem dX0_meet_63 : decode cX0_meet 63 = .ok (.iaload, 1) := dk_46 (dk_at dksX0_meet_2 16 rfl rfl)
theorem dX0_meet_64 : decode cX0_meet 64 = .ok (.ifCond .ne 32, 3) := dk_154 0 32 (dk_at dksX0_meet_2 17 rfl rfl)
theorem dX0_meet_67 : decode cX0_meet 67 = .ok (.aload_n 0, 1) := dk_42 (dk_at dksX0_meet_2 20 rfl rfl)
theorem dX0_meet_68 : decode cX0_meet 68 = .ok (.getfield 23, 3) := dk_180 0 23 (dk_at dksX0_meet_2 21 rfl rfl)
theorem dX0_meet_71 : decode cX0_meet 71 = .ok (.getfield 150, 3) := dk_180 0 150 (dk_at dksX0_meet_3 0 rfl rfl)
theorem dX0_meet_74 : decode cX0_meet 74 = .ok (.iload_n 1, 1) := dk_27 (dk_at dksX0_meet_3 3 rfl rfl)
theorem dX0_meet_75 : decode cX0_meet 75 = .ok (.iaload, 1) := dk_46 (dk_at dksX0_meet_3 4 rfl rfl)
theorem dX0_meet_76 : decode cX0_meet 76 = .ok (.aload_n 0, 1) := dk_42 (dk_at dksX0_meet_3 5 rfl rfl)
theorem dX0_meet_77 : decode cX0_meet 77 = .ok (.getfield 23, 3) := dk_180 0 23 (dk_at dksX0_meet_3 6 rfl rfl)
theorem dX0_meet_80 : decode cX0_meet 80 = .ok (.getfield 150, 3) := dk_180 0 150 (dk_at dksX0_meet_3 9 rfl rfl)
theorem dX0_meet_83 : decode cX0_meet 83 = .ok (.iload_n 2, 1) := dk_28 (dk_at dksX0_meet_3 12 rfl rfl)
theorem dX0_meet_84 : decode cX0_meet 84 = .ok (.iaload, 1) := dk_46 (dk_at dksX0_meet_3 13 rfl rfl)
theorem dX0_meet_85 : decode cX0_meet 85 = .ok (.if_icmp .ne 11, 3) := dk_160 0 11 (dk_at dksX0_meet_3 14 rfl rfl)
theorem dX0_meet_88 : decode cX0_meet 88 = .ok (.aload_n 0, 1) := dk_42 (dk_at dksX0_meet_3 17 rfl rfl)
theorem dX0_meet_89 : decode cX0_meet 89 = .ok (.getfield 23, 3) := dk_180 0 23 (dk_at dksX0_meet_3 18 rfl rfl)
theorem dX0_meet_92 : decode cX0_meet 92 = .ok (.getfield 201, 3) := dk_180 0 201 (dk_at dksX0_meet_3 21 rfl rfl)
theorem dX0_meet_95 : decode cX0_meet 95 = .ok (.ireturn, 1) := dk_172 (dk_at dksX0_meet_4 0 rfl rfl)
theorem dX0_meet_96 : decode cX0_meet 96 = .ok (.aload_n 0, 1) := dk_42 (dk_at dksX0_meet_4 1 rfl rfl)
theorem dX0_meet_97 : decode cX0_meet 97 = .ok (.aload_n 0, 1) := dk_42 (dk_at dksX0_meet_4 2 rfl rfl)
theorem dX0_meet_98 : decode cX0_meet 98 = .ok (.getfield 23, 3) := dk_180 0 23 (dk_at dksX0_meet_4 3 rfl rfl)
theorem dX0_meet_101 : decode cX0_meet 101 = .ok (.invokevirtual 230, 3) := dk_182 0 230 (dk_at dksX0_meet_4 6 rfl rfl)
theorem dX0_meet_104 : decode cX0_meet 104 = .ok (.pop, 1) := dk_87 (dk_at dksX0_meet_4 9 rfl rfl)
theorem dX0_meet_105 : decode cX0_meet 105 = .ok (.iinc 3 1, 3) := dk_132 3 1 (dk_at dksX0_meet_4 10 rfl rfl)
theorem dX0_meet_108 : decode cX0_meet 108 = .ok (.goto (-72), 3) := dk_167 255 184 (dk_at dksX0_meet_4 13 rfl rfl)
theorem dX0_meet_111 : decode cX0_meet 111 = .ok (.bipush (-2), 2) := dk_16 254 (dk_at dksX0_meet_4 16 rfl rfl)
theorem dX0_meet_113 : decode cX0_meet 113 = .ok (.ireturn, 1) := dk_172 (dk_at dksX0_meet_4 18 rfl rfl)
abbrev cX0_seen : ByteArray := prog_1_method_35_code
def yX0_seen : MethodName := ⟨RX0, "seen", "(II)I"⟩
def dkwX0_seen_4 : List UInt8 := [184, 1, 8, 172]
abbrev dktX0_seen_4 : List UInt8 := dkwX0_seen_4 ++ []
def dkwX0_seen_3 : List UInt8 := [167, 0, 4, 9, 129, 66, 42, 42, 180, 0, 23, 182, 0, 230, 87, 132, 5, 1, 167, 255, 208, 33]
abbrev dktX0_seen_3 : List UInt8 := dkwX0_seen_3 ++ dktX0_seen_4
def dkwX0_seen_2 : List UInt8 := [180, 0, 23, 180, 0, 159, 27, 46, 154, 0, 17, 10, 42, 180, 0, 23, 180, 0, 150, 27, 46, 121]
abbrev dktX0_seen_2 : List UInt8 := dkwX0_seen_2 ++ dktX0_seen_3
def dkwX0_seen_1 : List UInt8 := [42, 180, 0, 23, 42, 180, 0, 19, 182, 0, 236, 3, 54, 5, 21, 5, 28, 163, 0, 48, 33, 42]
abbrev dktX0_seen_1 : List UInt8 := dkwX0_seen_1 ++ dktX0_seen_2
def dkwX0_seen_0 : List UInt8 := [42, 27, 182, 0, 146, 153, 0, 15, 28, 133, 9, 20, 1, 1, 184, 0, 104, 154, 0, 5, 2, 172, 9, 66]
abbrev dktX0_seen_0 : List UInt8 := dkwX0_seen_0 ++ dktX0_seen_1
theorem dksX0_seen_0 : cX0_seen.data.toList.drop 0 = dktX0_seen_0 := by decide +kernel
theorem dksX0_seen_1 : cX0_seen.data.toList.drop 24 = dktX0_seen_1 := dk_seg dksX0_seen_0 24 rfl rfl
theorem dksX0_seen_2 : cX0_seen.data.toList.drop 46 = dktX0_seen_2 := dk_seg dksX0_seen_1 22 rfl rfl
theorem dksX0_seen_3 : cX0_seen.data.toList.drop 68 = dktX0_seen_3 := dk_seg dksX0_seen_2 22 rfl rfl
theorem dksX0_seen_4 : cX0_seen.data.toList.drop 90 = dktX0_seen_4 := dk_seg dksX0_seen_3 22 rfl rfl
theorem dX0_seen_0 : decode cX0_seen 0 = .ok (.aload_n 0, 1) := dk_42 (dk_at dksX0_seen_0 0 rfl rfl)
theorem dX0_seen_1 : decode cX0_seen 1 = .ok (.iload_n 1, 1) := dk_27 (dk_at dksX0_seen_0 1 rfl rfl)
theorem dX0_seen_2 : decode cX0_seen 2 = .ok (.invokevirtual 146, 3) := dk_182 0 146 (dk_at dksX0_seen_0 2 rfl rfl)
theorem dX0_seen_5 : decode cX0_seen 5 = .ok (.ifCond .eq 15, 3) := dk_153 0 15 (dk_at dksX0_seen_0 5 rfl rfl)
theorem dX0_seen_8 : decode cX0_seen 8 = .ok (.iload_n 2, 1) := dk_28 (dk_at dksX0_seen_0 8 rfl rfl)
theorem dX0_seen_9 : decode cX0_seen 9 = .ok (.i2l, 1) := dk_133 (dk_at dksX0_seen_0 9 rfl rfl)
theorem dX0_seen_10 : decode cX0_seen 10 = .ok (.lconst 0, 1) := dk_9 (dk_at dksX0_seen_0 10 rfl rfl)
theorem dX0_seen_11 : decode cX0_seen 11 = .ok (.ldc2_w 257, 3) := dk_20 1 1 (dk_at dksX0_seen_0 11 rfl rfl)
theorem dX0_seen_14 : decode cX0_seen 14 = .ok (.invokestatic 104, 3) := dk_184 0 104 (dk_at dksX0_seen_0 14 rfl rfl)
theorem dX0_seen_17 : decode cX0_seen 17 = .ok (.ifCond .ne 5, 3) := dk_154 0 5 (dk_at dksX0_seen_0 17 rfl rfl)
theorem dX0_seen_20 : decode cX0_seen 20 = .ok (.iconst (-1), 1) := dk_2 (dk_at dksX0_seen_0 20 rfl rfl)
theorem dX0_seen_21 : decode cX0_seen 21 = .ok (.ireturn, 1) := dk_172 (dk_at dksX0_seen_0 21 rfl rfl)
theorem dX0_seen_22 : decode cX0_seen 22 = .ok (.lconst 0, 1) := dk_9 (dk_at dksX0_seen_0 22 rfl rfl)
theorem dX0_seen_23 : decode cX0_seen 23 = .ok (.lstore_n 3, 1) := dk_66 (dk_at dksX0_seen_0 23 rfl rfl)
theorem dX0_seen_24 : decode cX0_seen 24 = .ok (.aload_n 0, 1) := dk_42 (dk_at dksX0_seen_1 0 rfl rfl)
theorem dX0_seen_25 : decode cX0_seen 25 = .ok (.getfield 23, 3) := dk_180 0 23 (dk_at dksX0_seen_1 1 rfl rfl)
theorem dX0_seen_28 : decode cX0_seen 28 = .ok (.aload_n 0, 1) := dk_42 (dk_at dksX0_seen_1 4 rfl rfl)
theorem dX0_seen_29 : decode cX0_seen 29 = .ok (.getfield 19, 3) := dk_180 0 19 (dk_at dksX0_seen_1 5 rfl rfl)
theorem dX0_seen_32 : decode cX0_seen 32 = .ok (.invokevirtual 236, 3) := dk_182 0 236 (dk_at dksX0_seen_1 8 rfl rfl)
theorem dX0_seen_35 : decode cX0_seen 35 = .ok (.iconst 0, 1) := dk_3 (dk_at dksX0_seen_1 11 rfl rfl)
theorem dX0_seen_36 : decode cX0_seen 36 = .ok (.istore 5, 2) := dk_54 5 (dk_at dksX0_seen_1 12 rfl rfl)
theorem dX0_seen_38 : decode cX0_seen 38 = .ok (.iload 5, 2) := dk_21 5 (dk_at dksX0_seen_1 14 rfl rfl)
theorem dX0_seen_40 : decode cX0_seen 40 = .ok (.iload_n 2, 1) := dk_28 (dk_at dksX0_seen_1 16 rfl rfl)
theorem dX0_seen_41 : decode cX0_seen 41 = .ok (.if_icmp .gt 48, 3) := dk_163 0 48 (dk_at dksX0_seen_1 17 rfl rfl)
theorem dX0_seen_44 : decode cX0_seen 44 = .ok (.lload_n 3, 1) := dk_33 (dk_at dksX0_seen_1 20 rfl rfl)
theorem dX0_seen_45 : decode cX0_seen 45 = .ok (.aload_n 0, 1) := dk_42 (dk_at dksX0_seen_1 21 rfl rfl)
theorem dX0_seen_46 : decode cX0_seen 46 = .ok (.getfield 23, 3) := dk_180 0 23 (dk_at dksX0_seen_2 0 rfl rfl)
theorem dX0_seen_49 : decode cX0_seen 49 = .ok (.getfield 159, 3) := dk_180 0 159 (dk_at dksX0_seen_2 3 rfl rfl)
theorem dX0_seen_52 : decode cX0_seen 52 = .ok (.iload_n 1, 1) := dk_27 (dk_at dksX0_seen_2 6 rfl rfl)
theorem dX0_seen_53 : decode cX0_seen 53 = .ok (.iaload, 1) := dk_46 (dk_at dksX0_seen_2 7 rfl rfl)
theorem dX0_seen_54 : decode cX0_seen 54 = .ok (.ifCond .ne 17, 3) := dk_154 0 17 (dk_at dksX0_seen_2 8 rfl rfl)
theorem dX0_seen_57 : decode cX0_seen 57 = .ok (.lconst 1, 1) := dk_10 (dk_at dksX0_seen_2 11 rfl rfl)
theorem dX0_seen_58 : decode cX0_seen 58 = .ok (.aload_n 0, 1) := dk_42 (dk_at dksX0_seen_2 12 rfl rfl)
theorem dX0_seen_59 : decode cX0_seen 59 = .ok (.getfield 23, 3) := dk_180 0 23 (dk_at dksX0_seen_2 13 rfl rfl)
theorem dX0_seen_62 : decode cX0_seen 62 = .ok (.getfield 150, 3) := dk_180 0 150 (dk_at dksX0_seen_2 16 rfl rfl)
theorem dX0_seen_65 : decode cX0_seen 65 = .ok (.iload_n 1, 1) := dk_27 (dk_at dksX0_seen_2 19 rfl rfl)
theorem dX0_seen_66 : decode cX0_seen 66 = .ok (.iaload, 1) := dk_46 (dk_at dksX0_seen_2 20 rfl rfl)
theorem dX0_seen_67 : decode cX0_seen 67 = .ok (.lshl, 1) := dk_121 (dk_at dksX0_seen_2 21 rfl rfl)
theorem dX0_seen_68 : decode cX0_seen 68 = .ok (.goto 4, 3) := dk_167 0 4 (dk_at dksX0_seen_3 0 rfl rfl)
theorem dX0_seen_71 : decode cX0_seen 71 = .ok (.lconst 0, 1) := dk_9 (dk_at dksX0_seen_3 3 rfl rfl)
theorem dX0_seen_72 : decode cX0_seen 72 = .ok (.lor, 1) := dk_129 (dk_at dksX0_seen_3 4 rfl rfl)
theorem dX0_seen_73 : decode cX0_seen 73 = .ok (.lstore_n 3, 1) := dk_66 (dk_at dksX0_seen_3 5 rfl rfl)
theorem dX0_seen_74 : decode cX0_seen 74 = .ok (.aload_n 0, 1) := dk_42 (dk_at dksX0_seen_3 6 rfl rfl)
theorem dX0_seen_75 : decode cX0_seen 75 = .ok (.aload_n 0, 1) := dk_42 (dk_at dksX0_seen_3 7 rfl rfl)
theorem dX0_seen_76 : decode cX0_seen 76 = .ok (.getfield 23, 3) := dk_180 0 23 (dk_at dksX0_seen_3 8 rfl rfl)
theorem dX0_seen_79 : decode cX0_seen 79 = .ok (.invokevirtual 230, 3) := dk_182 0 230 (dk_at dksX0_seen_3 11 rfl rfl)
theorem dX0_seen_82 : decode cX0_seen 82 = .ok (.pop, 1) := dk_87 (dk_at dksX0_seen_3 14 rfl rfl)
theorem dX0_seen_83 : decode cX0_seen 83 = .ok (.iinc 5 1, 3) := dk_132 5 1 (dk_at dksX0_seen_3 15 rfl rfl)
theorem dX0_seen_86 : decode cX0_seen 86 = .ok (.goto (-48), 3) := dk_167 255 208 (dk_at dksX0_seen_3 18 rfl rfl)
theorem dX0_seen_89 : decode cX0_seen 89 = .ok (.lload_n 3, 1) := dk_33 (dk_at dksX0_seen_3 21 rfl rfl)
theorem dX0_seen_90 : decode cX0_seen 90 = .ok (.invokestatic 264, 3) := dk_184 1 8 (dk_at dksX0_seen_4 0 rfl rfl)
theorem dX0_seen_93 : decode cX0_seen 93 = .ok (.ireturn, 1) := dk_172 (dk_at dksX0_seen_4 3 rfl rfl)
abbrev cX0_longest : ByteArray := prog_1_method_36_code
def yX0_longest : MethodName := ⟨RX0, "longest", "(II)I"⟩
def dkwX0_longest_9 : List UInt8 := [172]
abbrev dktX0_longest_9 : List UInt8 := dkwX0_longest_9 ++ []
def dkwX0_longest_8 : List UInt8 := [180, 0, 10, 182, 0, 100, 154, 0, 8, 16, 254, 167, 0, 13, 29, 167, 0, 9, 42, 180, 0, 79, 29, 46]
abbrev dktX0_longest_8 : List UInt8 := dkwX0_longest_8 ++ dktX0_longest_9
def dkwX0_longest_7 : List UInt8 := [180, 0, 79, 29, 46, 164, 0, 6, 21, 4, 62, 132, 4, 1, 167, 255, 222, 28, 154, 0, 22, 42]
abbrev dktX0_longest_7 : List UInt8 := dkwX0_longest_7 ++ dktX0_longest_8
def dkwX0_longest_6 : List UInt8 := [54, 4, 21, 4, 42, 180, 0, 10, 182, 0, 100, 162, 0, 28, 42, 180, 0, 79, 21, 4, 46, 42]
abbrev dktX0_longest_6 : List UInt8 := dkwX0_longest_6 ++ dktX0_longest_7
def dkwX0_longest_5 : List UInt8 := [167, 0, 4, 3, 184, 0, 186, 96, 79, 132, 4, 1, 167, 255, 209, 132, 3, 1, 167, 255, 186, 3, 62, 4]
abbrev dktX0_longest_5 : List UInt8 := dkwX0_longest_5 ++ dktX0_longest_6
def dkwX0_longest_4 : List UInt8 := [42, 180, 0, 79, 21, 4, 92, 46, 42, 180, 0, 23, 180, 0, 159, 21, 4, 46, 4, 160, 0, 7, 4]
abbrev dktX0_longest_4 : List UInt8 := dkwX0_longest_4 ++ dktX0_longest_5
def dkwX0_longest_3 : List UInt8 := [42, 42, 180, 0, 23, 182, 0, 230, 87, 3, 54, 4, 21, 4, 42, 180, 0, 10, 182, 0, 100, 162, 0, 41]
abbrev dktX0_longest_3 : List UInt8 := dkwX0_longest_3 ++ dktX0_longest_4
def dkwX0_longest_2 : List UInt8 := [132, 3, 1, 167, 255, 241, 42, 180, 0, 23, 42, 180, 0, 19, 182, 0, 236, 3, 62, 29, 27, 162, 0, 71]
abbrev dktX0_longest_2 : List UInt8 := dkwX0_longest_2 ++ dktX0_longest_3
def dkwX0_longest_1 : List UInt8 := [184, 0, 104, 154, 0, 5, 2, 172, 3, 62, 29, 8, 162, 0, 16, 42, 180, 0, 79, 29, 3, 79]
abbrev dktX0_longest_1 : List UInt8 := dkwX0_longest_1 ++ dktX0_longest_2
def dkwX0_longest_0 : List UInt8 := [42, 182, 0, 168, 153, 0, 25, 27, 133, 10, 20, 1, 1, 184, 0, 104, 153, 0, 13, 28, 133, 9, 10]
abbrev dktX0_longest_0 : List UInt8 := dkwX0_longest_0 ++ dktX0_longest_1
theorem dksX0_longest_0 : cX0_longest.data.toList.drop 0 = dktX0_longest_0 := by decide +kernel
theorem dksX0_longest_1 : cX0_longest.data.toList.drop 23 = dktX0_longest_1 := dk_seg dksX0_longest_0 23 rfl rfl
theorem dksX0_longest_2 : cX0_longest.data.toList.drop 45 = dktX0_longest_2 := dk_seg dksX0_longest_1 22 rfl rfl
theorem dksX0_longest_3 : cX0_longest.data.toList.drop 69 = dktX0_longest_3 := dk_seg dksX0_longest_2 24 rfl rfl
theorem dksX0_longest_4 : cX0_longest.data.toList.drop 93 = dktX0_longest_4 := dk_seg dksX0_longest_3 24 rfl rfl
theorem dksX0_longest_5 : cX0_longest.data.toList.drop 116 = dktX0_longest_5 := dk_seg dksX0_longest_4 23 rfl rfl
theorem dksX0_longest_6 : cX0_longest.data.toList.drop 140 = dktX0_longest_6 := dk_seg dksX0_longest_5 24 rfl rfl
theorem dksX0_longest_7 : cX0_longest.data.toList.drop 162 = dktX0_longest_7 := dk_seg dksX0_longest_6 22 rfl rfl
theorem dksX0_longest_8 : cX0_longest.data.toList.drop 184 = dktX0_longest_8 := dk_seg dksX0_longest_7 22 rfl rfl
theorem dksX0_longest_9 : cX0_longest.data.toList.drop 208 = dktX0_longest_9 := dk_seg dksX0_longest_8 24 rfl rfl
theorem dX0_longest_0 : decode cX0_longest 0 = .ok (.aload_n 0, 1) := dk_42 (dk_at dksX0_longest_0 0 rfl rfl)
theorem dX0_longest_1 : decode cX0_longest 1 = .ok (.invokevirtual 168, 3) := dk_182 0 168 (dk_at dksX0_longest_0 1 rfl rfl)
theorem dX0_longest_4 : decode cX0_longest 4 = .ok (.ifCond .eq 25, 3) := dk_153 0 25 (dk_at dksX0_longest_0 4 rfl rfl)
theorem dX0_longest_7 : decode cX0_longest 7 = .ok (.iload_n 1, 1) := dk_27 (dk_at dksX0_longest_0 7 rfl rfl)
theorem dX0_longest_8 : decode cX0_longest 8 = .ok (.i2l, 1) := dk_133 (dk_at dksX0_longest_0 8 rfl rfl)
theorem dX0_longest_9 : decode cX0_longest 9 = .ok (.lconst 1, 1) := dk_10 (dk_at dksX0_longest_0 9 rfl rfl)
theorem dX0_longest_10 : decode cX0_longest 10 = .ok (.ldc2_w 257, 3) := dk_20 1 1 (dk_at dksX0_longest_0 10 rfl rfl)
theorem dX0_longest_13 : decode cX0_longest 13 = .ok (.invokestatic 104, 3) := dk_184 0 104 (dk_at dksX0_longest_0 13 rfl rfl)
theorem dX0_longest_16 : decode cX0_longest 16 = .ok (.ifCond .eq 13, 3) := dk_153 0 13 (dk_at dksX0_longest_0 16 rfl rfl)
theorem dX0_longest_19 : decode cX0_longest 19 = .ok (.iload_n 2, 1) := dk_28 (dk_at dksX0_longest_0 19 rfl rfl)
theorem dX0_longest_20 : decode cX0_longest 20 = .ok (.i2l, 1) := dk_133 (dk_at dksX0_longest_0 20 rfl rfl)
theorem dX0_longest_21 : decode cX0_longest 21 = .ok (.lconst 0, 1) := dk_9 (dk_at dksX0_longest_0 21 rfl rfl)
theorem dX0_longest_22 : decode cX0_longest 22 = .ok (.lconst 1, 1) := dk_10 (dk_at dksX0_longest_0 22 rfl rfl)
theorem dX0_longest_23 : decode cX0_longest 23 = .ok (.invokestatic 104, 3) := dk_184 0 104 (dk_at dksX0_longest_1 0 rfl rfl)
theorem dX0_longest_26 : decode cX0_longest 26 = .ok (.ifCond .ne 5, 3) := dk_154 0 5 (dk_at dksX0_longest_1 3 rfl rfl)
theorem dX0_longest_29 : decode cX0_longest 29 = .ok (.iconst (-1), 1) := dk_2 (dk_at dksX0_longest_1 6 rfl rfl)
theorem dX0_longest_30 : decode cX0_longest 30 = .ok (.ireturn, 1) := dk_172 (dk_at dksX0_longest_1 7 rfl rfl)
theorem dX0_longest_31 : decode cX0_longest 31 = .ok (.iconst 0, 1) := dk_3 (dk_at dksX0_longest_1 8 rfl rfl)
theorem dX0_longest_32 : decode cX0_longest 32 = .ok (.istore_n 3, 1) := dk_62 (dk_at dksX0_longest_1 9 rfl rfl)
theorem dX0_longest_33 : decode cX0_longest 33 = .ok (.iload_n 3, 1) := dk_29 (dk_at dksX0_longest_1 10 rfl rfl)
theorem dX0_longest_34 : decode cX0_longest 34 = .ok (.iconst 5, 1) := dk_8 (dk_at dksX0_longest_1 11 rfl rfl)
theorem dX0_longest_35 : decode cX0_longest 35 = .ok (.if_icmp .ge 16, 3) := dk_162 0 16 (dk_at dksX0_longest_1 12 rfl rfl)
theorem dX0_longest_38 : decode cX0_longest 38 = .ok (.aload_n 0, 1) := dk_42 (dk_at dksX0_longest_1 15 rfl rfl)
theorem dX0_longest_39 : decode cX0_longest 39 = .ok (.getfield 79, 3) := dk_180 0 79 (dk_at dksX0_longest_1 16 rfl rfl)
theorem dX0_longest_42 : decode cX0_longest 42 = .ok (.iload_n 3, 1) := dk_29 (dk_at dksX0_longest_1 19 rfl rfl)
theorem dX0_longest_43 : decode cX0_longest 43 = .ok (.iconst 0, 1) := dk_3 (dk_at dksX0_longest_1 20 rfl rfl)
theorem dX0_longest_44 : decode cX0_longest 44 = .ok (.iastore, 1) := dk_79 (dk_at dksX0_longest_1 21 rfl rfl)
theorem dX0_longest_45 : decode cX0_longest 45 = .ok (.iinc 3 1, 3) := dk_132 3 1 (dk_at dksX0_longest_2 0 rfl rfl)
theorem dX0_longest_48 : decode cX0_longest 48 = .ok (.goto (-15), 3) := dk_167 255 241 (dk_at dksX0_longest_2 3 rfl rfl)
theorem dX0_longest_51 : decode cX0_longest 51 = .ok (.aload_n 0, 1) := dk_42 (dk_at dksX0_longest_2 6 rfl rfl)
theorem dX0_longest_52 : decode cX0_longest 52 = .ok (.getfield 23, 3) := dk_180 0 23 (dk_at dksX0_longest_2 7 rfl rfl)
theorem dX0_longest_55 : decode cX0_longest 55 = .ok (.aload_n 0, 1) := dk_42 (dk_at dksX0_longest_2 10 rfl rfl)
theorem dX0_longest_56 : decode cX0_longest 56 = .ok (.getfield 19, 3) := dk_180 0 19 (dk_at dksX0_longest_2 11 rfl rfl)
theorem dX0_longest_59 : decode cX0_longest 59 = .ok (.invokevirtual 236, 3) := dk_182 0 236 (dk_at dksX0_longest_2 14 rfl rfl)
theorem dX0_longest_62 : decode cX0_longest 62 = .ok (.iconst 0, 1) := dk_3 (dk_at dksX0_longest_2 17 rfl rfl)
theorem dX0_longest_63 : decode cX0_longest 63 = .ok (.istore_n 3, 1) := dk_62 (dk_at dksX0_longest_2 18 rfl rfl)
theorem dX0_longest_64 : decode cX0_longest 64 = .ok (.iload_n 3, 1) := dk_29 (dk_at dksX0_longest_2 19 rfl rfl)
theorem dX0_longest_65 : decode cX0_longest 65 = .ok (.iload_n 1, 1) := dk_27 (dk_at dksX0_longest_2 20 rfl rfl)
theorem dX0_longest_66 : decode cX0_longest 66 = .ok (.if_icmp .ge 71, 3) := dk_162 0 71 (dk_at dksX0_longest_2 21 rfl rfl)
theorem dX0_longest_69 : decode cX0_longest 69 = .ok (.aload_n 0, 1) := dk_42 (dk_at dksX0_longest_3 0 rfl rfl)
theorem dX0_longest_70 : decode cX0_longest 70 = .ok (.aload_n 0, 1) := dk_42 (dk_at dksX0_longest_3 1 rfl rfl)
theorem dX0_longest_71 : decode cX0_longest 71 = .ok (.getfield 23, 3) := dk_180 0 23 (dk_at dksX0_longest_3 2 rfl rfl)
theorem dX0_longest_74 : decode cX0_longest 74 = .ok (.invokevirtual 230, 3) := dk_182 0 230 (dk_at dksX0_longest_3 5 rfl rfl)
theorem dX0_longest_77 : decode cX0_longest 77 = .ok (.pop, 1) := dk_87 (dk_at dksX0_longest_3 8 rfl rfl)
theorem dX0_longest_78 : decode cX0_longest 78 = .ok (.iconst 0, 1) := dk_3 (dk_at dksX0_longest_3 9 rfl rfl)
theorem dX0_longest_79 : decode cX0_longest 79 = .ok (.istore 4, 2) := dk_54 4 (dk_at dksX0_longest_3 10 rfl rfl)
theorem dX0_longest_81 : decode cX0_longest 81 = .ok (.iload 4, 2) := dk_21 4 (dk_at dksX0_longest_3 12 rfl rfl)
theorem dX0_longest_83 : decode cX0_longest 83 = .ok (.aload_n 0, 1) := dk_42 (dk_at dksX0_longest_3 14 rfl rfl)
theorem dX0_longest_84 : decode cX0_longest 84 = .ok (.getfield 10, 3) := dk_180 0 10 (dk_at dksX0_longest_3 15 rfl rfl)
theorem dX0_longest_87 : decode cX0_longest 87 = .ok (.invokevirtual 100, 3) := dk_182 0 100 (dk_at dksX0_longest_3 18 rfl rfl)
theorem dX0_longest_90 : decode cX0_longest 90 = .ok (.if_icmp .ge 41, 3) := dk_162 0 41 (dk_at dksX0_longest_3 21 rfl rfl)
theorem dX0_longest_93 : decode cX0_longest 93 = .ok (.aload_n 0, 1) := dk_42 (dk_at dksX0_longest_4 0 rfl rfl)
theorem dX0_longest_94 : decode cX0_longest 94 = .ok (.getfield 79, 3) := dk_180 0 79 (dk_at dksX0_longest_4 1 rfl rfl)
theorem dX0_longest_97 : decode cX0_longest 97 = .ok (.iload 4, 2) := dk_21 4 (dk_at dksX0_longest_4 4 rfl rfl)
theorem dX0_longest_99 : decode cX0_longest 99 = .ok (.dup2, 1) := dk_92 (dk_at dksX0_longest_4 6 rfl rfl)
theorem dX0_longest_100 : decode cX0_longest 100 = .ok (.iaload, 1) := dk_46 (dk_at dksX0_longest_4 7 rfl rfl)
theorem dX0_longest_101 : decode cX0_longest 101 = .ok (.aload_n 0, 1) := dk_42 (dk_at dksX0_longest_4 8 rfl rfl)
theorem dX0_longest_102 : decode cX0_longest 102 = .ok (.getfield 23, 3) := dk_180 0 23 (dk_at dksX0_longest_4 9 rfl rfl)
theorem dX0_longest_105 : decode cX0_longest 105 = .ok (.getfield 159, 3) := dk_180 0 159 (dk_at dksX0_longest_4 12 rfl rfl)
theorem dX0_longest_108 : decode cX0_longest 108 = .ok (.iload 4, 2) := dk_21 4 (dk_at dksX0_longest_4 15 rfl rfl)
theorem dX0_longest_110 : decode cX0_longest 110 = .ok (.iaload, 1) := dk_46 (dk_at dksX0_longest_4 17 rfl rfl)
theorem dX0_longest_111 : decode cX0_longest 111 = .ok (.iconst 1, 1) := dk_4 (dk_at dksX0_longest_4 18 rfl rfl)
theorem dX0_longest_112 : decode cX0_longest 112 = .ok (.if_icmp .ne 7, 3) := dk_160 0 7 (dk_at dksX0_longest_4 19 rfl rfl)
theorem dX0_longest_115 : decode cX0_longest 115 = .ok (.iconst 1, 1) := dk_4 (dk_at dksX0_longest_4 22 rfl rfl)
theorem dX0_longest_116 : decode cX0_longest 116 = .ok (.goto 4, 3) := dk_167 0 4 (dk_at dksX0_longest_5 0 rfl rfl)
theorem dX0_longest_119 : decode cX0_longest 119 = .ok (.iconst 0, 1) := dk_3 (dk_at dksX0_longest_5 3 rfl rfl)
theorem dX0_longest_120 : decode cX0_longest 120 = .ok (.invokestatic 186, 3) := dk_184 0 186 (dk_at dksX0_longest_5 4 rfl rfl)
theorem dX0_longest_123 : decode cX0_longest 123 = .ok (.iadd, 1) := dk_96 (dk_at dksX0_longest_5 7 rfl rfl)
theorem dX0_longest_124 : decode cX0_longest 124 = .ok (.iastore, 1) := dk_79 (dk_at dksX0_longest_5 8 rfl rfl)
theorem dX0_longest_125 : decode cX0_longest 125 = .ok (.iinc 4 1, 3) := dk_132 4 1 (dk_at dksX0_longest_5 9 rfl rfl)
theorem dX0_longest_128 : decode cX0_longest 128 = .ok (.goto (-47), 3) := dk_167 255 209 (dk_at dksX0_longest_5 12 rfl rfl)
theorem dX0_longest_131 : decode cX0_longest 131 = .ok (.iinc 3 1, 3) := dk_132 3 1 (dk_at dksX0_longest_5 15 rfl rfl)
theorem dX0_longest_134 : decode cX0_longest 134 = .ok (.goto (-70), 3) := dk_167 255 186 (dk_at dksX0_longest_5 18 rfl rfl)
theorem dX0_longest_137 : decode cX0_longest 137 = .ok (.iconst 0, 1) := dk_3 (dk_at dksX0_longest_5 21 rfl rfl)
theorem dX0_longest_138 : decode cX0_longest 138 = .ok (.istore_n 3, 1) := dk_62 (dk_at dksX0_longest_5 22 rfl rfl)
theorem dX0_longest_139 : decode cX0_longest 139 = .ok (.iconst 1, 1) := dk_4 (dk_at dksX0_longest_5 23 rfl rfl)
theorem dX0_longest_140 : decode cX0_longest 140 = .ok (.istore 4, 2) := dk_54 4 (dk_at dksX0_longest_6 0 rfl rfl)
theorem dX0_longest_142 : decode cX0_longest 142 = .ok (.iload 4, 2) := dk_21 4 (dk_at dksX0_longest_6 2 rfl rfl)
theorem dX0_longest_144 : decode cX0_longest 144 = .ok (.aload_n 0, 1) := dk_42 (dk_at dksX0_longest_6 4 rfl rfl)
theorem dX0_longest_145 : decode cX0_longest 145 = .ok (.getfield 10, 3) := dk_180 0 10 (dk_at dksX0_longest_6 5 rfl rfl)
theorem dX0_longest_148 : decode cX0_longest 148 = .ok (.invokevirtual 100, 3) := dk_182 0 100 (dk_at dksX0_longest_6 8 rfl rfl)
theorem dX0_longest_151 : decode cX0_longest 151 = .ok (.if_icmp .ge 28, 3) := dk_162 0 28 (dk_at dksX0_longest_6 11 rfl rfl)
theorem dX0_longest_154 : decode cX0_longest 154 = .ok (.aload_n 0, 1) := dk_42 (dk_at dksX0_longest_6 14 rfl rfl)
theorem dX0_longest_155 : decode cX0_longest 155 = .ok (.getfield 79, 3) := dk_180 0 79 (dk_at dksX0_longest_6 15 rfl rfl)
theorem dX0_longest_158 : decode cX0_longest 158 = .ok (.iload 4, 2) := dk_21 4 (dk_at dksX0_longest_6 18 rfl rfl)
theorem dX0_longest_160 : decode cX0_longest 160 = .ok (.iaload, 1) := dk_46 (dk_at dksX0_longest_6 20 rfl rfl)
theorem dX0_longest_161 : decode cX0_longest 161 = .ok (.aload_n 0, 1) := dk_42 (dk_at dksX0_longest_6 21 rfl rfl)
theorem dX0_longest_162 : decode cX0_longest 162 = .ok (.getfield 79, 3) := dk_180 0 79 (dk_at dksX0_longest_7 0 rfl rfl)
theorem dX0_longest_165 : decode cX0_longest 165 = .ok (.iload_n 3, 1) := dk_29 (dk_at dksX0_longest_7 3 rfl rfl)
theorem dX0_longest_166 : decode cX0_longest 166 = .ok (.iaload, 1) := dk_46 (dk_at dksX0_longest_7 4 rfl rfl)
theorem dX0_longest_167 : decode cX0_longest 167 = .ok (.if_icmp .le 6, 3) := dk_164 0 6 (dk_at dksX0_longest_7 5 rfl rfl)
theorem dX0_longest_170 : decode cX0_longest 170 = .ok (.iload 4, 2) := dk_21 4 (dk_at dksX0_longest_7 8 rfl rfl)
theorem dX0_longest_172 : decode cX0_longest 172 = .ok (.istore_n 3, 1) := dk_62 (dk_at dksX0_longest_7 10 rfl rfl)
theorem dX0_longest_173 : decode cX0_longest 173 = .ok (.iinc 4 1, 3) := dk_132 4 1 (dk_at dksX0_longest_7 11 rfl rfl)
theorem dX0_longest_176 : decode cX0_longest 176 = .ok (.goto (-34), 3) := dk_167 255 222 (dk_at dksX0_longest_7 14 rfl rfl)
theorem dX0_longest_179 : decode cX0_longest 179 = .ok (.iload_n 2, 1) := dk_28 (dk_at dksX0_longest_7 17 rfl rfl)
theorem dX0_longest_180 : decode cX0_longest 180 = .ok (.ifCond .ne 22, 3) := dk_154 0 22 (dk_at dksX0_longest_7 18 rfl rfl)
theorem dX0_longest_183 : decode cX0_longest 183 = .ok (.aload_n 0, 1) := dk_42 (dk_at dksX0_longest_7 21 rfl rfl)
theorem dX0_longest_184 : decode cX0_longest 184 = .ok (.getfield 10, 3) := dk_180 0 10 (dk_at dksX0_longest_8 0 rfl rfl)
theorem dX0_longest_187 : decode cX0_longest 187 = .ok (.invokevirtual 100, 3) := dk_182 0 100 (dk_at dksX0_longest_8 3 rfl rfl)
theorem dX0_longest_190 : decode cX0_longest 190 = .ok (.ifCond .ne 8, 3) := dk_154 0 8 (dk_at dksX0_longest_8 6 rfl rfl)
theorem dX0_longest_193 : decode cX0_longest 193 = .ok (.bipush (-2), 2) := dk_16 254 (dk_at dksX0_longest_8 9 rfl rfl)
theorem dX0_longest_195 : decode cX0_longest 195 = .ok (.goto 13, 3) := dk_167 0 13 (dk_at dksX0_longest_8 11 rfl rfl)
theorem dX0_longest_198 : decode cX0_longest 198 = .ok (.iload_n 3, 1) := dk_29 (dk_at dksX0_longest_8 14 rfl rfl)
theorem dX0_longest_199 : decode cX0_longest 199 = .ok (.goto 9, 3) := dk_167 0 9 (dk_at dksX0_longest_8 15 rfl rfl)
theorem dX0_longest_202 : decode cX0_longest 202 = .ok (.aload_n 0, 1) := dk_42 (dk_at dksX0_longest_8 18 rfl rfl)
theorem dX0_longest_203 : decode cX0_longest 203 = .ok (.getfield 79, 3) := dk_180 0 79 (dk_at dksX0_longest_8 19 rfl rfl)
theorem dX0_longest_206 : decode cX0_longest 206 = .ok (.iload_n 3, 1) := dk_29 (dk_at dksX0_longest_8 22 rfl rfl)
theorem dX0_longest_207 : decode cX0_longest 207 = .ok (.iaload, 1) := dk_46 (dk_at dksX0_longest_8 23 rfl rfl)
theorem dX0_longest_208 : decode cX0_longest 208 = .ok (.ireturn, 1) := dk_172 (dk_at dksX0_longest_9 0 rfl rfl)
abbrev cX0_shortest : ByteArray := prog_1_method_38_code
def yX0_shortest : MethodName := ⟨RX0, "shortest", "(II)I"⟩
def dkwX0_shortest_7 : List UInt8 := [167, 0, 5, 16, 254, 172]
abbrev dktX0_shortest_7 : List UInt8 := dkwX0_shortest_7 ++ []
def dkwX0_shortest_6 : List UInt8 := [167, 255, 201, 167, 255, 189, 42, 180, 0, 76, 28, 46, 16, 99, 163, 0, 12, 42, 180, 0, 76, 28, 46]
abbrev dktX0_shortest_6 : List UInt8 := dkwX0_shortest_6 ++ dktX0_shortest_7
def dkwX0_shortest_5 : List UInt8 := [42, 21, 4, 21, 5, 182, 1, 20, 153, 0, 5, 4, 62, 132, 5, 1, 167, 255, 222, 132, 4, 1]
abbrev dktX0_shortest_5 : List UInt8 := dkwX0_shortest_5 ++ dktX0_shortest_6
def dkwX0_shortest_4 : List UInt8 := [162, 0, 49, 3, 54, 5, 21, 5, 7, 162, 0, 34, 42, 180, 0, 76, 21, 4, 46, 16, 99, 162, 0, 16]
abbrev dktX0_shortest_4 : List UInt8 := dkwX0_shortest_4 ++ dktX0_shortest_5
def dkwX0_shortest_3 : List UInt8 := [167, 255, 217, 4, 62, 29, 153, 0, 69, 3, 62, 3, 54, 4, 21, 4, 42, 180, 0, 10, 182, 0, 108]
abbrev dktX0_shortest_3 : List UInt8 := dkwX0_shortest_3 ++ dktX0_shortest_4
def dkwX0_shortest_2 : List UInt8 := [29, 42, 180, 0, 19, 180, 0, 150, 27, 46, 160, 0, 7, 3, 167, 0, 5, 16, 100, 79, 132, 3, 1]
abbrev dktX0_shortest_2 : List UInt8 := dkwX0_shortest_2 ++ dktX0_shortest_3
def dkwX0_shortest_1 : List UInt8 := [46, 153, 0, 5, 2, 172, 3, 62, 29, 42, 180, 0, 10, 182, 0, 108, 162, 0, 34, 42, 180, 0, 76, 29]
abbrev dktX0_shortest_1 : List UInt8 := dkwX0_shortest_1 ++ dktX0_shortest_2
def dkwX0_shortest_0 : List UInt8 := [42, 27, 182, 0, 146, 153, 0, 23, 42, 28, 182, 0, 180, 153, 0, 15, 42, 180, 0, 19, 180, 0, 159, 27]
abbrev dktX0_shortest_0 : List UInt8 := dkwX0_shortest_0 ++ dktX0_shortest_1
theorem dksX0_shortest_0 : cX0_shortest.data.toList.drop 0 = dktX0_shortest_0 := by decide +kernel
theorem dksX0_shortest_1 : cX0_shortest.data.toList.drop 24 = dktX0_shortest_1 := dk_seg dksX0_shortest_0 24 rfl rfl
theorem dksX0_shortest_2 : cX0_shortest.data.toList.drop 48 = dktX0_shortest_2 := dk_seg dksX0_shortest_1 24 rfl rfl
theorem dksX0_shortest_3 : cX0_shortest.data.toList.drop 71 = dktX0_shortest_3 := dk_seg dksX0_shortest_2 23 rfl rfl
theorem dksX0_shortest_4 : cX0_shortest.data.toList.drop 94 = dktX0_shortest_4 := dk_seg dksX0_shortest_3 23 rfl rfl
theorem dksX0_shortest_5 : cX0_shortest.data.toList.drop 118 = dktX0_shortest_5 := dk_seg dksX0_shortest_4 24 rfl rfl
theorem dksX0_shortest_6 : cX0_shortest.data.toList.drop 140 = dktX0_shortest_6 := dk_seg dksX0_shortest_5 22 rfl rfl
theorem dksX0_shortest_7 : cX0_shortest.data.toList.drop 163 = dktX0_shortest_7 := dk_seg dksX0_shortest_6 23 rfl rfl
theorem dX0_shortest_0 : decode cX0_shortest 0 = .ok (.aload_n 0, 1) := dk_42 (dk_at dksX0_shortest_0 0 rfl rfl)
theorem dX0_shortest_1 : decode cX0_shortest 1 = .ok (.iload_n 1, 1) := dk_27 (dk_at dksX0_shortest_0 1 rfl rfl)
theorem dX0_shortest_2 : decode cX0_shortest 2 = .ok (.invokevirtual 146, 3) := dk_182 0 146 (dk_at dksX0_shortest_0 2 rfl rfl)
theorem dX0_shortest_5 : decode cX0_shortest 5 = .ok (.ifCond .eq 23, 3) := dk_153 0 23 (dk_at dksX0_shortest_0 5 rfl rfl)
theorem dX0_shortest_8 : decode cX0_shortest 8 = .ok (.aload_n 0, 1) := dk_42 (dk_at dksX0_shortest_0 8 rfl rfl)
theorem dX0_shortest_9 : decode cX0_shortest 9 = .ok (.iload_n 2, 1) := dk_28 (dk_at dksX0_shortest_0 9 rfl rfl)
theorem dX0_shortest_10 : decode cX0_shortest 10 = .ok (.invokevirtual 180, 3) := dk_182 0 180 (dk_at dksX0_shortest_0 10 rfl rfl)
theorem dX0_shortest_13 : decode cX0_shortest 13 = .ok (.ifCond .eq 15, 3) := dk_153 0 15 (dk_at dksX0_shortest_0 13 rfl rfl)
theorem dX0_shortest_16 : decode cX0_shortest 16 = .ok (.aload_n 0, 1) := dk_42 (dk_at dksX0_shortest_0 16 rfl rfl)
theorem dX0_shortest_17 : decode cX0_shortest 17 = .ok (.getfield 19, 3) := dk_180 0 19 (dk_at dksX0_shortest_0 17 rfl rfl)
theorem dX0_shortest_20 : decode cX0_shortest 20 = .ok (.getfield 159, 3) := dk_180 0 159 (dk_at dksX0_shortest_0 20 rfl rfl)
theorem dX0_shortest_23 : decode cX0_shortest 23 = .ok (.iload_n 1, 1) := dk_27 (dk_at dksX0_shortest_0 23 rfl rfl)
theorem dX0_shortest_24 : decode cX0_shortest 24 = .ok (.iaload, 1) := dk_46 (dk_at dksX0_shortest_1 0 rfl rfl)
theorem dX0_shortest_25 : decode cX0_shortest 25 = .ok (.ifCond .eq 5, 3) := dk_153 0 5 (dk_at dksX0_shortest_1 1 rfl rfl)
theorem dX0_shortest_28 : decode cX0_shortest 28 = .ok (.iconst (-1), 1) := dk_2 (dk_at dksX0_shortest_1 4 rfl rfl)
theorem dX0_shortest_29 : decode cX0_shortest 29 = .ok (.ireturn, 1) := dk_172 (dk_at dksX0_shortest_1 5 rfl rfl)
theorem dX0_shortest_30 : decode cX0_shortest 30 = .ok (.iconst 0, 1) := dk_3 (dk_at dksX0_shortest_1 6 rfl rfl)
theorem dX0_shortest_31 : decode cX0_shortest 31 = .ok (.istore_n 3, 1) := dk_62 (dk_at dksX0_shortest_1 7 rfl rfl)
theorem dX0_shortest_32 : decode cX0_shortest 32 = .ok (.iload_n 3, 1) := dk_29 (dk_at dksX0_shortest_1 8 rfl rfl)
theorem dX0_shortest_33 : decode cX0_shortest 33 = .ok (.aload_n 0, 1) := dk_42 (dk_at dksX0_shortest_1 9 rfl rfl)
theorem dX0_shortest_34 : decode cX0_shortest 34 = .ok (.getfield 10, 3) := dk_180 0 10 (dk_at dksX0_shortest_1 10 rfl rfl)
theorem dX0_shortest_37 : decode cX0_shortest 37 = .ok (.invokevirtual 108, 3) := dk_182 0 108 (dk_at dksX0_shortest_1 13 rfl rfl)
theorem dX0_shortest_40 : decode cX0_shortest 40 = .ok (.if_icmp .ge 34, 3) := dk_162 0 34 (dk_at dksX0_shortest_1 16 rfl rfl)
theorem dX0_shortest_43 : decode cX0_shortest 43 = .ok (.aload_n 0, 1) := dk_42 (dk_at dksX0_shortest_1 19 rfl rfl)
theorem dX0_shortest_44 : decode cX0_shortest 44 = .ok (.getfield 76, 3) := dk_180 0 76 (dk_at dksX0_shortest_1 20 rfl rfl)
theorem dX0_shortest_47 : decode cX0_shortest 47 = .ok (.iload_n 3, 1) := dk_29 (dk_at dksX0_shortest_1 23 rfl rfl)
theorem dX0_shortest_48 : decode cX0_shortest 48 = .ok (.iload_n 3, 1) := dk_29 (dk_at dksX0_shortest_2 0 rfl rfl)
theorem dX0_shortest_49 : decode cX0_shortest 49 = .ok (.aload_n 0, 1) := dk_42 (dk_at dksX0_shortest_2 1 rfl rfl)
theorem dX0_shortest_50 : decode cX0_shortest 50 = .ok (.getfield 19, 3) := dk_180 0 19 (dk_at dksX0_shortest_2 2 rfl rfl)
theorem dX0_shortest_53 : decode cX0_shortest 53 = .ok (.getfield 150, 3) := dk_180 0 150 (dk_at dksX0_shortest_2 5 rfl rfl)
theorem dX0_shortest_56 : decode cX0_shortest 56 = .ok (.iload_n 1, 1) := dk_27 (dk_at dksX0_shortest_2 8 rfl rfl)
theorem dX0_shortest_57 : decode cX0_shortest 57 = .ok (.iaload, 1) := dk_46 (dk_at dksX0_shortest_2 9 rfl rfl)
theorem dX0_shortest_58 : decode cX0_shortest 58 = .ok (.if_icmp .ne 7, 3) := dk_160 0 7 (dk_at dksX0_shortest_2 10 rfl rfl)
theorem dX0_shortest_61 : decode cX0_shortest 61 = .ok (.iconst 0, 1) := dk_3 (dk_at dksX0_shortest_2 13 rfl rfl)
theorem dX0_shortest_62 : decode cX0_shortest 62 = .ok (.goto 5, 3) := dk_167 0 5 (dk_at dksX0_shortest_2 14 rfl rfl)
theorem dX0_shortest_65 : decode cX0_shortest 65 = .ok (.bipush 100, 2) := dk_16 100 (dk_at dksX0_shortest_2 17 rfl rfl)
theorem dX0_shortest_67 : decode cX0_shortest 67 = .ok (.iastore, 1) := dk_79 (dk_at dksX0_shortest_2 19 rfl rfl)
theorem dX0_shortest_68 : decode cX0_shortest 68 = .ok (.iinc 3 1, 3) := dk_132 3 1 (dk_at dksX0_shortest_2 20 rfl rfl)
theorem dX0_shortest_71 : decode cX0_shortest 71 = .ok (.goto (-39), 3) := dk_167 255 217 (dk_at dksX0_shortest_3 0 rfl rfl)
theorem dX0_shortest_74 : decode cX0_shortest 74 = .ok (.iconst 1, 1) := dk_4 (dk_at dksX0_shortest_3 3 rfl rfl)
theorem dX0_shortest_75 : decode cX0_shortest 75 = .ok (.istore_n 3, 1) := dk_62 (dk_at dksX0_shortest_3 4 rfl rfl)
theorem dX0_shortest_76 : decode cX0_shortest 76 = .ok (.iload_n 3, 1) := dk_29 (dk_at dksX0_shortest_3 5 rfl rfl)
theorem dX0_shortest_77 : decode cX0_shortest 77 = .ok (.ifCond .eq 69, 3) := dk_153 0 69 (dk_at dksX0_shortest_3 6 rfl rfl)
theorem dX0_shortest_80 : decode cX0_shortest 80 = .ok (.iconst 0, 1) := dk_3 (dk_at dksX0_shortest_3 9 rfl rfl)
theorem dX0_shortest_81 : decode cX0_shortest 81 = .ok (.istore_n 3, 1) := dk_62 (dk_at dksX0_shortest_3 10 rfl rfl)
theorem dX0_shortest_82 : decode cX0_shortest 82 = .ok (.iconst 0, 1) := dk_3 (dk_at dksX0_shortest_3 11 rfl rfl)
theorem dX0_shortest_83 : decode cX0_shortest 83 = .ok (.istore 4, 2) := dk_54 4 (dk_at dksX0_shortest_3 12 rfl rfl)
theorem dX0_shortest_85 : decode cX0_shortest 85 = .ok (.iload 4, 2) := dk_21 4 (dk_at dksX0_shortest_3 14 rfl rfl)
theorem dX0_shortest_87 : decode cX0_shortest 87 = .ok (.aload_n 0, 1) := dk_42 (dk_at dksX0_shortest_3 16 rfl rfl)
theorem dX0_shortest_88 : decode cX0_shortest 88 = .ok (.getfield 10, 3) := dk_180 0 10 (dk_at dksX0_shortest_3 17 rfl rfl)
theorem dX0_shortest_91 : decode cX0_shortest 91 = .ok (.invokevirtual 108, 3) := dk_182 0 108 (dk_at dksX0_shortest_3 20 rfl rfl)
theorem dX0_shortest_94 : decode cX0_shortest 94 = .ok (.if_icmp .ge 49, 3) := dk_162 0 49 (dk_at dksX0_shortest_4 0 rfl rfl)
theorem dX0_shortest_97 : decode cX0_shortest 97 = .ok (.iconst 0, 1) := dk_3 (dk_at dksX0_shortest_4 3 rfl rfl)
theorem dX0_shortest_98 : decode cX0_shortest 98 = .ok (.istore 5, 2) := dk_54 5 (dk_at dksX0_shortest_4 4 rfl rfl)
theorem dX0_shortest_100 : decode cX0_shortest 100 = .ok (.iload 5, 2) := dk_21 5 (dk_at dksX0_shortest_4 6 rfl rfl)
theorem dX0_shortest_102 : decode cX0_shortest 102 = .ok (.iconst 4, 1) := dk_7 (dk_at dksX0_shortest_4 8 rfl rfl)
theorem dX0_shortest_103 : decode cX0_shortest 103 = .ok (.if_icmp .ge 34, 3) := dk_162 0 34 (dk_at dksX0_shortest_4 9 rfl rfl)
theorem dX0_shortest_106 : decode cX0_shortest 106 = .ok (.aload_n 0, 1) := dk_42 (dk_at dksX0_shortest_4 12 rfl rfl)
theorem dX0_shortest_107 : decode cX0_shortest 107 = .ok (.getfield 76, 3) := dk_180 0 76 (dk_at dksX0_shortest_4 13 rfl rfl)
theorem dX0_shortest_110 : decode cX0_shortest 110 = .ok (.iload 4, 2) := dk_21 4 (dk_at dksX0_shortest_4 16 rfl rfl)
theorem dX0_shortest_112 : decode cX0_shortest 112 = .ok (.iaload, 1) := dk_46 (dk_at dksX0_shortest_4 18 rfl rfl)
theorem dX0_shortest_113 : decode cX0_shortest 113 = .ok (.bipush 99, 2) := dk_16 99 (dk_at dksX0_shortest_4 19 rfl rfl)
theorem dX0_shortest_115 : decode cX0_shortest 115 = .ok (.if_icmp .ge 16, 3) := dk_162 0 16 (dk_at dksX0_shortest_4 21 rfl rfl)
theorem dX0_shortest_118 : decode cX0_shortest 118 = .ok (.aload_n 0, 1) := dk_42 (dk_at dksX0_shortest_5 0 rfl rfl)
theorem dX0_shortest_119 : decode cX0_shortest 119 = .ok (.iload 4, 2) := dk_21 4 (dk_at dksX0_shortest_5 1 rfl rfl)
theorem dX0_shortest_121 : decode cX0_shortest 121 = .ok (.iload 5, 2) := dk_21 5 (dk_at dksX0_shortest_5 3 rfl rfl)
theorem dX0_shortest_123 : decode cX0_shortest 123 = .ok (.invokevirtual 276, 3) := dk_182 1 20 (dk_at dksX0_shortest_5 5 rfl rfl)
theorem dX0_shortest_126 : decode cX0_shortest 126 = .ok (.ifCond .eq 5, 3) := dk_153 0 5 (dk_at dksX0_shortest_5 8 rfl rfl)
theorem dX0_shortest_129 : decode cX0_shortest 129 = .ok (.iconst 1, 1) := dk_4 (dk_at dksX0_shortest_5 11 rfl rfl)
theorem dX0_shortest_130 : decode cX0_shortest 130 = .ok (.istore_n 3, 1) := dk_62 (dk_at dksX0_shortest_5 12 rfl rfl)
theorem dX0_shortest_131 : decode cX0_shortest 131 = .ok (.iinc 5 1, 3) := dk_132 5 1 (dk_at dksX0_shortest_5 13 rfl rfl)
theorem dX0_shortest_134 : decode cX0_shortest 134 = .ok (.goto (-34), 3) := dk_167 255 222 (dk_at dksX0_shortest_5 16 rfl rfl)
theorem dX0_shortest_137 : decode cX0_shortest 137 = .ok (.iinc 4 1, 3) := dk_132 4 1 (dk_at dksX0_shortest_5 19 rfl rfl)
theorem dX0_shortest_140 : decode cX0_shortest 140 = .ok (.goto (-55), 3) := dk_167 255 201 (dk_at dksX0_shortest_6 0 rfl rfl)
theorem dX0_shortest_143 : decode cX0_shortest 143 = .ok (.goto (-67), 3) := dk_167 255 189 (dk_at dksX0_shortest_6 3 rfl rfl)
theorem dX0_shortest_146 : decode cX0_shortest 146 = .ok (.aload_n 0, 1) := dk_42 (dk_at dksX0_shortest_6 6 rfl rfl)
theorem dX0_shortest_147 : decode cX0_shortest 147 = .ok (.getfield 76, 3) := dk_180 0 76 (dk_at dksX0_shortest_6 7 rfl rfl)
theorem dX0_shortest_150 : decode cX0_shortest 150 = .ok (.iload_n 2, 1) := dk_28 (dk_at dksX0_shortest_6 10 rfl rfl)
theorem dX0_shortest_151 : decode cX0_shortest 151 = .ok (.iaload, 1) := dk_46 (dk_at dksX0_shortest_6 11 rfl rfl)
theorem dX0_shortest_152 : decode cX0_shortest 152 = .ok (.bipush 99, 2) := dk_16 99 (dk_at dksX0_shortest_6 12 rfl rfl)
theorem dX0_shortest_154 : decode cX0_shortest 154 = .ok (.if_icmp .gt 12, 3) := dk_163 0 12 (dk_at dksX0_shortest_6 14 rfl rfl)
theorem dX0_shortest_157 : decode cX0_shortest 157 = .ok (.aload_n 0, 1) := dk_42 (dk_at dksX0_shortest_6 17 rfl rfl)
theorem dX0_shortest_158 : decode cX0_shortest 158 = .ok (.getfield 76, 3) := dk_180 0 76 (dk_at dksX0_shortest_6 18 rfl rfl)
theorem dX0_shortest_161 : decode cX0_shortest 161 = .ok (.iload_n 2, 1) := dk_28 (dk_at dksX0_shortest_6 21 rfl rfl)
theorem dX0_shortest_162 : decode cX0_shortest 162 = .ok (.iaload, 1) := dk_46 (dk_at dksX0_shortest_6 22 rfl rfl)
theorem dX0_shortest_163 : decode cX0_shortest 163 = .ok (.goto 5, 3) := dk_167 0 5 (dk_at dksX0_shortest_7 0 rfl rfl)
theorem dX0_shortest_166 : decode cX0_shortest 166 = .ok (.bipush (-2), 2) := dk_16 254 (dk_at dksX0_shortest_7 3 rfl rfl)
theorem dX0_shortest_168 : decode cX0_shortest 168 = .ok (.ireturn, 1) := dk_172 (dk_at dksX0_shortest_7 5 rfl rfl)
abbrev cX0_comesNearer : ByteArray := prog_1_method_37_code
def yX0_comesNearer : MethodName := ⟨RX0, "comesNearer", "(II)Z"⟩
def dkwX0_comesNearer_5 : List UInt8 := [21, 4, 21, 5, 79, 4, 172]
abbrev dktX0_comesNearer_5 : List UInt8 := dkwX0_comesNearer_5 ++ []
def dkwX0_comesNearer_4 : List UInt8 := [182, 0, 183, 154, 0, 15, 21, 5, 42, 180, 0, 76, 21, 4, 46, 161, 0, 5, 3, 172, 42, 180, 0, 76]
abbrev dktX0_comesNearer_4 : List UInt8 := dkwX0_comesNearer_4 ++ dktX0_comesNearer_5
def dkwX0_comesNearer_3 : List UInt8 := [5, 42, 180, 0, 10, 180, 0, 177, 28, 46, 96, 167, 0, 4, 4, 96, 54, 5, 42, 180, 0, 19, 21, 4]
abbrev dktX0_comesNearer_3 : List UInt8 := dkwX0_comesNearer_3 ++ dktX0_comesNearer_4
def dkwX0_comesNearer_2 : List UInt8 := [167, 0, 12, 42, 180, 0, 10, 27, 28, 182, 0, 194, 54, 4, 42, 180, 0, 76, 27, 46, 29, 153, 0, 17]
abbrev dktX0_comesNearer_2 : List UInt8 := dkwX0_comesNearer_2 ++ dktX0_comesNearer_3
def dkwX0_comesNearer_1 : List UInt8 := [180, 0, 10, 42, 180, 0, 19, 180, 0, 174, 28, 46, 42, 180, 0, 10, 27, 28, 182, 1, 14, 182, 1, 17]
abbrev dktX0_comesNearer_1 : List UInt8 := dkwX0_comesNearer_1 ++ dktX0_comesNearer_2
def dkwX0_comesNearer_0 : List UInt8 := [42, 180, 0, 10, 27, 28, 182, 0, 190, 154, 0, 7, 4, 167, 0, 4, 3, 62, 29, 153, 0, 31, 42]
abbrev dktX0_comesNearer_0 : List UInt8 := dkwX0_comesNearer_0 ++ dktX0_comesNearer_1
theorem dksX0_comesNearer_0 : cX0_comesNearer.data.toList.drop 0 = dktX0_comesNearer_0 := by decide +kernel
theorem dksX0_comesNearer_1 : cX0_comesNearer.data.toList.drop 23 = dktX0_comesNearer_1 := dk_seg dksX0_comesNearer_0 23 rfl rfl
theorem dksX0_comesNearer_2 : cX0_comesNearer.data.toList.drop 47 = dktX0_comesNearer_2 := dk_seg dksX0_comesNearer_1 24 rfl rfl
theorem dksX0_comesNearer_3 : cX0_comesNearer.data.toList.drop 71 = dktX0_comesNearer_3 := dk_seg dksX0_comesNearer_2 24 rfl rfl
theorem dksX0_comesNearer_4 : cX0_comesNearer.data.toList.drop 95 = dktX0_comesNearer_4 := dk_seg dksX0_comesNearer_3 24 rfl rfl
theorem dksX0_comesNearer_5 : cX0_comesNearer.data.toList.drop 119 = dktX0_comesNearer_5 := dk_seg dksX0_comesNearer_4 24 rfl rfl
theorem dX0_comesNearer_0 : decode cX0_comesNearer 0 = .ok (.aload_n 0, 1) := dk_42 (dk_at dksX0_comesNearer_0 0 rfl rfl)
theorem dX0_comesNearer_1 : decode cX0_comesNearer 1 = .ok (.getfield 10, 3) := dk_180 0 10 (dk_at dksX0_comesNearer_0 1 rfl rfl)
theorem dX0_comesNearer_4 : decode cX0_comesNearer 4 = .ok (.iload_n 1, 1) := dk_27 (dk_at dksX0_comesNearer_0 4 rfl rfl)
theorem dX0_comesNearer_5 : decode cX0_comesNearer 5 = .ok (.iload_n 2, 1) := dk_28 (dk_at dksX0_comesNearer_0 5 rfl rfl)
theorem dX0_comesNearer_6 : decode cX0_comesNearer 6 = .ok (.invokevirtual 190, 3) := dk_182 0 190 (dk_at dksX0_comesNearer_0 6 rfl rfl)
theorem dX0_comesNearer_9 : decode cX0_comesNearer 9 = .ok (.ifCond .ne 7, 3) := dk_154 0 7 (dk_at dksX0_comesNearer_0 9 rfl rfl)
theorem dX0_comesNearer_12 : decode cX0_comesNearer 12 = .ok (.iconst 1, 1) := dk_4 (dk_at dksX0_comesNearer_0 12 rfl rfl)
theorem dX0_comesNearer_13 : decode cX0_comesNearer 13 = .ok (.goto 4, 3) := dk_167 0 4 (dk_at dksX0_comesNearer_0 13 rfl rfl)
theorem dX0_comesNearer_16 : decode cX0_comesNearer 16 = .ok (.iconst 0, 1) := dk_3 (dk_at dksX0_comesNearer_0 16 rfl rfl)
theorem dX0_comesNearer_17 : decode cX0_comesNearer 17 = .ok (.istore_n 3, 1) := dk_62 (dk_at dksX0_comesNearer_0 17 rfl rfl)
theorem dX0_comesNearer_18 : decode cX0_comesNearer 18 = .ok (.iload_n 3, 1) := dk_29 (dk_at dksX0_comesNearer_0 18 rfl rfl)
theorem dX0_comesNearer_19 : decode cX0_comesNearer 19 = .ok (.ifCond .eq 31, 3) := dk_153 0 31 (dk_at dksX0_comesNearer_0 19 rfl rfl)
theorem dX0_comesNearer_22 : decode cX0_comesNearer 22 = .ok (.aload_n 0, 1) := dk_42 (dk_at dksX0_comesNearer_0 22 rfl rfl)
theorem dX0_comesNearer_23 : decode cX0_comesNearer 23 = .ok (.getfield 10, 3) := dk_180 0 10 (dk_at dksX0_comesNearer_1 0 rfl rfl)
theorem dX0_comesNearer_26 : decode cX0_comesNearer 26 = .ok (.aload_n 0, 1) := dk_42 (dk_at dksX0_comesNearer_1 3 rfl rfl)
theorem dX0_comesNearer_27 : decode cX0_comesNearer 27 = .ok (.getfield 19, 3) := dk_180 0 19 (dk_at dksX0_comesNearer_1 4 rfl rfl)
theorem dX0_comesNearer_30 : decode cX0_comesNearer 30 = .ok (.getfield 174, 3) := dk_180 0 174 (dk_at dksX0_comesNearer_1 7 rfl rfl)
theorem dX0_comesNearer_33 : decode cX0_comesNearer 33 = .ok (.iload_n 2, 1) := dk_28 (dk_at dksX0_comesNearer_1 10 rfl rfl)
theorem dX0_comesNearer_34 : decode cX0_comesNearer 34 = .ok (.iaload, 1) := dk_46 (dk_at dksX0_comesNearer_1 11 rfl rfl)
theorem dX0_comesNearer_35 : decode cX0_comesNearer 35 = .ok (.aload_n 0, 1) := dk_42 (dk_at dksX0_comesNearer_1 12 rfl rfl)
theorem dX0_comesNearer_36 : decode cX0_comesNearer 36 = .ok (.getfield 10, 3) := dk_180 0 10 (dk_at dksX0_comesNearer_1 13 rfl rfl)
theorem dX0_comesNearer_39 : decode cX0_comesNearer 39 = .ok (.iload_n 1, 1) := dk_27 (dk_at dksX0_comesNearer_1 16 rfl rfl)
theorem dX0_comesNearer_40 : decode cX0_comesNearer 40 = .ok (.iload_n 2, 1) := dk_28 (dk_at dksX0_comesNearer_1 17 rfl rfl)
theorem dX0_comesNearer_41 : decode cX0_comesNearer 41 = .ok (.invokevirtual 270, 3) := dk_182 1 14 (dk_at dksX0_comesNearer_1 18 rfl rfl)
theorem dX0_comesNearer_44 : decode cX0_comesNearer 44 = .ok (.invokevirtual 273, 3) := dk_182 1 17 (dk_at dksX0_comesNearer_1 21 rfl rfl)
theorem dX0_comesNearer_47 : decode cX0_comesNearer 47 = .ok (.goto 12, 3) := dk_167 0 12 (dk_at dksX0_comesNearer_2 0 rfl rfl)
theorem dX0_comesNearer_50 : decode cX0_comesNearer 50 = .ok (.aload_n 0, 1) := dk_42 (dk_at dksX0_comesNearer_2 3 rfl rfl)
theorem dX0_comesNearer_51 : decode cX0_comesNearer 51 = .ok (.getfield 10, 3) := dk_180 0 10 (dk_at dksX0_comesNearer_2 4 rfl rfl)
theorem dX0_comesNearer_54 : decode cX0_comesNearer 54 = .ok (.iload_n 1, 1) := dk_27 (dk_at dksX0_comesNearer_2 7 rfl rfl)
theorem dX0_comesNearer_55 : decode cX0_comesNearer 55 = .ok (.iload_n 2, 1) := dk_28 (dk_at dksX0_comesNearer_2 8 rfl rfl)
theorem dX0_comesNearer_56 : decode cX0_comesNearer 56 = .ok (.invokevirtual 194, 3) := dk_182 0 194 (dk_at dksX0_comesNearer_2 9 rfl rfl)
theorem dX0_comesNearer_59 : decode cX0_comesNearer 59 = .ok (.istore 4, 2) := dk_54 4 (dk_at dksX0_comesNearer_2 12 rfl rfl)
theorem dX0_comesNearer_61 : decode cX0_comesNearer 61 = .ok (.aload_n 0, 1) := dk_42 (dk_at dksX0_comesNearer_2 14 rfl rfl)
theorem dX0_comesNearer_62 : decode cX0_comesNearer 62 = .ok (.getfield 76, 3) := dk_180 0 76 (dk_at dksX0_comesNearer_2 15 rfl rfl)
theorem dX0_comesNearer_65 : decode cX0_comesNearer 65 = .ok (.iload_n 1, 1) := dk_27 (dk_at dksX0_comesNearer_2 18 rfl rfl)
theorem dX0_comesNearer_66 : decode cX0_comesNearer 66 = .ok (.iaload, 1) := dk_46 (dk_at dksX0_comesNearer_2 19 rfl rfl)
theorem dX0_comesNearer_67 : decode cX0_comesNearer 67 = .ok (.iload_n 3, 1) := dk_29 (dk_at dksX0_comesNearer_2 20 rfl rfl)
theorem dX0_comesNearer_68 : decode cX0_comesNearer 68 = .ok (.ifCond .eq 17, 3) := dk_153 0 17 (dk_at dksX0_comesNearer_2 21 rfl rfl)
theorem dX0_comesNearer_71 : decode cX0_comesNearer 71 = .ok (.iconst 2, 1) := dk_5 (dk_at dksX0_comesNearer_3 0 rfl rfl)
theorem dX0_comesNearer_72 : decode cX0_comesNearer 72 = .ok (.aload_n 0, 1) := dk_42 (dk_at dksX0_comesNearer_3 1 rfl rfl)
theorem dX0_comesNearer_73 : decode cX0_comesNearer 73 = .ok (.getfield 10, 3) := dk_180 0 10 (dk_at dksX0_comesNearer_3 2 rfl rfl)
theorem dX0_comesNearer_76 : decode cX0_comesNearer 76 = .ok (.getfield 177, 3) := dk_180 0 177 (dk_at dksX0_comesNearer_3 5 rfl rfl)
theorem dX0_comesNearer_79 : decode cX0_comesNearer 79 = .ok (.iload_n 2, 1) := dk_28 (dk_at dksX0_comesNearer_3 8 rfl rfl)
theorem dX0_comesNearer_80 : decode cX0_comesNearer 80 = .ok (.iaload, 1) := dk_46 (dk_at dksX0_comesNearer_3 9 rfl rfl)
theorem dX0_comesNearer_81 : decode cX0_comesNearer 81 = .ok (.iadd, 1) := dk_96 (dk_at dksX0_comesNearer_3 10 rfl rfl)
theorem dX0_comesNearer_82 : decode cX0_comesNearer 82 = .ok (.goto 4, 3) := dk_167 0 4 (dk_at dksX0_comesNearer_3 11 rfl rfl)
theorem dX0_comesNearer_85 : decode cX0_comesNearer 85 = .ok (.iconst 1, 1) := dk_4 (dk_at dksX0_comesNearer_3 14 rfl rfl)
theorem dX0_comesNearer_86 : decode cX0_comesNearer 86 = .ok (.iadd, 1) := dk_96 (dk_at dksX0_comesNearer_3 15 rfl rfl)
theorem dX0_comesNearer_87 : decode cX0_comesNearer 87 = .ok (.istore 5, 2) := dk_54 5 (dk_at dksX0_comesNearer_3 16 rfl rfl)
theorem dX0_comesNearer_89 : decode cX0_comesNearer 89 = .ok (.aload_n 0, 1) := dk_42 (dk_at dksX0_comesNearer_3 18 rfl rfl)
theorem dX0_comesNearer_90 : decode cX0_comesNearer 90 = .ok (.getfield 19, 3) := dk_180 0 19 (dk_at dksX0_comesNearer_3 19 rfl rfl)
theorem dX0_comesNearer_93 : decode cX0_comesNearer 93 = .ok (.iload 4, 2) := dk_21 4 (dk_at dksX0_comesNearer_3 22 rfl rfl)
theorem dX0_comesNearer_95 : decode cX0_comesNearer 95 = .ok (.invokevirtual 183, 3) := dk_182 0 183 (dk_at dksX0_comesNearer_4 0 rfl rfl)
theorem dX0_comesNearer_98 : decode cX0_comesNearer 98 = .ok (.ifCond .ne 15, 3) := dk_154 0 15 (dk_at dksX0_comesNearer_4 3 rfl rfl)
theorem dX0_comesNearer_101 : decode cX0_comesNearer 101 = .ok (.iload 5, 2) := dk_21 5 (dk_at dksX0_comesNearer_4 6 rfl rfl)
theorem dX0_comesNearer_103 : decode cX0_comesNearer 103 = .ok (.aload_n 0, 1) := dk_42 (dk_at dksX0_comesNearer_4 8 rfl rfl)
theorem dX0_comesNearer_104 : decode cX0_comesNearer 104 = .ok (.getfield 76, 3) := dk_180 0 76 (dk_at dksX0_comesNearer_4 9 rfl rfl)
theorem dX0_comesNearer_107 : decode cX0_comesNearer 107 = .ok (.iload 4, 2) := dk_21 4 (dk_at dksX0_comesNearer_4 12 rfl rfl)
theorem dX0_comesNearer_109 : decode cX0_comesNearer 109 = .ok (.iaload, 1) := dk_46 (dk_at dksX0_comesNearer_4 14 rfl rfl)
theorem dX0_comesNearer_110 : decode cX0_comesNearer 110 = .ok (.if_icmp .lt 5, 3) := dk_161 0 5 (dk_at dksX0_comesNearer_4 15 rfl rfl)
theorem dX0_comesNearer_113 : decode cX0_comesNearer 113 = .ok (.iconst 0, 1) := dk_3 (dk_at dksX0_comesNearer_4 18 rfl rfl)
theorem dX0_comesNearer_114 : decode cX0_comesNearer 114 = .ok (.ireturn, 1) := dk_172 (dk_at dksX0_comesNearer_4 19 rfl rfl)
theorem dX0_comesNearer_115 : decode cX0_comesNearer 115 = .ok (.aload_n 0, 1) := dk_42 (dk_at dksX0_comesNearer_4 20 rfl rfl)
theorem dX0_comesNearer_116 : decode cX0_comesNearer 116 = .ok (.getfield 76, 3) := dk_180 0 76 (dk_at dksX0_comesNearer_4 21 rfl rfl)
theorem dX0_comesNearer_119 : decode cX0_comesNearer 119 = .ok (.iload 4, 2) := dk_21 4 (dk_at dksX0_comesNearer_5 0 rfl rfl)
theorem dX0_comesNearer_121 : decode cX0_comesNearer 121 = .ok (.iload 5, 2) := dk_21 5 (dk_at dksX0_comesNearer_5 2 rfl rfl)
theorem dX0_comesNearer_123 : decode cX0_comesNearer 123 = .ok (.iastore, 1) := dk_79 (dk_at dksX0_comesNearer_5 4 rfl rfl)
theorem dX0_comesNearer_124 : decode cX0_comesNearer 124 = .ok (.iconst 1, 1) := dk_4 (dk_at dksX0_comesNearer_5 5 rfl rfl)
theorem dX0_comesNearer_125 : decode cX0_comesNearer 125 = .ok (.ireturn, 1) := dk_172 (dk_at dksX0_comesNearer_5 6 rfl rfl)
abbrev cX0_bestFold : ByteArray := prog_1_method_41_code
def yX0_bestFold : MethodName := ⟨RX0, "bestFold", "(II)I"⟩
def dkwX0_bestFold_6 : List UInt8 := [180, 1, 34, 167, 0, 14, 28, 5, 160, 0, 7, 29, 167, 0, 5, 21, 4, 172]
abbrev dktX0_bestFold_6 : List UInt8 := dkwX0_bestFold_6 ++ []
def dkwX0_bestFold_5 : List UInt8 := [132, 5, 1, 167, 255, 191, 28, 154, 0, 10, 42, 180, 1, 31, 167, 0, 26, 28, 4, 160, 0, 10, 42]
abbrev dktX0_bestFold_5 : List UInt8 := dkwX0_bestFold_5 ++ dktX0_bestFold_6
def dkwX0_bestFold_4 : List UInt8 := [182, 1, 42, 154, 0, 6, 167, 0, 10, 21, 5, 62, 21, 6, 54, 4, 132, 6, 1, 167, 255, 206]
abbrev dktX0_bestFold_4 : List UInt8 := dkwX0_bestFold_4 ++ dktX0_bestFold_5
def dkwX0_bestFold_3 : List UInt8 := [180, 0, 23, 42, 180, 0, 19, 182, 0, 236, 42, 180, 0, 23, 180, 0, 174, 21, 5, 21, 6, 79, 42, 27]
abbrev dktX0_bestFold_3 : List UInt8 := dkwX0_bestFold_3 ++ dktX0_bestFold_4
def dkwX0_bestFold_2 : List UInt8 := [182, 1, 42, 87, 3, 54, 5, 21, 5, 7, 162, 0, 65, 3, 54, 6, 21, 6, 7, 162, 0, 50, 42]
abbrev dktX0_bestFold_2 : List UInt8 := dkwX0_bestFold_2 ++ dktX0_bestFold_3
def dkwX0_bestFold_1 : List UInt8 := [20, 0, 172, 184, 0, 104, 154, 0, 5, 2, 172, 16, 254, 62, 16, 254, 54, 4, 42, 182, 1, 39, 42, 27]
abbrev dktX0_bestFold_1 : List UInt8 := dkwX0_bestFold_1 ++ dktX0_bestFold_2
def dkwX0_bestFold_0 : List UInt8 := [42, 182, 0, 168, 153, 0, 27, 27, 133, 10, 20, 1, 37, 184, 0, 104, 153, 0, 15, 28, 133, 9]
abbrev dktX0_bestFold_0 : List UInt8 := dkwX0_bestFold_0 ++ dktX0_bestFold_1
theorem dksX0_bestFold_0 : cX0_bestFold.data.toList.drop 0 = dktX0_bestFold_0 := by decide +kernel
theorem dksX0_bestFold_1 : cX0_bestFold.data.toList.drop 22 = dktX0_bestFold_1 := dk_seg dksX0_bestFold_0 22 rfl rfl
theorem dksX0_bestFold_2 : cX0_bestFold.data.toList.drop 46 = dktX0_bestFold_2 := dk_seg dksX0_bestFold_1 24 rfl rfl
theorem dksX0_bestFold_3 : cX0_bestFold.data.toList.drop 69 = dktX0_bestFold_3 := dk_seg dksX0_bestFold_2 23 rfl rfl
theorem dksX0_bestFold_4 : cX0_bestFold.data.toList.drop 93 = dktX0_bestFold_4 := dk_seg dksX0_bestFold_3 24 rfl rfl
theorem dksX0_bestFold_5 : cX0_bestFold.data.toList.drop 115 = dktX0_bestFold_5 := dk_seg dksX0_bestFold_4 22 rfl rfl
theorem dksX0_bestFold_6 : cX0_bestFold.data.toList.drop 138 = dktX0_bestFold_6 := dk_seg dksX0_bestFold_5 23 rfl rfl
theorem dX0_bestFold_0 : decode cX0_bestFold 0 = .ok (.aload_n 0, 1) := dk_42 (dk_at dksX0_bestFold_0 0 rfl rfl)
theorem dX0_bestFold_1 : decode cX0_bestFold 1 = .ok (.invokevirtual 168, 3) := dk_182 0 168 (dk_at dksX0_bestFold_0 1 rfl rfl)
theorem dX0_bestFold_4 : decode cX0_bestFold 4 = .ok (.ifCond .eq 27, 3) := dk_153 0 27 (dk_at dksX0_bestFold_0 4 rfl rfl)
theorem dX0_bestFold_7 : decode cX0_bestFold 7 = .ok (.iload_n 1, 1) := dk_27 (dk_at dksX0_bestFold_0 7 rfl rfl)
theorem dX0_bestFold_8 : decode cX0_bestFold 8 = .ok (.i2l, 1) := dk_133 (dk_at dksX0_bestFold_0 8 rfl rfl)
theorem dX0_bestFold_9 : decode cX0_bestFold 9 = .ok (.lconst 1, 1) := dk_10 (dk_at dksX0_bestFold_0 9 rfl rfl)
theorem dX0_bestFold_10 : decode cX0_bestFold 10 = .ok (.ldc2_w 293, 3) := dk_20 1 37 (dk_at dksX0_bestFold_0 10 rfl rfl)
theorem dX0_bestFold_13 : decode cX0_bestFold 13 = .ok (.invokestatic 104, 3) := dk_184 0 104 (dk_at dksX0_bestFold_0 13 rfl rfl)
theorem dX0_bestFold_16 : decode cX0_bestFold 16 = .ok (.ifCond .eq 15, 3) := dk_153 0 15 (dk_at dksX0_bestFold_0 16 rfl rfl)
theorem dX0_bestFold_19 : decode cX0_bestFold 19 = .ok (.iload_n 2, 1) := dk_28 (dk_at dksX0_bestFold_0 19 rfl rfl)
theorem dX0_bestFold_20 : decode cX0_bestFold 20 = .ok (.i2l, 1) := dk_133 (dk_at dksX0_bestFold_0 20 rfl rfl)
theorem dX0_bestFold_21 : decode cX0_bestFold 21 = .ok (.lconst 0, 1) := dk_9 (dk_at dksX0_bestFold_0 21 rfl rfl)
theorem dX0_bestFold_22 : decode cX0_bestFold 22 = .ok (.ldc2_w 172, 3) := dk_20 0 172 (dk_at dksX0_bestFold_1 0 rfl rfl)
theorem dX0_bestFold_25 : decode cX0_bestFold 25 = .ok (.invokestatic 104, 3) := dk_184 0 104 (dk_at dksX0_bestFold_1 3 rfl rfl)
theorem dX0_bestFold_28 : decode cX0_bestFold 28 = .ok (.ifCond .ne 5, 3) := dk_154 0 5 (dk_at dksX0_bestFold_1 6 rfl rfl)
theorem dX0_bestFold_31 : decode cX0_bestFold 31 = .ok (.iconst (-1), 1) := dk_2 (dk_at dksX0_bestFold_1 9 rfl rfl)
theorem dX0_bestFold_32 : decode cX0_bestFold 32 = .ok (.ireturn, 1) := dk_172 (dk_at dksX0_bestFold_1 10 rfl rfl)
theorem dX0_bestFold_33 : decode cX0_bestFold 33 = .ok (.bipush (-2), 2) := dk_16 254 (dk_at dksX0_bestFold_1 11 rfl rfl)
theorem dX0_bestFold_35 : decode cX0_bestFold 35 = .ok (.istore_n 3, 1) := dk_62 (dk_at dksX0_bestFold_1 13 rfl rfl)
theorem dX0_bestFold_36 : decode cX0_bestFold 36 = .ok (.bipush (-2), 2) := dk_16 254 (dk_at dksX0_bestFold_1 14 rfl rfl)
theorem dX0_bestFold_38 : decode cX0_bestFold 38 = .ok (.istore 4, 2) := dk_54 4 (dk_at dksX0_bestFold_1 16 rfl rfl)
theorem dX0_bestFold_40 : decode cX0_bestFold 40 = .ok (.aload_n 0, 1) := dk_42 (dk_at dksX0_bestFold_1 18 rfl rfl)
theorem dX0_bestFold_41 : decode cX0_bestFold 41 = .ok (.invokevirtual 295, 3) := dk_182 1 39 (dk_at dksX0_bestFold_1 19 rfl rfl)
theorem dX0_bestFold_44 : decode cX0_bestFold 44 = .ok (.aload_n 0, 1) := dk_42 (dk_at dksX0_bestFold_1 22 rfl rfl)
theorem dX0_bestFold_45 : decode cX0_bestFold 45 = .ok (.iload_n 1, 1) := dk_27 (dk_at dksX0_bestFold_1 23 rfl rfl)
theorem dX0_bestFold_46 : decode cX0_bestFold 46 = .ok (.invokevirtual 298, 3) := dk_182 1 42 (dk_at dksX0_bestFold_2 0 rfl rfl)
theorem dX0_bestFold_49 : decode cX0_bestFold 49 = .ok (.pop, 1) := dk_87 (dk_at dksX0_bestFold_2 3 rfl rfl)
theorem dX0_bestFold_50 : decode cX0_bestFold 50 = .ok (.iconst 0, 1) := dk_3 (dk_at dksX0_bestFold_2 4 rfl rfl)
theorem dX0_bestFold_51 : decode cX0_bestFold 51 = .ok (.istore 5, 2) := dk_54 5 (dk_at dksX0_bestFold_2 5 rfl rfl)
theorem dX0_bestFold_53 : decode cX0_bestFold 53 = .ok (.iload 5, 2) := dk_21 5 (dk_at dksX0_bestFold_2 7 rfl rfl)
theorem dX0_bestFold_55 : decode cX0_bestFold 55 = .ok (.iconst 4, 1) := dk_7 (dk_at dksX0_bestFold_2 9 rfl rfl)
theorem dX0_bestFold_56 : decode cX0_bestFold 56 = .ok (.if_icmp .ge 65, 3) := dk_162 0 65 (dk_at dksX0_bestFold_2 10 rfl rfl)
theorem dX0_bestFold_59 : decode cX0_bestFold 59 = .ok (.iconst 0, 1) := dk_3 (dk_at dksX0_bestFold_2 13 rfl rfl)
theorem dX0_bestFold_60 : decode cX0_bestFold 60 = .ok (.istore 6, 2) := dk_54 6 (dk_at dksX0_bestFold_2 14 rfl rfl)
theorem dX0_bestFold_62 : decode cX0_bestFold 62 = .ok (.iload 6, 2) := dk_21 6 (dk_at dksX0_bestFold_2 16 rfl rfl)
theorem dX0_bestFold_64 : decode cX0_bestFold 64 = .ok (.iconst 4, 1) := dk_7 (dk_at dksX0_bestFold_2 18 rfl rfl)
theorem dX0_bestFold_65 : decode cX0_bestFold 65 = .ok (.if_icmp .ge 50, 3) := dk_162 0 50 (dk_at dksX0_bestFold_2 19 rfl rfl)
theorem dX0_bestFold_68 : decode cX0_bestFold 68 = .ok (.aload_n 0, 1) := dk_42 (dk_at dksX0_bestFold_2 22 rfl rfl)
theorem dX0_bestFold_69 : decode cX0_bestFold 69 = .ok (.getfield 23, 3) := dk_180 0 23 (dk_at dksX0_bestFold_3 0 rfl rfl)
theorem dX0_bestFold_72 : decode cX0_bestFold 72 = .ok (.aload_n 0, 1) := dk_42 (dk_at dksX0_bestFold_3 3 rfl rfl)
theorem dX0_bestFold_73 : decode cX0_bestFold 73 = .ok (.getfield 19, 3) := dk_180 0 19 (dk_at dksX0_bestFold_3 4 rfl rfl)
theorem dX0_bestFold_76 : decode cX0_bestFold 76 = .ok (.invokevirtual 236, 3) := dk_182 0 236 (dk_at dksX0_bestFold_3 7 rfl rfl)
theorem dX0_bestFold_79 : decode cX0_bestFold 79 = .ok (.aload_n 0, 1) := dk_42 (dk_at dksX0_bestFold_3 10 rfl rfl)
theorem dX0_bestFold_80 : decode cX0_bestFold 80 = .ok (.getfield 23, 3) := dk_180 0 23 (dk_at dksX0_bestFold_3 11 rfl rfl)
theorem dX0_bestFold_83 : decode cX0_bestFold 83 = .ok (.getfield 174, 3) := dk_180 0 174 (dk_at dksX0_bestFold_3 14 rfl rfl)
theorem dX0_bestFold_86 : decode cX0_bestFold 86 = .ok (.iload 5, 2) := dk_21 5 (dk_at dksX0_bestFold_3 17 rfl rfl)
theorem dX0_bestFold_88 : decode cX0_bestFold 88 = .ok (.iload 6, 2) := dk_21 6 (dk_at dksX0_bestFold_3 19 rfl rfl)
theorem dX0_bestFold_90 : decode cX0_bestFold 90 = .ok (.iastore, 1) := dk_79 (dk_at dksX0_bestFold_3 21 rfl rfl)
theorem dX0_bestFold_91 : decode cX0_bestFold 91 = .ok (.aload_n 0, 1) := dk_42 (dk_at dksX0_bestFold_3 22 rfl rfl)
theorem dX0_bestFold_92 : decode cX0_bestFold 92 = .ok (.iload_n 1, 1) := dk_27 (dk_at dksX0_bestFold_3 23 rfl rfl)
theorem dX0_bestFold_93 : decode cX0_bestFold 93 = .ok (.invokevirtual 298, 3) := dk_182 1 42 (dk_at dksX0_bestFold_4 0 rfl rfl)
theorem dX0_bestFold_96 : decode cX0_bestFold 96 = .ok (.ifCond .ne 6, 3) := dk_154 0 6 (dk_at dksX0_bestFold_4 3 rfl rfl)
theorem dX0_bestFold_99 : decode cX0_bestFold 99 = .ok (.goto 10, 3) := dk_167 0 10 (dk_at dksX0_bestFold_4 6 rfl rfl)
theorem dX0_bestFold_102 : decode cX0_bestFold 102 = .ok (.iload 5, 2) := dk_21 5 (dk_at dksX0_bestFold_4 9 rfl rfl)
theorem dX0_bestFold_104 : decode cX0_bestFold 104 = .ok (.istore_n 3, 1) := dk_62 (dk_at dksX0_bestFold_4 11 rfl rfl)
theorem dX0_bestFold_105 : decode cX0_bestFold 105 = .ok (.iload 6, 2) := dk_21 6 (dk_at dksX0_bestFold_4 12 rfl rfl)
theorem dX0_bestFold_107 : decode cX0_bestFold 107 = .ok (.istore 4, 2) := dk_54 4 (dk_at dksX0_bestFold_4 14 rfl rfl)
theorem dX0_bestFold_109 : decode cX0_bestFold 109 = .ok (.iinc 6 1, 3) := dk_132 6 1 (dk_at dksX0_bestFold_4 16 rfl rfl)
theorem dX0_bestFold_112 : decode cX0_bestFold 112 = .ok (.goto (-50), 3) := dk_167 255 206 (dk_at dksX0_bestFold_4 19 rfl rfl)
theorem dX0_bestFold_115 : decode cX0_bestFold 115 = .ok (.iinc 5 1, 3) := dk_132 5 1 (dk_at dksX0_bestFold_5 0 rfl rfl)
theorem dX0_bestFold_118 : decode cX0_bestFold 118 = .ok (.goto (-65), 3) := dk_167 255 191 (dk_at dksX0_bestFold_5 3 rfl rfl)
theorem dX0_bestFold_121 : decode cX0_bestFold 121 = .ok (.iload_n 2, 1) := dk_28 (dk_at dksX0_bestFold_5 6 rfl rfl)
theorem dX0_bestFold_122 : decode cX0_bestFold 122 = .ok (.ifCond .ne 10, 3) := dk_154 0 10 (dk_at dksX0_bestFold_5 7 rfl rfl)
theorem dX0_bestFold_125 : decode cX0_bestFold 125 = .ok (.aload_n 0, 1) := dk_42 (dk_at dksX0_bestFold_5 10 rfl rfl)
theorem dX0_bestFold_126 : decode cX0_bestFold 126 = .ok (.getfield 287, 3) := dk_180 1 31 (dk_at dksX0_bestFold_5 11 rfl rfl)
theorem dX0_bestFold_129 : decode cX0_bestFold 129 = .ok (.goto 26, 3) := dk_167 0 26 (dk_at dksX0_bestFold_5 14 rfl rfl)
theorem dX0_bestFold_132 : decode cX0_bestFold 132 = .ok (.iload_n 2, 1) := dk_28 (dk_at dksX0_bestFold_5 17 rfl rfl)
theorem dX0_bestFold_133 : decode cX0_bestFold 133 = .ok (.iconst 1, 1) := dk_4 (dk_at dksX0_bestFold_5 18 rfl rfl)
theorem dX0_bestFold_134 : decode cX0_bestFold 134 = .ok (.if_icmp .ne 10, 3) := dk_160 0 10 (dk_at dksX0_bestFold_5 19 rfl rfl)
theorem dX0_bestFold_137 : decode cX0_bestFold 137 = .ok (.aload_n 0, 1) := dk_42 (dk_at dksX0_bestFold_5 22 rfl rfl)
theorem dX0_bestFold_138 : decode cX0_bestFold 138 = .ok (.getfield 290, 3) := dk_180 1 34 (dk_at dksX0_bestFold_6 0 rfl rfl)
theorem dX0_bestFold_141 : decode cX0_bestFold 141 = .ok (.goto 14, 3) := dk_167 0 14 (dk_at dksX0_bestFold_6 3 rfl rfl)
theorem dX0_bestFold_144 : decode cX0_bestFold 144 = .ok (.iload_n 2, 1) := dk_28 (dk_at dksX0_bestFold_6 6 rfl rfl)
theorem dX0_bestFold_145 : decode cX0_bestFold 145 = .ok (.iconst 2, 1) := dk_5 (dk_at dksX0_bestFold_6 7 rfl rfl)
theorem dX0_bestFold_146 : decode cX0_bestFold 146 = .ok (.if_icmp .ne 7, 3) := dk_160 0 7 (dk_at dksX0_bestFold_6 8 rfl rfl)
theorem dX0_bestFold_149 : decode cX0_bestFold 149 = .ok (.iload_n 3, 1) := dk_29 (dk_at dksX0_bestFold_6 11 rfl rfl)
theorem dX0_bestFold_150 : decode cX0_bestFold 150 = .ok (.goto 5, 3) := dk_167 0 5 (dk_at dksX0_bestFold_6 12 rfl rfl)
theorem dX0_bestFold_153 : decode cX0_bestFold 153 = .ok (.iload 4, 2) := dk_21 4 (dk_at dksX0_bestFold_6 15 rfl rfl)
theorem dX0_bestFold_155 : decode cX0_bestFold 155 = .ok (.ireturn, 1) := dk_172 (dk_at dksX0_bestFold_6 17 rfl rfl)
abbrev cX0_tries : ByteArray := prog_1_method_40_code
def yX0_tries : MethodName := ⟨RX0, "tries", "()V"⟩
def dkwX0_tries_0 : List UInt8 := [42, 2, 181, 1, 31, 42, 180, 0, 23, 42, 180, 0, 19, 182, 0, 236, 177]
abbrev dktX0_tries_0 : List UInt8 := dkwX0_tries_0 ++ []
theorem dksX0_tries_0 : cX0_tries.data.toList.drop 0 = dktX0_tries_0 := by decide +kernel
theorem dX0_tries_0 : decode cX0_tries 0 = .ok (.aload_n 0, 1) := dk_42 (dk_at dksX0_tries_0 0 rfl rfl)
theorem dX0_tries_1 : decode cX0_tries 1 = .ok (.iconst (-1), 1) := dk_2 (dk_at dksX0_tries_0 1 rfl rfl)
theorem dX0_tries_2 : decode cX0_tries 2 = .ok (.putfield 287, 3) := dk_181 1 31 (dk_at dksX0_tries_0 2 rfl rfl)
theorem dX0_tries_5 : decode cX0_tries 5 = .ok (.aload_n 0, 1) := dk_42 (dk_at dksX0_tries_0 5 rfl rfl)
theorem dX0_tries_6 : decode cX0_tries 6 = .ok (.getfield 23, 3) := dk_180 0 23 (dk_at dksX0_tries_0 6 rfl rfl)
theorem dX0_tries_9 : decode cX0_tries 9 = .ok (.aload_n 0, 1) := dk_42 (dk_at dksX0_tries_0 9 rfl rfl)
theorem dX0_tries_10 : decode cX0_tries 10 = .ok (.getfield 19, 3) := dk_180 0 19 (dk_at dksX0_tries_0 10 rfl rfl)
theorem dX0_tries_13 : decode cX0_tries 13 = .ok (.invokevirtual 236, 3) := dk_182 0 236 (dk_at dksX0_tries_0 13 rfl rfl)
theorem dX0_tries_16 : decode cX0_tries 16 = .ok (.return_, 1) := dk_177 (dk_at dksX0_tries_0 16 rfl rfl)
abbrev cX0_isBetter : ByteArray := prog_1_method_39_code
def yX0_isBetter : MethodName := ⟨RX0, "isBetter", "(I)Z"⟩
def dkwX0_isBetter_3 : List UInt8 := [181, 1, 34, 4, 172]
abbrev dktX0_isBetter_3 : List UInt8 := dkwX0_isBetter_3 ++ []
def dkwX0_isBetter_2 : List UInt8 := [180, 1, 31, 160, 0, 13, 29, 42, 180, 1, 34, 163, 0, 5, 3, 172, 42, 28, 181, 1, 31, 42, 29]
abbrev dktX0_isBetter_2 : List UInt8 := dkwX0_isBetter_2 ++ dktX0_isBetter_3
def dkwX0_isBetter_1 : List UInt8 := [182, 1, 28, 62, 42, 180, 1, 31, 2, 159, 0, 29, 28, 42, 180, 1, 31, 163, 0, 19, 28, 42]
abbrev dktX0_isBetter_1 : List UInt8 := dkwX0_isBetter_1 ++ dktX0_isBetter_2
def dkwX0_isBetter_0 : List UInt8 := [42, 27, 182, 1, 5, 42, 42, 180, 0, 23, 5, 182, 0, 225, 184, 1, 24, 61, 42, 180, 0, 23]
abbrev dktX0_isBetter_0 : List UInt8 := dkwX0_isBetter_0 ++ dktX0_isBetter_1
theorem dksX0_isBetter_0 : cX0_isBetter.data.toList.drop 0 = dktX0_isBetter_0 := by decide +kernel
theorem dksX0_isBetter_1 : cX0_isBetter.data.toList.drop 22 = dktX0_isBetter_1 := dk_seg dksX0_isBetter_0 22 rfl rfl
theorem dksX0_isBetter_2 : cX0_isBetter.data.toList.drop 44 = dktX0_isBetter_2 := dk_seg dksX0_isBetter_1 22 rfl rfl
theorem dksX0_isBetter_3 : cX0_isBetter.data.toList.drop 67 = dktX0_isBetter_3 := dk_seg dksX0_isBetter_2 23 rfl rfl
theorem dX0_isBetter_0 : decode cX0_isBetter 0 = .ok (.aload_n 0, 1) := dk_42 (dk_at dksX0_isBetter_0 0 rfl rfl)
theorem dX0_isBetter_1 : decode cX0_isBetter 1 = .ok (.iload_n 1, 1) := dk_27 (dk_at dksX0_isBetter_0 1 rfl rfl)
theorem dX0_isBetter_2 : decode cX0_isBetter 2 = .ok (.invokevirtual 261, 3) := dk_182 1 5 (dk_at dksX0_isBetter_0 2 rfl rfl)
theorem dX0_isBetter_5 : decode cX0_isBetter 5 = .ok (.aload_n 0, 1) := dk_42 (dk_at dksX0_isBetter_0 5 rfl rfl)
theorem dX0_isBetter_6 : decode cX0_isBetter 6 = .ok (.aload_n 0, 1) := dk_42 (dk_at dksX0_isBetter_0 6 rfl rfl)
theorem dX0_isBetter_7 : decode cX0_isBetter 7 = .ok (.getfield 23, 3) := dk_180 0 23 (dk_at dksX0_isBetter_0 7 rfl rfl)
theorem dX0_isBetter_10 : decode cX0_isBetter 10 = .ok (.iconst 2, 1) := dk_5 (dk_at dksX0_isBetter_0 10 rfl rfl)
theorem dX0_isBetter_11 : decode cX0_isBetter 11 = .ok (.invokevirtual 225, 3) := dk_182 0 225 (dk_at dksX0_isBetter_0 11 rfl rfl)
theorem dX0_isBetter_14 : decode cX0_isBetter 14 = .ok (.invokestatic 280, 3) := dk_184 1 24 (dk_at dksX0_isBetter_0 14 rfl rfl)
theorem dX0_isBetter_17 : decode cX0_isBetter 17 = .ok (.istore_n 2, 1) := dk_61 (dk_at dksX0_isBetter_0 17 rfl rfl)
theorem dX0_isBetter_18 : decode cX0_isBetter 18 = .ok (.aload_n 0, 1) := dk_42 (dk_at dksX0_isBetter_0 18 rfl rfl)
theorem dX0_isBetter_19 : decode cX0_isBetter 19 = .ok (.getfield 23, 3) := dk_180 0 23 (dk_at dksX0_isBetter_0 19 rfl rfl)
theorem dX0_isBetter_22 : decode cX0_isBetter 22 = .ok (.invokevirtual 284, 3) := dk_182 1 28 (dk_at dksX0_isBetter_1 0 rfl rfl)
theorem dX0_isBetter_25 : decode cX0_isBetter 25 = .ok (.istore_n 3, 1) := dk_62 (dk_at dksX0_isBetter_1 3 rfl rfl)
theorem dX0_isBetter_26 : decode cX0_isBetter 26 = .ok (.aload_n 0, 1) := dk_42 (dk_at dksX0_isBetter_1 4 rfl rfl)
theorem dX0_isBetter_27 : decode cX0_isBetter 27 = .ok (.getfield 287, 3) := dk_180 1 31 (dk_at dksX0_isBetter_1 5 rfl rfl)
theorem dX0_isBetter_30 : decode cX0_isBetter 30 = .ok (.iconst (-1), 1) := dk_2 (dk_at dksX0_isBetter_1 8 rfl rfl)
theorem dX0_isBetter_31 : decode cX0_isBetter 31 = .ok (.if_icmp .eq 29, 3) := dk_159 0 29 (dk_at dksX0_isBetter_1 9 rfl rfl)
theorem dX0_isBetter_34 : decode cX0_isBetter 34 = .ok (.iload_n 2, 1) := dk_28 (dk_at dksX0_isBetter_1 12 rfl rfl)
theorem dX0_isBetter_35 : decode cX0_isBetter 35 = .ok (.aload_n 0, 1) := dk_42 (dk_at dksX0_isBetter_1 13 rfl rfl)
theorem dX0_isBetter_36 : decode cX0_isBetter 36 = .ok (.getfield 287, 3) := dk_180 1 31 (dk_at dksX0_isBetter_1 14 rfl rfl)
theorem dX0_isBetter_39 : decode cX0_isBetter 39 = .ok (.if_icmp .gt 19, 3) := dk_163 0 19 (dk_at dksX0_isBetter_1 17 rfl rfl)
theorem dX0_isBetter_42 : decode cX0_isBetter 42 = .ok (.iload_n 2, 1) := dk_28 (dk_at dksX0_isBetter_1 20 rfl rfl)
theorem dX0_isBetter_43 : decode cX0_isBetter 43 = .ok (.aload_n 0, 1) := dk_42 (dk_at dksX0_isBetter_1 21 rfl rfl)
theorem dX0_isBetter_44 : decode cX0_isBetter 44 = .ok (.getfield 287, 3) := dk_180 1 31 (dk_at dksX0_isBetter_2 0 rfl rfl)
theorem dX0_isBetter_47 : decode cX0_isBetter 47 = .ok (.if_icmp .ne 13, 3) := dk_160 0 13 (dk_at dksX0_isBetter_2 3 rfl rfl)
theorem dX0_isBetter_50 : decode cX0_isBetter 50 = .ok (.iload_n 3, 1) := dk_29 (dk_at dksX0_isBetter_2 6 rfl rfl)
theorem dX0_isBetter_51 : decode cX0_isBetter 51 = .ok (.aload_n 0, 1) := dk_42 (dk_at dksX0_isBetter_2 7 rfl rfl)
theorem dX0_isBetter_52 : decode cX0_isBetter 52 = .ok (.getfield 290, 3) := dk_180 1 34 (dk_at dksX0_isBetter_2 8 rfl rfl)
theorem dX0_isBetter_55 : decode cX0_isBetter 55 = .ok (.if_icmp .gt 5, 3) := dk_163 0 5 (dk_at dksX0_isBetter_2 11 rfl rfl)
theorem dX0_isBetter_58 : decode cX0_isBetter 58 = .ok (.iconst 0, 1) := dk_3 (dk_at dksX0_isBetter_2 14 rfl rfl)
theorem dX0_isBetter_59 : decode cX0_isBetter 59 = .ok (.ireturn, 1) := dk_172 (dk_at dksX0_isBetter_2 15 rfl rfl)
theorem dX0_isBetter_60 : decode cX0_isBetter 60 = .ok (.aload_n 0, 1) := dk_42 (dk_at dksX0_isBetter_2 16 rfl rfl)
theorem dX0_isBetter_61 : decode cX0_isBetter 61 = .ok (.iload_n 2, 1) := dk_28 (dk_at dksX0_isBetter_2 17 rfl rfl)
theorem dX0_isBetter_62 : decode cX0_isBetter 62 = .ok (.putfield 287, 3) := dk_181 1 31 (dk_at dksX0_isBetter_2 18 rfl rfl)
theorem dX0_isBetter_65 : decode cX0_isBetter 65 = .ok (.aload_n 0, 1) := dk_42 (dk_at dksX0_isBetter_2 21 rfl rfl)
theorem dX0_isBetter_66 : decode cX0_isBetter 66 = .ok (.iload_n 3, 1) := dk_29 (dk_at dksX0_isBetter_2 22 rfl rfl)
theorem dX0_isBetter_67 : decode cX0_isBetter 67 = .ok (.putfield 290, 3) := dk_181 1 34 (dk_at dksX0_isBetter_3 0 rfl rfl)
theorem dX0_isBetter_70 : decode cX0_isBetter 70 = .ok (.iconst 1, 1) := dk_4 (dk_at dksX0_isBetter_3 3 rfl rfl)
theorem dX0_isBetter_71 : decode cX0_isBetter 71 = .ok (.ireturn, 1) := dk_172 (dk_at dksX0_isBetter_3 4 rfl rfl)
abbrev cX0_bestStone : ByteArray := prog_1_method_42_code
def yX0_bestStone : MethodName := ⟨RX0, "bestStone", "(II)I"⟩
def dkwX0_bestStone_5 : List UInt8 := [4, 160, 0, 10, 42, 180, 1, 34, 167, 0, 4, 29, 172]
abbrev dktX0_bestStone_5 : List UInt8 := dkwX0_bestStone_5 ++ []
def dkwX0_bestStone_4 : List UInt8 := [153, 0, 6, 21, 4, 62, 132, 4, 1, 167, 255, 203, 28, 154, 0, 10, 42, 180, 1, 31, 167, 0, 16, 28]
abbrev dktX0_bestStone_4 : List UInt8 := dkwX0_bestStone_4 ++ dktX0_bestStone_5
def dkwX0_bestStone_3 : List UInt8 := [182, 0, 236, 42, 180, 0, 23, 89, 180, 0, 250, 10, 21, 4, 121, 131, 181, 0, 250, 42, 27, 182, 1, 42]
abbrev dktX0_bestStone_3 : List UInt8 := dkwX0_bestStone_3 ++ dktX0_bestStone_4
def dkwX0_bestStone_2 : List UInt8 := [3, 54, 4, 21, 4, 42, 180, 0, 10, 182, 0, 108, 162, 0, 47, 42, 180, 0, 23, 42, 180, 0, 19]
abbrev dktX0_bestStone_2 : List UInt8 := dkwX0_bestStone_2 ++ dktX0_bestStone_3
def dkwX0_bestStone_1 : List UInt8 := [20, 1, 3, 184, 0, 104, 154, 0, 5, 2, 172, 16, 254, 62, 42, 182, 1, 39, 42, 27, 182, 1, 42, 87]
abbrev dktX0_bestStone_1 : List UInt8 := dkwX0_bestStone_1 ++ dktX0_bestStone_2
def dkwX0_bestStone_0 : List UInt8 := [42, 182, 0, 168, 153, 0, 27, 27, 133, 10, 20, 1, 37, 184, 0, 104, 153, 0, 15, 28, 133, 9]
abbrev dktX0_bestStone_0 : List UInt8 := dkwX0_bestStone_0 ++ dktX0_bestStone_1
theorem dksX0_bestStone_0 : cX0_bestStone.data.toList.drop 0 = dktX0_bestStone_0 := by decide +kernel
theorem dksX0_bestStone_1 : cX0_bestStone.data.toList.drop 22 = dktX0_bestStone_1 := dk_seg dksX0_bestStone_0 22 rfl rfl
theorem dksX0_bestStone_2 : cX0_bestStone.data.toList.drop 46 = dktX0_bestStone_2 := dk_seg dksX0_bestStone_1 24 rfl rfl
theorem dksX0_bestStone_3 : cX0_bestStone.data.toList.drop 69 = dktX0_bestStone_3 := dk_seg dksX0_bestStone_2 23 rfl rfl
theorem dksX0_bestStone_4 : cX0_bestStone.data.toList.drop 93 = dktX0_bestStone_4 := dk_seg dksX0_bestStone_3 24 rfl rfl
theorem dksX0_bestStone_5 : cX0_bestStone.data.toList.drop 117 = dktX0_bestStone_5 := dk_seg dksX0_bestStone_4 24 rfl rfl
theorem dX0_bestStone_0 : decode cX0_bestStone 0 = .ok (.aload_n 0, 1) := dk_42 (dk_at dksX0_bestStone_0 0 rfl rfl)
theorem dX0_bestStone_1 : decode cX0_bestStone 1 = .ok (.invokevirtual 168, 3) := dk_182 0 168 (dk_at dksX0_bestStone_0 1 rfl rfl)
theorem dX0_bestStone_4 : decode cX0_bestStone 4 = .ok (.ifCond .eq 27, 3) := dk_153 0 27 (dk_at dksX0_bestStone_0 4 rfl rfl)
theorem dX0_bestStone_7 : decode cX0_bestStone 7 = .ok (.iload_n 1, 1) := dk_27 (dk_at dksX0_bestStone_0 7 rfl rfl)
theorem dX0_bestStone_8 : decode cX0_bestStone 8 = .ok (.i2l, 1) := dk_133 (dk_at dksX0_bestStone_0 8 rfl rfl)
theorem dX0_bestStone_9 : decode cX0_bestStone 9 = .ok (.lconst 1, 1) := dk_10 (dk_at dksX0_bestStone_0 9 rfl rfl)
theorem dX0_bestStone_10 : decode cX0_bestStone 10 = .ok (.ldc2_w 293, 3) := dk_20 1 37 (dk_at dksX0_bestStone_0 10 rfl rfl)
theorem dX0_bestStone_13 : decode cX0_bestStone 13 = .ok (.invokestatic 104, 3) := dk_184 0 104 (dk_at dksX0_bestStone_0 13 rfl rfl)
theorem dX0_bestStone_16 : decode cX0_bestStone 16 = .ok (.ifCond .eq 15, 3) := dk_153 0 15 (dk_at dksX0_bestStone_0 16 rfl rfl)
theorem dX0_bestStone_19 : decode cX0_bestStone 19 = .ok (.iload_n 2, 1) := dk_28 (dk_at dksX0_bestStone_0 19 rfl rfl)
theorem dX0_bestStone_20 : decode cX0_bestStone 20 = .ok (.i2l, 1) := dk_133 (dk_at dksX0_bestStone_0 20 rfl rfl)
theorem dX0_bestStone_21 : decode cX0_bestStone 21 = .ok (.lconst 0, 1) := dk_9 (dk_at dksX0_bestStone_0 21 rfl rfl)
theorem dX0_bestStone_22 : decode cX0_bestStone 22 = .ok (.ldc2_w 259, 3) := dk_20 1 3 (dk_at dksX0_bestStone_1 0 rfl rfl)
theorem dX0_bestStone_25 : decode cX0_bestStone 25 = .ok (.invokestatic 104, 3) := dk_184 0 104 (dk_at dksX0_bestStone_1 3 rfl rfl)
theorem dX0_bestStone_28 : decode cX0_bestStone 28 = .ok (.ifCond .ne 5, 3) := dk_154 0 5 (dk_at dksX0_bestStone_1 6 rfl rfl)
theorem dX0_bestStone_31 : decode cX0_bestStone 31 = .ok (.iconst (-1), 1) := dk_2 (dk_at dksX0_bestStone_1 9 rfl rfl)
theorem dX0_bestStone_32 : decode cX0_bestStone 32 = .ok (.ireturn, 1) := dk_172 (dk_at dksX0_bestStone_1 10 rfl rfl)
theorem dX0_bestStone_33 : decode cX0_bestStone 33 = .ok (.bipush (-2), 2) := dk_16 254 (dk_at dksX0_bestStone_1 11 rfl rfl)
theorem dX0_bestStone_35 : decode cX0_bestStone 35 = .ok (.istore_n 3, 1) := dk_62 (dk_at dksX0_bestStone_1 13 rfl rfl)
theorem dX0_bestStone_36 : decode cX0_bestStone 36 = .ok (.aload_n 0, 1) := dk_42 (dk_at dksX0_bestStone_1 14 rfl rfl)
theorem dX0_bestStone_37 : decode cX0_bestStone 37 = .ok (.invokevirtual 295, 3) := dk_182 1 39 (dk_at dksX0_bestStone_1 15 rfl rfl)
theorem dX0_bestStone_40 : decode cX0_bestStone 40 = .ok (.aload_n 0, 1) := dk_42 (dk_at dksX0_bestStone_1 18 rfl rfl)
theorem dX0_bestStone_41 : decode cX0_bestStone 41 = .ok (.iload_n 1, 1) := dk_27 (dk_at dksX0_bestStone_1 19 rfl rfl)
theorem dX0_bestStone_42 : decode cX0_bestStone 42 = .ok (.invokevirtual 298, 3) := dk_182 1 42 (dk_at dksX0_bestStone_1 20 rfl rfl)
theorem dX0_bestStone_45 : decode cX0_bestStone 45 = .ok (.pop, 1) := dk_87 (dk_at dksX0_bestStone_1 23 rfl rfl)
theorem dX0_bestStone_46 : decode cX0_bestStone 46 = .ok (.iconst 0, 1) := dk_3 (dk_at dksX0_bestStone_2 0 rfl rfl)
theorem dX0_bestStone_47 : decode cX0_bestStone 47 = .ok (.istore 4, 2) := dk_54 4 (dk_at dksX0_bestStone_2 1 rfl rfl)
theorem dX0_bestStone_49 : decode cX0_bestStone 49 = .ok (.iload 4, 2) := dk_21 4 (dk_at dksX0_bestStone_2 3 rfl rfl)
theorem dX0_bestStone_51 : decode cX0_bestStone 51 = .ok (.aload_n 0, 1) := dk_42 (dk_at dksX0_bestStone_2 5 rfl rfl)
theorem dX0_bestStone_52 : decode cX0_bestStone 52 = .ok (.getfield 10, 3) := dk_180 0 10 (dk_at dksX0_bestStone_2 6 rfl rfl)
theorem dX0_bestStone_55 : decode cX0_bestStone 55 = .ok (.invokevirtual 108, 3) := dk_182 0 108 (dk_at dksX0_bestStone_2 9 rfl rfl)
theorem dX0_bestStone_58 : decode cX0_bestStone 58 = .ok (.if_icmp .ge 47, 3) := dk_162 0 47 (dk_at dksX0_bestStone_2 12 rfl rfl)
theorem dX0_bestStone_61 : decode cX0_bestStone 61 = .ok (.aload_n 0, 1) := dk_42 (dk_at dksX0_bestStone_2 15 rfl rfl)
theorem dX0_bestStone_62 : decode cX0_bestStone 62 = .ok (.getfield 23, 3) := dk_180 0 23 (dk_at dksX0_bestStone_2 16 rfl rfl)
theorem dX0_bestStone_65 : decode cX0_bestStone 65 = .ok (.aload_n 0, 1) := dk_42 (dk_at dksX0_bestStone_2 19 rfl rfl)
theorem dX0_bestStone_66 : decode cX0_bestStone 66 = .ok (.getfield 19, 3) := dk_180 0 19 (dk_at dksX0_bestStone_2 20 rfl rfl)
theorem dX0_bestStone_69 : decode cX0_bestStone 69 = .ok (.invokevirtual 236, 3) := dk_182 0 236 (dk_at dksX0_bestStone_3 0 rfl rfl)
theorem dX0_bestStone_72 : decode cX0_bestStone 72 = .ok (.aload_n 0, 1) := dk_42 (dk_at dksX0_bestStone_3 3 rfl rfl)
theorem dX0_bestStone_73 : decode cX0_bestStone 73 = .ok (.getfield 23, 3) := dk_180 0 23 (dk_at dksX0_bestStone_3 4 rfl rfl)
theorem dX0_bestStone_76 : decode cX0_bestStone 76 = .ok (.dup, 1) := dk_89 (dk_at dksX0_bestStone_3 7 rfl rfl)
theorem dX0_bestStone_77 : decode cX0_bestStone 77 = .ok (.getfield 250, 3) := dk_180 0 250 (dk_at dksX0_bestStone_3 8 rfl rfl)
theorem dX0_bestStone_80 : decode cX0_bestStone 80 = .ok (.lconst 1, 1) := dk_10 (dk_at dksX0_bestStone_3 11 rfl rfl)
theorem dX0_bestStone_81 : decode cX0_bestStone 81 = .ok (.iload 4, 2) := dk_21 4 (dk_at dksX0_bestStone_3 12 rfl rfl)
theorem dX0_bestStone_83 : decode cX0_bestStone 83 = .ok (.lshl, 1) := dk_121 (dk_at dksX0_bestStone_3 14 rfl rfl)
theorem dX0_bestStone_84 : decode cX0_bestStone 84 = .ok (.lxor, 1) := dk_131 (dk_at dksX0_bestStone_3 15 rfl rfl)
theorem dX0_bestStone_85 : decode cX0_bestStone 85 = .ok (.putfield 250, 3) := dk_181 0 250 (dk_at dksX0_bestStone_3 16 rfl rfl)
theorem dX0_bestStone_88 : decode cX0_bestStone 88 = .ok (.aload_n 0, 1) := dk_42 (dk_at dksX0_bestStone_3 19 rfl rfl)
theorem dX0_bestStone_89 : decode cX0_bestStone 89 = .ok (.iload_n 1, 1) := dk_27 (dk_at dksX0_bestStone_3 20 rfl rfl)
theorem dX0_bestStone_90 : decode cX0_bestStone 90 = .ok (.invokevirtual 298, 3) := dk_182 1 42 (dk_at dksX0_bestStone_3 21 rfl rfl)
theorem dX0_bestStone_93 : decode cX0_bestStone 93 = .ok (.ifCond .eq 6, 3) := dk_153 0 6 (dk_at dksX0_bestStone_4 0 rfl rfl)
theorem dX0_bestStone_96 : decode cX0_bestStone 96 = .ok (.iload 4, 2) := dk_21 4 (dk_at dksX0_bestStone_4 3 rfl rfl)
theorem dX0_bestStone_98 : decode cX0_bestStone 98 = .ok (.istore_n 3, 1) := dk_62 (dk_at dksX0_bestStone_4 5 rfl rfl)
theorem dX0_bestStone_99 : decode cX0_bestStone 99 = .ok (.iinc 4 1, 3) := dk_132 4 1 (dk_at dksX0_bestStone_4 6 rfl rfl)
theorem dX0_bestStone_102 : decode cX0_bestStone 102 = .ok (.goto (-53), 3) := dk_167 255 203 (dk_at dksX0_bestStone_4 9 rfl rfl)
theorem dX0_bestStone_105 : decode cX0_bestStone 105 = .ok (.iload_n 2, 1) := dk_28 (dk_at dksX0_bestStone_4 12 rfl rfl)
theorem dX0_bestStone_106 : decode cX0_bestStone 106 = .ok (.ifCond .ne 10, 3) := dk_154 0 10 (dk_at dksX0_bestStone_4 13 rfl rfl)
theorem dX0_bestStone_109 : decode cX0_bestStone 109 = .ok (.aload_n 0, 1) := dk_42 (dk_at dksX0_bestStone_4 16 rfl rfl)
theorem dX0_bestStone_110 : decode cX0_bestStone 110 = .ok (.getfield 287, 3) := dk_180 1 31 (dk_at dksX0_bestStone_4 17 rfl rfl)
theorem dX0_bestStone_113 : decode cX0_bestStone 113 = .ok (.goto 16, 3) := dk_167 0 16 (dk_at dksX0_bestStone_4 20 rfl rfl)
theorem dX0_bestStone_116 : decode cX0_bestStone 116 = .ok (.iload_n 2, 1) := dk_28 (dk_at dksX0_bestStone_4 23 rfl rfl)
theorem dX0_bestStone_117 : decode cX0_bestStone 117 = .ok (.iconst 1, 1) := dk_4 (dk_at dksX0_bestStone_5 0 rfl rfl)
theorem dX0_bestStone_118 : decode cX0_bestStone 118 = .ok (.if_icmp .ne 10, 3) := dk_160 0 10 (dk_at dksX0_bestStone_5 1 rfl rfl)
theorem dX0_bestStone_121 : decode cX0_bestStone 121 = .ok (.aload_n 0, 1) := dk_42 (dk_at dksX0_bestStone_5 4 rfl rfl)
theorem dX0_bestStone_122 : decode cX0_bestStone 122 = .ok (.getfield 290, 3) := dk_180 1 34 (dk_at dksX0_bestStone_5 5 rfl rfl)
theorem dX0_bestStone_125 : decode cX0_bestStone 125 = .ok (.goto 4, 3) := dk_167 0 4 (dk_at dksX0_bestStone_5 8 rfl rfl)
theorem dX0_bestStone_128 : decode cX0_bestStone 128 = .ok (.iload_n 3, 1) := dk_29 (dk_at dksX0_bestStone_5 11 rfl rfl)
theorem dX0_bestStone_129 : decode cX0_bestStone 129 = .ok (.ireturn, 1) := dk_172 (dk_at dksX0_bestStone_5 12 rfl rfl)
abbrev cX0_rests : ByteArray := prog_1_method_45_code
def yX0_rests : MethodName := ⟨RX0, "rests", "(IIII)I"⟩
def dkwX0_rests_7 : List UInt8 := [21, 6, 7, 112, 172]
abbrev dktX0_rests_7 : List UInt8 := dkwX0_rests_7 ++ []
def dkwX0_rests_6 : List UInt8 := [21, 6, 2, 160, 0, 8, 16, 254, 167, 0, 20, 21, 4, 4, 160, 0, 10, 21, 6, 7, 108, 167, 0, 7]
abbrev dktX0_rests_6 : List UInt8 := dkwX0_rests_6 ++ dktX0_rests_7
def dkwX0_rests_5 : List UInt8 := [167, 0, 5, 21, 6, 54, 6, 132, 5, 1, 132, 7, 1, 167, 255, 217, 21, 4, 154, 0, 6, 21, 5, 172]
abbrev dktX0_rests_5 : List UInt8 := dkwX0_rests_5 ++ dktX0_rests_6
def dkwX0_rests_4 : List UInt8 := [162, 0, 38, 42, 21, 7, 182, 1, 52, 154, 0, 6, 167, 0, 20, 21, 5, 154, 0, 8, 21, 7]
abbrev dktX0_rests_4 : List UInt8 := dkwX0_rests_4 ++ dktX0_rests_5
def dkwX0_rests_3 : List UInt8 := [2, 172, 42, 27, 28, 29, 182, 1, 48, 3, 54, 5, 2, 54, 6, 3, 54, 7, 21, 7, 16, 16]
abbrev dktX0_rests_3 : List UInt8 := dkwX0_rests_3 ++ dktX0_rests_4
def dkwX0_rests_2 : List UInt8 := [133, 10, 20, 0, 248, 184, 0, 104, 153, 0, 16, 21, 4, 133, 9, 20, 1, 3, 184, 0, 104, 154, 0, 5]
abbrev dktX0_rests_2 : List UInt8 := dkwX0_rests_2 ++ dktX0_rests_3
def dkwX0_rests_1 : List UInt8 := [180, 0, 19, 180, 0, 159, 27, 46, 154, 0, 40, 42, 180, 0, 19, 180, 0, 159, 28, 46, 154, 0, 28, 29]
abbrev dktX0_rests_1 : List UInt8 := dkwX0_rests_1 ++ dktX0_rests_2
def dkwX0_rests_0 : List UInt8 := [42, 27, 182, 0, 146, 153, 0, 65, 42, 28, 182, 0, 146, 153, 0, 57, 27, 28, 159, 0, 52, 42]
abbrev dktX0_rests_0 : List UInt8 := dkwX0_rests_0 ++ dktX0_rests_1
theorem dksX0_rests_0 : cX0_rests.data.toList.drop 0 = dktX0_rests_0 := by decide +kernel
theorem dksX0_rests_1 : cX0_rests.data.toList.drop 22 = dktX0_rests_1 := dk_seg dksX0_rests_0 22 rfl rfl
theorem dksX0_rests_2 : cX0_rests.data.toList.drop 46 = dktX0_rests_2 := dk_seg dksX0_rests_1 24 rfl rfl
theorem dksX0_rests_3 : cX0_rests.data.toList.drop 70 = dktX0_rests_3 := dk_seg dksX0_rests_2 24 rfl rfl
theorem dksX0_rests_4 : cX0_rests.data.toList.drop 92 = dktX0_rests_4 := dk_seg dksX0_rests_3 22 rfl rfl
theorem dksX0_rests_5 : cX0_rests.data.toList.drop 114 = dktX0_rests_5 := dk_seg dksX0_rests_4 22 rfl rfl
theorem dksX0_rests_6 : cX0_rests.data.toList.drop 138 = dktX0_rests_6 := dk_seg dksX0_rests_5 24 rfl rfl
theorem dksX0_rests_7 : cX0_rests.data.toList.drop 162 = dktX0_rests_7 := dk_seg dksX0_rests_6 24 rfl rfl
theorem dX0_rests_0 : decode cX0_rests 0 = .ok (.aload_n 0, 1) := dk_42 (dk_at dksX0_rests_0 0 rfl rfl)
theorem dX0_rests_1 : decode cX0_rests 1 = .ok (.iload_n 1, 1) := dk_27 (dk_at dksX0_rests_0 1 rfl rfl)
theorem dX0_rests_2 : decode cX0_rests 2 = .ok (.invokevirtual 146, 3) := dk_182 0 146 (dk_at dksX0_rests_0 2 rfl rfl)
theorem dX0_rests_5 : decode cX0_rests 5 = .ok (.ifCond .eq 65, 3) := dk_153 0 65 (dk_at dksX0_rests_0 5 rfl rfl)
theorem dX0_rests_8 : decode cX0_rests 8 = .ok (.aload_n 0, 1) := dk_42 (dk_at dksX0_rests_0 8 rfl rfl)
theorem dX0_rests_9 : decode cX0_rests 9 = .ok (.iload_n 2, 1) := dk_28 (dk_at dksX0_rests_0 9 rfl rfl)
theorem dX0_rests_10 : decode cX0_rests 10 = .ok (.invokevirtual 146, 3) := dk_182 0 146 (dk_at dksX0_rests_0 10 rfl rfl)
theorem dX0_rests_13 : decode cX0_rests 13 = .ok (.ifCond .eq 57, 3) := dk_153 0 57 (dk_at dksX0_rests_0 13 rfl rfl)
theorem dX0_rests_16 : decode cX0_rests 16 = .ok (.iload_n 1, 1) := dk_27 (dk_at dksX0_rests_0 16 rfl rfl)
theorem dX0_rests_17 : decode cX0_rests 17 = .ok (.iload_n 2, 1) := dk_28 (dk_at dksX0_rests_0 17 rfl rfl)
theorem dX0_rests_18 : decode cX0_rests 18 = .ok (.if_icmp .eq 52, 3) := dk_159 0 52 (dk_at dksX0_rests_0 18 rfl rfl)
theorem dX0_rests_21 : decode cX0_rests 21 = .ok (.aload_n 0, 1) := dk_42 (dk_at dksX0_rests_0 21 rfl rfl)
theorem dX0_rests_22 : decode cX0_rests 22 = .ok (.getfield 19, 3) := dk_180 0 19 (dk_at dksX0_rests_1 0 rfl rfl)
theorem dX0_rests_25 : decode cX0_rests 25 = .ok (.getfield 159, 3) := dk_180 0 159 (dk_at dksX0_rests_1 3 rfl rfl)
theorem dX0_rests_28 : decode cX0_rests 28 = .ok (.iload_n 1, 1) := dk_27 (dk_at dksX0_rests_1 6 rfl rfl)
theorem dX0_rests_29 : decode cX0_rests 29 = .ok (.iaload, 1) := dk_46 (dk_at dksX0_rests_1 7 rfl rfl)
theorem dX0_rests_30 : decode cX0_rests 30 = .ok (.ifCond .ne 40, 3) := dk_154 0 40 (dk_at dksX0_rests_1 8 rfl rfl)
theorem dX0_rests_33 : decode cX0_rests 33 = .ok (.aload_n 0, 1) := dk_42 (dk_at dksX0_rests_1 11 rfl rfl)
theorem dX0_rests_34 : decode cX0_rests 34 = .ok (.getfield 19, 3) := dk_180 0 19 (dk_at dksX0_rests_1 12 rfl rfl)
theorem dX0_rests_37 : decode cX0_rests 37 = .ok (.getfield 159, 3) := dk_180 0 159 (dk_at dksX0_rests_1 15 rfl rfl)
theorem dX0_rests_40 : decode cX0_rests 40 = .ok (.iload_n 2, 1) := dk_28 (dk_at dksX0_rests_1 18 rfl rfl)
theorem dX0_rests_41 : decode cX0_rests 41 = .ok (.iaload, 1) := dk_46 (dk_at dksX0_rests_1 19 rfl rfl)
theorem dX0_rests_42 : decode cX0_rests 42 = .ok (.ifCond .ne 28, 3) := dk_154 0 28 (dk_at dksX0_rests_1 20 rfl rfl)
theorem dX0_rests_45 : decode cX0_rests 45 = .ok (.iload_n 3, 1) := dk_29 (dk_at dksX0_rests_1 23 rfl rfl)
theorem dX0_rests_46 : decode cX0_rests 46 = .ok (.i2l, 1) := dk_133 (dk_at dksX0_rests_2 0 rfl rfl)
theorem dX0_rests_47 : decode cX0_rests 47 = .ok (.lconst 1, 1) := dk_10 (dk_at dksX0_rests_2 1 rfl rfl)
theorem dX0_rests_48 : decode cX0_rests 48 = .ok (.ldc2_w 248, 3) := dk_20 0 248 (dk_at dksX0_rests_2 2 rfl rfl)
theorem dX0_rests_51 : decode cX0_rests 51 = .ok (.invokestatic 104, 3) := dk_184 0 104 (dk_at dksX0_rests_2 5 rfl rfl)
theorem dX0_rests_54 : decode cX0_rests 54 = .ok (.ifCond .eq 16, 3) := dk_153 0 16 (dk_at dksX0_rests_2 8 rfl rfl)
theorem dX0_rests_57 : decode cX0_rests 57 = .ok (.iload 4, 2) := dk_21 4 (dk_at dksX0_rests_2 11 rfl rfl)
theorem dX0_rests_59 : decode cX0_rests 59 = .ok (.i2l, 1) := dk_133 (dk_at dksX0_rests_2 13 rfl rfl)
theorem dX0_rests_60 : decode cX0_rests 60 = .ok (.lconst 0, 1) := dk_9 (dk_at dksX0_rests_2 14 rfl rfl)
theorem dX0_rests_61 : decode cX0_rests 61 = .ok (.ldc2_w 259, 3) := dk_20 1 3 (dk_at dksX0_rests_2 15 rfl rfl)
theorem dX0_rests_64 : decode cX0_rests 64 = .ok (.invokestatic 104, 3) := dk_184 0 104 (dk_at dksX0_rests_2 18 rfl rfl)
theorem dX0_rests_67 : decode cX0_rests 67 = .ok (.ifCond .ne 5, 3) := dk_154 0 5 (dk_at dksX0_rests_2 21 rfl rfl)
theorem dX0_rests_70 : decode cX0_rests 70 = .ok (.iconst (-1), 1) := dk_2 (dk_at dksX0_rests_3 0 rfl rfl)
theorem dX0_rests_71 : decode cX0_rests 71 = .ok (.ireturn, 1) := dk_172 (dk_at dksX0_rests_3 1 rfl rfl)
theorem dX0_rests_72 : decode cX0_rests 72 = .ok (.aload_n 0, 1) := dk_42 (dk_at dksX0_rests_3 2 rfl rfl)
theorem dX0_rests_73 : decode cX0_rests 73 = .ok (.iload_n 1, 1) := dk_27 (dk_at dksX0_rests_3 3 rfl rfl)
theorem dX0_rests_74 : decode cX0_rests 74 = .ok (.iload_n 2, 1) := dk_28 (dk_at dksX0_rests_3 4 rfl rfl)
theorem dX0_rests_75 : decode cX0_rests 75 = .ok (.iload_n 3, 1) := dk_29 (dk_at dksX0_rests_3 5 rfl rfl)
theorem dX0_rests_76 : decode cX0_rests 76 = .ok (.invokevirtual 304, 3) := dk_182 1 48 (dk_at dksX0_rests_3 6 rfl rfl)
theorem dX0_rests_79 : decode cX0_rests 79 = .ok (.iconst 0, 1) := dk_3 (dk_at dksX0_rests_3 9 rfl rfl)
theorem dX0_rests_80 : decode cX0_rests 80 = .ok (.istore 5, 2) := dk_54 5 (dk_at dksX0_rests_3 10 rfl rfl)
theorem dX0_rests_82 : decode cX0_rests 82 = .ok (.iconst (-1), 1) := dk_2 (dk_at dksX0_rests_3 12 rfl rfl)
theorem dX0_rests_83 : decode cX0_rests 83 = .ok (.istore 6, 2) := dk_54 6 (dk_at dksX0_rests_3 13 rfl rfl)
theorem dX0_rests_85 : decode cX0_rests 85 = .ok (.iconst 0, 1) := dk_3 (dk_at dksX0_rests_3 15 rfl rfl)
theorem dX0_rests_86 : decode cX0_rests 86 = .ok (.istore 7, 2) := dk_54 7 (dk_at dksX0_rests_3 16 rfl rfl)
theorem dX0_rests_88 : decode cX0_rests 88 = .ok (.iload 7, 2) := dk_21 7 (dk_at dksX0_rests_3 18 rfl rfl)
theorem dX0_rests_90 : decode cX0_rests 90 = .ok (.bipush 16, 2) := dk_16 16 (dk_at dksX0_rests_3 20 rfl rfl)
theorem dX0_rests_92 : decode cX0_rests 92 = .ok (.if_icmp .ge 38, 3) := dk_162 0 38 (dk_at dksX0_rests_4 0 rfl rfl)
theorem dX0_rests_95 : decode cX0_rests 95 = .ok (.aload_n 0, 1) := dk_42 (dk_at dksX0_rests_4 3 rfl rfl)
theorem dX0_rests_96 : decode cX0_rests 96 = .ok (.iload 7, 2) := dk_21 7 (dk_at dksX0_rests_4 4 rfl rfl)
theorem dX0_rests_98 : decode cX0_rests 98 = .ok (.invokevirtual 308, 3) := dk_182 1 52 (dk_at dksX0_rests_4 6 rfl rfl)
theorem dX0_rests_101 : decode cX0_rests 101 = .ok (.ifCond .ne 6, 3) := dk_154 0 6 (dk_at dksX0_rests_4 9 rfl rfl)
theorem dX0_rests_104 : decode cX0_rests 104 = .ok (.goto 20, 3) := dk_167 0 20 (dk_at dksX0_rests_4 12 rfl rfl)
theorem dX0_rests_107 : decode cX0_rests 107 = .ok (.iload 5, 2) := dk_21 5 (dk_at dksX0_rests_4 15 rfl rfl)
theorem dX0_rests_109 : decode cX0_rests 109 = .ok (.ifCond .ne 8, 3) := dk_154 0 8 (dk_at dksX0_rests_4 17 rfl rfl)
theorem dX0_rests_112 : decode cX0_rests 112 = .ok (.iload 7, 2) := dk_21 7 (dk_at dksX0_rests_4 20 rfl rfl)
theorem dX0_rests_114 : decode cX0_rests 114 = .ok (.goto 5, 3) := dk_167 0 5 (dk_at dksX0_rests_5 0 rfl rfl)
theorem dX0_rests_117 : decode cX0_rests 117 = .ok (.iload 6, 2) := dk_21 6 (dk_at dksX0_rests_5 3 rfl rfl)
theorem dX0_rests_119 : decode cX0_rests 119 = .ok (.istore 6, 2) := dk_54 6 (dk_at dksX0_rests_5 5 rfl rfl)
theorem dX0_rests_121 : decode cX0_rests 121 = .ok (.iinc 5 1, 3) := dk_132 5 1 (dk_at dksX0_rests_5 7 rfl rfl)
theorem dX0_rests_124 : decode cX0_rests 124 = .ok (.iinc 7 1, 3) := dk_132 7 1 (dk_at dksX0_rests_5 10 rfl rfl)
theorem dX0_rests_127 : decode cX0_rests 127 = .ok (.goto (-39), 3) := dk_167 255 217 (dk_at dksX0_rests_5 13 rfl rfl)
theorem dX0_rests_130 : decode cX0_rests 130 = .ok (.iload 4, 2) := dk_21 4 (dk_at dksX0_rests_5 16 rfl rfl)
theorem dX0_rests_132 : decode cX0_rests 132 = .ok (.ifCond .ne 6, 3) := dk_154 0 6 (dk_at dksX0_rests_5 18 rfl rfl)
theorem dX0_rests_135 : decode cX0_rests 135 = .ok (.iload 5, 2) := dk_21 5 (dk_at dksX0_rests_5 21 rfl rfl)
theorem dX0_rests_137 : decode cX0_rests 137 = .ok (.ireturn, 1) := dk_172 (dk_at dksX0_rests_5 23 rfl rfl)
theorem dX0_rests_138 : decode cX0_rests 138 = .ok (.iload 6, 2) := dk_21 6 (dk_at dksX0_rests_6 0 rfl rfl)
theorem dX0_rests_140 : decode cX0_rests 140 = .ok (.iconst (-1), 1) := dk_2 (dk_at dksX0_rests_6 2 rfl rfl)
theorem dX0_rests_141 : decode cX0_rests 141 = .ok (.if_icmp .ne 8, 3) := dk_160 0 8 (dk_at dksX0_rests_6 3 rfl rfl)
theorem dX0_rests_144 : decode cX0_rests 144 = .ok (.bipush (-2), 2) := dk_16 254 (dk_at dksX0_rests_6 6 rfl rfl)
theorem dX0_rests_146 : decode cX0_rests 146 = .ok (.goto 20, 3) := dk_167 0 20 (dk_at dksX0_rests_6 8 rfl rfl)
theorem dX0_rests_149 : decode cX0_rests 149 = .ok (.iload 4, 2) := dk_21 4 (dk_at dksX0_rests_6 11 rfl rfl)
theorem dX0_rests_151 : decode cX0_rests 151 = .ok (.iconst 1, 1) := dk_4 (dk_at dksX0_rests_6 13 rfl rfl)
theorem dX0_rests_152 : decode cX0_rests 152 = .ok (.if_icmp .ne 10, 3) := dk_160 0 10 (dk_at dksX0_rests_6 14 rfl rfl)
theorem dX0_rests_155 : decode cX0_rests 155 = .ok (.iload 6, 2) := dk_21 6 (dk_at dksX0_rests_6 17 rfl rfl)
theorem dX0_rests_157 : decode cX0_rests 157 = .ok (.iconst 4, 1) := dk_7 (dk_at dksX0_rests_6 19 rfl rfl)
theorem dX0_rests_158 : decode cX0_rests 158 = .ok (.idiv, 1) := dk_108 (dk_at dksX0_rests_6 20 rfl rfl)
theorem dX0_rests_159 : decode cX0_rests 159 = .ok (.goto 7, 3) := dk_167 0 7 (dk_at dksX0_rests_6 21 rfl rfl)
theorem dX0_rests_162 : decode cX0_rests 162 = .ok (.iload 6, 2) := dk_21 6 (dk_at dksX0_rests_7 0 rfl rfl)
theorem dX0_rests_164 : decode cX0_rests 164 = .ok (.iconst 4, 1) := dk_7 (dk_at dksX0_rests_7 2 rfl rfl)
theorem dX0_rests_165 : decode cX0_rests 165 = .ok (.irem, 1) := dk_112 (dk_at dksX0_rests_7 3 rfl rfl)
theorem dX0_rests_166 : decode cX0_rests 166 = .ok (.ireturn, 1) := dk_172 (dk_at dksX0_rests_7 4 rfl rfl)
abbrev cX0_laysFaces : ByteArray := prog_1_method_43_code
def yX0_laysFaces : MethodName := ⟨RX0, "laysFaces", "(III)V"⟩
def dkwX0_laysFaces_5 : List UInt8 := [184, 0, 186, 96, 79, 132, 5, 1, 167, 255, 199, 132, 4, 1, 167, 255, 130, 177]
abbrev dktX0_laysFaces_5 : List UInt8 := dkwX0_laysFaces_5 ++ []
def dkwX0_laysFaces_4 : List UInt8 := [184, 1, 45, 184, 0, 186, 96, 79, 42, 180, 0, 82, 21, 4, 92, 46, 21, 6, 28, 184, 1, 45]
abbrev dktX0_laysFaces_4 : List UInt8 := dkwX0_laysFaces_4 ++ dktX0_laysFaces_5
def dkwX0_laysFaces_3 : List UInt8 := [162, 0, 57, 42, 42, 180, 0, 23, 182, 0, 230, 54, 6, 42, 180, 0, 79, 21, 4, 92, 46, 21, 6, 27]
abbrev dktX0_laysFaces_3 : List UInt8 := dkwX0_laysFaces_3 ++ dktX0_laysFaces_4
def dkwX0_laysFaces_2 : List UInt8 := [79, 42, 180, 0, 79, 21, 4, 3, 79, 42, 180, 0, 82, 21, 4, 3, 79, 3, 54, 5, 21, 5, 29]
abbrev dktX0_laysFaces_2 : List UInt8 := dkwX0_laysFaces_2 ++ dktX0_laysFaces_3
def dkwX0_laysFaces_1 : List UInt8 := [180, 0, 23, 180, 0, 153, 27, 21, 4, 7, 108, 79, 42, 180, 0, 23, 180, 0, 153, 28, 21, 4, 7, 112]
abbrev dktX0_laysFaces_1 : List UInt8 := dkwX0_laysFaces_1 ++ dktX0_laysFaces_2
def dkwX0_laysFaces_0 : List UInt8 := [3, 54, 4, 21, 4, 16, 16, 162, 0, 125, 42, 180, 0, 23, 42, 180, 0, 19, 182, 0, 236, 42]
abbrev dktX0_laysFaces_0 : List UInt8 := dkwX0_laysFaces_0 ++ dktX0_laysFaces_1
theorem dksX0_laysFaces_0 : cX0_laysFaces.data.toList.drop 0 = dktX0_laysFaces_0 := by decide +kernel
theorem dksX0_laysFaces_1 : cX0_laysFaces.data.toList.drop 22 = dktX0_laysFaces_1 := dk_seg dksX0_laysFaces_0 22 rfl rfl
theorem dksX0_laysFaces_2 : cX0_laysFaces.data.toList.drop 46 = dktX0_laysFaces_2 := dk_seg dksX0_laysFaces_1 24 rfl rfl
theorem dksX0_laysFaces_3 : cX0_laysFaces.data.toList.drop 69 = dktX0_laysFaces_3 := dk_seg dksX0_laysFaces_2 23 rfl rfl
theorem dksX0_laysFaces_4 : cX0_laysFaces.data.toList.drop 93 = dktX0_laysFaces_4 := dk_seg dksX0_laysFaces_3 24 rfl rfl
theorem dksX0_laysFaces_5 : cX0_laysFaces.data.toList.drop 115 = dktX0_laysFaces_5 := dk_seg dksX0_laysFaces_4 22 rfl rfl
theorem dX0_laysFaces_0 : decode cX0_laysFaces 0 = .ok (.iconst 0, 1) := dk_3 (dk_at dksX0_laysFaces_0 0 rfl rfl)
theorem dX0_laysFaces_1 : decode cX0_laysFaces 1 = .ok (.istore 4, 2) := dk_54 4 (dk_at dksX0_laysFaces_0 1 rfl rfl)
theorem dX0_laysFaces_3 : decode cX0_laysFaces 3 = .ok (.iload 4, 2) := dk_21 4 (dk_at dksX0_laysFaces_0 3 rfl rfl)
theorem dX0_laysFaces_5 : decode cX0_laysFaces 5 = .ok (.bipush 16, 2) := dk_16 16 (dk_at dksX0_laysFaces_0 5 rfl rfl)
theorem dX0_laysFaces_7 : decode cX0_laysFaces 7 = .ok (.if_icmp .ge 125, 3) := dk_162 0 125 (dk_at dksX0_laysFaces_0 7 rfl rfl)
theorem dX0_laysFaces_10 : decode cX0_laysFaces 10 = .ok (.aload_n 0, 1) := dk_42 (dk_at dksX0_laysFaces_0 10 rfl rfl)
theorem dX0_laysFaces_11 : decode cX0_laysFaces 11 = .ok (.getfield 23, 3) := dk_180 0 23 (dk_at dksX0_laysFaces_0 11 rfl rfl)
theorem dX0_laysFaces_14 : decode cX0_laysFaces 14 = .ok (.aload_n 0, 1) := dk_42 (dk_at dksX0_laysFaces_0 14 rfl rfl)
theorem dX0_laysFaces_15 : decode cX0_laysFaces 15 = .ok (.getfield 19, 3) := dk_180 0 19 (dk_at dksX0_laysFaces_0 15 rfl rfl)
theorem dX0_laysFaces_18 : decode cX0_laysFaces 18 = .ok (.invokevirtual 236, 3) := dk_182 0 236 (dk_at dksX0_laysFaces_0 18 rfl rfl)
theorem dX0_laysFaces_21 : decode cX0_laysFaces 21 = .ok (.aload_n 0, 1) := dk_42 (dk_at dksX0_laysFaces_0 21 rfl rfl)
theorem dX0_laysFaces_22 : decode cX0_laysFaces 22 = .ok (.getfield 23, 3) := dk_180 0 23 (dk_at dksX0_laysFaces_1 0 rfl rfl)
theorem dX0_laysFaces_25 : decode cX0_laysFaces 25 = .ok (.getfield 153, 3) := dk_180 0 153 (dk_at dksX0_laysFaces_1 3 rfl rfl)
theorem dX0_laysFaces_28 : decode cX0_laysFaces 28 = .ok (.iload_n 1, 1) := dk_27 (dk_at dksX0_laysFaces_1 6 rfl rfl)
theorem dX0_laysFaces_29 : decode cX0_laysFaces 29 = .ok (.iload 4, 2) := dk_21 4 (dk_at dksX0_laysFaces_1 7 rfl rfl)
theorem dX0_laysFaces_31 : decode cX0_laysFaces 31 = .ok (.iconst 4, 1) := dk_7 (dk_at dksX0_laysFaces_1 9 rfl rfl)
theorem dX0_laysFaces_32 : decode cX0_laysFaces 32 = .ok (.idiv, 1) := dk_108 (dk_at dksX0_laysFaces_1 10 rfl rfl)
theorem dX0_laysFaces_33 : decode cX0_laysFaces 33 = .ok (.iastore, 1) := dk_79 (dk_at dksX0_laysFaces_1 11 rfl rfl)
theorem dX0_laysFaces_34 : decode cX0_laysFaces 34 = .ok (.aload_n 0, 1) := dk_42 (dk_at dksX0_laysFaces_1 12 rfl rfl)
theorem dX0_laysFaces_35 : decode cX0_laysFaces 35 = .ok (.getfield 23, 3) := dk_180 0 23 (dk_at dksX0_laysFaces_1 13 rfl rfl)
theorem dX0_laysFaces_38 : decode cX0_laysFaces 38 = .ok (.getfield 153, 3) := dk_180 0 153 (dk_at dksX0_laysFaces_1 16 rfl rfl)
theorem dX0_laysFaces_41 : decode cX0_laysFaces 41 = .ok (.iload_n 2, 1) := dk_28 (dk_at dksX0_laysFaces_1 19 rfl rfl)
theorem dX0_laysFaces_42 : decode cX0_laysFaces 42 = .ok (.iload 4, 2) := dk_21 4 (dk_at dksX0_laysFaces_1 20 rfl rfl)
theorem dX0_laysFaces_44 : decode cX0_laysFaces 44 = .ok (.iconst 4, 1) := dk_7 (dk_at dksX0_laysFaces_1 22 rfl rfl)
theorem dX0_laysFaces_45 : decode cX0_laysFaces 45 = .ok (.irem, 1) := dk_112 (dk_at dksX0_laysFaces_1 23 rfl rfl)
theorem dX0_laysFaces_46 : decode cX0_laysFaces 46 = .ok (.iastore, 1) := dk_79 (dk_at dksX0_laysFaces_2 0 rfl rfl)
theorem dX0_laysFaces_47 : decode cX0_laysFaces 47 = .ok (.aload_n 0, 1) := dk_42 (dk_at dksX0_laysFaces_2 1 rfl rfl)
theorem dX0_laysFaces_48 : decode cX0_laysFaces 48 = .ok (.getfield 79, 3) := dk_180 0 79 (dk_at dksX0_laysFaces_2 2 rfl rfl)
theorem dX0_laysFaces_51 : decode cX0_laysFaces 51 = .ok (.iload 4, 2) := dk_21 4 (dk_at dksX0_laysFaces_2 5 rfl rfl)
theorem dX0_laysFaces_53 : decode cX0_laysFaces 53 = .ok (.iconst 0, 1) := dk_3 (dk_at dksX0_laysFaces_2 7 rfl rfl)
theorem dX0_laysFaces_54 : decode cX0_laysFaces 54 = .ok (.iastore, 1) := dk_79 (dk_at dksX0_laysFaces_2 8 rfl rfl)
theorem dX0_laysFaces_55 : decode cX0_laysFaces 55 = .ok (.aload_n 0, 1) := dk_42 (dk_at dksX0_laysFaces_2 9 rfl rfl)
theorem dX0_laysFaces_56 : decode cX0_laysFaces 56 = .ok (.getfield 82, 3) := dk_180 0 82 (dk_at dksX0_laysFaces_2 10 rfl rfl)
theorem dX0_laysFaces_59 : decode cX0_laysFaces 59 = .ok (.iload 4, 2) := dk_21 4 (dk_at dksX0_laysFaces_2 13 rfl rfl)
theorem dX0_laysFaces_61 : decode cX0_laysFaces 61 = .ok (.iconst 0, 1) := dk_3 (dk_at dksX0_laysFaces_2 15 rfl rfl)
theorem dX0_laysFaces_62 : decode cX0_laysFaces 62 = .ok (.iastore, 1) := dk_79 (dk_at dksX0_laysFaces_2 16 rfl rfl)
theorem dX0_laysFaces_63 : decode cX0_laysFaces 63 = .ok (.iconst 0, 1) := dk_3 (dk_at dksX0_laysFaces_2 17 rfl rfl)
theorem dX0_laysFaces_64 : decode cX0_laysFaces 64 = .ok (.istore 5, 2) := dk_54 5 (dk_at dksX0_laysFaces_2 18 rfl rfl)
theorem dX0_laysFaces_66 : decode cX0_laysFaces 66 = .ok (.iload 5, 2) := dk_21 5 (dk_at dksX0_laysFaces_2 20 rfl rfl)
theorem dX0_laysFaces_68 : decode cX0_laysFaces 68 = .ok (.iload_n 3, 1) := dk_29 (dk_at dksX0_laysFaces_2 22 rfl rfl)
theorem dX0_laysFaces_69 : decode cX0_laysFaces 69 = .ok (.if_icmp .ge 57, 3) := dk_162 0 57 (dk_at dksX0_laysFaces_3 0 rfl rfl)
theorem dX0_laysFaces_72 : decode cX0_laysFaces 72 = .ok (.aload_n 0, 1) := dk_42 (dk_at dksX0_laysFaces_3 3 rfl rfl)
theorem dX0_laysFaces_73 : decode cX0_laysFaces 73 = .ok (.aload_n 0, 1) := dk_42 (dk_at dksX0_laysFaces_3 4 rfl rfl)
theorem dX0_laysFaces_74 : decode cX0_laysFaces 74 = .ok (.getfield 23, 3) := dk_180 0 23 (dk_at dksX0_laysFaces_3 5 rfl rfl)
theorem dX0_laysFaces_77 : decode cX0_laysFaces 77 = .ok (.invokevirtual 230, 3) := dk_182 0 230 (dk_at dksX0_laysFaces_3 8 rfl rfl)
theorem dX0_laysFaces_80 : decode cX0_laysFaces 80 = .ok (.istore 6, 2) := dk_54 6 (dk_at dksX0_laysFaces_3 11 rfl rfl)
theorem dX0_laysFaces_82 : decode cX0_laysFaces 82 = .ok (.aload_n 0, 1) := dk_42 (dk_at dksX0_laysFaces_3 13 rfl rfl)
theorem dX0_laysFaces_83 : decode cX0_laysFaces 83 = .ok (.getfield 79, 3) := dk_180 0 79 (dk_at dksX0_laysFaces_3 14 rfl rfl)
theorem dX0_laysFaces_86 : decode cX0_laysFaces 86 = .ok (.iload 4, 2) := dk_21 4 (dk_at dksX0_laysFaces_3 17 rfl rfl)
theorem dX0_laysFaces_88 : decode cX0_laysFaces 88 = .ok (.dup2, 1) := dk_92 (dk_at dksX0_laysFaces_3 19 rfl rfl)
theorem dX0_laysFaces_89 : decode cX0_laysFaces 89 = .ok (.iaload, 1) := dk_46 (dk_at dksX0_laysFaces_3 20 rfl rfl)
theorem dX0_laysFaces_90 : decode cX0_laysFaces 90 = .ok (.iload 6, 2) := dk_21 6 (dk_at dksX0_laysFaces_3 21 rfl rfl)
theorem dX0_laysFaces_92 : decode cX0_laysFaces 92 = .ok (.iload_n 1, 1) := dk_27 (dk_at dksX0_laysFaces_3 23 rfl rfl)
theorem dX0_laysFaces_93 : decode cX0_laysFaces 93 = .ok (.invokestatic 301, 3) := dk_184 1 45 (dk_at dksX0_laysFaces_4 0 rfl rfl)
theorem dX0_laysFaces_96 : decode cX0_laysFaces 96 = .ok (.invokestatic 186, 3) := dk_184 0 186 (dk_at dksX0_laysFaces_4 3 rfl rfl)
theorem dX0_laysFaces_99 : decode cX0_laysFaces 99 = .ok (.iadd, 1) := dk_96 (dk_at dksX0_laysFaces_4 6 rfl rfl)
theorem dX0_laysFaces_100 : decode cX0_laysFaces 100 = .ok (.iastore, 1) := dk_79 (dk_at dksX0_laysFaces_4 7 rfl rfl)
theorem dX0_laysFaces_101 : decode cX0_laysFaces 101 = .ok (.aload_n 0, 1) := dk_42 (dk_at dksX0_laysFaces_4 8 rfl rfl)
theorem dX0_laysFaces_102 : decode cX0_laysFaces 102 = .ok (.getfield 82, 3) := dk_180 0 82 (dk_at dksX0_laysFaces_4 9 rfl rfl)
theorem dX0_laysFaces_105 : decode cX0_laysFaces 105 = .ok (.iload 4, 2) := dk_21 4 (dk_at dksX0_laysFaces_4 12 rfl rfl)
theorem dX0_laysFaces_107 : decode cX0_laysFaces 107 = .ok (.dup2, 1) := dk_92 (dk_at dksX0_laysFaces_4 14 rfl rfl)
theorem dX0_laysFaces_108 : decode cX0_laysFaces 108 = .ok (.iaload, 1) := dk_46 (dk_at dksX0_laysFaces_4 15 rfl rfl)
theorem dX0_laysFaces_109 : decode cX0_laysFaces 109 = .ok (.iload 6, 2) := dk_21 6 (dk_at dksX0_laysFaces_4 16 rfl rfl)
theorem dX0_laysFaces_111 : decode cX0_laysFaces 111 = .ok (.iload_n 2, 1) := dk_28 (dk_at dksX0_laysFaces_4 18 rfl rfl)
theorem dX0_laysFaces_112 : decode cX0_laysFaces 112 = .ok (.invokestatic 301, 3) := dk_184 1 45 (dk_at dksX0_laysFaces_4 19 rfl rfl)
theorem dX0_laysFaces_115 : decode cX0_laysFaces 115 = .ok (.invokestatic 186, 3) := dk_184 0 186 (dk_at dksX0_laysFaces_5 0 rfl rfl)
theorem dX0_laysFaces_118 : decode cX0_laysFaces 118 = .ok (.iadd, 1) := dk_96 (dk_at dksX0_laysFaces_5 3 rfl rfl)
theorem dX0_laysFaces_119 : decode cX0_laysFaces 119 = .ok (.iastore, 1) := dk_79 (dk_at dksX0_laysFaces_5 4 rfl rfl)
theorem dX0_laysFaces_120 : decode cX0_laysFaces 120 = .ok (.iinc 5 1, 3) := dk_132 5 1 (dk_at dksX0_laysFaces_5 5 rfl rfl)
theorem dX0_laysFaces_123 : decode cX0_laysFaces 123 = .ok (.goto (-57), 3) := dk_167 255 199 (dk_at dksX0_laysFaces_5 8 rfl rfl)
theorem dX0_laysFaces_126 : decode cX0_laysFaces 126 = .ok (.iinc 4 1, 3) := dk_132 4 1 (dk_at dksX0_laysFaces_5 11 rfl rfl)
theorem dX0_laysFaces_129 : decode cX0_laysFaces 129 = .ok (.goto (-126), 3) := dk_167 255 130 (dk_at dksX0_laysFaces_5 14 rfl rfl)
theorem dX0_laysFaces_132 : decode cX0_laysFaces 132 = .ok (.return_, 1) := dk_177 (dk_at dksX0_laysFaces_5 17 rfl rfl)
abbrev cX0_has : ByteArray := prog_1_method_2_code
def yX0_has : MethodName := ⟨RX0, "has", "(II)Z"⟩
def dkwX0_has_0 : List UInt8 := [26, 27, 122, 4, 126, 4, 160, 0, 7, 4, 167, 0, 4, 3, 172]
abbrev dktX0_has_0 : List UInt8 := dkwX0_has_0 ++ []
theorem dksX0_has_0 : cX0_has.data.toList.drop 0 = dktX0_has_0 := by decide +kernel
theorem dX0_has_0 : decode cX0_has 0 = .ok (.iload_n 0, 1) := dk_26 (dk_at dksX0_has_0 0 rfl rfl)
theorem dX0_has_1 : decode cX0_has 1 = .ok (.iload_n 1, 1) := dk_27 (dk_at dksX0_has_0 1 rfl rfl)
theorem dX0_has_2 : decode cX0_has 2 = .ok (.ishr, 1) := dk_122 (dk_at dksX0_has_0 2 rfl rfl)
theorem dX0_has_3 : decode cX0_has 3 = .ok (.iconst 1, 1) := dk_4 (dk_at dksX0_has_0 3 rfl rfl)
theorem dX0_has_4 : decode cX0_has 4 = .ok (.iand, 1) := dk_126 (dk_at dksX0_has_0 4 rfl rfl)
theorem dX0_has_5 : decode cX0_has 5 = .ok (.iconst 1, 1) := dk_4 (dk_at dksX0_has_0 5 rfl rfl)
theorem dX0_has_6 : decode cX0_has 6 = .ok (.if_icmp .ne 7, 3) := dk_160 0 7 (dk_at dksX0_has_0 6 rfl rfl)
theorem dX0_has_9 : decode cX0_has 9 = .ok (.iconst 1, 1) := dk_4 (dk_at dksX0_has_0 9 rfl rfl)
theorem dX0_has_10 : decode cX0_has 10 = .ok (.goto 4, 3) := dk_167 0 4 (dk_at dksX0_has_0 10 rfl rfl)
theorem dX0_has_13 : decode cX0_has 13 = .ok (.iconst 0, 1) := dk_3 (dk_at dksX0_has_0 13 rfl rfl)
theorem dX0_has_14 : decode cX0_has 14 = .ok (.ireturn, 1) := dk_172 (dk_at dksX0_has_0 14 rfl rfl)
abbrev cX0_isRest : ByteArray := prog_1_method_44_code
def yX0_isRest : MethodName := ⟨RX0, "isRest", "(I)Z"⟩
def dkwX0_isRest_2 : List UInt8 := [164, 0, 5, 3, 172, 132, 2, 1, 167, 255, 204, 4, 172]
abbrev dktX0_isRest_2 : List UInt8 := dkwX0_isRest_2 ++ []
def dkwX0_isRest_1 : List UInt8 := [46, 163, 0, 24, 42, 180, 0, 82, 27, 27, 7, 112, 100, 28, 96, 46, 42, 180, 0, 82, 27, 46]
abbrev dktX0_isRest_1 : List UInt8 := dkwX0_isRest_1 ++ dktX0_isRest_2
def dkwX0_isRest_0 : List UInt8 := [3, 61, 28, 7, 162, 0, 53, 42, 180, 0, 79, 7, 28, 104, 27, 7, 112, 96, 46, 42, 180, 0, 79, 27]
abbrev dktX0_isRest_0 : List UInt8 := dkwX0_isRest_0 ++ dktX0_isRest_1
theorem dksX0_isRest_0 : cX0_isRest.data.toList.drop 0 = dktX0_isRest_0 := by decide +kernel
theorem dksX0_isRest_1 : cX0_isRest.data.toList.drop 24 = dktX0_isRest_1 := dk_seg dksX0_isRest_0 24 rfl rfl
theorem dksX0_isRest_2 : cX0_isRest.data.toList.drop 46 = dktX0_isRest_2 := dk_seg dksX0_isRest_1 22 rfl rfl
theorem dX0_isRest_0 : decode cX0_isRest 0 = .ok (.iconst 0, 1) := dk_3 (dk_at dksX0_isRest_0 0 rfl rfl)
theorem dX0_isRest_1 : decode cX0_isRest 1 = .ok (.istore_n 2, 1) := dk_61 (dk_at dksX0_isRest_0 1 rfl rfl)
theorem dX0_isRest_2 : decode cX0_isRest 2 = .ok (.iload_n 2, 1) := dk_28 (dk_at dksX0_isRest_0 2 rfl rfl)
theorem dX0_isRest_3 : decode cX0_isRest 3 = .ok (.iconst 4, 1) := dk_7 (dk_at dksX0_isRest_0 3 rfl rfl)
theorem dX0_isRest_4 : decode cX0_isRest 4 = .ok (.if_icmp .ge 53, 3) := dk_162 0 53 (dk_at dksX0_isRest_0 4 rfl rfl)
theorem dX0_isRest_7 : decode cX0_isRest 7 = .ok (.aload_n 0, 1) := dk_42 (dk_at dksX0_isRest_0 7 rfl rfl)
theorem dX0_isRest_8 : decode cX0_isRest 8 = .ok (.getfield 79, 3) := dk_180 0 79 (dk_at dksX0_isRest_0 8 rfl rfl)
theorem dX0_isRest_11 : decode cX0_isRest 11 = .ok (.iconst 4, 1) := dk_7 (dk_at dksX0_isRest_0 11 rfl rfl)
theorem dX0_isRest_12 : decode cX0_isRest 12 = .ok (.iload_n 2, 1) := dk_28 (dk_at dksX0_isRest_0 12 rfl rfl)
theorem dX0_isRest_13 : decode cX0_isRest 13 = .ok (.imul, 1) := dk_104 (dk_at dksX0_isRest_0 13 rfl rfl)
theorem dX0_isRest_14 : decode cX0_isRest 14 = .ok (.iload_n 1, 1) := dk_27 (dk_at dksX0_isRest_0 14 rfl rfl)
theorem dX0_isRest_15 : decode cX0_isRest 15 = .ok (.iconst 4, 1) := dk_7 (dk_at dksX0_isRest_0 15 rfl rfl)
theorem dX0_isRest_16 : decode cX0_isRest 16 = .ok (.irem, 1) := dk_112 (dk_at dksX0_isRest_0 16 rfl rfl)
theorem dX0_isRest_17 : decode cX0_isRest 17 = .ok (.iadd, 1) := dk_96 (dk_at dksX0_isRest_0 17 rfl rfl)
theorem dX0_isRest_18 : decode cX0_isRest 18 = .ok (.iaload, 1) := dk_46 (dk_at dksX0_isRest_0 18 rfl rfl)
theorem dX0_isRest_19 : decode cX0_isRest 19 = .ok (.aload_n 0, 1) := dk_42 (dk_at dksX0_isRest_0 19 rfl rfl)
theorem dX0_isRest_20 : decode cX0_isRest 20 = .ok (.getfield 79, 3) := dk_180 0 79 (dk_at dksX0_isRest_0 20 rfl rfl)
theorem dX0_isRest_23 : decode cX0_isRest 23 = .ok (.iload_n 1, 1) := dk_27 (dk_at dksX0_isRest_0 23 rfl rfl)
theorem dX0_isRest_24 : decode cX0_isRest 24 = .ok (.iaload, 1) := dk_46 (dk_at dksX0_isRest_1 0 rfl rfl)
theorem dX0_isRest_25 : decode cX0_isRest 25 = .ok (.if_icmp .gt 24, 3) := dk_163 0 24 (dk_at dksX0_isRest_1 1 rfl rfl)
theorem dX0_isRest_28 : decode cX0_isRest 28 = .ok (.aload_n 0, 1) := dk_42 (dk_at dksX0_isRest_1 4 rfl rfl)
theorem dX0_isRest_29 : decode cX0_isRest 29 = .ok (.getfield 82, 3) := dk_180 0 82 (dk_at dksX0_isRest_1 5 rfl rfl)
theorem dX0_isRest_32 : decode cX0_isRest 32 = .ok (.iload_n 1, 1) := dk_27 (dk_at dksX0_isRest_1 8 rfl rfl)
theorem dX0_isRest_33 : decode cX0_isRest 33 = .ok (.iload_n 1, 1) := dk_27 (dk_at dksX0_isRest_1 9 rfl rfl)
theorem dX0_isRest_34 : decode cX0_isRest 34 = .ok (.iconst 4, 1) := dk_7 (dk_at dksX0_isRest_1 10 rfl rfl)
theorem dX0_isRest_35 : decode cX0_isRest 35 = .ok (.irem, 1) := dk_112 (dk_at dksX0_isRest_1 11 rfl rfl)
theorem dX0_isRest_36 : decode cX0_isRest 36 = .ok (.isub, 1) := dk_100 (dk_at dksX0_isRest_1 12 rfl rfl)
theorem dX0_isRest_37 : decode cX0_isRest 37 = .ok (.iload_n 2, 1) := dk_28 (dk_at dksX0_isRest_1 13 rfl rfl)
theorem dX0_isRest_38 : decode cX0_isRest 38 = .ok (.iadd, 1) := dk_96 (dk_at dksX0_isRest_1 14 rfl rfl)
theorem dX0_isRest_39 : decode cX0_isRest 39 = .ok (.iaload, 1) := dk_46 (dk_at dksX0_isRest_1 15 rfl rfl)
theorem dX0_isRest_40 : decode cX0_isRest 40 = .ok (.aload_n 0, 1) := dk_42 (dk_at dksX0_isRest_1 16 rfl rfl)
theorem dX0_isRest_41 : decode cX0_isRest 41 = .ok (.getfield 82, 3) := dk_180 0 82 (dk_at dksX0_isRest_1 17 rfl rfl)
theorem dX0_isRest_44 : decode cX0_isRest 44 = .ok (.iload_n 1, 1) := dk_27 (dk_at dksX0_isRest_1 20 rfl rfl)
theorem dX0_isRest_45 : decode cX0_isRest 45 = .ok (.iaload, 1) := dk_46 (dk_at dksX0_isRest_1 21 rfl rfl)
theorem dX0_isRest_46 : decode cX0_isRest 46 = .ok (.if_icmp .le 5, 3) := dk_164 0 5 (dk_at dksX0_isRest_2 0 rfl rfl)
theorem dX0_isRest_49 : decode cX0_isRest 49 = .ok (.iconst 0, 1) := dk_3 (dk_at dksX0_isRest_2 3 rfl rfl)
theorem dX0_isRest_50 : decode cX0_isRest 50 = .ok (.ireturn, 1) := dk_172 (dk_at dksX0_isRest_2 4 rfl rfl)
theorem dX0_isRest_51 : decode cX0_isRest 51 = .ok (.iinc 2 1, 3) := dk_132 2 1 (dk_at dksX0_isRest_2 5 rfl rfl)
theorem dX0_isRest_54 : decode cX0_isRest 54 = .ok (.goto (-52), 3) := dk_167 255 204 (dk_at dksX0_isRest_2 8 rfl rfl)
theorem dX0_isRest_57 : decode cX0_isRest 57 = .ok (.iconst 1, 1) := dk_4 (dk_at dksX0_isRest_2 11 rfl rfl)
theorem dX0_isRest_58 : decode cX0_isRest 58 = .ok (.ireturn, 1) := dk_172 (dk_at dksX0_isRest_2 12 rfl rfl)
abbrev cX0_ring : ByteArray := prog_1_method_48_code
def yX0_ring : MethodName := ⟨RX0, "ring", "(I)I"⟩
def dkwX0_ring_4 : List UInt8 := [16, 254, 172]
abbrev dktX0_ring_4 : List UInt8 := dkwX0_ring_4 ++ []
def dkwX0_ring_3 : List UInt8 := [180, 0, 201, 28, 96, 167, 0, 6, 29, 28, 100, 172, 132, 3, 1, 167, 255, 218, 132, 2, 1, 167, 255, 202]
abbrev dktX0_ring_3 : List UInt8 := dkwX0_ring_3 ++ dktX0_ring_4
def dkwX0_ring_2 : List UInt8 := [16, 60, 163, 0, 38, 42, 28, 29, 182, 1, 61, 153, 0, 23, 27, 154, 0, 15, 42, 180, 0, 19]
abbrev dktX0_ring_2 : List UInt8 := dkwX0_ring_2 ++ dktX0_ring_3
def dkwX0_ring_1 : List UInt8 := [180, 0, 19, 182, 0, 236, 42, 182, 1, 58, 3, 61, 28, 16, 60, 162, 0, 54, 28, 4, 96, 62, 29]
abbrev dktX0_ring_1 : List UInt8 := dkwX0_ring_1 ++ dktX0_ring_2
def dkwX0_ring_0 : List UInt8 := [42, 182, 0, 168, 153, 0, 13, 27, 133, 9, 10, 184, 0, 104, 154, 0, 5, 2, 172, 42, 180, 0, 23, 42]
abbrev dktX0_ring_0 : List UInt8 := dkwX0_ring_0 ++ dktX0_ring_1
theorem dksX0_ring_0 : cX0_ring.data.toList.drop 0 = dktX0_ring_0 := by decide +kernel
theorem dksX0_ring_1 : cX0_ring.data.toList.drop 24 = dktX0_ring_1 := dk_seg dksX0_ring_0 24 rfl rfl
theorem dksX0_ring_2 : cX0_ring.data.toList.drop 47 = dktX0_ring_2 := dk_seg dksX0_ring_1 23 rfl rfl
theorem dksX0_ring_3 : cX0_ring.data.toList.drop 69 = dktX0_ring_3 := dk_seg dksX0_ring_2 22 rfl rfl
theorem dksX0_ring_4 : cX0_ring.data.toList.drop 93 = dktX0_ring_4 := dk_seg dksX0_ring_3 24 rfl rfl
theorem dX0_ring_0 : decode cX0_ring 0 = .ok (.aload_n 0, 1) := dk_42 (dk_at dksX0_ring_0 0 rfl rfl)
theorem dX0_ring_1 : decode cX0_ring 1 = .ok (.invokevirtual 168, 3) := dk_182 0 168 (dk_at dksX0_ring_0 1 rfl rfl)
theorem dX0_ring_4 : decode cX0_ring 4 = .ok (.ifCond .eq 13, 3) := dk_153 0 13 (dk_at dksX0_ring_0 4 rfl rfl)
theorem dX0_ring_7 : decode cX0_ring 7 = .ok (.iload_n 1, 1) := dk_27 (dk_at dksX0_ring_0 7 rfl rfl)
theorem dX0_ring_8 : decode cX0_ring 8 = .ok (.i2l, 1) := dk_133 (dk_at dksX0_ring_0 8 rfl rfl)
theorem dX0_ring_9 : decode cX0_ring 9 = .ok (.lconst 0, 1) := dk_9 (dk_at dksX0_ring_0 9 rfl rfl)
theorem dX0_ring_10 : decode cX0_ring 10 = .ok (.lconst 1, 1) := dk_10 (dk_at dksX0_ring_0 10 rfl rfl)
theorem dX0_ring_11 : decode cX0_ring 11 = .ok (.invokestatic 104, 3) := dk_184 0 104 (dk_at dksX0_ring_0 11 rfl rfl)
theorem dX0_ring_14 : decode cX0_ring 14 = .ok (.ifCond .ne 5, 3) := dk_154 0 5 (dk_at dksX0_ring_0 14 rfl rfl)
theorem dX0_ring_17 : decode cX0_ring 17 = .ok (.iconst (-1), 1) := dk_2 (dk_at dksX0_ring_0 17 rfl rfl)
theorem dX0_ring_18 : decode cX0_ring 18 = .ok (.ireturn, 1) := dk_172 (dk_at dksX0_ring_0 18 rfl rfl)
theorem dX0_ring_19 : decode cX0_ring 19 = .ok (.aload_n 0, 1) := dk_42 (dk_at dksX0_ring_0 19 rfl rfl)
theorem dX0_ring_20 : decode cX0_ring 20 = .ok (.getfield 23, 3) := dk_180 0 23 (dk_at dksX0_ring_0 20 rfl rfl)
theorem dX0_ring_23 : decode cX0_ring 23 = .ok (.aload_n 0, 1) := dk_42 (dk_at dksX0_ring_0 23 rfl rfl)
theorem dX0_ring_24 : decode cX0_ring 24 = .ok (.getfield 19, 3) := dk_180 0 19 (dk_at dksX0_ring_1 0 rfl rfl)
theorem dX0_ring_27 : decode cX0_ring 27 = .ok (.invokevirtual 236, 3) := dk_182 0 236 (dk_at dksX0_ring_1 3 rfl rfl)
theorem dX0_ring_30 : decode cX0_ring 30 = .ok (.aload_n 0, 1) := dk_42 (dk_at dksX0_ring_1 6 rfl rfl)
theorem dX0_ring_31 : decode cX0_ring 31 = .ok (.invokevirtual 314, 3) := dk_182 1 58 (dk_at dksX0_ring_1 7 rfl rfl)
theorem dX0_ring_34 : decode cX0_ring 34 = .ok (.iconst 0, 1) := dk_3 (dk_at dksX0_ring_1 10 rfl rfl)
theorem dX0_ring_35 : decode cX0_ring 35 = .ok (.istore_n 2, 1) := dk_61 (dk_at dksX0_ring_1 11 rfl rfl)
theorem dX0_ring_36 : decode cX0_ring 36 = .ok (.iload_n 2, 1) := dk_28 (dk_at dksX0_ring_1 12 rfl rfl)
theorem dX0_ring_37 : decode cX0_ring 37 = .ok (.bipush 60, 2) := dk_16 60 (dk_at dksX0_ring_1 13 rfl rfl)
theorem dX0_ring_39 : decode cX0_ring 39 = .ok (.if_icmp .ge 54, 3) := dk_162 0 54 (dk_at dksX0_ring_1 15 rfl rfl)
theorem dX0_ring_42 : decode cX0_ring 42 = .ok (.iload_n 2, 1) := dk_28 (dk_at dksX0_ring_1 18 rfl rfl)
theorem dX0_ring_43 : decode cX0_ring 43 = .ok (.iconst 1, 1) := dk_4 (dk_at dksX0_ring_1 19 rfl rfl)
theorem dX0_ring_44 : decode cX0_ring 44 = .ok (.iadd, 1) := dk_96 (dk_at dksX0_ring_1 20 rfl rfl)
theorem dX0_ring_45 : decode cX0_ring 45 = .ok (.istore_n 3, 1) := dk_62 (dk_at dksX0_ring_1 21 rfl rfl)
theorem dX0_ring_46 : decode cX0_ring 46 = .ok (.iload_n 3, 1) := dk_29 (dk_at dksX0_ring_1 22 rfl rfl)
theorem dX0_ring_47 : decode cX0_ring 47 = .ok (.bipush 60, 2) := dk_16 60 (dk_at dksX0_ring_2 0 rfl rfl)
theorem dX0_ring_49 : decode cX0_ring 49 = .ok (.if_icmp .gt 38, 3) := dk_163 0 38 (dk_at dksX0_ring_2 2 rfl rfl)
theorem dX0_ring_52 : decode cX0_ring 52 = .ok (.aload_n 0, 1) := dk_42 (dk_at dksX0_ring_2 5 rfl rfl)
theorem dX0_ring_53 : decode cX0_ring 53 = .ok (.iload_n 2, 1) := dk_28 (dk_at dksX0_ring_2 6 rfl rfl)
theorem dX0_ring_54 : decode cX0_ring 54 = .ok (.iload_n 3, 1) := dk_29 (dk_at dksX0_ring_2 7 rfl rfl)
theorem dX0_ring_55 : decode cX0_ring 55 = .ok (.invokevirtual 317, 3) := dk_182 1 61 (dk_at dksX0_ring_2 8 rfl rfl)
theorem dX0_ring_58 : decode cX0_ring 58 = .ok (.ifCond .eq 23, 3) := dk_153 0 23 (dk_at dksX0_ring_2 11 rfl rfl)
theorem dX0_ring_61 : decode cX0_ring 61 = .ok (.iload_n 1, 1) := dk_27 (dk_at dksX0_ring_2 14 rfl rfl)
theorem dX0_ring_62 : decode cX0_ring 62 = .ok (.ifCond .ne 15, 3) := dk_154 0 15 (dk_at dksX0_ring_2 15 rfl rfl)
theorem dX0_ring_65 : decode cX0_ring 65 = .ok (.aload_n 0, 1) := dk_42 (dk_at dksX0_ring_2 18 rfl rfl)
theorem dX0_ring_66 : decode cX0_ring 66 = .ok (.getfield 19, 3) := dk_180 0 19 (dk_at dksX0_ring_2 19 rfl rfl)
theorem dX0_ring_69 : decode cX0_ring 69 = .ok (.getfield 201, 3) := dk_180 0 201 (dk_at dksX0_ring_3 0 rfl rfl)
theorem dX0_ring_72 : decode cX0_ring 72 = .ok (.iload_n 2, 1) := dk_28 (dk_at dksX0_ring_3 3 rfl rfl)
theorem dX0_ring_73 : decode cX0_ring 73 = .ok (.iadd, 1) := dk_96 (dk_at dksX0_ring_3 4 rfl rfl)
theorem dX0_ring_74 : decode cX0_ring 74 = .ok (.goto 6, 3) := dk_167 0 6 (dk_at dksX0_ring_3 5 rfl rfl)
theorem dX0_ring_77 : decode cX0_ring 77 = .ok (.iload_n 3, 1) := dk_29 (dk_at dksX0_ring_3 8 rfl rfl)
theorem dX0_ring_78 : decode cX0_ring 78 = .ok (.iload_n 2, 1) := dk_28 (dk_at dksX0_ring_3 9 rfl rfl)
theorem dX0_ring_79 : decode cX0_ring 79 = .ok (.isub, 1) := dk_100 (dk_at dksX0_ring_3 10 rfl rfl)
theorem dX0_ring_80 : decode cX0_ring 80 = .ok (.ireturn, 1) := dk_172 (dk_at dksX0_ring_3 11 rfl rfl)
theorem dX0_ring_81 : decode cX0_ring 81 = .ok (.iinc 3 1, 3) := dk_132 3 1 (dk_at dksX0_ring_3 12 rfl rfl)
theorem dX0_ring_84 : decode cX0_ring 84 = .ok (.goto (-38), 3) := dk_167 255 218 (dk_at dksX0_ring_3 15 rfl rfl)
theorem dX0_ring_87 : decode cX0_ring 87 = .ok (.iinc 2 1, 3) := dk_132 2 1 (dk_at dksX0_ring_3 18 rfl rfl)
theorem dX0_ring_90 : decode cX0_ring 90 = .ok (.goto (-54), 3) := dk_167 255 202 (dk_at dksX0_ring_3 21 rfl rfl)
theorem dX0_ring_93 : decode cX0_ring 93 = .ok (.bipush (-2), 2) := dk_16 254 (dk_at dksX0_ring_4 0 rfl rfl)
theorem dX0_ring_95 : decode cX0_ring 95 = .ok (.ireturn, 1) := dk_172 (dk_at dksX0_ring_4 2 rfl rfl)
abbrev cX0_laysAll : ByteArray := prog_1_method_46_code
def yX0_laysAll : MethodName := ⟨RX0, "laysAll", "()V"⟩
def dkwX0_laysAll_6 : List UInt8 := [167, 255, 117, 177]
abbrev dktX0_laysAll_6 : List UInt8 := dkwX0_laysAll_6 ++ []
def dkwX0_laysAll_5 : List UInt8 := [167, 0, 4, 3, 79, 132, 2, 1, 167, 255, 140, 42, 42, 180, 0, 23, 182, 0, 230, 87, 132, 1, 1]
abbrev dktX0_laysAll_5 : List UInt8 := dkwX0_laysAll_5 ++ dktX0_laysAll_6
def dkwX0_laysAll_4 : List UInt8 := [7, 96, 42, 180, 0, 23, 180, 0, 159, 28, 46, 4, 160, 0, 15, 42, 180, 0, 23, 180, 1, 55, 28, 46]
abbrev dktX0_laysAll_4 : List UInt8 := dkwX0_laysAll_4 ++ dktX0_laysAll_5
def dkwX0_laysAll_3 : List UInt8 := [46, 79, 42, 180, 0, 85, 29, 6, 96, 42, 180, 0, 23, 180, 0, 162, 28, 46, 79, 42, 180, 0, 85, 29]
abbrev dktX0_laysAll_3 : List UInt8 := dkwX0_laysAll_3 ++ dktX0_laysAll_4
def dkwX0_laysAll_2 : List UInt8 := [180, 0, 23, 180, 0, 159, 28, 46, 79, 42, 180, 0, 85, 29, 5, 96, 42, 180, 0, 23, 180, 0, 153, 28]
abbrev dktX0_laysAll_2 : List UInt8 := dkwX0_laysAll_2 ++ dktX0_laysAll_3
def dkwX0_laysAll_1 : List UInt8 := [180, 0, 85, 29, 42, 180, 0, 23, 180, 0, 150, 28, 46, 79, 42, 180, 0, 85, 29, 4, 96, 42]
abbrev dktX0_laysAll_1 : List UInt8 := dkwX0_laysAll_1 ++ dktX0_laysAll_2
def dkwX0_laysAll_0 : List UInt8 := [3, 60, 27, 16, 60, 163, 0, 139, 3, 61, 28, 8, 162, 0, 117, 8, 8, 27, 104, 28, 96, 104, 62, 42]
abbrev dktX0_laysAll_0 : List UInt8 := dkwX0_laysAll_0 ++ dktX0_laysAll_1
theorem dksX0_laysAll_0 : cX0_laysAll.data.toList.drop 0 = dktX0_laysAll_0 := by decide +kernel
theorem dksX0_laysAll_1 : cX0_laysAll.data.toList.drop 24 = dktX0_laysAll_1 := dk_seg dksX0_laysAll_0 24 rfl rfl
theorem dksX0_laysAll_2 : cX0_laysAll.data.toList.drop 46 = dktX0_laysAll_2 := dk_seg dksX0_laysAll_1 22 rfl rfl
theorem dksX0_laysAll_3 : cX0_laysAll.data.toList.drop 70 = dktX0_laysAll_3 := dk_seg dksX0_laysAll_2 24 rfl rfl
theorem dksX0_laysAll_4 : cX0_laysAll.data.toList.drop 94 = dktX0_laysAll_4 := dk_seg dksX0_laysAll_3 24 rfl rfl
theorem dksX0_laysAll_5 : cX0_laysAll.data.toList.drop 118 = dktX0_laysAll_5 := dk_seg dksX0_laysAll_4 24 rfl rfl
theorem dksX0_laysAll_6 : cX0_laysAll.data.toList.drop 141 = dktX0_laysAll_6 := dk_seg dksX0_laysAll_5 23 rfl rfl
theorem dX0_laysAll_0 : decode cX0_laysAll 0 = .ok (.iconst 0, 1) := dk_3 (dk_at dksX0_laysAll_0 0 rfl rfl)
theorem dX0_laysAll_1 : decode cX0_laysAll 1 = .ok (.istore_n 1, 1) := dk_60 (dk_at dksX0_laysAll_0 1 rfl rfl)
theorem dX0_laysAll_2 : decode cX0_laysAll 2 = .ok (.iload_n 1, 1) := dk_27 (dk_at dksX0_laysAll_0 2 rfl rfl)
theorem dX0_laysAll_3 : decode cX0_laysAll 3 = .ok (.bipush 60, 2) := dk_16 60 (dk_at dksX0_laysAll_0 3 rfl rfl)
theorem dX0_laysAll_5 : decode cX0_laysAll 5 = .ok (.if_icmp .gt 139, 3) := dk_163 0 139 (dk_at dksX0_laysAll_0 5 rfl rfl)
theorem dX0_laysAll_8 : decode cX0_laysAll 8 = .ok (.iconst 0, 1) := dk_3 (dk_at dksX0_laysAll_0 8 rfl rfl)
theorem dX0_laysAll_9 : decode cX0_laysAll 9 = .ok (.istore_n 2, 1) := dk_61 (dk_at dksX0_laysAll_0 9 rfl rfl)
theorem dX0_laysAll_10 : decode cX0_laysAll 10 = .ok (.iload_n 2, 1) := dk_28 (dk_at dksX0_laysAll_0 10 rfl rfl)
theorem dX0_laysAll_11 : decode cX0_laysAll 11 = .ok (.iconst 5, 1) := dk_8 (dk_at dksX0_laysAll_0 11 rfl rfl)
theorem dX0_laysAll_12 : decode cX0_laysAll 12 = .ok (.if_icmp .ge 117, 3) := dk_162 0 117 (dk_at dksX0_laysAll_0 12 rfl rfl)
theorem dX0_laysAll_15 : decode cX0_laysAll 15 = .ok (.iconst 5, 1) := dk_8 (dk_at dksX0_laysAll_0 15 rfl rfl)
theorem dX0_laysAll_16 : decode cX0_laysAll 16 = .ok (.iconst 5, 1) := dk_8 (dk_at dksX0_laysAll_0 16 rfl rfl)
theorem dX0_laysAll_17 : decode cX0_laysAll 17 = .ok (.iload_n 1, 1) := dk_27 (dk_at dksX0_laysAll_0 17 rfl rfl)
theorem dX0_laysAll_18 : decode cX0_laysAll 18 = .ok (.imul, 1) := dk_104 (dk_at dksX0_laysAll_0 18 rfl rfl)
theorem dX0_laysAll_19 : decode cX0_laysAll 19 = .ok (.iload_n 2, 1) := dk_28 (dk_at dksX0_laysAll_0 19 rfl rfl)
theorem dX0_laysAll_20 : decode cX0_laysAll 20 = .ok (.iadd, 1) := dk_96 (dk_at dksX0_laysAll_0 20 rfl rfl)
theorem dX0_laysAll_21 : decode cX0_laysAll 21 = .ok (.imul, 1) := dk_104 (dk_at dksX0_laysAll_0 21 rfl rfl)
theorem dX0_laysAll_22 : decode cX0_laysAll 22 = .ok (.istore_n 3, 1) := dk_62 (dk_at dksX0_laysAll_0 22 rfl rfl)
theorem dX0_laysAll_23 : decode cX0_laysAll 23 = .ok (.aload_n 0, 1) := dk_42 (dk_at dksX0_laysAll_0 23 rfl rfl)
theorem dX0_laysAll_24 : decode cX0_laysAll 24 = .ok (.getfield 85, 3) := dk_180 0 85 (dk_at dksX0_laysAll_1 0 rfl rfl)
theorem dX0_laysAll_27 : decode cX0_laysAll 27 = .ok (.iload_n 3, 1) := dk_29 (dk_at dksX0_laysAll_1 3 rfl rfl)
theorem dX0_laysAll_28 : decode cX0_laysAll 28 = .ok (.aload_n 0, 1) := dk_42 (dk_at dksX0_laysAll_1 4 rfl rfl)
theorem dX0_laysAll_29 : decode cX0_laysAll 29 = .ok (.getfield 23, 3) := dk_180 0 23 (dk_at dksX0_laysAll_1 5 rfl rfl)
theorem dX0_laysAll_32 : decode cX0_laysAll 32 = .ok (.getfield 150, 3) := dk_180 0 150 (dk_at dksX0_laysAll_1 8 rfl rfl)
theorem dX0_laysAll_35 : decode cX0_laysAll 35 = .ok (.iload_n 2, 1) := dk_28 (dk_at dksX0_laysAll_1 11 rfl rfl)
theorem dX0_laysAll_36 : decode cX0_laysAll 36 = .ok (.iaload, 1) := dk_46 (dk_at dksX0_laysAll_1 12 rfl rfl)
theorem dX0_laysAll_37 : decode cX0_laysAll 37 = .ok (.iastore, 1) := dk_79 (dk_at dksX0_laysAll_1 13 rfl rfl)
theorem dX0_laysAll_38 : decode cX0_laysAll 38 = .ok (.aload_n 0, 1) := dk_42 (dk_at dksX0_laysAll_1 14 rfl rfl)
theorem dX0_laysAll_39 : decode cX0_laysAll 39 = .ok (.getfield 85, 3) := dk_180 0 85 (dk_at dksX0_laysAll_1 15 rfl rfl)
theorem dX0_laysAll_42 : decode cX0_laysAll 42 = .ok (.iload_n 3, 1) := dk_29 (dk_at dksX0_laysAll_1 18 rfl rfl)
theorem dX0_laysAll_43 : decode cX0_laysAll 43 = .ok (.iconst 1, 1) := dk_4 (dk_at dksX0_laysAll_1 19 rfl rfl)
theorem dX0_laysAll_44 : decode cX0_laysAll 44 = .ok (.iadd, 1) := dk_96 (dk_at dksX0_laysAll_1 20 rfl rfl)
theorem dX0_laysAll_45 : decode cX0_laysAll 45 = .ok (.aload_n 0, 1) := dk_42 (dk_at dksX0_laysAll_1 21 rfl rfl)
theorem dX0_laysAll_46 : decode cX0_laysAll 46 = .ok (.getfield 23, 3) := dk_180 0 23 (dk_at dksX0_laysAll_2 0 rfl rfl)
theorem dX0_laysAll_49 : decode cX0_laysAll 49 = .ok (.getfield 159, 3) := dk_180 0 159 (dk_at dksX0_laysAll_2 3 rfl rfl)
theorem dX0_laysAll_52 : decode cX0_laysAll 52 = .ok (.iload_n 2, 1) := dk_28 (dk_at dksX0_laysAll_2 6 rfl rfl)
theorem dX0_laysAll_53 : decode cX0_laysAll 53 = .ok (.iaload, 1) := dk_46 (dk_at dksX0_laysAll_2 7 rfl rfl)
theorem dX0_laysAll_54 : decode cX0_laysAll 54 = .ok (.iastore, 1) := dk_79 (dk_at dksX0_laysAll_2 8 rfl rfl)
theorem dX0_laysAll_55 : decode cX0_laysAll 55 = .ok (.aload_n 0, 1) := dk_42 (dk_at dksX0_laysAll_2 9 rfl rfl)
theorem dX0_laysAll_56 : decode cX0_laysAll 56 = .ok (.getfield 85, 3) := dk_180 0 85 (dk_at dksX0_laysAll_2 10 rfl rfl)
theorem dX0_laysAll_59 : decode cX0_laysAll 59 = .ok (.iload_n 3, 1) := dk_29 (dk_at dksX0_laysAll_2 13 rfl rfl)
theorem dX0_laysAll_60 : decode cX0_laysAll 60 = .ok (.iconst 2, 1) := dk_5 (dk_at dksX0_laysAll_2 14 rfl rfl)
theorem dX0_laysAll_61 : decode cX0_laysAll 61 = .ok (.iadd, 1) := dk_96 (dk_at dksX0_laysAll_2 15 rfl rfl)
theorem dX0_laysAll_62 : decode cX0_laysAll 62 = .ok (.aload_n 0, 1) := dk_42 (dk_at dksX0_laysAll_2 16 rfl rfl)
theorem dX0_laysAll_63 : decode cX0_laysAll 63 = .ok (.getfield 23, 3) := dk_180 0 23 (dk_at dksX0_laysAll_2 17 rfl rfl)
theorem dX0_laysAll_66 : decode cX0_laysAll 66 = .ok (.getfield 153, 3) := dk_180 0 153 (dk_at dksX0_laysAll_2 20 rfl rfl)
theorem dX0_laysAll_69 : decode cX0_laysAll 69 = .ok (.iload_n 2, 1) := dk_28 (dk_at dksX0_laysAll_2 23 rfl rfl)
theorem dX0_laysAll_70 : decode cX0_laysAll 70 = .ok (.iaload, 1) := dk_46 (dk_at dksX0_laysAll_3 0 rfl rfl)
theorem dX0_laysAll_71 : decode cX0_laysAll 71 = .ok (.iastore, 1) := dk_79 (dk_at dksX0_laysAll_3 1 rfl rfl)
theorem dX0_laysAll_72 : decode cX0_laysAll 72 = .ok (.aload_n 0, 1) := dk_42 (dk_at dksX0_laysAll_3 2 rfl rfl)
theorem dX0_laysAll_73 : decode cX0_laysAll 73 = .ok (.getfield 85, 3) := dk_180 0 85 (dk_at dksX0_laysAll_3 3 rfl rfl)
theorem dX0_laysAll_76 : decode cX0_laysAll 76 = .ok (.iload_n 3, 1) := dk_29 (dk_at dksX0_laysAll_3 6 rfl rfl)
theorem dX0_laysAll_77 : decode cX0_laysAll 77 = .ok (.iconst 3, 1) := dk_6 (dk_at dksX0_laysAll_3 7 rfl rfl)
theorem dX0_laysAll_78 : decode cX0_laysAll 78 = .ok (.iadd, 1) := dk_96 (dk_at dksX0_laysAll_3 8 rfl rfl)
theorem dX0_laysAll_79 : decode cX0_laysAll 79 = .ok (.aload_n 0, 1) := dk_42 (dk_at dksX0_laysAll_3 9 rfl rfl)
theorem dX0_laysAll_80 : decode cX0_laysAll 80 = .ok (.getfield 23, 3) := dk_180 0 23 (dk_at dksX0_laysAll_3 10 rfl rfl)
theorem dX0_laysAll_83 : decode cX0_laysAll 83 = .ok (.getfield 162, 3) := dk_180 0 162 (dk_at dksX0_laysAll_3 13 rfl rfl)
theorem dX0_laysAll_86 : decode cX0_laysAll 86 = .ok (.iload_n 2, 1) := dk_28 (dk_at dksX0_laysAll_3 16 rfl rfl)
theorem dX0_laysAll_87 : decode cX0_laysAll 87 = .ok (.iaload, 1) := dk_46 (dk_at dksX0_laysAll_3 17 rfl rfl)
theorem dX0_laysAll_88 : decode cX0_laysAll 88 = .ok (.iastore, 1) := dk_79 (dk_at dksX0_laysAll_3 18 rfl rfl)
theorem dX0_laysAll_89 : decode cX0_laysAll 89 = .ok (.aload_n 0, 1) := dk_42 (dk_at dksX0_laysAll_3 19 rfl rfl)
theorem dX0_laysAll_90 : decode cX0_laysAll 90 = .ok (.getfield 85, 3) := dk_180 0 85 (dk_at dksX0_laysAll_3 20 rfl rfl)
theorem dX0_laysAll_93 : decode cX0_laysAll 93 = .ok (.iload_n 3, 1) := dk_29 (dk_at dksX0_laysAll_3 23 rfl rfl)
theorem dX0_laysAll_94 : decode cX0_laysAll 94 = .ok (.iconst 4, 1) := dk_7 (dk_at dksX0_laysAll_4 0 rfl rfl)
theorem dX0_laysAll_95 : decode cX0_laysAll 95 = .ok (.iadd, 1) := dk_96 (dk_at dksX0_laysAll_4 1 rfl rfl)
theorem dX0_laysAll_96 : decode cX0_laysAll 96 = .ok (.aload_n 0, 1) := dk_42 (dk_at dksX0_laysAll_4 2 rfl rfl)
theorem dX0_laysAll_97 : decode cX0_laysAll 97 = .ok (.getfield 23, 3) := dk_180 0 23 (dk_at dksX0_laysAll_4 3 rfl rfl)
theorem dX0_laysAll_100 : decode cX0_laysAll 100 = .ok (.getfield 159, 3) := dk_180 0 159 (dk_at dksX0_laysAll_4 6 rfl rfl)
theorem dX0_laysAll_103 : decode cX0_laysAll 103 = .ok (.iload_n 2, 1) := dk_28 (dk_at dksX0_laysAll_4 9 rfl rfl)
theorem dX0_laysAll_104 : decode cX0_laysAll 104 = .ok (.iaload, 1) := dk_46 (dk_at dksX0_laysAll_4 10 rfl rfl)
theorem dX0_laysAll_105 : decode cX0_laysAll 105 = .ok (.iconst 1, 1) := dk_4 (dk_at dksX0_laysAll_4 11 rfl rfl)
theorem dX0_laysAll_106 : decode cX0_laysAll 106 = .ok (.if_icmp .ne 15, 3) := dk_160 0 15 (dk_at dksX0_laysAll_4 12 rfl rfl)
theorem dX0_laysAll_109 : decode cX0_laysAll 109 = .ok (.aload_n 0, 1) := dk_42 (dk_at dksX0_laysAll_4 15 rfl rfl)
theorem dX0_laysAll_110 : decode cX0_laysAll 110 = .ok (.getfield 23, 3) := dk_180 0 23 (dk_at dksX0_laysAll_4 16 rfl rfl)
theorem dX0_laysAll_113 : decode cX0_laysAll 113 = .ok (.getfield 311, 3) := dk_180 1 55 (dk_at dksX0_laysAll_4 19 rfl rfl)
theorem dX0_laysAll_116 : decode cX0_laysAll 116 = .ok (.iload_n 2, 1) := dk_28 (dk_at dksX0_laysAll_4 22 rfl rfl)
theorem dX0_laysAll_117 : decode cX0_laysAll 117 = .ok (.iaload, 1) := dk_46 (dk_at dksX0_laysAll_4 23 rfl rfl)
theorem dX0_laysAll_118 : decode cX0_laysAll 118 = .ok (.goto 4, 3) := dk_167 0 4 (dk_at dksX0_laysAll_5 0 rfl rfl)
theorem dX0_laysAll_121 : decode cX0_laysAll 121 = .ok (.iconst 0, 1) := dk_3 (dk_at dksX0_laysAll_5 3 rfl rfl)
theorem dX0_laysAll_122 : decode cX0_laysAll 122 = .ok (.iastore, 1) := dk_79 (dk_at dksX0_laysAll_5 4 rfl rfl)
theorem dX0_laysAll_123 : decode cX0_laysAll 123 = .ok (.iinc 2 1, 3) := dk_132 2 1 (dk_at dksX0_laysAll_5 5 rfl rfl)
theorem dX0_laysAll_126 : decode cX0_laysAll 126 = .ok (.goto (-116), 3) := dk_167 255 140 (dk_at dksX0_laysAll_5 8 rfl rfl)
theorem dX0_laysAll_129 : decode cX0_laysAll 129 = .ok (.aload_n 0, 1) := dk_42 (dk_at dksX0_laysAll_5 11 rfl rfl)
theorem dX0_laysAll_130 : decode cX0_laysAll 130 = .ok (.aload_n 0, 1) := dk_42 (dk_at dksX0_laysAll_5 12 rfl rfl)
theorem dX0_laysAll_131 : decode cX0_laysAll 131 = .ok (.getfield 23, 3) := dk_180 0 23 (dk_at dksX0_laysAll_5 13 rfl rfl)
theorem dX0_laysAll_134 : decode cX0_laysAll 134 = .ok (.invokevirtual 230, 3) := dk_182 0 230 (dk_at dksX0_laysAll_5 16 rfl rfl)
theorem dX0_laysAll_137 : decode cX0_laysAll 137 = .ok (.pop, 1) := dk_87 (dk_at dksX0_laysAll_5 19 rfl rfl)
theorem dX0_laysAll_138 : decode cX0_laysAll 138 = .ok (.iinc 1 1, 3) := dk_132 1 1 (dk_at dksX0_laysAll_5 20 rfl rfl)
theorem dX0_laysAll_141 : decode cX0_laysAll 141 = .ok (.goto (-139), 3) := dk_167 255 117 (dk_at dksX0_laysAll_6 0 rfl rfl)
theorem dX0_laysAll_144 : decode cX0_laysAll 144 = .ok (.return_, 1) := dk_177 (dk_at dksX0_laysAll_6 3 rfl rfl)
abbrev cX0_areAlike : ByteArray := prog_1_method_47_code
def yX0_areAlike : MethodName := ⟨RX0, "areAlike", "(II)Z"⟩
def dkwX0_areAlike_1 : List UInt8 := [16, 25, 28, 104, 29, 96, 46, 159, 0, 5, 3, 172, 132, 3, 1, 167, 255, 220, 4, 172]
abbrev dktX0_areAlike_1 : List UInt8 := dkwX0_areAlike_1 ++ []
def dkwX0_areAlike_0 : List UInt8 := [3, 62, 29, 16, 25, 162, 0, 36, 42, 180, 0, 85, 16, 25, 27, 104, 29, 96, 46, 42, 180, 0, 85]
abbrev dktX0_areAlike_0 : List UInt8 := dkwX0_areAlike_0 ++ dktX0_areAlike_1
theorem dksX0_areAlike_0 : cX0_areAlike.data.toList.drop 0 = dktX0_areAlike_0 := by decide +kernel
theorem dksX0_areAlike_1 : cX0_areAlike.data.toList.drop 23 = dktX0_areAlike_1 := dk_seg dksX0_areAlike_0 23 rfl rfl
theorem dX0_areAlike_0 : decode cX0_areAlike 0 = .ok (.iconst 0, 1) := dk_3 (dk_at dksX0_areAlike_0 0 rfl rfl)
theorem dX0_areAlike_1 : decode cX0_areAlike 1 = .ok (.istore_n 3, 1) := dk_62 (dk_at dksX0_areAlike_0 1 rfl rfl)
theorem dX0_areAlike_2 : decode cX0_areAlike 2 = .ok (.iload_n 3, 1) := dk_29 (dk_at dksX0_areAlike_0 2 rfl rfl)
theorem dX0_areAlike_3 : decode cX0_areAlike 3 = .ok (.bipush 25, 2) := dk_16 25 (dk_at dksX0_areAlike_0 3 rfl rfl)
theorem dX0_areAlike_5 : decode cX0_areAlike 5 = .ok (.if_icmp .ge 36, 3) := dk_162 0 36 (dk_at dksX0_areAlike_0 5 rfl rfl)
theorem dX0_areAlike_8 : decode cX0_areAlike 8 = .ok (.aload_n 0, 1) := dk_42 (dk_at dksX0_areAlike_0 8 rfl rfl)
theorem dX0_areAlike_9 : decode cX0_areAlike 9 = .ok (.getfield 85, 3) := dk_180 0 85 (dk_at dksX0_areAlike_0 9 rfl rfl)
theorem dX0_areAlike_12 : decode cX0_areAlike 12 = .ok (.bipush 25, 2) := dk_16 25 (dk_at dksX0_areAlike_0 12 rfl rfl)
theorem dX0_areAlike_14 : decode cX0_areAlike 14 = .ok (.iload_n 1, 1) := dk_27 (dk_at dksX0_areAlike_0 14 rfl rfl)
theorem dX0_areAlike_15 : decode cX0_areAlike 15 = .ok (.imul, 1) := dk_104 (dk_at dksX0_areAlike_0 15 rfl rfl)
theorem dX0_areAlike_16 : decode cX0_areAlike 16 = .ok (.iload_n 3, 1) := dk_29 (dk_at dksX0_areAlike_0 16 rfl rfl)
theorem dX0_areAlike_17 : decode cX0_areAlike 17 = .ok (.iadd, 1) := dk_96 (dk_at dksX0_areAlike_0 17 rfl rfl)
theorem dX0_areAlike_18 : decode cX0_areAlike 18 = .ok (.iaload, 1) := dk_46 (dk_at dksX0_areAlike_0 18 rfl rfl)
theorem dX0_areAlike_19 : decode cX0_areAlike 19 = .ok (.aload_n 0, 1) := dk_42 (dk_at dksX0_areAlike_0 19 rfl rfl)
theorem dX0_areAlike_20 : decode cX0_areAlike 20 = .ok (.getfield 85, 3) := dk_180 0 85 (dk_at dksX0_areAlike_0 20 rfl rfl)
theorem dX0_areAlike_23 : decode cX0_areAlike 23 = .ok (.bipush 25, 2) := dk_16 25 (dk_at dksX0_areAlike_1 0 rfl rfl)
theorem dX0_areAlike_25 : decode cX0_areAlike 25 = .ok (.iload_n 2, 1) := dk_28 (dk_at dksX0_areAlike_1 2 rfl rfl)
theorem dX0_areAlike_26 : decode cX0_areAlike 26 = .ok (.imul, 1) := dk_104 (dk_at dksX0_areAlike_1 3 rfl rfl)
theorem dX0_areAlike_27 : decode cX0_areAlike 27 = .ok (.iload_n 3, 1) := dk_29 (dk_at dksX0_areAlike_1 4 rfl rfl)
theorem dX0_areAlike_28 : decode cX0_areAlike 28 = .ok (.iadd, 1) := dk_96 (dk_at dksX0_areAlike_1 5 rfl rfl)
theorem dX0_areAlike_29 : decode cX0_areAlike 29 = .ok (.iaload, 1) := dk_46 (dk_at dksX0_areAlike_1 6 rfl rfl)
theorem dX0_areAlike_30 : decode cX0_areAlike 30 = .ok (.if_icmp .eq 5, 3) := dk_159 0 5 (dk_at dksX0_areAlike_1 7 rfl rfl)
theorem dX0_areAlike_33 : decode cX0_areAlike 33 = .ok (.iconst 0, 1) := dk_3 (dk_at dksX0_areAlike_1 10 rfl rfl)
theorem dX0_areAlike_34 : decode cX0_areAlike 34 = .ok (.ireturn, 1) := dk_172 (dk_at dksX0_areAlike_1 11 rfl rfl)
theorem dX0_areAlike_35 : decode cX0_areAlike 35 = .ok (.iinc 3 1, 3) := dk_132 3 1 (dk_at dksX0_areAlike_1 12 rfl rfl)
theorem dX0_areAlike_38 : decode cX0_areAlike 38 = .ok (.goto (-36), 3) := dk_167 255 220 (dk_at dksX0_areAlike_1 15 rfl rfl)
theorem dX0_areAlike_41 : decode cX0_areAlike 41 = .ok (.iconst 1, 1) := dk_4 (dk_at dksX0_areAlike_1 18 rfl rfl)
theorem dX0_areAlike_42 : decode cX0_areAlike 42 = .ok (.ireturn, 1) := dk_172 (dk_at dksX0_areAlike_1 19 rfl rfl)
abbrev cX0_bread : ByteArray := prog_1_method_50_code
def yX0_bread : MethodName := ⟨RX0, "bread", "(II)I"⟩
def dkwX0_bread_7 : List UInt8 := [162, 0, 7, 4, 167, 0, 4, 3, 184, 0, 186, 96, 172]
abbrev dktX0_bread_7 : List UInt8 := dkwX0_bread_7 ++ []
def dkwX0_bread_6 : List UInt8 := [167, 0, 4, 3, 184, 0, 186, 96, 54, 5, 132, 7, 1, 167, 255, 181, 21, 6, 29, 108, 21, 5, 21, 4]
abbrev dktX0_bread_6 : List UInt8 := dkwX0_bread_6 ++ dktX0_bread_7
def dkwX0_bread_5 : List UInt8 := [112, 163, 0, 20, 21, 8, 29, 112, 21, 6, 29, 112, 160, 0, 13, 21, 7, 28, 162, 0, 7, 4]
abbrev dktX0_bread_5 : List UInt8 := dkwX0_bread_5 ++ dktX0_bread_6
def dkwX0_bread_4 : List UInt8 := [182, 1, 66, 104, 54, 8, 21, 4, 21, 8, 29, 108, 100, 54, 4, 21, 5, 21, 8, 29, 112, 21, 6, 29]
abbrev dktX0_bread_4 : List UInt8 := dkwX0_bread_4 ++ dktX0_bread_5
def dkwX0_bread_3 : List UInt8 := [104, 54, 6, 3, 54, 7, 21, 7, 42, 180, 0, 10, 182, 0, 100, 162, 0, 69, 27, 42, 21, 7]
abbrev dktX0_bread_3 : List UInt8 := dkwX0_bread_3 ++ dktX0_bread_4
def dkwX0_bread_2 : List UInt8 := [132, 4, 1, 167, 255, 232, 29, 154, 0, 5, 3, 172, 27, 54, 4, 3, 54, 5, 27, 42, 28, 182, 1, 66]
abbrev dktX0_bread_2 : List UInt8 := dkwX0_bread_2 ++ dktX0_bread_3
def dkwX0_bread_1 : List UInt8 := [3, 54, 4, 21, 4, 42, 180, 0, 10, 182, 0, 100, 162, 0, 18, 29, 42, 21, 4, 182, 1, 66, 96, 62]
abbrev dktX0_bread_1 : List UInt8 := dkwX0_bread_1 ++ dktX0_bread_2
def dkwX0_bread_0 : List UInt8 := [42, 28, 182, 0, 146, 153, 0, 15, 27, 133, 9, 20, 1, 64, 184, 0, 104, 154, 0, 5, 2, 172, 3, 62]
abbrev dktX0_bread_0 : List UInt8 := dkwX0_bread_0 ++ dktX0_bread_1
theorem dksX0_bread_0 : cX0_bread.data.toList.drop 0 = dktX0_bread_0 := by decide +kernel
theorem dksX0_bread_1 : cX0_bread.data.toList.drop 24 = dktX0_bread_1 := dk_seg dksX0_bread_0 24 rfl rfl
theorem dksX0_bread_2 : cX0_bread.data.toList.drop 48 = dktX0_bread_2 := dk_seg dksX0_bread_1 24 rfl rfl
theorem dksX0_bread_3 : cX0_bread.data.toList.drop 72 = dktX0_bread_3 := dk_seg dksX0_bread_2 24 rfl rfl
theorem dksX0_bread_4 : cX0_bread.data.toList.drop 94 = dktX0_bread_4 := dk_seg dksX0_bread_3 22 rfl rfl
theorem dksX0_bread_5 : cX0_bread.data.toList.drop 118 = dktX0_bread_5 := dk_seg dksX0_bread_4 24 rfl rfl
theorem dksX0_bread_6 : cX0_bread.data.toList.drop 140 = dktX0_bread_6 := dk_seg dksX0_bread_5 22 rfl rfl
theorem dksX0_bread_7 : cX0_bread.data.toList.drop 164 = dktX0_bread_7 := dk_seg dksX0_bread_6 24 rfl rfl
theorem dX0_bread_0 : decode cX0_bread 0 = .ok (.aload_n 0, 1) := dk_42 (dk_at dksX0_bread_0 0 rfl rfl)
theorem dX0_bread_1 : decode cX0_bread 1 = .ok (.iload_n 2, 1) := dk_28 (dk_at dksX0_bread_0 1 rfl rfl)
theorem dX0_bread_2 : decode cX0_bread 2 = .ok (.invokevirtual 146, 3) := dk_182 0 146 (dk_at dksX0_bread_0 2 rfl rfl)
theorem dX0_bread_5 : decode cX0_bread 5 = .ok (.ifCond .eq 15, 3) := dk_153 0 15 (dk_at dksX0_bread_0 5 rfl rfl)
theorem dX0_bread_8 : decode cX0_bread 8 = .ok (.iload_n 1, 1) := dk_27 (dk_at dksX0_bread_0 8 rfl rfl)
theorem dX0_bread_9 : decode cX0_bread 9 = .ok (.i2l, 1) := dk_133 (dk_at dksX0_bread_0 9 rfl rfl)
theorem dX0_bread_10 : decode cX0_bread 10 = .ok (.lconst 0, 1) := dk_9 (dk_at dksX0_bread_0 10 rfl rfl)
theorem dX0_bread_11 : decode cX0_bread 11 = .ok (.ldc2_w 320, 3) := dk_20 1 64 (dk_at dksX0_bread_0 11 rfl rfl)
theorem dX0_bread_14 : decode cX0_bread 14 = .ok (.invokestatic 104, 3) := dk_184 0 104 (dk_at dksX0_bread_0 14 rfl rfl)
theorem dX0_bread_17 : decode cX0_bread 17 = .ok (.ifCond .ne 5, 3) := dk_154 0 5 (dk_at dksX0_bread_0 17 rfl rfl)
theorem dX0_bread_20 : decode cX0_bread 20 = .ok (.iconst (-1), 1) := dk_2 (dk_at dksX0_bread_0 20 rfl rfl)
theorem dX0_bread_21 : decode cX0_bread 21 = .ok (.ireturn, 1) := dk_172 (dk_at dksX0_bread_0 21 rfl rfl)
theorem dX0_bread_22 : decode cX0_bread 22 = .ok (.iconst 0, 1) := dk_3 (dk_at dksX0_bread_0 22 rfl rfl)
theorem dX0_bread_23 : decode cX0_bread 23 = .ok (.istore_n 3, 1) := dk_62 (dk_at dksX0_bread_0 23 rfl rfl)
theorem dX0_bread_24 : decode cX0_bread 24 = .ok (.iconst 0, 1) := dk_3 (dk_at dksX0_bread_1 0 rfl rfl)
theorem dX0_bread_25 : decode cX0_bread 25 = .ok (.istore 4, 2) := dk_54 4 (dk_at dksX0_bread_1 1 rfl rfl)
theorem dX0_bread_27 : decode cX0_bread 27 = .ok (.iload 4, 2) := dk_21 4 (dk_at dksX0_bread_1 3 rfl rfl)
theorem dX0_bread_29 : decode cX0_bread 29 = .ok (.aload_n 0, 1) := dk_42 (dk_at dksX0_bread_1 5 rfl rfl)
theorem dX0_bread_30 : decode cX0_bread 30 = .ok (.getfield 10, 3) := dk_180 0 10 (dk_at dksX0_bread_1 6 rfl rfl)
theorem dX0_bread_33 : decode cX0_bread 33 = .ok (.invokevirtual 100, 3) := dk_182 0 100 (dk_at dksX0_bread_1 9 rfl rfl)
theorem dX0_bread_36 : decode cX0_bread 36 = .ok (.if_icmp .ge 18, 3) := dk_162 0 18 (dk_at dksX0_bread_1 12 rfl rfl)
theorem dX0_bread_39 : decode cX0_bread 39 = .ok (.iload_n 3, 1) := dk_29 (dk_at dksX0_bread_1 15 rfl rfl)
theorem dX0_bread_40 : decode cX0_bread 40 = .ok (.aload_n 0, 1) := dk_42 (dk_at dksX0_bread_1 16 rfl rfl)
theorem dX0_bread_41 : decode cX0_bread 41 = .ok (.iload 4, 2) := dk_21 4 (dk_at dksX0_bread_1 17 rfl rfl)
theorem dX0_bread_43 : decode cX0_bread 43 = .ok (.invokevirtual 322, 3) := dk_182 1 66 (dk_at dksX0_bread_1 19 rfl rfl)
theorem dX0_bread_46 : decode cX0_bread 46 = .ok (.iadd, 1) := dk_96 (dk_at dksX0_bread_1 22 rfl rfl)
theorem dX0_bread_47 : decode cX0_bread 47 = .ok (.istore_n 3, 1) := dk_62 (dk_at dksX0_bread_1 23 rfl rfl)
theorem dX0_bread_48 : decode cX0_bread 48 = .ok (.iinc 4 1, 3) := dk_132 4 1 (dk_at dksX0_bread_2 0 rfl rfl)
theorem dX0_bread_51 : decode cX0_bread 51 = .ok (.goto (-24), 3) := dk_167 255 232 (dk_at dksX0_bread_2 3 rfl rfl)
theorem dX0_bread_54 : decode cX0_bread 54 = .ok (.iload_n 3, 1) := dk_29 (dk_at dksX0_bread_2 6 rfl rfl)
theorem dX0_bread_55 : decode cX0_bread 55 = .ok (.ifCond .ne 5, 3) := dk_154 0 5 (dk_at dksX0_bread_2 7 rfl rfl)
theorem dX0_bread_58 : decode cX0_bread 58 = .ok (.iconst 0, 1) := dk_3 (dk_at dksX0_bread_2 10 rfl rfl)
theorem dX0_bread_59 : decode cX0_bread 59 = .ok (.ireturn, 1) := dk_172 (dk_at dksX0_bread_2 11 rfl rfl)
theorem dX0_bread_60 : decode cX0_bread 60 = .ok (.iload_n 1, 1) := dk_27 (dk_at dksX0_bread_2 12 rfl rfl)
theorem dX0_bread_61 : decode cX0_bread 61 = .ok (.istore 4, 2) := dk_54 4 (dk_at dksX0_bread_2 13 rfl rfl)
theorem dX0_bread_63 : decode cX0_bread 63 = .ok (.iconst 0, 1) := dk_3 (dk_at dksX0_bread_2 15 rfl rfl)
theorem dX0_bread_64 : decode cX0_bread 64 = .ok (.istore 5, 2) := dk_54 5 (dk_at dksX0_bread_2 16 rfl rfl)
theorem dX0_bread_66 : decode cX0_bread 66 = .ok (.iload_n 1, 1) := dk_27 (dk_at dksX0_bread_2 18 rfl rfl)
theorem dX0_bread_67 : decode cX0_bread 67 = .ok (.aload_n 0, 1) := dk_42 (dk_at dksX0_bread_2 19 rfl rfl)
theorem dX0_bread_68 : decode cX0_bread 68 = .ok (.iload_n 2, 1) := dk_28 (dk_at dksX0_bread_2 20 rfl rfl)
theorem dX0_bread_69 : decode cX0_bread 69 = .ok (.invokevirtual 322, 3) := dk_182 1 66 (dk_at dksX0_bread_2 21 rfl rfl)
theorem dX0_bread_72 : decode cX0_bread 72 = .ok (.imul, 1) := dk_104 (dk_at dksX0_bread_3 0 rfl rfl)
theorem dX0_bread_73 : decode cX0_bread 73 = .ok (.istore 6, 2) := dk_54 6 (dk_at dksX0_bread_3 1 rfl rfl)
theorem dX0_bread_75 : decode cX0_bread 75 = .ok (.iconst 0, 1) := dk_3 (dk_at dksX0_bread_3 3 rfl rfl)
theorem dX0_bread_76 : decode cX0_bread 76 = .ok (.istore 7, 2) := dk_54 7 (dk_at dksX0_bread_3 4 rfl rfl)
theorem dX0_bread_78 : decode cX0_bread 78 = .ok (.iload 7, 2) := dk_21 7 (dk_at dksX0_bread_3 6 rfl rfl)
theorem dX0_bread_80 : decode cX0_bread 80 = .ok (.aload_n 0, 1) := dk_42 (dk_at dksX0_bread_3 8 rfl rfl)
theorem dX0_bread_81 : decode cX0_bread 81 = .ok (.getfield 10, 3) := dk_180 0 10 (dk_at dksX0_bread_3 9 rfl rfl)
theorem dX0_bread_84 : decode cX0_bread 84 = .ok (.invokevirtual 100, 3) := dk_182 0 100 (dk_at dksX0_bread_3 12 rfl rfl)
theorem dX0_bread_87 : decode cX0_bread 87 = .ok (.if_icmp .ge 69, 3) := dk_162 0 69 (dk_at dksX0_bread_3 15 rfl rfl)
theorem dX0_bread_90 : decode cX0_bread 90 = .ok (.iload_n 1, 1) := dk_27 (dk_at dksX0_bread_3 18 rfl rfl)
theorem dX0_bread_91 : decode cX0_bread 91 = .ok (.aload_n 0, 1) := dk_42 (dk_at dksX0_bread_3 19 rfl rfl)
theorem dX0_bread_92 : decode cX0_bread 92 = .ok (.iload 7, 2) := dk_21 7 (dk_at dksX0_bread_3 20 rfl rfl)
theorem dX0_bread_94 : decode cX0_bread 94 = .ok (.invokevirtual 322, 3) := dk_182 1 66 (dk_at dksX0_bread_4 0 rfl rfl)
theorem dX0_bread_97 : decode cX0_bread 97 = .ok (.imul, 1) := dk_104 (dk_at dksX0_bread_4 3 rfl rfl)
theorem dX0_bread_98 : decode cX0_bread 98 = .ok (.istore 8, 2) := dk_54 8 (dk_at dksX0_bread_4 4 rfl rfl)
theorem dX0_bread_100 : decode cX0_bread 100 = .ok (.iload 4, 2) := dk_21 4 (dk_at dksX0_bread_4 6 rfl rfl)
theorem dX0_bread_102 : decode cX0_bread 102 = .ok (.iload 8, 2) := dk_21 8 (dk_at dksX0_bread_4 8 rfl rfl)
theorem dX0_bread_104 : decode cX0_bread 104 = .ok (.iload_n 3, 1) := dk_29 (dk_at dksX0_bread_4 10 rfl rfl)
theorem dX0_bread_105 : decode cX0_bread 105 = .ok (.idiv, 1) := dk_108 (dk_at dksX0_bread_4 11 rfl rfl)
theorem dX0_bread_106 : decode cX0_bread 106 = .ok (.isub, 1) := dk_100 (dk_at dksX0_bread_4 12 rfl rfl)
theorem dX0_bread_107 : decode cX0_bread 107 = .ok (.istore 4, 2) := dk_54 4 (dk_at dksX0_bread_4 13 rfl rfl)
theorem dX0_bread_109 : decode cX0_bread 109 = .ok (.iload 5, 2) := dk_21 5 (dk_at dksX0_bread_4 15 rfl rfl)
theorem dX0_bread_111 : decode cX0_bread 111 = .ok (.iload 8, 2) := dk_21 8 (dk_at dksX0_bread_4 17 rfl rfl)
theorem dX0_bread_113 : decode cX0_bread 113 = .ok (.iload_n 3, 1) := dk_29 (dk_at dksX0_bread_4 19 rfl rfl)
theorem dX0_bread_114 : decode cX0_bread 114 = .ok (.irem, 1) := dk_112 (dk_at dksX0_bread_4 20 rfl rfl)
theorem dX0_bread_115 : decode cX0_bread 115 = .ok (.iload 6, 2) := dk_21 6 (dk_at dksX0_bread_4 21 rfl rfl)
theorem dX0_bread_117 : decode cX0_bread 117 = .ok (.iload_n 3, 1) := dk_29 (dk_at dksX0_bread_4 23 rfl rfl)
theorem dX0_bread_118 : decode cX0_bread 118 = .ok (.irem, 1) := dk_112 (dk_at dksX0_bread_5 0 rfl rfl)
theorem dX0_bread_119 : decode cX0_bread 119 = .ok (.if_icmp .gt 20, 3) := dk_163 0 20 (dk_at dksX0_bread_5 1 rfl rfl)
theorem dX0_bread_122 : decode cX0_bread 122 = .ok (.iload 8, 2) := dk_21 8 (dk_at dksX0_bread_5 4 rfl rfl)
theorem dX0_bread_124 : decode cX0_bread 124 = .ok (.iload_n 3, 1) := dk_29 (dk_at dksX0_bread_5 6 rfl rfl)
theorem dX0_bread_125 : decode cX0_bread 125 = .ok (.irem, 1) := dk_112 (dk_at dksX0_bread_5 7 rfl rfl)
theorem dX0_bread_126 : decode cX0_bread 126 = .ok (.iload 6, 2) := dk_21 6 (dk_at dksX0_bread_5 8 rfl rfl)
theorem dX0_bread_128 : decode cX0_bread 128 = .ok (.iload_n 3, 1) := dk_29 (dk_at dksX0_bread_5 10 rfl rfl)
theorem dX0_bread_129 : decode cX0_bread 129 = .ok (.irem, 1) := dk_112 (dk_at dksX0_bread_5 11 rfl rfl)
theorem dX0_bread_130 : decode cX0_bread 130 = .ok (.if_icmp .ne 13, 3) := dk_160 0 13 (dk_at dksX0_bread_5 12 rfl rfl)
theorem dX0_bread_133 : decode cX0_bread 133 = .ok (.iload 7, 2) := dk_21 7 (dk_at dksX0_bread_5 15 rfl rfl)
theorem dX0_bread_135 : decode cX0_bread 135 = .ok (.iload_n 2, 1) := dk_28 (dk_at dksX0_bread_5 17 rfl rfl)
theorem dX0_bread_136 : decode cX0_bread 136 = .ok (.if_icmp .ge 7, 3) := dk_162 0 7 (dk_at dksX0_bread_5 18 rfl rfl)
theorem dX0_bread_139 : decode cX0_bread 139 = .ok (.iconst 1, 1) := dk_4 (dk_at dksX0_bread_5 21 rfl rfl)
theorem dX0_bread_140 : decode cX0_bread 140 = .ok (.goto 4, 3) := dk_167 0 4 (dk_at dksX0_bread_6 0 rfl rfl)
theorem dX0_bread_143 : decode cX0_bread 143 = .ok (.iconst 0, 1) := dk_3 (dk_at dksX0_bread_6 3 rfl rfl)
theorem dX0_bread_144 : decode cX0_bread 144 = .ok (.invokestatic 186, 3) := dk_184 0 186 (dk_at dksX0_bread_6 4 rfl rfl)
theorem dX0_bread_147 : decode cX0_bread 147 = .ok (.iadd, 1) := dk_96 (dk_at dksX0_bread_6 7 rfl rfl)
theorem dX0_bread_148 : decode cX0_bread 148 = .ok (.istore 5, 2) := dk_54 5 (dk_at dksX0_bread_6 8 rfl rfl)
theorem dX0_bread_150 : decode cX0_bread 150 = .ok (.iinc 7 1, 3) := dk_132 7 1 (dk_at dksX0_bread_6 10 rfl rfl)
theorem dX0_bread_153 : decode cX0_bread 153 = .ok (.goto (-75), 3) := dk_167 255 181 (dk_at dksX0_bread_6 13 rfl rfl)
theorem dX0_bread_156 : decode cX0_bread 156 = .ok (.iload 6, 2) := dk_21 6 (dk_at dksX0_bread_6 16 rfl rfl)
theorem dX0_bread_158 : decode cX0_bread 158 = .ok (.iload_n 3, 1) := dk_29 (dk_at dksX0_bread_6 18 rfl rfl)
theorem dX0_bread_159 : decode cX0_bread 159 = .ok (.idiv, 1) := dk_108 (dk_at dksX0_bread_6 19 rfl rfl)
theorem dX0_bread_160 : decode cX0_bread 160 = .ok (.iload 5, 2) := dk_21 5 (dk_at dksX0_bread_6 20 rfl rfl)
theorem dX0_bread_162 : decode cX0_bread 162 = .ok (.iload 4, 2) := dk_21 4 (dk_at dksX0_bread_6 22 rfl rfl)
theorem dX0_bread_164 : decode cX0_bread 164 = .ok (.if_icmp .ge 7, 3) := dk_162 0 7 (dk_at dksX0_bread_7 0 rfl rfl)
theorem dX0_bread_167 : decode cX0_bread 167 = .ok (.iconst 1, 1) := dk_4 (dk_at dksX0_bread_7 3 rfl rfl)
theorem dX0_bread_168 : decode cX0_bread 168 = .ok (.goto 4, 3) := dk_167 0 4 (dk_at dksX0_bread_7 4 rfl rfl)
theorem dX0_bread_171 : decode cX0_bread 171 = .ok (.iconst 0, 1) := dk_3 (dk_at dksX0_bread_7 7 rfl rfl)
theorem dX0_bread_172 : decode cX0_bread 172 = .ok (.invokestatic 186, 3) := dk_184 0 186 (dk_at dksX0_bread_7 8 rfl rfl)
theorem dX0_bread_175 : decode cX0_bread 175 = .ok (.iadd, 1) := dk_96 (dk_at dksX0_bread_7 11 rfl rfl)
theorem dX0_bread_176 : decode cX0_bread 176 = .ok (.ireturn, 1) := dk_172 (dk_at dksX0_bread_7 12 rfl rfl)
abbrev cX0_shortOf : ByteArray := prog_1_method_49_code
def yX0_shortOf : MethodName := ⟨RX0, "shortOf", "(I)I"⟩
def dkwX0_shortOf_1 : List UInt8 := [180, 0, 156, 27, 46, 100, 172]
abbrev dktX0_shortOf_1 : List UInt8 := dkwX0_shortOf_1 ++ []
def dkwX0_shortOf_0 : List UInt8 := [42, 180, 0, 19, 180, 0, 159, 27, 46, 5, 160, 0, 7, 3, 167, 0, 15, 16, 99, 42, 180, 0, 19]
abbrev dktX0_shortOf_0 : List UInt8 := dkwX0_shortOf_0 ++ dktX0_shortOf_1
theorem dksX0_shortOf_0 : cX0_shortOf.data.toList.drop 0 = dktX0_shortOf_0 := by decide +kernel
theorem dksX0_shortOf_1 : cX0_shortOf.data.toList.drop 23 = dktX0_shortOf_1 := dk_seg dksX0_shortOf_0 23 rfl rfl
theorem dX0_shortOf_0 : decode cX0_shortOf 0 = .ok (.aload_n 0, 1) := dk_42 (dk_at dksX0_shortOf_0 0 rfl rfl)
theorem dX0_shortOf_1 : decode cX0_shortOf 1 = .ok (.getfield 19, 3) := dk_180 0 19 (dk_at dksX0_shortOf_0 1 rfl rfl)
theorem dX0_shortOf_4 : decode cX0_shortOf 4 = .ok (.getfield 159, 3) := dk_180 0 159 (dk_at dksX0_shortOf_0 4 rfl rfl)
theorem dX0_shortOf_7 : decode cX0_shortOf 7 = .ok (.iload_n 1, 1) := dk_27 (dk_at dksX0_shortOf_0 7 rfl rfl)
theorem dX0_shortOf_8 : decode cX0_shortOf 8 = .ok (.iaload, 1) := dk_46 (dk_at dksX0_shortOf_0 8 rfl rfl)
theorem dX0_shortOf_9 : decode cX0_shortOf 9 = .ok (.iconst 2, 1) := dk_5 (dk_at dksX0_shortOf_0 9 rfl rfl)
theorem dX0_shortOf_10 : decode cX0_shortOf 10 = .ok (.if_icmp .ne 7, 3) := dk_160 0 7 (dk_at dksX0_shortOf_0 10 rfl rfl)
theorem dX0_shortOf_13 : decode cX0_shortOf 13 = .ok (.iconst 0, 1) := dk_3 (dk_at dksX0_shortOf_0 13 rfl rfl)
theorem dX0_shortOf_14 : decode cX0_shortOf 14 = .ok (.goto 15, 3) := dk_167 0 15 (dk_at dksX0_shortOf_0 14 rfl rfl)
theorem dX0_shortOf_17 : decode cX0_shortOf 17 = .ok (.bipush 99, 2) := dk_16 99 (dk_at dksX0_shortOf_0 17 rfl rfl)
theorem dX0_shortOf_19 : decode cX0_shortOf 19 = .ok (.aload_n 0, 1) := dk_42 (dk_at dksX0_shortOf_0 19 rfl rfl)
theorem dX0_shortOf_20 : decode cX0_shortOf 20 = .ok (.getfield 19, 3) := dk_180 0 19 (dk_at dksX0_shortOf_0 20 rfl rfl)
theorem dX0_shortOf_23 : decode cX0_shortOf 23 = .ok (.getfield 156, 3) := dk_180 0 156 (dk_at dksX0_shortOf_1 0 rfl rfl)
theorem dX0_shortOf_26 : decode cX0_shortOf 26 = .ok (.iload_n 1, 1) := dk_27 (dk_at dksX0_shortOf_1 3 rfl rfl)
theorem dX0_shortOf_27 : decode cX0_shortOf 27 = .ok (.iaload, 1) := dk_46 (dk_at dksX0_shortOf_1 4 rfl rfl)
theorem dX0_shortOf_28 : decode cX0_shortOf 28 = .ok (.isub, 1) := dk_100 (dk_at dksX0_shortOf_1 5 rfl rfl)
theorem dX0_shortOf_29 : decode cX0_shortOf 29 = .ok (.ireturn, 1) := dk_172 (dk_at dksX0_shortOf_1 6 rfl rfl)
abbrev cX0_note : ByteArray := prog_1_method_51_code
def yX0_note : MethodName := ⟨RX0, "note", "(III)I"⟩
def dkwX0_note_4 : List UInt8 := [4, 96, 181, 0, 132, 42, 180, 0, 132, 172]
abbrev dktX0_note_4 : List UInt8 := dkwX0_note_4 ++ []
def dkwX0_note_3 : List UInt8 := [180, 0, 54, 42, 180, 0, 132, 28, 79, 42, 180, 0, 57, 42, 180, 0, 132, 29, 79, 42, 89, 180, 0, 132]
abbrev dktX0_note_3 : List UInt8 := dkwX0_note_3 ++ dktX0_note_4
def dkwX0_note_2 : List UInt8 := [180, 0, 132, 16, 10, 160, 0, 6, 16, 254, 172, 42, 180, 0, 50, 42, 180, 0, 132, 27, 79, 42]
abbrev dktX0_note_2 : List UInt8 := dkwX0_note_2 ++ dktX0_note_3
def dkwX0_note_1 : List UInt8 := [42, 28, 182, 0, 146, 153, 0, 25, 29, 2, 159, 0, 11, 42, 29, 182, 0, 180, 153, 0, 12, 42]
abbrev dktX0_note_1 : List UInt8 := dkwX0_note_1 ++ dktX0_note_2
def dkwX0_note_0 : List UInt8 := [27, 2, 160, 0, 10, 42, 3, 181, 0, 132, 3, 172, 27, 133, 9, 20, 1, 69, 184, 0, 104, 153, 0, 33]
abbrev dktX0_note_0 : List UInt8 := dkwX0_note_0 ++ dktX0_note_1
theorem dksX0_note_0 : cX0_note.data.toList.drop 0 = dktX0_note_0 := by decide +kernel
theorem dksX0_note_1 : cX0_note.data.toList.drop 24 = dktX0_note_1 := dk_seg dksX0_note_0 24 rfl rfl
theorem dksX0_note_2 : cX0_note.data.toList.drop 46 = dktX0_note_2 := dk_seg dksX0_note_1 22 rfl rfl
theorem dksX0_note_3 : cX0_note.data.toList.drop 68 = dktX0_note_3 := dk_seg dksX0_note_2 22 rfl rfl
theorem dksX0_note_4 : cX0_note.data.toList.drop 92 = dktX0_note_4 := dk_seg dksX0_note_3 24 rfl rfl
theorem dX0_note_0 : decode cX0_note 0 = .ok (.iload_n 1, 1) := dk_27 (dk_at dksX0_note_0 0 rfl rfl)
theorem dX0_note_1 : decode cX0_note 1 = .ok (.iconst (-1), 1) := dk_2 (dk_at dksX0_note_0 1 rfl rfl)
theorem dX0_note_2 : decode cX0_note 2 = .ok (.if_icmp .ne 10, 3) := dk_160 0 10 (dk_at dksX0_note_0 2 rfl rfl)
theorem dX0_note_5 : decode cX0_note 5 = .ok (.aload_n 0, 1) := dk_42 (dk_at dksX0_note_0 5 rfl rfl)
theorem dX0_note_6 : decode cX0_note 6 = .ok (.iconst 0, 1) := dk_3 (dk_at dksX0_note_0 6 rfl rfl)
theorem dX0_note_7 : decode cX0_note 7 = .ok (.putfield 132, 3) := dk_181 0 132 (dk_at dksX0_note_0 7 rfl rfl)
theorem dX0_note_10 : decode cX0_note 10 = .ok (.iconst 0, 1) := dk_3 (dk_at dksX0_note_0 10 rfl rfl)
theorem dX0_note_11 : decode cX0_note 11 = .ok (.ireturn, 1) := dk_172 (dk_at dksX0_note_0 11 rfl rfl)
theorem dX0_note_12 : decode cX0_note 12 = .ok (.iload_n 1, 1) := dk_27 (dk_at dksX0_note_0 12 rfl rfl)
theorem dX0_note_13 : decode cX0_note 13 = .ok (.i2l, 1) := dk_133 (dk_at dksX0_note_0 13 rfl rfl)
theorem dX0_note_14 : decode cX0_note 14 = .ok (.lconst 0, 1) := dk_9 (dk_at dksX0_note_0 14 rfl rfl)
theorem dX0_note_15 : decode cX0_note 15 = .ok (.ldc2_w 325, 3) := dk_20 1 69 (dk_at dksX0_note_0 15 rfl rfl)
theorem dX0_note_18 : decode cX0_note 18 = .ok (.invokestatic 104, 3) := dk_184 0 104 (dk_at dksX0_note_0 18 rfl rfl)
theorem dX0_note_21 : decode cX0_note 21 = .ok (.ifCond .eq 33, 3) := dk_153 0 33 (dk_at dksX0_note_0 21 rfl rfl)
theorem dX0_note_24 : decode cX0_note 24 = .ok (.aload_n 0, 1) := dk_42 (dk_at dksX0_note_1 0 rfl rfl)
theorem dX0_note_25 : decode cX0_note 25 = .ok (.iload_n 2, 1) := dk_28 (dk_at dksX0_note_1 1 rfl rfl)
theorem dX0_note_26 : decode cX0_note 26 = .ok (.invokevirtual 146, 3) := dk_182 0 146 (dk_at dksX0_note_1 2 rfl rfl)
theorem dX0_note_29 : decode cX0_note 29 = .ok (.ifCond .eq 25, 3) := dk_153 0 25 (dk_at dksX0_note_1 5 rfl rfl)
theorem dX0_note_32 : decode cX0_note 32 = .ok (.iload_n 3, 1) := dk_29 (dk_at dksX0_note_1 8 rfl rfl)
theorem dX0_note_33 : decode cX0_note 33 = .ok (.iconst (-1), 1) := dk_2 (dk_at dksX0_note_1 9 rfl rfl)
theorem dX0_note_34 : decode cX0_note 34 = .ok (.if_icmp .eq 11, 3) := dk_159 0 11 (dk_at dksX0_note_1 10 rfl rfl)
theorem dX0_note_37 : decode cX0_note 37 = .ok (.aload_n 0, 1) := dk_42 (dk_at dksX0_note_1 13 rfl rfl)
theorem dX0_note_38 : decode cX0_note 38 = .ok (.iload_n 3, 1) := dk_29 (dk_at dksX0_note_1 14 rfl rfl)
theorem dX0_note_39 : decode cX0_note 39 = .ok (.invokevirtual 180, 3) := dk_182 0 180 (dk_at dksX0_note_1 15 rfl rfl)
theorem dX0_note_42 : decode cX0_note 42 = .ok (.ifCond .eq 12, 3) := dk_153 0 12 (dk_at dksX0_note_1 18 rfl rfl)
theorem dX0_note_45 : decode cX0_note 45 = .ok (.aload_n 0, 1) := dk_42 (dk_at dksX0_note_1 21 rfl rfl)
theorem dX0_note_46 : decode cX0_note 46 = .ok (.getfield 132, 3) := dk_180 0 132 (dk_at dksX0_note_2 0 rfl rfl)
theorem dX0_note_49 : decode cX0_note 49 = .ok (.bipush 10, 2) := dk_16 10 (dk_at dksX0_note_2 3 rfl rfl)
theorem dX0_note_51 : decode cX0_note 51 = .ok (.if_icmp .ne 6, 3) := dk_160 0 6 (dk_at dksX0_note_2 5 rfl rfl)
theorem dX0_note_54 : decode cX0_note 54 = .ok (.bipush (-2), 2) := dk_16 254 (dk_at dksX0_note_2 8 rfl rfl)
theorem dX0_note_56 : decode cX0_note 56 = .ok (.ireturn, 1) := dk_172 (dk_at dksX0_note_2 10 rfl rfl)
theorem dX0_note_57 : decode cX0_note 57 = .ok (.aload_n 0, 1) := dk_42 (dk_at dksX0_note_2 11 rfl rfl)
theorem dX0_note_58 : decode cX0_note 58 = .ok (.getfield 50, 3) := dk_180 0 50 (dk_at dksX0_note_2 12 rfl rfl)
theorem dX0_note_61 : decode cX0_note 61 = .ok (.aload_n 0, 1) := dk_42 (dk_at dksX0_note_2 15 rfl rfl)
theorem dX0_note_62 : decode cX0_note 62 = .ok (.getfield 132, 3) := dk_180 0 132 (dk_at dksX0_note_2 16 rfl rfl)
theorem dX0_note_65 : decode cX0_note 65 = .ok (.iload_n 1, 1) := dk_27 (dk_at dksX0_note_2 19 rfl rfl)
theorem dX0_note_66 : decode cX0_note 66 = .ok (.iastore, 1) := dk_79 (dk_at dksX0_note_2 20 rfl rfl)
theorem dX0_note_67 : decode cX0_note 67 = .ok (.aload_n 0, 1) := dk_42 (dk_at dksX0_note_2 21 rfl rfl)
theorem dX0_note_68 : decode cX0_note 68 = .ok (.getfield 54, 3) := dk_180 0 54 (dk_at dksX0_note_3 0 rfl rfl)
theorem dX0_note_71 : decode cX0_note 71 = .ok (.aload_n 0, 1) := dk_42 (dk_at dksX0_note_3 3 rfl rfl)
theorem dX0_note_72 : decode cX0_note 72 = .ok (.getfield 132, 3) := dk_180 0 132 (dk_at dksX0_note_3 4 rfl rfl)
theorem dX0_note_75 : decode cX0_note 75 = .ok (.iload_n 2, 1) := dk_28 (dk_at dksX0_note_3 7 rfl rfl)
theorem dX0_note_76 : decode cX0_note 76 = .ok (.iastore, 1) := dk_79 (dk_at dksX0_note_3 8 rfl rfl)
theorem dX0_note_77 : decode cX0_note 77 = .ok (.aload_n 0, 1) := dk_42 (dk_at dksX0_note_3 9 rfl rfl)
theorem dX0_note_78 : decode cX0_note 78 = .ok (.getfield 57, 3) := dk_180 0 57 (dk_at dksX0_note_3 10 rfl rfl)
theorem dX0_note_81 : decode cX0_note 81 = .ok (.aload_n 0, 1) := dk_42 (dk_at dksX0_note_3 13 rfl rfl)
theorem dX0_note_82 : decode cX0_note 82 = .ok (.getfield 132, 3) := dk_180 0 132 (dk_at dksX0_note_3 14 rfl rfl)
theorem dX0_note_85 : decode cX0_note 85 = .ok (.iload_n 3, 1) := dk_29 (dk_at dksX0_note_3 17 rfl rfl)
theorem dX0_note_86 : decode cX0_note 86 = .ok (.iastore, 1) := dk_79 (dk_at dksX0_note_3 18 rfl rfl)
theorem dX0_note_87 : decode cX0_note 87 = .ok (.aload_n 0, 1) := dk_42 (dk_at dksX0_note_3 19 rfl rfl)
theorem dX0_note_88 : decode cX0_note 88 = .ok (.dup, 1) := dk_89 (dk_at dksX0_note_3 20 rfl rfl)
theorem dX0_note_89 : decode cX0_note 89 = .ok (.getfield 132, 3) := dk_180 0 132 (dk_at dksX0_note_3 21 rfl rfl)
theorem dX0_note_92 : decode cX0_note 92 = .ok (.iconst 1, 1) := dk_4 (dk_at dksX0_note_4 0 rfl rfl)
theorem dX0_note_93 : decode cX0_note 93 = .ok (.iadd, 1) := dk_96 (dk_at dksX0_note_4 1 rfl rfl)
theorem dX0_note_94 : decode cX0_note 94 = .ok (.putfield 132, 3) := dk_181 0 132 (dk_at dksX0_note_4 2 rfl rfl)
theorem dX0_note_97 : decode cX0_note 97 = .ok (.aload_n 0, 1) := dk_42 (dk_at dksX0_note_4 5 rfl rfl)
theorem dX0_note_98 : decode cX0_note 98 = .ok (.getfield 132, 3) := dk_180 0 132 (dk_at dksX0_note_4 6 rfl rfl)
theorem dX0_note_101 : decode cX0_note 101 = .ok (.ireturn, 1) := dk_172 (dk_at dksX0_note_4 9 rfl rfl)
abbrev cX0_ruled : ByteArray := prog_1_method_55_code
def yX0_ruled : MethodName := ⟨RX0, "ruled", "(I)I"⟩
def dkwX0_ruled_3 : List UInt8 := [167, 255, 215, 27, 154, 0, 7, 28, 167, 0, 4, 29, 172]
abbrev dktX0_ruled_3 : List UInt8 := dkwX0_ruled_3 ++ []
def dkwX0_ruled_2 : List UInt8 := [154, 0, 6, 167, 0, 17, 28, 154, 0, 8, 21, 4, 167, 0, 4, 29, 62, 132, 2, 1, 132, 4, 1]
abbrev dktX0_ruled_2 : List UInt8 := dkwX0_ruled_2 ++ dktX0_ruled_3
def dkwX0_ruled_1 : List UInt8 := [62, 2, 54, 4, 21, 4, 42, 180, 0, 31, 182, 0, 138, 162, 0, 35, 42, 21, 4, 182, 1, 77]
abbrev dktX0_ruled_1 : List UInt8 := dkwX0_ruled_1 ++ dktX0_ruled_2
def dkwX0_ruled_0 : List UInt8 := [42, 182, 0, 168, 153, 0, 13, 27, 133, 9, 10, 184, 0, 104, 154, 0, 6, 16, 253, 172, 3, 61, 16, 254]
abbrev dktX0_ruled_0 : List UInt8 := dkwX0_ruled_0 ++ dktX0_ruled_1
theorem dksX0_ruled_0 : cX0_ruled.data.toList.drop 0 = dktX0_ruled_0 := by decide +kernel
theorem dksX0_ruled_1 : cX0_ruled.data.toList.drop 24 = dktX0_ruled_1 := dk_seg dksX0_ruled_0 24 rfl rfl
theorem dksX0_ruled_2 : cX0_ruled.data.toList.drop 46 = dktX0_ruled_2 := dk_seg dksX0_ruled_1 22 rfl rfl
theorem dksX0_ruled_3 : cX0_ruled.data.toList.drop 69 = dktX0_ruled_3 := dk_seg dksX0_ruled_2 23 rfl rfl
theorem dX0_ruled_0 : decode cX0_ruled 0 = .ok (.aload_n 0, 1) := dk_42 (dk_at dksX0_ruled_0 0 rfl rfl)
theorem dX0_ruled_1 : decode cX0_ruled 1 = .ok (.invokevirtual 168, 3) := dk_182 0 168 (dk_at dksX0_ruled_0 1 rfl rfl)
theorem dX0_ruled_4 : decode cX0_ruled 4 = .ok (.ifCond .eq 13, 3) := dk_153 0 13 (dk_at dksX0_ruled_0 4 rfl rfl)
theorem dX0_ruled_7 : decode cX0_ruled 7 = .ok (.iload_n 1, 1) := dk_27 (dk_at dksX0_ruled_0 7 rfl rfl)
theorem dX0_ruled_8 : decode cX0_ruled 8 = .ok (.i2l, 1) := dk_133 (dk_at dksX0_ruled_0 8 rfl rfl)
theorem dX0_ruled_9 : decode cX0_ruled 9 = .ok (.lconst 0, 1) := dk_9 (dk_at dksX0_ruled_0 9 rfl rfl)
theorem dX0_ruled_10 : decode cX0_ruled 10 = .ok (.lconst 1, 1) := dk_10 (dk_at dksX0_ruled_0 10 rfl rfl)
theorem dX0_ruled_11 : decode cX0_ruled 11 = .ok (.invokestatic 104, 3) := dk_184 0 104 (dk_at dksX0_ruled_0 11 rfl rfl)
theorem dX0_ruled_14 : decode cX0_ruled 14 = .ok (.ifCond .ne 6, 3) := dk_154 0 6 (dk_at dksX0_ruled_0 14 rfl rfl)
theorem dX0_ruled_17 : decode cX0_ruled 17 = .ok (.bipush (-3), 2) := dk_16 253 (dk_at dksX0_ruled_0 17 rfl rfl)
theorem dX0_ruled_19 : decode cX0_ruled 19 = .ok (.ireturn, 1) := dk_172 (dk_at dksX0_ruled_0 19 rfl rfl)
theorem dX0_ruled_20 : decode cX0_ruled 20 = .ok (.iconst 0, 1) := dk_3 (dk_at dksX0_ruled_0 20 rfl rfl)
theorem dX0_ruled_21 : decode cX0_ruled 21 = .ok (.istore_n 2, 1) := dk_61 (dk_at dksX0_ruled_0 21 rfl rfl)
theorem dX0_ruled_22 : decode cX0_ruled 22 = .ok (.bipush (-2), 2) := dk_16 254 (dk_at dksX0_ruled_0 22 rfl rfl)
theorem dX0_ruled_24 : decode cX0_ruled 24 = .ok (.istore_n 3, 1) := dk_62 (dk_at dksX0_ruled_1 0 rfl rfl)
theorem dX0_ruled_25 : decode cX0_ruled 25 = .ok (.iconst (-1), 1) := dk_2 (dk_at dksX0_ruled_1 1 rfl rfl)
theorem dX0_ruled_26 : decode cX0_ruled 26 = .ok (.istore 4, 2) := dk_54 4 (dk_at dksX0_ruled_1 2 rfl rfl)
theorem dX0_ruled_28 : decode cX0_ruled 28 = .ok (.iload 4, 2) := dk_21 4 (dk_at dksX0_ruled_1 4 rfl rfl)
theorem dX0_ruled_30 : decode cX0_ruled 30 = .ok (.aload_n 0, 1) := dk_42 (dk_at dksX0_ruled_1 6 rfl rfl)
theorem dX0_ruled_31 : decode cX0_ruled 31 = .ok (.getfield 31, 3) := dk_180 0 31 (dk_at dksX0_ruled_1 7 rfl rfl)
theorem dX0_ruled_34 : decode cX0_ruled 34 = .ok (.invokevirtual 138, 3) := dk_182 0 138 (dk_at dksX0_ruled_1 10 rfl rfl)
theorem dX0_ruled_37 : decode cX0_ruled 37 = .ok (.if_icmp .ge 35, 3) := dk_162 0 35 (dk_at dksX0_ruled_1 13 rfl rfl)
theorem dX0_ruled_40 : decode cX0_ruled 40 = .ok (.aload_n 0, 1) := dk_42 (dk_at dksX0_ruled_1 16 rfl rfl)
theorem dX0_ruled_41 : decode cX0_ruled 41 = .ok (.iload 4, 2) := dk_21 4 (dk_at dksX0_ruled_1 17 rfl rfl)
theorem dX0_ruled_43 : decode cX0_ruled 43 = .ok (.invokevirtual 333, 3) := dk_182 1 77 (dk_at dksX0_ruled_1 19 rfl rfl)
theorem dX0_ruled_46 : decode cX0_ruled 46 = .ok (.ifCond .ne 6, 3) := dk_154 0 6 (dk_at dksX0_ruled_2 0 rfl rfl)
theorem dX0_ruled_49 : decode cX0_ruled 49 = .ok (.goto 17, 3) := dk_167 0 17 (dk_at dksX0_ruled_2 3 rfl rfl)
theorem dX0_ruled_52 : decode cX0_ruled 52 = .ok (.iload_n 2, 1) := dk_28 (dk_at dksX0_ruled_2 6 rfl rfl)
theorem dX0_ruled_53 : decode cX0_ruled 53 = .ok (.ifCond .ne 8, 3) := dk_154 0 8 (dk_at dksX0_ruled_2 7 rfl rfl)
theorem dX0_ruled_56 : decode cX0_ruled 56 = .ok (.iload 4, 2) := dk_21 4 (dk_at dksX0_ruled_2 10 rfl rfl)
theorem dX0_ruled_58 : decode cX0_ruled 58 = .ok (.goto 4, 3) := dk_167 0 4 (dk_at dksX0_ruled_2 12 rfl rfl)
theorem dX0_ruled_61 : decode cX0_ruled 61 = .ok (.iload_n 3, 1) := dk_29 (dk_at dksX0_ruled_2 15 rfl rfl)
theorem dX0_ruled_62 : decode cX0_ruled 62 = .ok (.istore_n 3, 1) := dk_62 (dk_at dksX0_ruled_2 16 rfl rfl)
theorem dX0_ruled_63 : decode cX0_ruled 63 = .ok (.iinc 2 1, 3) := dk_132 2 1 (dk_at dksX0_ruled_2 17 rfl rfl)
theorem dX0_ruled_66 : decode cX0_ruled 66 = .ok (.iinc 4 1, 3) := dk_132 4 1 (dk_at dksX0_ruled_2 20 rfl rfl)
theorem dX0_ruled_69 : decode cX0_ruled 69 = .ok (.goto (-41), 3) := dk_167 255 215 (dk_at dksX0_ruled_3 0 rfl rfl)
theorem dX0_ruled_72 : decode cX0_ruled 72 = .ok (.iload_n 1, 1) := dk_27 (dk_at dksX0_ruled_3 3 rfl rfl)
theorem dX0_ruled_73 : decode cX0_ruled 73 = .ok (.ifCond .ne 7, 3) := dk_154 0 7 (dk_at dksX0_ruled_3 4 rfl rfl)
theorem dX0_ruled_76 : decode cX0_ruled 76 = .ok (.iload_n 2, 1) := dk_28 (dk_at dksX0_ruled_3 7 rfl rfl)
theorem dX0_ruled_77 : decode cX0_ruled 77 = .ok (.goto 4, 3) := dk_167 0 4 (dk_at dksX0_ruled_3 8 rfl rfl)
theorem dX0_ruled_80 : decode cX0_ruled 80 = .ok (.iload_n 3, 1) := dk_29 (dk_at dksX0_ruled_3 11 rfl rfl)
theorem dX0_ruled_81 : decode cX0_ruled 81 = .ok (.ireturn, 1) := dk_172 (dk_at dksX0_ruled_3 12 rfl rfl)
abbrev cX0_couldRule : ByteArray := prog_1_method_54_code
def yX0_couldRule : MethodName := ⟨RX0, "couldRule", "(I)Z"⟩
def dkwX0_couldRule_1 : List UInt8 := [182, 1, 74, 62, 42, 28, 181, 0, 35, 29, 172]
abbrev dktX0_couldRule_1 : List UInt8 := dkwX0_couldRule_1 ++ []
def dkwX0_couldRule_0 : List UInt8 := [42, 180, 0, 35, 61, 42, 27, 181, 0, 35, 42, 180, 0, 23, 42, 180, 0, 10, 182, 0, 128, 42]
abbrev dktX0_couldRule_0 : List UInt8 := dkwX0_couldRule_0 ++ dktX0_couldRule_1
theorem dksX0_couldRule_0 : cX0_couldRule.data.toList.drop 0 = dktX0_couldRule_0 := by decide +kernel
theorem dksX0_couldRule_1 : cX0_couldRule.data.toList.drop 22 = dktX0_couldRule_1 := dk_seg dksX0_couldRule_0 22 rfl rfl
theorem dX0_couldRule_0 : decode cX0_couldRule 0 = .ok (.aload_n 0, 1) := dk_42 (dk_at dksX0_couldRule_0 0 rfl rfl)
theorem dX0_couldRule_1 : decode cX0_couldRule 1 = .ok (.getfield 35, 3) := dk_180 0 35 (dk_at dksX0_couldRule_0 1 rfl rfl)
theorem dX0_couldRule_4 : decode cX0_couldRule 4 = .ok (.istore_n 2, 1) := dk_61 (dk_at dksX0_couldRule_0 4 rfl rfl)
theorem dX0_couldRule_5 : decode cX0_couldRule 5 = .ok (.aload_n 0, 1) := dk_42 (dk_at dksX0_couldRule_0 5 rfl rfl)
theorem dX0_couldRule_6 : decode cX0_couldRule 6 = .ok (.iload_n 1, 1) := dk_27 (dk_at dksX0_couldRule_0 6 rfl rfl)
theorem dX0_couldRule_7 : decode cX0_couldRule 7 = .ok (.putfield 35, 3) := dk_181 0 35 (dk_at dksX0_couldRule_0 7 rfl rfl)
theorem dX0_couldRule_10 : decode cX0_couldRule 10 = .ok (.aload_n 0, 1) := dk_42 (dk_at dksX0_couldRule_0 10 rfl rfl)
theorem dX0_couldRule_11 : decode cX0_couldRule 11 = .ok (.getfield 23, 3) := dk_180 0 23 (dk_at dksX0_couldRule_0 11 rfl rfl)
theorem dX0_couldRule_14 : decode cX0_couldRule 14 = .ok (.aload_n 0, 1) := dk_42 (dk_at dksX0_couldRule_0 14 rfl rfl)
theorem dX0_couldRule_15 : decode cX0_couldRule 15 = .ok (.getfield 10, 3) := dk_180 0 10 (dk_at dksX0_couldRule_0 15 rfl rfl)
theorem dX0_couldRule_18 : decode cX0_couldRule 18 = .ok (.invokevirtual 128, 3) := dk_182 0 128 (dk_at dksX0_couldRule_0 18 rfl rfl)
theorem dX0_couldRule_21 : decode cX0_couldRule 21 = .ok (.aload_n 0, 1) := dk_42 (dk_at dksX0_couldRule_0 21 rfl rfl)
theorem dX0_couldRule_22 : decode cX0_couldRule 22 = .ok (.invokevirtual 330, 3) := dk_182 1 74 (dk_at dksX0_couldRule_1 0 rfl rfl)
theorem dX0_couldRule_25 : decode cX0_couldRule 25 = .ok (.istore_n 3, 1) := dk_62 (dk_at dksX0_couldRule_1 3 rfl rfl)
theorem dX0_couldRule_26 : decode cX0_couldRule 26 = .ok (.aload_n 0, 1) := dk_42 (dk_at dksX0_couldRule_1 4 rfl rfl)
theorem dX0_couldRule_27 : decode cX0_couldRule 27 = .ok (.iload_n 2, 1) := dk_28 (dk_at dksX0_couldRule_1 5 rfl rfl)
theorem dX0_couldRule_28 : decode cX0_couldRule 28 = .ok (.putfield 35, 3) := dk_181 0 35 (dk_at dksX0_couldRule_1 6 rfl rfl)
theorem dX0_couldRule_31 : decode cX0_couldRule 31 = .ok (.iload_n 3, 1) := dk_29 (dk_at dksX0_couldRule_1 9 rfl rfl)
theorem dX0_couldRule_32 : decode cX0_couldRule 32 = .ok (.ireturn, 1) := dk_172 (dk_at dksX0_couldRule_1 10 rfl rfl)
abbrev cX0_doNotesFit : ByteArray := prog_1_method_53_code
def yX0_doNotesFit : MethodName := ⟨RX0, "doNotesFit", "()Z"⟩
def dkwX0_doNotesFit_2 : List UInt8 := [167, 255, 218, 4, 172]
abbrev dktX0_doNotesFit_2 : List UInt8 := dkwX0_doNotesFit_2 ++ []
def dkwX0_doNotesFit_1 : List UInt8 := [180, 0, 54, 27, 46, 182, 1, 71, 42, 180, 0, 57, 27, 46, 159, 0, 5, 3, 172, 132, 1, 1]
abbrev dktX0_doNotesFit_1 : List UInt8 := dkwX0_doNotesFit_1 ++ dktX0_doNotesFit_2
def dkwX0_doNotesFit_0 : List UInt8 := [42, 182, 1, 58, 3, 60, 27, 42, 180, 0, 132, 162, 0, 36, 42, 42, 180, 0, 50, 27, 46, 42]
abbrev dktX0_doNotesFit_0 : List UInt8 := dkwX0_doNotesFit_0 ++ dktX0_doNotesFit_1
theorem dksX0_doNotesFit_0 : cX0_doNotesFit.data.toList.drop 0 = dktX0_doNotesFit_0 := by decide +kernel
theorem dksX0_doNotesFit_1 : cX0_doNotesFit.data.toList.drop 22 = dktX0_doNotesFit_1 := dk_seg dksX0_doNotesFit_0 22 rfl rfl
theorem dksX0_doNotesFit_2 : cX0_doNotesFit.data.toList.drop 44 = dktX0_doNotesFit_2 := dk_seg dksX0_doNotesFit_1 22 rfl rfl
theorem dX0_doNotesFit_0 : decode cX0_doNotesFit 0 = .ok (.aload_n 0, 1) := dk_42 (dk_at dksX0_doNotesFit_0 0 rfl rfl)
theorem dX0_doNotesFit_1 : decode cX0_doNotesFit 1 = .ok (.invokevirtual 314, 3) := dk_182 1 58 (dk_at dksX0_doNotesFit_0 1 rfl rfl)
theorem dX0_doNotesFit_4 : decode cX0_doNotesFit 4 = .ok (.iconst 0, 1) := dk_3 (dk_at dksX0_doNotesFit_0 4 rfl rfl)
theorem dX0_doNotesFit_5 : decode cX0_doNotesFit 5 = .ok (.istore_n 1, 1) := dk_60 (dk_at dksX0_doNotesFit_0 5 rfl rfl)
theorem dX0_doNotesFit_6 : decode cX0_doNotesFit 6 = .ok (.iload_n 1, 1) := dk_27 (dk_at dksX0_doNotesFit_0 6 rfl rfl)
theorem dX0_doNotesFit_7 : decode cX0_doNotesFit 7 = .ok (.aload_n 0, 1) := dk_42 (dk_at dksX0_doNotesFit_0 7 rfl rfl)
theorem dX0_doNotesFit_8 : decode cX0_doNotesFit 8 = .ok (.getfield 132, 3) := dk_180 0 132 (dk_at dksX0_doNotesFit_0 8 rfl rfl)
theorem dX0_doNotesFit_11 : decode cX0_doNotesFit 11 = .ok (.if_icmp .ge 36, 3) := dk_162 0 36 (dk_at dksX0_doNotesFit_0 11 rfl rfl)
theorem dX0_doNotesFit_14 : decode cX0_doNotesFit 14 = .ok (.aload_n 0, 1) := dk_42 (dk_at dksX0_doNotesFit_0 14 rfl rfl)
theorem dX0_doNotesFit_15 : decode cX0_doNotesFit 15 = .ok (.aload_n 0, 1) := dk_42 (dk_at dksX0_doNotesFit_0 15 rfl rfl)
theorem dX0_doNotesFit_16 : decode cX0_doNotesFit 16 = .ok (.getfield 50, 3) := dk_180 0 50 (dk_at dksX0_doNotesFit_0 16 rfl rfl)
theorem dX0_doNotesFit_19 : decode cX0_doNotesFit 19 = .ok (.iload_n 1, 1) := dk_27 (dk_at dksX0_doNotesFit_0 19 rfl rfl)
theorem dX0_doNotesFit_20 : decode cX0_doNotesFit 20 = .ok (.iaload, 1) := dk_46 (dk_at dksX0_doNotesFit_0 20 rfl rfl)
theorem dX0_doNotesFit_21 : decode cX0_doNotesFit 21 = .ok (.aload_n 0, 1) := dk_42 (dk_at dksX0_doNotesFit_0 21 rfl rfl)
theorem dX0_doNotesFit_22 : decode cX0_doNotesFit 22 = .ok (.getfield 54, 3) := dk_180 0 54 (dk_at dksX0_doNotesFit_1 0 rfl rfl)
theorem dX0_doNotesFit_25 : decode cX0_doNotesFit 25 = .ok (.iload_n 1, 1) := dk_27 (dk_at dksX0_doNotesFit_1 3 rfl rfl)
theorem dX0_doNotesFit_26 : decode cX0_doNotesFit 26 = .ok (.iaload, 1) := dk_46 (dk_at dksX0_doNotesFit_1 4 rfl rfl)
theorem dX0_doNotesFit_27 : decode cX0_doNotesFit 27 = .ok (.invokevirtual 327, 3) := dk_182 1 71 (dk_at dksX0_doNotesFit_1 5 rfl rfl)
theorem dX0_doNotesFit_30 : decode cX0_doNotesFit 30 = .ok (.aload_n 0, 1) := dk_42 (dk_at dksX0_doNotesFit_1 8 rfl rfl)
theorem dX0_doNotesFit_31 : decode cX0_doNotesFit 31 = .ok (.getfield 57, 3) := dk_180 0 57 (dk_at dksX0_doNotesFit_1 9 rfl rfl)
theorem dX0_doNotesFit_34 : decode cX0_doNotesFit 34 = .ok (.iload_n 1, 1) := dk_27 (dk_at dksX0_doNotesFit_1 12 rfl rfl)
theorem dX0_doNotesFit_35 : decode cX0_doNotesFit 35 = .ok (.iaload, 1) := dk_46 (dk_at dksX0_doNotesFit_1 13 rfl rfl)
theorem dX0_doNotesFit_36 : decode cX0_doNotesFit 36 = .ok (.if_icmp .eq 5, 3) := dk_159 0 5 (dk_at dksX0_doNotesFit_1 14 rfl rfl)
theorem dX0_doNotesFit_39 : decode cX0_doNotesFit 39 = .ok (.iconst 0, 1) := dk_3 (dk_at dksX0_doNotesFit_1 17 rfl rfl)
theorem dX0_doNotesFit_40 : decode cX0_doNotesFit 40 = .ok (.ireturn, 1) := dk_172 (dk_at dksX0_doNotesFit_1 18 rfl rfl)
theorem dX0_doNotesFit_41 : decode cX0_doNotesFit 41 = .ok (.iinc 1 1, 3) := dk_132 1 1 (dk_at dksX0_doNotesFit_1 19 rfl rfl)
theorem dX0_doNotesFit_44 : decode cX0_doNotesFit 44 = .ok (.goto (-38), 3) := dk_167 255 218 (dk_at dksX0_doNotesFit_2 0 rfl rfl)
theorem dX0_doNotesFit_47 : decode cX0_doNotesFit 47 = .ok (.iconst 1, 1) := dk_4 (dk_at dksX0_doNotesFit_2 3 rfl rfl)
theorem dX0_doNotesFit_48 : decode cX0_doNotesFit 48 = .ok (.ireturn, 1) := dk_172 (dk_at dksX0_doNotesFit_2 4 rfl rfl)
abbrev cX0_cellThen : ByteArray := prog_1_method_52_code
def yX0_cellThen : MethodName := ⟨RX0, "cellThen", "(II)I"⟩
def dkwX0_cellThen_0 : List UInt8 := [42, 180, 0, 85, 8, 8, 27, 104, 28, 96, 104, 46, 172]
abbrev dktX0_cellThen_0 : List UInt8 := dkwX0_cellThen_0 ++ []
theorem dksX0_cellThen_0 : cX0_cellThen.data.toList.drop 0 = dktX0_cellThen_0 := by decide +kernel
theorem dX0_cellThen_0 : decode cX0_cellThen 0 = .ok (.aload_n 0, 1) := dk_42 (dk_at dksX0_cellThen_0 0 rfl rfl)
theorem dX0_cellThen_1 : decode cX0_cellThen 1 = .ok (.getfield 85, 3) := dk_180 0 85 (dk_at dksX0_cellThen_0 1 rfl rfl)
theorem dX0_cellThen_4 : decode cX0_cellThen 4 = .ok (.iconst 5, 1) := dk_8 (dk_at dksX0_cellThen_0 4 rfl rfl)
theorem dX0_cellThen_5 : decode cX0_cellThen 5 = .ok (.iconst 5, 1) := dk_8 (dk_at dksX0_cellThen_0 5 rfl rfl)
theorem dX0_cellThen_6 : decode cX0_cellThen 6 = .ok (.iload_n 1, 1) := dk_27 (dk_at dksX0_cellThen_0 6 rfl rfl)
theorem dX0_cellThen_7 : decode cX0_cellThen 7 = .ok (.imul, 1) := dk_104 (dk_at dksX0_cellThen_0 7 rfl rfl)
theorem dX0_cellThen_8 : decode cX0_cellThen 8 = .ok (.iload_n 2, 1) := dk_28 (dk_at dksX0_cellThen_0 8 rfl rfl)
theorem dX0_cellThen_9 : decode cX0_cellThen 9 = .ok (.iadd, 1) := dk_96 (dk_at dksX0_cellThen_0 9 rfl rfl)
theorem dX0_cellThen_10 : decode cX0_cellThen 10 = .ok (.imul, 1) := dk_104 (dk_at dksX0_cellThen_0 10 rfl rfl)
theorem dX0_cellThen_11 : decode cX0_cellThen 11 = .ok (.iaload, 1) := dk_46 (dk_at dksX0_cellThen_0 11 rfl rfl)
theorem dX0_cellThen_12 : decode cX0_cellThen 12 = .ok (.ireturn, 1) := dk_172 (dk_at dksX0_cellThen_0 12 rfl rfl)
abbrev cX0_look : ByteArray := prog_1_method_57_code
def yX0_look : MethodName := ⟨RX0, "look", "(II)I"⟩
def dkwX0_look_7 : List UInt8 := [28, 154, 0, 8, 21, 4, 167, 0, 10, 42, 21, 4, 29, 182, 1, 83, 172]
abbrev dktX0_look_7 : List UInt8 := dkwX0_look_7 ++ []
def dkwX0_look_6 : List UInt8 := [29, 182, 1, 83, 42, 21, 4, 29, 182, 1, 83, 162, 0, 7, 21, 5, 54, 4, 132, 5, 1, 167, 255, 220]
abbrev dktX0_look_6 : List UInt8 := dkwX0_look_6 ++ dktX0_look_7
def dkwX0_look_5 : List UInt8 := [16, 254, 172, 3, 54, 4, 4, 54, 5, 21, 5, 42, 180, 0, 10, 182, 0, 100, 162, 0, 30, 42, 21, 5]
abbrev dktX0_look_5 : List UInt8 := dkwX0_look_5 ++ dktX0_look_6
def dkwX0_look_4 : List UInt8 := [132, 3, 1, 132, 4, 1, 167, 255, 193, 29, 153, 0, 13, 42, 180, 0, 10, 182, 0, 100, 154, 0, 6]
abbrev dktX0_look_4 : List UInt8 := dkwX0_look_4 ++ dktX0_look_5
def dkwX0_look_3 : List UInt8 := [42, 180, 0, 88, 8, 29, 104, 21, 5, 96, 42, 27, 21, 5, 182, 1, 71, 79, 132, 5, 1, 167, 255, 229]
abbrev dktX0_look_3 : List UInt8 := dkwX0_look_3 ++ dktX0_look_4
def dkwX0_look_2 : List UInt8 := [162, 0, 57, 42, 21, 4, 182, 1, 77, 154, 0, 6, 167, 0, 39, 3, 54, 5, 21, 5, 8, 162, 0, 27]
abbrev dktX0_look_2 : List UInt8 := dkwX0_look_2 ++ dktX0_look_3
def dkwX0_look_1 : List UInt8 := [184, 0, 104, 154, 0, 5, 2, 172, 3, 62, 2, 54, 4, 21, 4, 42, 180, 0, 31, 182, 0, 138]
abbrev dktX0_look_1 : List UInt8 := dkwX0_look_1 ++ dktX0_look_2
def dkwX0_look_0 : List UInt8 := [42, 182, 0, 168, 153, 0, 25, 27, 133, 9, 20, 1, 69, 184, 0, 104, 153, 0, 13, 28, 133, 9, 10]
abbrev dktX0_look_0 : List UInt8 := dkwX0_look_0 ++ dktX0_look_1
theorem dksX0_look_0 : cX0_look.data.toList.drop 0 = dktX0_look_0 := by decide +kernel
theorem dksX0_look_1 : cX0_look.data.toList.drop 23 = dktX0_look_1 := dk_seg dksX0_look_0 23 rfl rfl
theorem dksX0_look_2 : cX0_look.data.toList.drop 45 = dktX0_look_2 := dk_seg dksX0_look_1 22 rfl rfl
theorem dksX0_look_3 : cX0_look.data.toList.drop 69 = dktX0_look_3 := dk_seg dksX0_look_2 24 rfl rfl
theorem dksX0_look_4 : cX0_look.data.toList.drop 93 = dktX0_look_4 := dk_seg dksX0_look_3 24 rfl rfl
theorem dksX0_look_5 : cX0_look.data.toList.drop 116 = dktX0_look_5 := dk_seg dksX0_look_4 23 rfl rfl
theorem dksX0_look_6 : cX0_look.data.toList.drop 140 = dktX0_look_6 := dk_seg dksX0_look_5 24 rfl rfl
theorem dksX0_look_7 : cX0_look.data.toList.drop 164 = dktX0_look_7 := dk_seg dksX0_look_6 24 rfl rfl
theorem dX0_look_0 : decode cX0_look 0 = .ok (.aload_n 0, 1) := dk_42 (dk_at dksX0_look_0 0 rfl rfl)
theorem dX0_look_1 : decode cX0_look 1 = .ok (.invokevirtual 168, 3) := dk_182 0 168 (dk_at dksX0_look_0 1 rfl rfl)
theorem dX0_look_4 : decode cX0_look 4 = .ok (.ifCond .eq 25, 3) := dk_153 0 25 (dk_at dksX0_look_0 4 rfl rfl)
theorem dX0_look_7 : decode cX0_look 7 = .ok (.iload_n 1, 1) := dk_27 (dk_at dksX0_look_0 7 rfl rfl)
theorem dX0_look_8 : decode cX0_look 8 = .ok (.i2l, 1) := dk_133 (dk_at dksX0_look_0 8 rfl rfl)
theorem dX0_look_9 : decode cX0_look 9 = .ok (.lconst 0, 1) := dk_9 (dk_at dksX0_look_0 9 rfl rfl)
theorem dX0_look_10 : decode cX0_look 10 = .ok (.ldc2_w 325, 3) := dk_20 1 69 (dk_at dksX0_look_0 10 rfl rfl)
theorem dX0_look_13 : decode cX0_look 13 = .ok (.invokestatic 104, 3) := dk_184 0 104 (dk_at dksX0_look_0 13 rfl rfl)
theorem dX0_look_16 : decode cX0_look 16 = .ok (.ifCond .eq 13, 3) := dk_153 0 13 (dk_at dksX0_look_0 16 rfl rfl)
theorem dX0_look_19 : decode cX0_look 19 = .ok (.iload_n 2, 1) := dk_28 (dk_at dksX0_look_0 19 rfl rfl)
theorem dX0_look_20 : decode cX0_look 20 = .ok (.i2l, 1) := dk_133 (dk_at dksX0_look_0 20 rfl rfl)
theorem dX0_look_21 : decode cX0_look 21 = .ok (.lconst 0, 1) := dk_9 (dk_at dksX0_look_0 21 rfl rfl)
theorem dX0_look_22 : decode cX0_look 22 = .ok (.lconst 1, 1) := dk_10 (dk_at dksX0_look_0 22 rfl rfl)
theorem dX0_look_23 : decode cX0_look 23 = .ok (.invokestatic 104, 3) := dk_184 0 104 (dk_at dksX0_look_1 0 rfl rfl)
theorem dX0_look_26 : decode cX0_look 26 = .ok (.ifCond .ne 5, 3) := dk_154 0 5 (dk_at dksX0_look_1 3 rfl rfl)
theorem dX0_look_29 : decode cX0_look 29 = .ok (.iconst (-1), 1) := dk_2 (dk_at dksX0_look_1 6 rfl rfl)
theorem dX0_look_30 : decode cX0_look 30 = .ok (.ireturn, 1) := dk_172 (dk_at dksX0_look_1 7 rfl rfl)
theorem dX0_look_31 : decode cX0_look 31 = .ok (.iconst 0, 1) := dk_3 (dk_at dksX0_look_1 8 rfl rfl)
theorem dX0_look_32 : decode cX0_look 32 = .ok (.istore_n 3, 1) := dk_62 (dk_at dksX0_look_1 9 rfl rfl)
theorem dX0_look_33 : decode cX0_look 33 = .ok (.iconst (-1), 1) := dk_2 (dk_at dksX0_look_1 10 rfl rfl)
theorem dX0_look_34 : decode cX0_look 34 = .ok (.istore 4, 2) := dk_54 4 (dk_at dksX0_look_1 11 rfl rfl)
theorem dX0_look_36 : decode cX0_look 36 = .ok (.iload 4, 2) := dk_21 4 (dk_at dksX0_look_1 13 rfl rfl)
theorem dX0_look_38 : decode cX0_look 38 = .ok (.aload_n 0, 1) := dk_42 (dk_at dksX0_look_1 15 rfl rfl)
theorem dX0_look_39 : decode cX0_look 39 = .ok (.getfield 31, 3) := dk_180 0 31 (dk_at dksX0_look_1 16 rfl rfl)
theorem dX0_look_42 : decode cX0_look 42 = .ok (.invokevirtual 138, 3) := dk_182 0 138 (dk_at dksX0_look_1 19 rfl rfl)
theorem dX0_look_45 : decode cX0_look 45 = .ok (.if_icmp .ge 57, 3) := dk_162 0 57 (dk_at dksX0_look_2 0 rfl rfl)
theorem dX0_look_48 : decode cX0_look 48 = .ok (.aload_n 0, 1) := dk_42 (dk_at dksX0_look_2 3 rfl rfl)
theorem dX0_look_49 : decode cX0_look 49 = .ok (.iload 4, 2) := dk_21 4 (dk_at dksX0_look_2 4 rfl rfl)
theorem dX0_look_51 : decode cX0_look 51 = .ok (.invokevirtual 333, 3) := dk_182 1 77 (dk_at dksX0_look_2 6 rfl rfl)
theorem dX0_look_54 : decode cX0_look 54 = .ok (.ifCond .ne 6, 3) := dk_154 0 6 (dk_at dksX0_look_2 9 rfl rfl)
theorem dX0_look_57 : decode cX0_look 57 = .ok (.goto 39, 3) := dk_167 0 39 (dk_at dksX0_look_2 12 rfl rfl)
theorem dX0_look_60 : decode cX0_look 60 = .ok (.iconst 0, 1) := dk_3 (dk_at dksX0_look_2 15 rfl rfl)
theorem dX0_look_61 : decode cX0_look 61 = .ok (.istore 5, 2) := dk_54 5 (dk_at dksX0_look_2 16 rfl rfl)
theorem dX0_look_63 : decode cX0_look 63 = .ok (.iload 5, 2) := dk_21 5 (dk_at dksX0_look_2 18 rfl rfl)
theorem dX0_look_65 : decode cX0_look 65 = .ok (.iconst 5, 1) := dk_8 (dk_at dksX0_look_2 20 rfl rfl)
theorem dX0_look_66 : decode cX0_look 66 = .ok (.if_icmp .ge 27, 3) := dk_162 0 27 (dk_at dksX0_look_2 21 rfl rfl)
theorem dX0_look_69 : decode cX0_look 69 = .ok (.aload_n 0, 1) := dk_42 (dk_at dksX0_look_3 0 rfl rfl)
theorem dX0_look_70 : decode cX0_look 70 = .ok (.getfield 88, 3) := dk_180 0 88 (dk_at dksX0_look_3 1 rfl rfl)
theorem dX0_look_73 : decode cX0_look 73 = .ok (.iconst 5, 1) := dk_8 (dk_at dksX0_look_3 4 rfl rfl)
theorem dX0_look_74 : decode cX0_look 74 = .ok (.iload_n 3, 1) := dk_29 (dk_at dksX0_look_3 5 rfl rfl)
theorem dX0_look_75 : decode cX0_look 75 = .ok (.imul, 1) := dk_104 (dk_at dksX0_look_3 6 rfl rfl)
theorem dX0_look_76 : decode cX0_look 76 = .ok (.iload 5, 2) := dk_21 5 (dk_at dksX0_look_3 7 rfl rfl)
theorem dX0_look_78 : decode cX0_look 78 = .ok (.iadd, 1) := dk_96 (dk_at dksX0_look_3 9 rfl rfl)
theorem dX0_look_79 : decode cX0_look 79 = .ok (.aload_n 0, 1) := dk_42 (dk_at dksX0_look_3 10 rfl rfl)
theorem dX0_look_80 : decode cX0_look 80 = .ok (.iload_n 1, 1) := dk_27 (dk_at dksX0_look_3 11 rfl rfl)
theorem dX0_look_81 : decode cX0_look 81 = .ok (.iload 5, 2) := dk_21 5 (dk_at dksX0_look_3 12 rfl rfl)
theorem dX0_look_83 : decode cX0_look 83 = .ok (.invokevirtual 327, 3) := dk_182 1 71 (dk_at dksX0_look_3 14 rfl rfl)
theorem dX0_look_86 : decode cX0_look 86 = .ok (.iastore, 1) := dk_79 (dk_at dksX0_look_3 17 rfl rfl)
theorem dX0_look_87 : decode cX0_look 87 = .ok (.iinc 5 1, 3) := dk_132 5 1 (dk_at dksX0_look_3 18 rfl rfl)
theorem dX0_look_90 : decode cX0_look 90 = .ok (.goto (-27), 3) := dk_167 255 229 (dk_at dksX0_look_3 21 rfl rfl)
theorem dX0_look_93 : decode cX0_look 93 = .ok (.iinc 3 1, 3) := dk_132 3 1 (dk_at dksX0_look_4 0 rfl rfl)
theorem dX0_look_96 : decode cX0_look 96 = .ok (.iinc 4 1, 3) := dk_132 4 1 (dk_at dksX0_look_4 3 rfl rfl)
theorem dX0_look_99 : decode cX0_look 99 = .ok (.goto (-63), 3) := dk_167 255 193 (dk_at dksX0_look_4 6 rfl rfl)
theorem dX0_look_102 : decode cX0_look 102 = .ok (.iload_n 3, 1) := dk_29 (dk_at dksX0_look_4 9 rfl rfl)
theorem dX0_look_103 : decode cX0_look 103 = .ok (.ifCond .eq 13, 3) := dk_153 0 13 (dk_at dksX0_look_4 10 rfl rfl)
theorem dX0_look_106 : decode cX0_look 106 = .ok (.aload_n 0, 1) := dk_42 (dk_at dksX0_look_4 13 rfl rfl)
theorem dX0_look_107 : decode cX0_look 107 = .ok (.getfield 10, 3) := dk_180 0 10 (dk_at dksX0_look_4 14 rfl rfl)
theorem dX0_look_110 : decode cX0_look 110 = .ok (.invokevirtual 100, 3) := dk_182 0 100 (dk_at dksX0_look_4 17 rfl rfl)
theorem dX0_look_113 : decode cX0_look 113 = .ok (.ifCond .ne 6, 3) := dk_154 0 6 (dk_at dksX0_look_4 20 rfl rfl)
theorem dX0_look_116 : decode cX0_look 116 = .ok (.bipush (-2), 2) := dk_16 254 (dk_at dksX0_look_5 0 rfl rfl)
theorem dX0_look_118 : decode cX0_look 118 = .ok (.ireturn, 1) := dk_172 (dk_at dksX0_look_5 2 rfl rfl)
theorem dX0_look_119 : decode cX0_look 119 = .ok (.iconst 0, 1) := dk_3 (dk_at dksX0_look_5 3 rfl rfl)
theorem dX0_look_120 : decode cX0_look 120 = .ok (.istore 4, 2) := dk_54 4 (dk_at dksX0_look_5 4 rfl rfl)
theorem dX0_look_122 : decode cX0_look 122 = .ok (.iconst 1, 1) := dk_4 (dk_at dksX0_look_5 6 rfl rfl)
theorem dX0_look_123 : decode cX0_look 123 = .ok (.istore 5, 2) := dk_54 5 (dk_at dksX0_look_5 7 rfl rfl)
theorem dX0_look_125 : decode cX0_look 125 = .ok (.iload 5, 2) := dk_21 5 (dk_at dksX0_look_5 9 rfl rfl)
theorem dX0_look_127 : decode cX0_look 127 = .ok (.aload_n 0, 1) := dk_42 (dk_at dksX0_look_5 11 rfl rfl)
theorem dX0_look_128 : decode cX0_look 128 = .ok (.getfield 10, 3) := dk_180 0 10 (dk_at dksX0_look_5 12 rfl rfl)
theorem dX0_look_131 : decode cX0_look 131 = .ok (.invokevirtual 100, 3) := dk_182 0 100 (dk_at dksX0_look_5 15 rfl rfl)
theorem dX0_look_134 : decode cX0_look 134 = .ok (.if_icmp .ge 30, 3) := dk_162 0 30 (dk_at dksX0_look_5 18 rfl rfl)
theorem dX0_look_137 : decode cX0_look 137 = .ok (.aload_n 0, 1) := dk_42 (dk_at dksX0_look_5 21 rfl rfl)
theorem dX0_look_138 : decode cX0_look 138 = .ok (.iload 5, 2) := dk_21 5 (dk_at dksX0_look_5 22 rfl rfl)
theorem dX0_look_140 : decode cX0_look 140 = .ok (.iload_n 3, 1) := dk_29 (dk_at dksX0_look_6 0 rfl rfl)
theorem dX0_look_141 : decode cX0_look 141 = .ok (.invokevirtual 339, 3) := dk_182 1 83 (dk_at dksX0_look_6 1 rfl rfl)
theorem dX0_look_144 : decode cX0_look 144 = .ok (.aload_n 0, 1) := dk_42 (dk_at dksX0_look_6 4 rfl rfl)
theorem dX0_look_145 : decode cX0_look 145 = .ok (.iload 4, 2) := dk_21 4 (dk_at dksX0_look_6 5 rfl rfl)
theorem dX0_look_147 : decode cX0_look 147 = .ok (.iload_n 3, 1) := dk_29 (dk_at dksX0_look_6 7 rfl rfl)
theorem dX0_look_148 : decode cX0_look 148 = .ok (.invokevirtual 339, 3) := dk_182 1 83 (dk_at dksX0_look_6 8 rfl rfl)
theorem dX0_look_151 : decode cX0_look 151 = .ok (.if_icmp .ge 7, 3) := dk_162 0 7 (dk_at dksX0_look_6 11 rfl rfl)
theorem dX0_look_154 : decode cX0_look 154 = .ok (.iload 5, 2) := dk_21 5 (dk_at dksX0_look_6 14 rfl rfl)
theorem dX0_look_156 : decode cX0_look 156 = .ok (.istore 4, 2) := dk_54 4 (dk_at dksX0_look_6 16 rfl rfl)
theorem dX0_look_158 : decode cX0_look 158 = .ok (.iinc 5 1, 3) := dk_132 5 1 (dk_at dksX0_look_6 18 rfl rfl)
theorem dX0_look_161 : decode cX0_look 161 = .ok (.goto (-36), 3) := dk_167 255 220 (dk_at dksX0_look_6 21 rfl rfl)
theorem dX0_look_164 : decode cX0_look 164 = .ok (.iload_n 2, 1) := dk_28 (dk_at dksX0_look_7 0 rfl rfl)
theorem dX0_look_165 : decode cX0_look 165 = .ok (.ifCond .ne 8, 3) := dk_154 0 8 (dk_at dksX0_look_7 1 rfl rfl)
theorem dX0_look_168 : decode cX0_look 168 = .ok (.iload 4, 2) := dk_21 4 (dk_at dksX0_look_7 4 rfl rfl)
theorem dX0_look_170 : decode cX0_look 170 = .ok (.goto 10, 3) := dk_167 0 10 (dk_at dksX0_look_7 6 rfl rfl)
theorem dX0_look_173 : decode cX0_look 173 = .ok (.aload_n 0, 1) := dk_42 (dk_at dksX0_look_7 9 rfl rfl)
theorem dX0_look_174 : decode cX0_look 174 = .ok (.iload 4, 2) := dk_21 4 (dk_at dksX0_look_7 10 rfl rfl)
theorem dX0_look_176 : decode cX0_look 176 = .ok (.iload_n 3, 1) := dk_29 (dk_at dksX0_look_7 12 rfl rfl)
theorem dX0_look_177 : decode cX0_look 177 = .ok (.invokevirtual 339, 3) := dk_182 1 83 (dk_at dksX0_look_7 13 rfl rfl)
theorem dX0_look_180 : decode cX0_look 180 = .ok (.ireturn, 1) := dk_172 (dk_at dksX0_look_7 16 rfl rfl)
abbrev cX0_mostAlike : ByteArray := prog_1_method_56_code
def yX0_mostAlike : MethodName := ⟨RX0, "mostAlike", "(II)I"⟩
def dkwX0_mostAlike_3 : List UInt8 := [184, 1, 80, 62, 132, 4, 1, 167, 255, 184, 29, 172]
abbrev dktX0_mostAlike_3 : List UInt8 := dkwX0_mostAlike_3 ++ []
def dkwX0_mostAlike_2 : List UInt8 := [160, 0, 7, 4, 167, 0, 4, 3, 184, 0, 186, 96, 54, 5, 132, 6, 1, 167, 255, 209, 29, 21, 5]
abbrev dktX0_mostAlike_2 : List UInt8 := dkwX0_mostAlike_2 ++ dktX0_mostAlike_3
def dkwX0_mostAlike_1 : List UInt8 := [21, 5, 42, 180, 0, 88, 8, 21, 6, 104, 27, 96, 46, 42, 180, 0, 88, 8, 21, 4, 104, 27, 96, 46]
abbrev dktX0_mostAlike_1 : List UInt8 := dkwX0_mostAlike_1 ++ dktX0_mostAlike_2
def dkwX0_mostAlike_0 : List UInt8 := [3, 62, 3, 54, 4, 21, 4, 28, 162, 0, 72, 3, 54, 5, 3, 54, 6, 21, 6, 28, 162, 0, 47]
abbrev dktX0_mostAlike_0 : List UInt8 := dkwX0_mostAlike_0 ++ dktX0_mostAlike_1
theorem dksX0_mostAlike_0 : cX0_mostAlike.data.toList.drop 0 = dktX0_mostAlike_0 := by decide +kernel
theorem dksX0_mostAlike_1 : cX0_mostAlike.data.toList.drop 23 = dktX0_mostAlike_1 := dk_seg dksX0_mostAlike_0 23 rfl rfl
theorem dksX0_mostAlike_2 : cX0_mostAlike.data.toList.drop 47 = dktX0_mostAlike_2 := dk_seg dksX0_mostAlike_1 24 rfl rfl
theorem dksX0_mostAlike_3 : cX0_mostAlike.data.toList.drop 70 = dktX0_mostAlike_3 := dk_seg dksX0_mostAlike_2 23 rfl rfl
theorem dX0_mostAlike_0 : decode cX0_mostAlike 0 = .ok (.iconst 0, 1) := dk_3 (dk_at dksX0_mostAlike_0 0 rfl rfl)
theorem dX0_mostAlike_1 : decode cX0_mostAlike 1 = .ok (.istore_n 3, 1) := dk_62 (dk_at dksX0_mostAlike_0 1 rfl rfl)
theorem dX0_mostAlike_2 : decode cX0_mostAlike 2 = .ok (.iconst 0, 1) := dk_3 (dk_at dksX0_mostAlike_0 2 rfl rfl)
theorem dX0_mostAlike_3 : decode cX0_mostAlike 3 = .ok (.istore 4, 2) := dk_54 4 (dk_at dksX0_mostAlike_0 3 rfl rfl)
theorem dX0_mostAlike_5 : decode cX0_mostAlike 5 = .ok (.iload 4, 2) := dk_21 4 (dk_at dksX0_mostAlike_0 5 rfl rfl)
theorem dX0_mostAlike_7 : decode cX0_mostAlike 7 = .ok (.iload_n 2, 1) := dk_28 (dk_at dksX0_mostAlike_0 7 rfl rfl)
theorem dX0_mostAlike_8 : decode cX0_mostAlike 8 = .ok (.if_icmp .ge 72, 3) := dk_162 0 72 (dk_at dksX0_mostAlike_0 8 rfl rfl)
theorem dX0_mostAlike_11 : decode cX0_mostAlike 11 = .ok (.iconst 0, 1) := dk_3 (dk_at dksX0_mostAlike_0 11 rfl rfl)
theorem dX0_mostAlike_12 : decode cX0_mostAlike 12 = .ok (.istore 5, 2) := dk_54 5 (dk_at dksX0_mostAlike_0 12 rfl rfl)
theorem dX0_mostAlike_14 : decode cX0_mostAlike 14 = .ok (.iconst 0, 1) := dk_3 (dk_at dksX0_mostAlike_0 14 rfl rfl)
theorem dX0_mostAlike_15 : decode cX0_mostAlike 15 = .ok (.istore 6, 2) := dk_54 6 (dk_at dksX0_mostAlike_0 15 rfl rfl)
theorem dX0_mostAlike_17 : decode cX0_mostAlike 17 = .ok (.iload 6, 2) := dk_21 6 (dk_at dksX0_mostAlike_0 17 rfl rfl)
theorem dX0_mostAlike_19 : decode cX0_mostAlike 19 = .ok (.iload_n 2, 1) := dk_28 (dk_at dksX0_mostAlike_0 19 rfl rfl)
theorem dX0_mostAlike_20 : decode cX0_mostAlike 20 = .ok (.if_icmp .ge 47, 3) := dk_162 0 47 (dk_at dksX0_mostAlike_0 20 rfl rfl)
theorem dX0_mostAlike_23 : decode cX0_mostAlike 23 = .ok (.iload 5, 2) := dk_21 5 (dk_at dksX0_mostAlike_1 0 rfl rfl)
theorem dX0_mostAlike_25 : decode cX0_mostAlike 25 = .ok (.aload_n 0, 1) := dk_42 (dk_at dksX0_mostAlike_1 2 rfl rfl)
theorem dX0_mostAlike_26 : decode cX0_mostAlike 26 = .ok (.getfield 88, 3) := dk_180 0 88 (dk_at dksX0_mostAlike_1 3 rfl rfl)
theorem dX0_mostAlike_29 : decode cX0_mostAlike 29 = .ok (.iconst 5, 1) := dk_8 (dk_at dksX0_mostAlike_1 6 rfl rfl)
theorem dX0_mostAlike_30 : decode cX0_mostAlike 30 = .ok (.iload 6, 2) := dk_21 6 (dk_at dksX0_mostAlike_1 7 rfl rfl)
theorem dX0_mostAlike_32 : decode cX0_mostAlike 32 = .ok (.imul, 1) := dk_104 (dk_at dksX0_mostAlike_1 9 rfl rfl)
theorem dX0_mostAlike_33 : decode cX0_mostAlike 33 = .ok (.iload_n 1, 1) := dk_27 (dk_at dksX0_mostAlike_1 10 rfl rfl)
theorem dX0_mostAlike_34 : decode cX0_mostAlike 34 = .ok (.iadd, 1) := dk_96 (dk_at dksX0_mostAlike_1 11 rfl rfl)
theorem dX0_mostAlike_35 : decode cX0_mostAlike 35 = .ok (.iaload, 1) := dk_46 (dk_at dksX0_mostAlike_1 12 rfl rfl)
theorem dX0_mostAlike_36 : decode cX0_mostAlike 36 = .ok (.aload_n 0, 1) := dk_42 (dk_at dksX0_mostAlike_1 13 rfl rfl)
theorem dX0_mostAlike_37 : decode cX0_mostAlike 37 = .ok (.getfield 88, 3) := dk_180 0 88 (dk_at dksX0_mostAlike_1 14 rfl rfl)
theorem dX0_mostAlike_40 : decode cX0_mostAlike 40 = .ok (.iconst 5, 1) := dk_8 (dk_at dksX0_mostAlike_1 17 rfl rfl)
theorem dX0_mostAlike_41 : decode cX0_mostAlike 41 = .ok (.iload 4, 2) := dk_21 4 (dk_at dksX0_mostAlike_1 18 rfl rfl)
theorem dX0_mostAlike_43 : decode cX0_mostAlike 43 = .ok (.imul, 1) := dk_104 (dk_at dksX0_mostAlike_1 20 rfl rfl)
theorem dX0_mostAlike_44 : decode cX0_mostAlike 44 = .ok (.iload_n 1, 1) := dk_27 (dk_at dksX0_mostAlike_1 21 rfl rfl)
theorem dX0_mostAlike_45 : decode cX0_mostAlike 45 = .ok (.iadd, 1) := dk_96 (dk_at dksX0_mostAlike_1 22 rfl rfl)
theorem dX0_mostAlike_46 : decode cX0_mostAlike 46 = .ok (.iaload, 1) := dk_46 (dk_at dksX0_mostAlike_1 23 rfl rfl)
theorem dX0_mostAlike_47 : decode cX0_mostAlike 47 = .ok (.if_icmp .ne 7, 3) := dk_160 0 7 (dk_at dksX0_mostAlike_2 0 rfl rfl)
theorem dX0_mostAlike_50 : decode cX0_mostAlike 50 = .ok (.iconst 1, 1) := dk_4 (dk_at dksX0_mostAlike_2 3 rfl rfl)
theorem dX0_mostAlike_51 : decode cX0_mostAlike 51 = .ok (.goto 4, 3) := dk_167 0 4 (dk_at dksX0_mostAlike_2 4 rfl rfl)
theorem dX0_mostAlike_54 : decode cX0_mostAlike 54 = .ok (.iconst 0, 1) := dk_3 (dk_at dksX0_mostAlike_2 7 rfl rfl)
theorem dX0_mostAlike_55 : decode cX0_mostAlike 55 = .ok (.invokestatic 186, 3) := dk_184 0 186 (dk_at dksX0_mostAlike_2 8 rfl rfl)
theorem dX0_mostAlike_58 : decode cX0_mostAlike 58 = .ok (.iadd, 1) := dk_96 (dk_at dksX0_mostAlike_2 11 rfl rfl)
theorem dX0_mostAlike_59 : decode cX0_mostAlike 59 = .ok (.istore 5, 2) := dk_54 5 (dk_at dksX0_mostAlike_2 12 rfl rfl)
theorem dX0_mostAlike_61 : decode cX0_mostAlike 61 = .ok (.iinc 6 1, 3) := dk_132 6 1 (dk_at dksX0_mostAlike_2 14 rfl rfl)
theorem dX0_mostAlike_64 : decode cX0_mostAlike 64 = .ok (.goto (-47), 3) := dk_167 255 209 (dk_at dksX0_mostAlike_2 17 rfl rfl)
theorem dX0_mostAlike_67 : decode cX0_mostAlike 67 = .ok (.iload_n 3, 1) := dk_29 (dk_at dksX0_mostAlike_2 20 rfl rfl)
theorem dX0_mostAlike_68 : decode cX0_mostAlike 68 = .ok (.iload 5, 2) := dk_21 5 (dk_at dksX0_mostAlike_2 21 rfl rfl)
theorem dX0_mostAlike_70 : decode cX0_mostAlike 70 = .ok (.invokestatic 336, 3) := dk_184 1 80 (dk_at dksX0_mostAlike_3 0 rfl rfl)
theorem dX0_mostAlike_73 : decode cX0_mostAlike 73 = .ok (.istore_n 3, 1) := dk_62 (dk_at dksX0_mostAlike_3 3 rfl rfl)
theorem dX0_mostAlike_74 : decode cX0_mostAlike 74 = .ok (.iinc 4 1, 3) := dk_132 4 1 (dk_at dksX0_mostAlike_3 4 rfl rfl)
theorem dX0_mostAlike_77 : decode cX0_mostAlike 77 = .ok (.goto (-72), 3) := dk_167 255 184 (dk_at dksX0_mostAlike_3 7 rfl rfl)
theorem dX0_mostAlike_80 : decode cX0_mostAlike 80 = .ok (.iload_n 3, 1) := dk_29 (dk_at dksX0_mostAlike_3 10 rfl rfl)
theorem dX0_mostAlike_81 : decode cX0_mostAlike 81 = .ok (.ireturn, 1) := dk_172 (dk_at dksX0_mostAlike_3 11 rfl rfl)
abbrev cX0_folds : ByteArray := prog_1_method_59_code
def yX0_folds : MethodName := ⟨RX0, "folds", "(I)I"⟩
def dkwX0_folds_4 : List UInt8 := [6, 126, 172]
abbrev dktX0_folds_4 : List UInt8 := dkwX0_folds_4 ++ []
def dkwX0_folds_3 : List UInt8 := [2, 160, 0, 7, 28, 167, 0, 21, 28, 154, 0, 8, 16, 254, 167, 0, 12, 29, 5, 6, 27, 100, 104, 122]
abbrev dktX0_folds_3 : List UInt8 := dkwX0_folds_3 ++ dktX0_folds_4
def dkwX0_folds_2 : List UInt8 := [167, 0, 17, 28, 154, 0, 8, 21, 4, 167, 0, 4, 29, 62, 132, 2, 1, 132, 4, 1, 167, 255, 219, 27]
abbrev dktX0_folds_2 : List UInt8 := dkwX0_folds_2 ++ dktX0_folds_3
def dkwX0_folds_1 : List UInt8 := [3, 61, 2, 62, 3, 54, 4, 21, 4, 17, 1, 0, 162, 0, 35, 42, 21, 4, 182, 1, 86, 154, 0, 6]
abbrev dktX0_folds_1 : List UInt8 := dkwX0_folds_1 ++ dktX0_folds_2
def dkwX0_folds_0 : List UInt8 := [42, 182, 0, 168, 153, 0, 17, 27, 133, 20, 0, 144, 20, 0, 172, 184, 0, 104, 154, 0, 6, 16, 253, 172]
abbrev dktX0_folds_0 : List UInt8 := dkwX0_folds_0 ++ dktX0_folds_1
theorem dksX0_folds_0 : cX0_folds.data.toList.drop 0 = dktX0_folds_0 := by decide +kernel
theorem dksX0_folds_1 : cX0_folds.data.toList.drop 24 = dktX0_folds_1 := dk_seg dksX0_folds_0 24 rfl rfl
theorem dksX0_folds_2 : cX0_folds.data.toList.drop 48 = dktX0_folds_2 := dk_seg dksX0_folds_1 24 rfl rfl
theorem dksX0_folds_3 : cX0_folds.data.toList.drop 72 = dktX0_folds_3 := dk_seg dksX0_folds_2 24 rfl rfl
theorem dksX0_folds_4 : cX0_folds.data.toList.drop 96 = dktX0_folds_4 := dk_seg dksX0_folds_3 24 rfl rfl
theorem dX0_folds_0 : decode cX0_folds 0 = .ok (.aload_n 0, 1) := dk_42 (dk_at dksX0_folds_0 0 rfl rfl)
theorem dX0_folds_1 : decode cX0_folds 1 = .ok (.invokevirtual 168, 3) := dk_182 0 168 (dk_at dksX0_folds_0 1 rfl rfl)
theorem dX0_folds_4 : decode cX0_folds 4 = .ok (.ifCond .eq 17, 3) := dk_153 0 17 (dk_at dksX0_folds_0 4 rfl rfl)
theorem dX0_folds_7 : decode cX0_folds 7 = .ok (.iload_n 1, 1) := dk_27 (dk_at dksX0_folds_0 7 rfl rfl)
theorem dX0_folds_8 : decode cX0_folds 8 = .ok (.i2l, 1) := dk_133 (dk_at dksX0_folds_0 8 rfl rfl)
theorem dX0_folds_9 : decode cX0_folds 9 = .ok (.ldc2_w 144, 3) := dk_20 0 144 (dk_at dksX0_folds_0 9 rfl rfl)
theorem dX0_folds_12 : decode cX0_folds 12 = .ok (.ldc2_w 172, 3) := dk_20 0 172 (dk_at dksX0_folds_0 12 rfl rfl)
theorem dX0_folds_15 : decode cX0_folds 15 = .ok (.invokestatic 104, 3) := dk_184 0 104 (dk_at dksX0_folds_0 15 rfl rfl)
theorem dX0_folds_18 : decode cX0_folds 18 = .ok (.ifCond .ne 6, 3) := dk_154 0 6 (dk_at dksX0_folds_0 18 rfl rfl)
theorem dX0_folds_21 : decode cX0_folds 21 = .ok (.bipush (-3), 2) := dk_16 253 (dk_at dksX0_folds_0 21 rfl rfl)
theorem dX0_folds_23 : decode cX0_folds 23 = .ok (.ireturn, 1) := dk_172 (dk_at dksX0_folds_0 23 rfl rfl)
theorem dX0_folds_24 : decode cX0_folds 24 = .ok (.iconst 0, 1) := dk_3 (dk_at dksX0_folds_1 0 rfl rfl)
theorem dX0_folds_25 : decode cX0_folds 25 = .ok (.istore_n 2, 1) := dk_61 (dk_at dksX0_folds_1 1 rfl rfl)
theorem dX0_folds_26 : decode cX0_folds 26 = .ok (.iconst (-1), 1) := dk_2 (dk_at dksX0_folds_1 2 rfl rfl)
theorem dX0_folds_27 : decode cX0_folds 27 = .ok (.istore_n 3, 1) := dk_62 (dk_at dksX0_folds_1 3 rfl rfl)
theorem dX0_folds_28 : decode cX0_folds 28 = .ok (.iconst 0, 1) := dk_3 (dk_at dksX0_folds_1 4 rfl rfl)
theorem dX0_folds_29 : decode cX0_folds 29 = .ok (.istore 4, 2) := dk_54 4 (dk_at dksX0_folds_1 5 rfl rfl)
theorem dX0_folds_31 : decode cX0_folds 31 = .ok (.iload 4, 2) := dk_21 4 (dk_at dksX0_folds_1 7 rfl rfl)
theorem dX0_folds_33 : decode cX0_folds 33 = .ok (.sipush 256, 3) := dk_17 1 0 (dk_at dksX0_folds_1 9 rfl rfl)
theorem dX0_folds_36 : decode cX0_folds 36 = .ok (.if_icmp .ge 35, 3) := dk_162 0 35 (dk_at dksX0_folds_1 12 rfl rfl)
theorem dX0_folds_39 : decode cX0_folds 39 = .ok (.aload_n 0, 1) := dk_42 (dk_at dksX0_folds_1 15 rfl rfl)
theorem dX0_folds_40 : decode cX0_folds 40 = .ok (.iload 4, 2) := dk_21 4 (dk_at dksX0_folds_1 16 rfl rfl)
theorem dX0_folds_42 : decode cX0_folds 42 = .ok (.invokevirtual 342, 3) := dk_182 1 86 (dk_at dksX0_folds_1 18 rfl rfl)
theorem dX0_folds_45 : decode cX0_folds 45 = .ok (.ifCond .ne 6, 3) := dk_154 0 6 (dk_at dksX0_folds_1 21 rfl rfl)
theorem dX0_folds_48 : decode cX0_folds 48 = .ok (.goto 17, 3) := dk_167 0 17 (dk_at dksX0_folds_2 0 rfl rfl)
theorem dX0_folds_51 : decode cX0_folds 51 = .ok (.iload_n 2, 1) := dk_28 (dk_at dksX0_folds_2 3 rfl rfl)
theorem dX0_folds_52 : decode cX0_folds 52 = .ok (.ifCond .ne 8, 3) := dk_154 0 8 (dk_at dksX0_folds_2 4 rfl rfl)
theorem dX0_folds_55 : decode cX0_folds 55 = .ok (.iload 4, 2) := dk_21 4 (dk_at dksX0_folds_2 7 rfl rfl)
theorem dX0_folds_57 : decode cX0_folds 57 = .ok (.goto 4, 3) := dk_167 0 4 (dk_at dksX0_folds_2 9 rfl rfl)
theorem dX0_folds_60 : decode cX0_folds 60 = .ok (.iload_n 3, 1) := dk_29 (dk_at dksX0_folds_2 12 rfl rfl)
theorem dX0_folds_61 : decode cX0_folds 61 = .ok (.istore_n 3, 1) := dk_62 (dk_at dksX0_folds_2 13 rfl rfl)
theorem dX0_folds_62 : decode cX0_folds 62 = .ok (.iinc 2 1, 3) := dk_132 2 1 (dk_at dksX0_folds_2 14 rfl rfl)
theorem dX0_folds_65 : decode cX0_folds 65 = .ok (.iinc 4 1, 3) := dk_132 4 1 (dk_at dksX0_folds_2 17 rfl rfl)
theorem dX0_folds_68 : decode cX0_folds 68 = .ok (.goto (-37), 3) := dk_167 255 219 (dk_at dksX0_folds_2 20 rfl rfl)
theorem dX0_folds_71 : decode cX0_folds 71 = .ok (.iload_n 1, 1) := dk_27 (dk_at dksX0_folds_2 23 rfl rfl)
theorem dX0_folds_72 : decode cX0_folds 72 = .ok (.iconst (-1), 1) := dk_2 (dk_at dksX0_folds_3 0 rfl rfl)
theorem dX0_folds_73 : decode cX0_folds 73 = .ok (.if_icmp .ne 7, 3) := dk_160 0 7 (dk_at dksX0_folds_3 1 rfl rfl)
theorem dX0_folds_76 : decode cX0_folds 76 = .ok (.iload_n 2, 1) := dk_28 (dk_at dksX0_folds_3 4 rfl rfl)
theorem dX0_folds_77 : decode cX0_folds 77 = .ok (.goto 21, 3) := dk_167 0 21 (dk_at dksX0_folds_3 5 rfl rfl)
theorem dX0_folds_80 : decode cX0_folds 80 = .ok (.iload_n 2, 1) := dk_28 (dk_at dksX0_folds_3 8 rfl rfl)
theorem dX0_folds_81 : decode cX0_folds 81 = .ok (.ifCond .ne 8, 3) := dk_154 0 8 (dk_at dksX0_folds_3 9 rfl rfl)
theorem dX0_folds_84 : decode cX0_folds 84 = .ok (.bipush (-2), 2) := dk_16 254 (dk_at dksX0_folds_3 12 rfl rfl)
theorem dX0_folds_86 : decode cX0_folds 86 = .ok (.goto 12, 3) := dk_167 0 12 (dk_at dksX0_folds_3 14 rfl rfl)
theorem dX0_folds_89 : decode cX0_folds 89 = .ok (.iload_n 3, 1) := dk_29 (dk_at dksX0_folds_3 17 rfl rfl)
theorem dX0_folds_90 : decode cX0_folds 90 = .ok (.iconst 2, 1) := dk_5 (dk_at dksX0_folds_3 18 rfl rfl)
theorem dX0_folds_91 : decode cX0_folds 91 = .ok (.iconst 3, 1) := dk_6 (dk_at dksX0_folds_3 19 rfl rfl)
theorem dX0_folds_92 : decode cX0_folds 92 = .ok (.iload_n 1, 1) := dk_27 (dk_at dksX0_folds_3 20 rfl rfl)
theorem dX0_folds_93 : decode cX0_folds 93 = .ok (.isub, 1) := dk_100 (dk_at dksX0_folds_3 21 rfl rfl)
theorem dX0_folds_94 : decode cX0_folds 94 = .ok (.imul, 1) := dk_104 (dk_at dksX0_folds_3 22 rfl rfl)
theorem dX0_folds_95 : decode cX0_folds 95 = .ok (.ishr, 1) := dk_122 (dk_at dksX0_folds_3 23 rfl rfl)
theorem dX0_folds_96 : decode cX0_folds 96 = .ok (.iconst 3, 1) := dk_6 (dk_at dksX0_folds_4 0 rfl rfl)
theorem dX0_folds_97 : decode cX0_folds 97 = .ok (.iand, 1) := dk_126 (dk_at dksX0_folds_4 1 rfl rfl)
theorem dX0_folds_98 : decode cX0_folds 98 = .ok (.ireturn, 1) := dk_172 (dk_at dksX0_folds_4 2 rfl rfl)
abbrev cX0_couldFold : ByteArray := prog_1_method_58_code
def yX0_couldFold : MethodName := ⟨RX0, "couldFold", "(I)Z"⟩
def dkwX0_couldFold_2 : List UInt8 := [172]
abbrev dktX0_couldFold_2 : List UInt8 := dkwX0_couldFold_2 ++ []
def dkwX0_couldFold_1 : List UInt8 := [180, 0, 174, 28, 27, 5, 6, 28, 100, 104, 122, 6, 126, 79, 132, 2, 1, 167, 255, 230, 42, 182, 1, 74]
abbrev dktX0_couldFold_1 : List UInt8 := dkwX0_couldFold_1 ++ dktX0_couldFold_2
def dkwX0_couldFold_0 : List UInt8 := [42, 180, 0, 23, 42, 180, 0, 10, 182, 0, 128, 3, 61, 28, 7, 162, 0, 27, 42, 180, 0, 23]
abbrev dktX0_couldFold_0 : List UInt8 := dkwX0_couldFold_0 ++ dktX0_couldFold_1
theorem dksX0_couldFold_0 : cX0_couldFold.data.toList.drop 0 = dktX0_couldFold_0 := by decide +kernel
theorem dksX0_couldFold_1 : cX0_couldFold.data.toList.drop 22 = dktX0_couldFold_1 := dk_seg dksX0_couldFold_0 22 rfl rfl
theorem dksX0_couldFold_2 : cX0_couldFold.data.toList.drop 46 = dktX0_couldFold_2 := dk_seg dksX0_couldFold_1 24 rfl rfl
theorem dX0_couldFold_0 : decode cX0_couldFold 0 = .ok (.aload_n 0, 1) := dk_42 (dk_at dksX0_couldFold_0 0 rfl rfl)
theorem dX0_couldFold_1 : decode cX0_couldFold 1 = .ok (.getfield 23, 3) := dk_180 0 23 (dk_at dksX0_couldFold_0 1 rfl rfl)
theorem dX0_couldFold_4 : decode cX0_couldFold 4 = .ok (.aload_n 0, 1) := dk_42 (dk_at dksX0_couldFold_0 4 rfl rfl)
theorem dX0_couldFold_5 : decode cX0_couldFold 5 = .ok (.getfield 10, 3) := dk_180 0 10 (dk_at dksX0_couldFold_0 5 rfl rfl)
theorem dX0_couldFold_8 : decode cX0_couldFold 8 = .ok (.invokevirtual 128, 3) := dk_182 0 128 (dk_at dksX0_couldFold_0 8 rfl rfl)
theorem dX0_couldFold_11 : decode cX0_couldFold 11 = .ok (.iconst 0, 1) := dk_3 (dk_at dksX0_couldFold_0 11 rfl rfl)
theorem dX0_couldFold_12 : decode cX0_couldFold 12 = .ok (.istore_n 2, 1) := dk_61 (dk_at dksX0_couldFold_0 12 rfl rfl)
theorem dX0_couldFold_13 : decode cX0_couldFold 13 = .ok (.iload_n 2, 1) := dk_28 (dk_at dksX0_couldFold_0 13 rfl rfl)
theorem dX0_couldFold_14 : decode cX0_couldFold 14 = .ok (.iconst 4, 1) := dk_7 (dk_at dksX0_couldFold_0 14 rfl rfl)
theorem dX0_couldFold_15 : decode cX0_couldFold 15 = .ok (.if_icmp .ge 27, 3) := dk_162 0 27 (dk_at dksX0_couldFold_0 15 rfl rfl)
theorem dX0_couldFold_18 : decode cX0_couldFold 18 = .ok (.aload_n 0, 1) := dk_42 (dk_at dksX0_couldFold_0 18 rfl rfl)
theorem dX0_couldFold_19 : decode cX0_couldFold 19 = .ok (.getfield 23, 3) := dk_180 0 23 (dk_at dksX0_couldFold_0 19 rfl rfl)
theorem dX0_couldFold_22 : decode cX0_couldFold 22 = .ok (.getfield 174, 3) := dk_180 0 174 (dk_at dksX0_couldFold_1 0 rfl rfl)
theorem dX0_couldFold_25 : decode cX0_couldFold 25 = .ok (.iload_n 2, 1) := dk_28 (dk_at dksX0_couldFold_1 3 rfl rfl)
theorem dX0_couldFold_26 : decode cX0_couldFold 26 = .ok (.iload_n 1, 1) := dk_27 (dk_at dksX0_couldFold_1 4 rfl rfl)
theorem dX0_couldFold_27 : decode cX0_couldFold 27 = .ok (.iconst 2, 1) := dk_5 (dk_at dksX0_couldFold_1 5 rfl rfl)
theorem dX0_couldFold_28 : decode cX0_couldFold 28 = .ok (.iconst 3, 1) := dk_6 (dk_at dksX0_couldFold_1 6 rfl rfl)
theorem dX0_couldFold_29 : decode cX0_couldFold 29 = .ok (.iload_n 2, 1) := dk_28 (dk_at dksX0_couldFold_1 7 rfl rfl)
theorem dX0_couldFold_30 : decode cX0_couldFold 30 = .ok (.isub, 1) := dk_100 (dk_at dksX0_couldFold_1 8 rfl rfl)
theorem dX0_couldFold_31 : decode cX0_couldFold 31 = .ok (.imul, 1) := dk_104 (dk_at dksX0_couldFold_1 9 rfl rfl)
theorem dX0_couldFold_32 : decode cX0_couldFold 32 = .ok (.ishr, 1) := dk_122 (dk_at dksX0_couldFold_1 10 rfl rfl)
theorem dX0_couldFold_33 : decode cX0_couldFold 33 = .ok (.iconst 3, 1) := dk_6 (dk_at dksX0_couldFold_1 11 rfl rfl)
theorem dX0_couldFold_34 : decode cX0_couldFold 34 = .ok (.iand, 1) := dk_126 (dk_at dksX0_couldFold_1 12 rfl rfl)
theorem dX0_couldFold_35 : decode cX0_couldFold 35 = .ok (.iastore, 1) := dk_79 (dk_at dksX0_couldFold_1 13 rfl rfl)
theorem dX0_couldFold_36 : decode cX0_couldFold 36 = .ok (.iinc 2 1, 3) := dk_132 2 1 (dk_at dksX0_couldFold_1 14 rfl rfl)
theorem dX0_couldFold_39 : decode cX0_couldFold 39 = .ok (.goto (-26), 3) := dk_167 255 230 (dk_at dksX0_couldFold_1 17 rfl rfl)
theorem dX0_couldFold_42 : decode cX0_couldFold 42 = .ok (.aload_n 0, 1) := dk_42 (dk_at dksX0_couldFold_1 20 rfl rfl)
theorem dX0_couldFold_43 : decode cX0_couldFold 43 = .ok (.invokevirtual 330, 3) := dk_182 1 74 (dk_at dksX0_couldFold_1 21 rfl rfl)
theorem dX0_couldFold_46 : decode cX0_couldFold 46 = .ok (.ireturn, 1) := dk_172 (dk_at dksX0_couldFold_2 0 rfl rfl)
abbrev cX0_seed : ByteArray := prog_1_method_60_code
def yX0_seed : MethodName := ⟨RX0, "seed", "(I)I"⟩
def dkwX0_seed_0 : List UInt8 := [27, 156, 0, 5, 2, 172, 42, 180, 1, 89, 61, 42, 27, 181, 1, 89, 28, 172]
abbrev dktX0_seed_0 : List UInt8 := dkwX0_seed_0 ++ []
theorem dksX0_seed_0 : cX0_seed.data.toList.drop 0 = dktX0_seed_0 := by decide +kernel
theorem dX0_seed_0 : decode cX0_seed 0 = .ok (.iload_n 1, 1) := dk_27 (dk_at dksX0_seed_0 0 rfl rfl)
theorem dX0_seed_1 : decode cX0_seed 1 = .ok (.ifCond .ge 5, 3) := dk_156 0 5 (dk_at dksX0_seed_0 1 rfl rfl)
theorem dX0_seed_4 : decode cX0_seed 4 = .ok (.iconst (-1), 1) := dk_2 (dk_at dksX0_seed_0 4 rfl rfl)
theorem dX0_seed_5 : decode cX0_seed 5 = .ok (.ireturn, 1) := dk_172 (dk_at dksX0_seed_0 5 rfl rfl)
theorem dX0_seed_6 : decode cX0_seed 6 = .ok (.aload_n 0, 1) := dk_42 (dk_at dksX0_seed_0 6 rfl rfl)
theorem dX0_seed_7 : decode cX0_seed 7 = .ok (.getfield 345, 3) := dk_180 1 89 (dk_at dksX0_seed_0 7 rfl rfl)
theorem dX0_seed_10 : decode cX0_seed 10 = .ok (.istore_n 2, 1) := dk_61 (dk_at dksX0_seed_0 10 rfl rfl)
theorem dX0_seed_11 : decode cX0_seed 11 = .ok (.aload_n 0, 1) := dk_42 (dk_at dksX0_seed_0 11 rfl rfl)
theorem dX0_seed_12 : decode cX0_seed 12 = .ok (.iload_n 1, 1) := dk_27 (dk_at dksX0_seed_0 12 rfl rfl)
theorem dX0_seed_13 : decode cX0_seed 13 = .ok (.putfield 345, 3) := dk_181 1 89 (dk_at dksX0_seed_0 13 rfl rfl)
theorem dX0_seed_16 : decode cX0_seed 16 = .ok (.iload_n 2, 1) := dk_28 (dk_at dksX0_seed_0 16 rfl rfl)
theorem dX0_seed_17 : decode cX0_seed 17 = .ok (.ireturn, 1) := dk_172 (dk_at dksX0_seed_0 17 rfl rfl)
abbrev cX0_gusts : ByteArray := prog_1_method_63_code
def yX0_gusts : MethodName := ⟨RX0, "gusts", "(IIII)I"⟩
def dkwX0_gusts_7 : List UInt8 := [21, 6, 167, 0, 5, 21, 7, 172]
abbrev dktX0_gusts_7 : List UInt8 := dkwX0_gusts_7 ++ []
def dkwX0_gusts_6 : List UInt8 := [182, 1, 28, 96, 54, 7, 132, 8, 1, 167, 255, 178, 42, 21, 5, 181, 1, 89, 21, 4, 154, 0, 8]
abbrev dktX0_gusts_6 : List UInt8 := dkwX0_gusts_6 ++ dktX0_gusts_7
def dkwX0_gusts_5 : List UInt8 := [21, 6, 42, 42, 180, 0, 23, 3, 182, 0, 225, 184, 1, 24, 96, 54, 6, 21, 7, 42, 180, 0, 23]
abbrev dktX0_gusts_5 : List UInt8 := dkwX0_gusts_5 ++ dktX0_gusts_6
def dkwX0_gusts_4 : List UInt8 := [28, 162, 0, 23, 42, 29, 182, 1, 104, 42, 42, 180, 0, 23, 182, 0, 230, 87, 132, 9, 1, 167, 255, 233]
abbrev dktX0_gusts_4 : List UInt8 := dkwX0_gusts_4 ++ dktX0_gusts_5
def dkwX0_gusts_3 : List UInt8 := [54, 8, 21, 8, 27, 162, 0, 78, 42, 180, 0, 23, 42, 180, 0, 19, 182, 0, 236, 3, 54, 9, 21, 9]
abbrev dktX0_gusts_3 : List UInt8 := dkwX0_gusts_3 ++ dktX0_gusts_4
def dkwX0_gusts_2 : List UInt8 := [9, 10, 184, 0, 104, 154, 0, 5, 2, 172, 42, 180, 1, 89, 54, 5, 3, 54, 6, 3, 54, 7, 3]
abbrev dktX0_gusts_2 : List UInt8 := dkwX0_gusts_2 ++ dktX0_gusts_3
def dkwX0_gusts_1 : List UInt8 := [20, 1, 69, 184, 0, 104, 153, 0, 26, 29, 133, 9, 20, 1, 1, 184, 0, 104, 153, 0, 14, 21, 4, 133]
abbrev dktX0_gusts_1 : List UInt8 := dkwX0_gusts_1 ++ dktX0_gusts_2
def dkwX0_gusts_0 : List UInt8 := [42, 182, 0, 168, 153, 0, 50, 27, 133, 10, 20, 1, 102, 184, 0, 104, 153, 0, 38, 28, 133, 10]
abbrev dktX0_gusts_0 : List UInt8 := dkwX0_gusts_0 ++ dktX0_gusts_1
theorem dksX0_gusts_0 : cX0_gusts.data.toList.drop 0 = dktX0_gusts_0 := by decide +kernel
theorem dksX0_gusts_1 : cX0_gusts.data.toList.drop 22 = dktX0_gusts_1 := dk_seg dksX0_gusts_0 22 rfl rfl
theorem dksX0_gusts_2 : cX0_gusts.data.toList.drop 46 = dktX0_gusts_2 := dk_seg dksX0_gusts_1 24 rfl rfl
theorem dksX0_gusts_3 : cX0_gusts.data.toList.drop 69 = dktX0_gusts_3 := dk_seg dksX0_gusts_2 23 rfl rfl
theorem dksX0_gusts_4 : cX0_gusts.data.toList.drop 93 = dktX0_gusts_4 := dk_seg dksX0_gusts_3 24 rfl rfl
theorem dksX0_gusts_5 : cX0_gusts.data.toList.drop 117 = dktX0_gusts_5 := dk_seg dksX0_gusts_4 24 rfl rfl
theorem dksX0_gusts_6 : cX0_gusts.data.toList.drop 140 = dktX0_gusts_6 := dk_seg dksX0_gusts_5 23 rfl rfl
theorem dksX0_gusts_7 : cX0_gusts.data.toList.drop 163 = dktX0_gusts_7 := dk_seg dksX0_gusts_6 23 rfl rfl
theorem dX0_gusts_0 : decode cX0_gusts 0 = .ok (.aload_n 0, 1) := dk_42 (dk_at dksX0_gusts_0 0 rfl rfl)
theorem dX0_gusts_1 : decode cX0_gusts 1 = .ok (.invokevirtual 168, 3) := dk_182 0 168 (dk_at dksX0_gusts_0 1 rfl rfl)
theorem dX0_gusts_4 : decode cX0_gusts 4 = .ok (.ifCond .eq 50, 3) := dk_153 0 50 (dk_at dksX0_gusts_0 4 rfl rfl)
theorem dX0_gusts_7 : decode cX0_gusts 7 = .ok (.iload_n 1, 1) := dk_27 (dk_at dksX0_gusts_0 7 rfl rfl)
theorem dX0_gusts_8 : decode cX0_gusts 8 = .ok (.i2l, 1) := dk_133 (dk_at dksX0_gusts_0 8 rfl rfl)
theorem dX0_gusts_9 : decode cX0_gusts 9 = .ok (.lconst 1, 1) := dk_10 (dk_at dksX0_gusts_0 9 rfl rfl)
theorem dX0_gusts_10 : decode cX0_gusts 10 = .ok (.ldc2_w 358, 3) := dk_20 1 102 (dk_at dksX0_gusts_0 10 rfl rfl)
theorem dX0_gusts_13 : decode cX0_gusts 13 = .ok (.invokestatic 104, 3) := dk_184 0 104 (dk_at dksX0_gusts_0 13 rfl rfl)
theorem dX0_gusts_16 : decode cX0_gusts 16 = .ok (.ifCond .eq 38, 3) := dk_153 0 38 (dk_at dksX0_gusts_0 16 rfl rfl)
theorem dX0_gusts_19 : decode cX0_gusts 19 = .ok (.iload_n 2, 1) := dk_28 (dk_at dksX0_gusts_0 19 rfl rfl)
theorem dX0_gusts_20 : decode cX0_gusts 20 = .ok (.i2l, 1) := dk_133 (dk_at dksX0_gusts_0 20 rfl rfl)
theorem dX0_gusts_21 : decode cX0_gusts 21 = .ok (.lconst 1, 1) := dk_10 (dk_at dksX0_gusts_0 21 rfl rfl)
theorem dX0_gusts_22 : decode cX0_gusts 22 = .ok (.ldc2_w 325, 3) := dk_20 1 69 (dk_at dksX0_gusts_1 0 rfl rfl)
theorem dX0_gusts_25 : decode cX0_gusts 25 = .ok (.invokestatic 104, 3) := dk_184 0 104 (dk_at dksX0_gusts_1 3 rfl rfl)
theorem dX0_gusts_28 : decode cX0_gusts 28 = .ok (.ifCond .eq 26, 3) := dk_153 0 26 (dk_at dksX0_gusts_1 6 rfl rfl)
theorem dX0_gusts_31 : decode cX0_gusts 31 = .ok (.iload_n 3, 1) := dk_29 (dk_at dksX0_gusts_1 9 rfl rfl)
theorem dX0_gusts_32 : decode cX0_gusts 32 = .ok (.i2l, 1) := dk_133 (dk_at dksX0_gusts_1 10 rfl rfl)
theorem dX0_gusts_33 : decode cX0_gusts 33 = .ok (.lconst 0, 1) := dk_9 (dk_at dksX0_gusts_1 11 rfl rfl)
theorem dX0_gusts_34 : decode cX0_gusts 34 = .ok (.ldc2_w 257, 3) := dk_20 1 1 (dk_at dksX0_gusts_1 12 rfl rfl)
theorem dX0_gusts_37 : decode cX0_gusts 37 = .ok (.invokestatic 104, 3) := dk_184 0 104 (dk_at dksX0_gusts_1 15 rfl rfl)
theorem dX0_gusts_40 : decode cX0_gusts 40 = .ok (.ifCond .eq 14, 3) := dk_153 0 14 (dk_at dksX0_gusts_1 18 rfl rfl)
theorem dX0_gusts_43 : decode cX0_gusts 43 = .ok (.iload 4, 2) := dk_21 4 (dk_at dksX0_gusts_1 21 rfl rfl)
theorem dX0_gusts_45 : decode cX0_gusts 45 = .ok (.i2l, 1) := dk_133 (dk_at dksX0_gusts_1 23 rfl rfl)
theorem dX0_gusts_46 : decode cX0_gusts 46 = .ok (.lconst 0, 1) := dk_9 (dk_at dksX0_gusts_2 0 rfl rfl)
theorem dX0_gusts_47 : decode cX0_gusts 47 = .ok (.lconst 1, 1) := dk_10 (dk_at dksX0_gusts_2 1 rfl rfl)
theorem dX0_gusts_48 : decode cX0_gusts 48 = .ok (.invokestatic 104, 3) := dk_184 0 104 (dk_at dksX0_gusts_2 2 rfl rfl)
theorem dX0_gusts_51 : decode cX0_gusts 51 = .ok (.ifCond .ne 5, 3) := dk_154 0 5 (dk_at dksX0_gusts_2 5 rfl rfl)
theorem dX0_gusts_54 : decode cX0_gusts 54 = .ok (.iconst (-1), 1) := dk_2 (dk_at dksX0_gusts_2 8 rfl rfl)
theorem dX0_gusts_55 : decode cX0_gusts 55 = .ok (.ireturn, 1) := dk_172 (dk_at dksX0_gusts_2 9 rfl rfl)
theorem dX0_gusts_56 : decode cX0_gusts 56 = .ok (.aload_n 0, 1) := dk_42 (dk_at dksX0_gusts_2 10 rfl rfl)
theorem dX0_gusts_57 : decode cX0_gusts 57 = .ok (.getfield 345, 3) := dk_180 1 89 (dk_at dksX0_gusts_2 11 rfl rfl)
theorem dX0_gusts_60 : decode cX0_gusts 60 = .ok (.istore 5, 2) := dk_54 5 (dk_at dksX0_gusts_2 14 rfl rfl)
theorem dX0_gusts_62 : decode cX0_gusts 62 = .ok (.iconst 0, 1) := dk_3 (dk_at dksX0_gusts_2 16 rfl rfl)
theorem dX0_gusts_63 : decode cX0_gusts 63 = .ok (.istore 6, 2) := dk_54 6 (dk_at dksX0_gusts_2 17 rfl rfl)
theorem dX0_gusts_65 : decode cX0_gusts 65 = .ok (.iconst 0, 1) := dk_3 (dk_at dksX0_gusts_2 19 rfl rfl)
theorem dX0_gusts_66 : decode cX0_gusts 66 = .ok (.istore 7, 2) := dk_54 7 (dk_at dksX0_gusts_2 20 rfl rfl)
theorem dX0_gusts_68 : decode cX0_gusts 68 = .ok (.iconst 0, 1) := dk_3 (dk_at dksX0_gusts_2 22 rfl rfl)
theorem dX0_gusts_69 : decode cX0_gusts 69 = .ok (.istore 8, 2) := dk_54 8 (dk_at dksX0_gusts_3 0 rfl rfl)
theorem dX0_gusts_71 : decode cX0_gusts 71 = .ok (.iload 8, 2) := dk_21 8 (dk_at dksX0_gusts_3 2 rfl rfl)
theorem dX0_gusts_73 : decode cX0_gusts 73 = .ok (.iload_n 1, 1) := dk_27 (dk_at dksX0_gusts_3 4 rfl rfl)
theorem dX0_gusts_74 : decode cX0_gusts 74 = .ok (.if_icmp .ge 78, 3) := dk_162 0 78 (dk_at dksX0_gusts_3 5 rfl rfl)
theorem dX0_gusts_77 : decode cX0_gusts 77 = .ok (.aload_n 0, 1) := dk_42 (dk_at dksX0_gusts_3 8 rfl rfl)
theorem dX0_gusts_78 : decode cX0_gusts 78 = .ok (.getfield 23, 3) := dk_180 0 23 (dk_at dksX0_gusts_3 9 rfl rfl)
theorem dX0_gusts_81 : decode cX0_gusts 81 = .ok (.aload_n 0, 1) := dk_42 (dk_at dksX0_gusts_3 12 rfl rfl)
theorem dX0_gusts_82 : decode cX0_gusts 82 = .ok (.getfield 19, 3) := dk_180 0 19 (dk_at dksX0_gusts_3 13 rfl rfl)
theorem dX0_gusts_85 : decode cX0_gusts 85 = .ok (.invokevirtual 236, 3) := dk_182 0 236 (dk_at dksX0_gusts_3 16 rfl rfl)
theorem dX0_gusts_88 : decode cX0_gusts 88 = .ok (.iconst 0, 1) := dk_3 (dk_at dksX0_gusts_3 19 rfl rfl)
theorem dX0_gusts_89 : decode cX0_gusts 89 = .ok (.istore 9, 2) := dk_54 9 (dk_at dksX0_gusts_3 20 rfl rfl)
theorem dX0_gusts_91 : decode cX0_gusts 91 = .ok (.iload 9, 2) := dk_21 9 (dk_at dksX0_gusts_3 22 rfl rfl)
theorem dX0_gusts_93 : decode cX0_gusts 93 = .ok (.iload_n 2, 1) := dk_28 (dk_at dksX0_gusts_4 0 rfl rfl)
theorem dX0_gusts_94 : decode cX0_gusts 94 = .ok (.if_icmp .ge 23, 3) := dk_162 0 23 (dk_at dksX0_gusts_4 1 rfl rfl)
theorem dX0_gusts_97 : decode cX0_gusts 97 = .ok (.aload_n 0, 1) := dk_42 (dk_at dksX0_gusts_4 4 rfl rfl)
theorem dX0_gusts_98 : decode cX0_gusts 98 = .ok (.iload_n 3, 1) := dk_29 (dk_at dksX0_gusts_4 5 rfl rfl)
theorem dX0_gusts_99 : decode cX0_gusts 99 = .ok (.invokevirtual 360, 3) := dk_182 1 104 (dk_at dksX0_gusts_4 6 rfl rfl)
theorem dX0_gusts_102 : decode cX0_gusts 102 = .ok (.aload_n 0, 1) := dk_42 (dk_at dksX0_gusts_4 9 rfl rfl)
theorem dX0_gusts_103 : decode cX0_gusts 103 = .ok (.aload_n 0, 1) := dk_42 (dk_at dksX0_gusts_4 10 rfl rfl)
theorem dX0_gusts_104 : decode cX0_gusts 104 = .ok (.getfield 23, 3) := dk_180 0 23 (dk_at dksX0_gusts_4 11 rfl rfl)
theorem dX0_gusts_107 : decode cX0_gusts 107 = .ok (.invokevirtual 230, 3) := dk_182 0 230 (dk_at dksX0_gusts_4 14 rfl rfl)
theorem dX0_gusts_110 : decode cX0_gusts 110 = .ok (.pop, 1) := dk_87 (dk_at dksX0_gusts_4 17 rfl rfl)
theorem dX0_gusts_111 : decode cX0_gusts 111 = .ok (.iinc 9 1, 3) := dk_132 9 1 (dk_at dksX0_gusts_4 18 rfl rfl)
theorem dX0_gusts_114 : decode cX0_gusts 114 = .ok (.goto (-23), 3) := dk_167 255 233 (dk_at dksX0_gusts_4 21 rfl rfl)
theorem dX0_gusts_117 : decode cX0_gusts 117 = .ok (.iload 6, 2) := dk_21 6 (dk_at dksX0_gusts_5 0 rfl rfl)
theorem dX0_gusts_119 : decode cX0_gusts 119 = .ok (.aload_n 0, 1) := dk_42 (dk_at dksX0_gusts_5 2 rfl rfl)
theorem dX0_gusts_120 : decode cX0_gusts 120 = .ok (.aload_n 0, 1) := dk_42 (dk_at dksX0_gusts_5 3 rfl rfl)
theorem dX0_gusts_121 : decode cX0_gusts 121 = .ok (.getfield 23, 3) := dk_180 0 23 (dk_at dksX0_gusts_5 4 rfl rfl)
theorem dX0_gusts_124 : decode cX0_gusts 124 = .ok (.iconst 0, 1) := dk_3 (dk_at dksX0_gusts_5 7 rfl rfl)
theorem dX0_gusts_125 : decode cX0_gusts 125 = .ok (.invokevirtual 225, 3) := dk_182 0 225 (dk_at dksX0_gusts_5 8 rfl rfl)
theorem dX0_gusts_128 : decode cX0_gusts 128 = .ok (.invokestatic 280, 3) := dk_184 1 24 (dk_at dksX0_gusts_5 11 rfl rfl)
theorem dX0_gusts_131 : decode cX0_gusts 131 = .ok (.iadd, 1) := dk_96 (dk_at dksX0_gusts_5 14 rfl rfl)
theorem dX0_gusts_132 : decode cX0_gusts 132 = .ok (.istore 6, 2) := dk_54 6 (dk_at dksX0_gusts_5 15 rfl rfl)
theorem dX0_gusts_134 : decode cX0_gusts 134 = .ok (.iload 7, 2) := dk_21 7 (dk_at dksX0_gusts_5 17 rfl rfl)
theorem dX0_gusts_136 : decode cX0_gusts 136 = .ok (.aload_n 0, 1) := dk_42 (dk_at dksX0_gusts_5 19 rfl rfl)
theorem dX0_gusts_137 : decode cX0_gusts 137 = .ok (.getfield 23, 3) := dk_180 0 23 (dk_at dksX0_gusts_5 20 rfl rfl)
theorem dX0_gusts_140 : decode cX0_gusts 140 = .ok (.invokevirtual 284, 3) := dk_182 1 28 (dk_at dksX0_gusts_6 0 rfl rfl)
theorem dX0_gusts_143 : decode cX0_gusts 143 = .ok (.iadd, 1) := dk_96 (dk_at dksX0_gusts_6 3 rfl rfl)
theorem dX0_gusts_144 : decode cX0_gusts 144 = .ok (.istore 7, 2) := dk_54 7 (dk_at dksX0_gusts_6 4 rfl rfl)
theorem dX0_gusts_146 : decode cX0_gusts 146 = .ok (.iinc 8 1, 3) := dk_132 8 1 (dk_at dksX0_gusts_6 6 rfl rfl)
theorem dX0_gusts_149 : decode cX0_gusts 149 = .ok (.goto (-78), 3) := dk_167 255 178 (dk_at dksX0_gusts_6 9 rfl rfl)
theorem dX0_gusts_152 : decode cX0_gusts 152 = .ok (.aload_n 0, 1) := dk_42 (dk_at dksX0_gusts_6 12 rfl rfl)
theorem dX0_gusts_153 : decode cX0_gusts 153 = .ok (.iload 5, 2) := dk_21 5 (dk_at dksX0_gusts_6 13 rfl rfl)
theorem dX0_gusts_155 : decode cX0_gusts 155 = .ok (.putfield 345, 3) := dk_181 1 89 (dk_at dksX0_gusts_6 15 rfl rfl)
theorem dX0_gusts_158 : decode cX0_gusts 158 = .ok (.iload 4, 2) := dk_21 4 (dk_at dksX0_gusts_6 18 rfl rfl)
theorem dX0_gusts_160 : decode cX0_gusts 160 = .ok (.ifCond .ne 8, 3) := dk_154 0 8 (dk_at dksX0_gusts_6 20 rfl rfl)
theorem dX0_gusts_163 : decode cX0_gusts 163 = .ok (.iload 6, 2) := dk_21 6 (dk_at dksX0_gusts_7 0 rfl rfl)
theorem dX0_gusts_165 : decode cX0_gusts 165 = .ok (.goto 5, 3) := dk_167 0 5 (dk_at dksX0_gusts_7 2 rfl rfl)
theorem dX0_gusts_168 : decode cX0_gusts 168 = .ok (.iload 7, 2) := dk_21 7 (dk_at dksX0_gusts_7 5 rfl rfl)
theorem dX0_gusts_170 : decode cX0_gusts 170 = .ok (.ireturn, 1) := dk_172 (dk_at dksX0_gusts_7 7 rfl rfl)
abbrev cX0_drawsGust : ByteArray := prog_1_method_62_code
def yX0_drawsGust : MethodName := ⟨RX0, "drawsGust", "(I)V"⟩
def dkwX0_drawsGust_2 : List UInt8 := [46, 154, 0, 13, 42, 180, 0, 23, 180, 0, 153, 28, 29, 79, 177]
abbrev dktX0_drawsGust_2 : List UInt8 := dkwX0_drawsGust_2 ++ []
def dkwX0_drawsGust_1 : List UInt8 := [180, 0, 10, 182, 0, 100, 182, 1, 99, 61, 42, 7, 182, 1, 99, 62, 42, 180, 0, 23, 180, 0, 159, 28]
abbrev dktX0_drawsGust_1 : List UInt8 := dkwX0_drawsGust_1 ++ dktX0_drawsGust_2
def dkwX0_drawsGust_0 : List UInt8 := [42, 16, 100, 182, 1, 99, 27, 162, 0, 13, 42, 180, 0, 10, 182, 0, 100, 154, 0, 4, 177, 42, 42]
abbrev dktX0_drawsGust_0 : List UInt8 := dkwX0_drawsGust_0 ++ dktX0_drawsGust_1
theorem dksX0_drawsGust_0 : cX0_drawsGust.data.toList.drop 0 = dktX0_drawsGust_0 := by decide +kernel
theorem dksX0_drawsGust_1 : cX0_drawsGust.data.toList.drop 23 = dktX0_drawsGust_1 := dk_seg dksX0_drawsGust_0 23 rfl rfl
theorem dksX0_drawsGust_2 : cX0_drawsGust.data.toList.drop 47 = dktX0_drawsGust_2 := dk_seg dksX0_drawsGust_1 24 rfl rfl
theorem dX0_drawsGust_0 : decode cX0_drawsGust 0 = .ok (.aload_n 0, 1) := dk_42 (dk_at dksX0_drawsGust_0 0 rfl rfl)
theorem dX0_drawsGust_1 : decode cX0_drawsGust 1 = .ok (.bipush 100, 2) := dk_16 100 (dk_at dksX0_drawsGust_0 1 rfl rfl)
theorem dX0_drawsGust_3 : decode cX0_drawsGust 3 = .ok (.invokevirtual 355, 3) := dk_182 1 99 (dk_at dksX0_drawsGust_0 3 rfl rfl)
theorem dX0_drawsGust_6 : decode cX0_drawsGust 6 = .ok (.iload_n 1, 1) := dk_27 (dk_at dksX0_drawsGust_0 6 rfl rfl)
theorem dX0_drawsGust_7 : decode cX0_drawsGust 7 = .ok (.if_icmp .ge 13, 3) := dk_162 0 13 (dk_at dksX0_drawsGust_0 7 rfl rfl)
theorem dX0_drawsGust_10 : decode cX0_drawsGust 10 = .ok (.aload_n 0, 1) := dk_42 (dk_at dksX0_drawsGust_0 10 rfl rfl)
theorem dX0_drawsGust_11 : decode cX0_drawsGust 11 = .ok (.getfield 10, 3) := dk_180 0 10 (dk_at dksX0_drawsGust_0 11 rfl rfl)
theorem dX0_drawsGust_14 : decode cX0_drawsGust 14 = .ok (.invokevirtual 100, 3) := dk_182 0 100 (dk_at dksX0_drawsGust_0 14 rfl rfl)
theorem dX0_drawsGust_17 : decode cX0_drawsGust 17 = .ok (.ifCond .ne 4, 3) := dk_154 0 4 (dk_at dksX0_drawsGust_0 17 rfl rfl)
theorem dX0_drawsGust_20 : decode cX0_drawsGust 20 = .ok (.return_, 1) := dk_177 (dk_at dksX0_drawsGust_0 20 rfl rfl)
theorem dX0_drawsGust_21 : decode cX0_drawsGust 21 = .ok (.aload_n 0, 1) := dk_42 (dk_at dksX0_drawsGust_0 21 rfl rfl)
theorem dX0_drawsGust_22 : decode cX0_drawsGust 22 = .ok (.aload_n 0, 1) := dk_42 (dk_at dksX0_drawsGust_0 22 rfl rfl)
theorem dX0_drawsGust_23 : decode cX0_drawsGust 23 = .ok (.getfield 10, 3) := dk_180 0 10 (dk_at dksX0_drawsGust_1 0 rfl rfl)
theorem dX0_drawsGust_26 : decode cX0_drawsGust 26 = .ok (.invokevirtual 100, 3) := dk_182 0 100 (dk_at dksX0_drawsGust_1 3 rfl rfl)
theorem dX0_drawsGust_29 : decode cX0_drawsGust 29 = .ok (.invokevirtual 355, 3) := dk_182 1 99 (dk_at dksX0_drawsGust_1 6 rfl rfl)
theorem dX0_drawsGust_32 : decode cX0_drawsGust 32 = .ok (.istore_n 2, 1) := dk_61 (dk_at dksX0_drawsGust_1 9 rfl rfl)
theorem dX0_drawsGust_33 : decode cX0_drawsGust 33 = .ok (.aload_n 0, 1) := dk_42 (dk_at dksX0_drawsGust_1 10 rfl rfl)
theorem dX0_drawsGust_34 : decode cX0_drawsGust 34 = .ok (.iconst 4, 1) := dk_7 (dk_at dksX0_drawsGust_1 11 rfl rfl)
theorem dX0_drawsGust_35 : decode cX0_drawsGust 35 = .ok (.invokevirtual 355, 3) := dk_182 1 99 (dk_at dksX0_drawsGust_1 12 rfl rfl)
theorem dX0_drawsGust_38 : decode cX0_drawsGust 38 = .ok (.istore_n 3, 1) := dk_62 (dk_at dksX0_drawsGust_1 15 rfl rfl)
theorem dX0_drawsGust_39 : decode cX0_drawsGust 39 = .ok (.aload_n 0, 1) := dk_42 (dk_at dksX0_drawsGust_1 16 rfl rfl)
theorem dX0_drawsGust_40 : decode cX0_drawsGust 40 = .ok (.getfield 23, 3) := dk_180 0 23 (dk_at dksX0_drawsGust_1 17 rfl rfl)
theorem dX0_drawsGust_43 : decode cX0_drawsGust 43 = .ok (.getfield 159, 3) := dk_180 0 159 (dk_at dksX0_drawsGust_1 20 rfl rfl)
theorem dX0_drawsGust_46 : decode cX0_drawsGust 46 = .ok (.iload_n 2, 1) := dk_28 (dk_at dksX0_drawsGust_1 23 rfl rfl)
theorem dX0_drawsGust_47 : decode cX0_drawsGust 47 = .ok (.iaload, 1) := dk_46 (dk_at dksX0_drawsGust_2 0 rfl rfl)
theorem dX0_drawsGust_48 : decode cX0_drawsGust 48 = .ok (.ifCond .ne 13, 3) := dk_154 0 13 (dk_at dksX0_drawsGust_2 1 rfl rfl)
theorem dX0_drawsGust_51 : decode cX0_drawsGust 51 = .ok (.aload_n 0, 1) := dk_42 (dk_at dksX0_drawsGust_2 4 rfl rfl)
theorem dX0_drawsGust_52 : decode cX0_drawsGust 52 = .ok (.getfield 23, 3) := dk_180 0 23 (dk_at dksX0_drawsGust_2 5 rfl rfl)
theorem dX0_drawsGust_55 : decode cX0_drawsGust 55 = .ok (.getfield 153, 3) := dk_180 0 153 (dk_at dksX0_drawsGust_2 8 rfl rfl)
theorem dX0_drawsGust_58 : decode cX0_drawsGust 58 = .ok (.iload_n 2, 1) := dk_28 (dk_at dksX0_drawsGust_2 11 rfl rfl)
theorem dX0_drawsGust_59 : decode cX0_drawsGust 59 = .ok (.iload_n 3, 1) := dk_29 (dk_at dksX0_drawsGust_2 12 rfl rfl)
theorem dX0_drawsGust_60 : decode cX0_drawsGust 60 = .ok (.iastore, 1) := dk_79 (dk_at dksX0_drawsGust_2 13 rfl rfl)
theorem dX0_drawsGust_61 : decode cX0_drawsGust 61 = .ok (.return_, 1) := dk_177 (dk_at dksX0_drawsGust_2 14 rfl rfl)
abbrev cX0_draws : ByteArray := prog_1_method_61_code
def yX0_draws : MethodName := ⟨RX0, "draws", "(I)I"⟩
def dkwX0_draws_1 : List UInt8 := [180, 1, 89, 19, 1, 98, 108, 27, 112, 172]
abbrev dktX0_draws_1 : List UInt8 := dkwX0_draws_1 ++ []
def dkwX0_draws_0 : List UInt8 := [42, 42, 180, 1, 89, 133, 20, 1, 92, 105, 20, 1, 94, 97, 20, 1, 96, 113, 136, 181, 1, 89, 42]
abbrev dktX0_draws_0 : List UInt8 := dkwX0_draws_0 ++ dktX0_draws_1
theorem dksX0_draws_0 : cX0_draws.data.toList.drop 0 = dktX0_draws_0 := by decide +kernel
theorem dksX0_draws_1 : cX0_draws.data.toList.drop 23 = dktX0_draws_1 := dk_seg dksX0_draws_0 23 rfl rfl
theorem dX0_draws_0 : decode cX0_draws 0 = .ok (.aload_n 0, 1) := dk_42 (dk_at dksX0_draws_0 0 rfl rfl)
theorem dX0_draws_1 : decode cX0_draws 1 = .ok (.aload_n 0, 1) := dk_42 (dk_at dksX0_draws_0 1 rfl rfl)
theorem dX0_draws_2 : decode cX0_draws 2 = .ok (.getfield 345, 3) := dk_180 1 89 (dk_at dksX0_draws_0 2 rfl rfl)
theorem dX0_draws_5 : decode cX0_draws 5 = .ok (.i2l, 1) := dk_133 (dk_at dksX0_draws_0 5 rfl rfl)
theorem dX0_draws_6 : decode cX0_draws 6 = .ok (.ldc2_w 348, 3) := dk_20 1 92 (dk_at dksX0_draws_0 6 rfl rfl)
theorem dX0_draws_9 : decode cX0_draws 9 = .ok (.lmul, 1) := dk_105 (dk_at dksX0_draws_0 9 rfl rfl)
theorem dX0_draws_10 : decode cX0_draws 10 = .ok (.ldc2_w 350, 3) := dk_20 1 94 (dk_at dksX0_draws_0 10 rfl rfl)
theorem dX0_draws_13 : decode cX0_draws 13 = .ok (.ladd, 1) := dk_97 (dk_at dksX0_draws_0 13 rfl rfl)
theorem dX0_draws_14 : decode cX0_draws 14 = .ok (.ldc2_w 352, 3) := dk_20 1 96 (dk_at dksX0_draws_0 14 rfl rfl)
theorem dX0_draws_17 : decode cX0_draws 17 = .ok (.lrem, 1) := dk_113 (dk_at dksX0_draws_0 17 rfl rfl)
theorem dX0_draws_18 : decode cX0_draws 18 = .ok (.l2i, 1) := dk_136 (dk_at dksX0_draws_0 18 rfl rfl)
theorem dX0_draws_19 : decode cX0_draws 19 = .ok (.putfield 345, 3) := dk_181 1 89 (dk_at dksX0_draws_0 19 rfl rfl)
theorem dX0_draws_22 : decode cX0_draws 22 = .ok (.aload_n 0, 1) := dk_42 (dk_at dksX0_draws_0 22 rfl rfl)
theorem dX0_draws_23 : decode cX0_draws 23 = .ok (.getfield 345, 3) := dk_180 1 89 (dk_at dksX0_draws_1 0 rfl rfl)
theorem dX0_draws_26 : decode cX0_draws 26 = .ok (.ldc_w 354, 3) := dk_19 1 98 (dk_at dksX0_draws_1 3 rfl rfl)
theorem dX0_draws_29 : decode cX0_draws 29 = .ok (.idiv, 1) := dk_108 (dk_at dksX0_draws_1 6 rfl rfl)
theorem dX0_draws_30 : decode cX0_draws 30 = .ok (.iload_n 1, 1) := dk_27 (dk_at dksX0_draws_1 7 rfl rfl)
theorem dX0_draws_31 : decode cX0_draws 31 = .ok (.irem, 1) := dk_112 (dk_at dksX0_draws_1 8 rfl rfl)
theorem dX0_draws_32 : decode cX0_draws 32 = .ok (.ireturn, 1) := dk_172 (dk_at dksX0_draws_1 9 rfl rfl)
abbrev cX0_count : ByteArray := prog_1_method_64_code
def yX0_count : MethodName := ⟨RX0, "count", "(I)I"⟩
def dkwX0_count_6 : List UInt8 := [2, 172]
abbrev dktX0_count_6 : List UInt8 := dkwX0_count_6 ++ []
def dkwX0_count_5 : List UInt8 := [184, 1, 8, 172, 42, 180, 0, 132, 172, 42, 180, 0, 135, 172, 42, 180, 1, 89, 172, 42, 180, 0, 114, 172]
abbrev dktX0_count_5 : List UInt8 := dkwX0_count_5 ++ dktX0_count_6
def dkwX0_count_4 : List UInt8 := [42, 180, 0, 19, 5, 182, 0, 225, 172, 42, 180, 0, 19, 182, 1, 28, 172, 42, 180, 0, 19, 180, 0, 250]
abbrev dktX0_count_4 : List UInt8 := dkwX0_count_4 ++ dktX0_count_5
def dkwX0_count_3 : List UInt8 := [42, 180, 0, 35, 172, 42, 180, 0, 19, 180, 0, 201, 172, 42, 42, 180, 0, 19, 3, 182, 0, 225, 172, 42]
abbrev dktX0_count_3 : List UInt8 := dkwX0_count_3 ++ dktX0_count_4
def dkwX0_count_2 : List UInt8 := [42, 180, 0, 10, 180, 0, 97, 172, 42, 180, 0, 10, 182, 0, 100, 172, 42, 180, 0, 31, 182, 0, 138, 172]
abbrev dktX0_count_2 : List UInt8 := dkwX0_count_2 ++ dktX0_count_3
def dkwX0_count_1 : List UInt8 := [170, 0, 0, 0, 0, 0, 163, 0, 0, 0, 0, 0, 0, 0, 12, 0, 0, 0, 67, 0, 0, 0, 75, 0, 0, 0, 83, 0, 0, 0, 91, 0, 0, 0, 96, 0, 0, 0, 104, 0, 0, 0, 114, 0, 0, 0, 124, 0, 0, 0, 132, 0, 0, 0, 143, 0, 0, 0, 148, 0, 0, 0, 153, 0, 0, 0, 158]
abbrev dktX0_count_1 : List UInt8 := dkwX0_count_1 ++ dktX0_count_2
def dkwX0_count_0 : List UInt8 := [27]
abbrev dktX0_count_0 : List UInt8 := dkwX0_count_0 ++ dktX0_count_1
theorem dksX0_count_0 : cX0_count.data.toList.drop 0 = dktX0_count_0 := by decide +kernel
theorem dksX0_count_1 : cX0_count.data.toList.drop 1 = dktX0_count_1 := dk_seg dksX0_count_0 1 rfl rfl
theorem dksX0_count_2 : cX0_count.data.toList.drop 68 = dktX0_count_2 := dk_seg dksX0_count_1 67 rfl rfl
theorem dksX0_count_3 : cX0_count.data.toList.drop 92 = dktX0_count_3 := dk_seg dksX0_count_2 24 rfl rfl
theorem dksX0_count_4 : cX0_count.data.toList.drop 116 = dktX0_count_4 := dk_seg dksX0_count_3 24 rfl rfl
theorem dksX0_count_5 : cX0_count.data.toList.drop 140 = dktX0_count_5 := dk_seg dksX0_count_4 24 rfl rfl
theorem dksX0_count_6 : cX0_count.data.toList.drop 164 = dktX0_count_6 := dk_seg dksX0_count_5 24 rfl rfl
theorem dX0_count_0 : decode cX0_count 0 = .ok (.iload_n 1, 1) := dk_27 (dk_at dksX0_count_0 0 rfl rfl)
theorem dX0_count_1 : decode cX0_count 1 = .ok (.tableswitch 163 0 12 #[67, 75, 83, 91, 96, 104, 114, 124, 132, 143, 148, 153, 158], 67) := by decide +kernel
theorem dX0_count_68 : decode cX0_count 68 = .ok (.aload_n 0, 1) := dk_42 (dk_at dksX0_count_2 0 rfl rfl)
theorem dX0_count_69 : decode cX0_count 69 = .ok (.getfield 10, 3) := dk_180 0 10 (dk_at dksX0_count_2 1 rfl rfl)
theorem dX0_count_72 : decode cX0_count 72 = .ok (.getfield 97, 3) := dk_180 0 97 (dk_at dksX0_count_2 4 rfl rfl)
theorem dX0_count_75 : decode cX0_count 75 = .ok (.ireturn, 1) := dk_172 (dk_at dksX0_count_2 7 rfl rfl)
theorem dX0_count_76 : decode cX0_count 76 = .ok (.aload_n 0, 1) := dk_42 (dk_at dksX0_count_2 8 rfl rfl)
theorem dX0_count_77 : decode cX0_count 77 = .ok (.getfield 10, 3) := dk_180 0 10 (dk_at dksX0_count_2 9 rfl rfl)
theorem dX0_count_80 : decode cX0_count 80 = .ok (.invokevirtual 100, 3) := dk_182 0 100 (dk_at dksX0_count_2 12 rfl rfl)
theorem dX0_count_83 : decode cX0_count 83 = .ok (.ireturn, 1) := dk_172 (dk_at dksX0_count_2 15 rfl rfl)
theorem dX0_count_84 : decode cX0_count 84 = .ok (.aload_n 0, 1) := dk_42 (dk_at dksX0_count_2 16 rfl rfl)
theorem dX0_count_85 : decode cX0_count 85 = .ok (.getfield 31, 3) := dk_180 0 31 (dk_at dksX0_count_2 17 rfl rfl)
theorem dX0_count_88 : decode cX0_count 88 = .ok (.invokevirtual 138, 3) := dk_182 0 138 (dk_at dksX0_count_2 20 rfl rfl)
theorem dX0_count_91 : decode cX0_count 91 = .ok (.ireturn, 1) := dk_172 (dk_at dksX0_count_2 23 rfl rfl)
theorem dX0_count_92 : decode cX0_count 92 = .ok (.aload_n 0, 1) := dk_42 (dk_at dksX0_count_3 0 rfl rfl)
theorem dX0_count_93 : decode cX0_count 93 = .ok (.getfield 35, 3) := dk_180 0 35 (dk_at dksX0_count_3 1 rfl rfl)
theorem dX0_count_96 : decode cX0_count 96 = .ok (.ireturn, 1) := dk_172 (dk_at dksX0_count_3 4 rfl rfl)
theorem dX0_count_97 : decode cX0_count 97 = .ok (.aload_n 0, 1) := dk_42 (dk_at dksX0_count_3 5 rfl rfl)
theorem dX0_count_98 : decode cX0_count 98 = .ok (.getfield 19, 3) := dk_180 0 19 (dk_at dksX0_count_3 6 rfl rfl)
theorem dX0_count_101 : decode cX0_count 101 = .ok (.getfield 201, 3) := dk_180 0 201 (dk_at dksX0_count_3 9 rfl rfl)
theorem dX0_count_104 : decode cX0_count 104 = .ok (.ireturn, 1) := dk_172 (dk_at dksX0_count_3 12 rfl rfl)
theorem dX0_count_105 : decode cX0_count 105 = .ok (.aload_n 0, 1) := dk_42 (dk_at dksX0_count_3 13 rfl rfl)
theorem dX0_count_106 : decode cX0_count 106 = .ok (.aload_n 0, 1) := dk_42 (dk_at dksX0_count_3 14 rfl rfl)
theorem dX0_count_107 : decode cX0_count 107 = .ok (.getfield 19, 3) := dk_180 0 19 (dk_at dksX0_count_3 15 rfl rfl)
theorem dX0_count_110 : decode cX0_count 110 = .ok (.iconst 0, 1) := dk_3 (dk_at dksX0_count_3 18 rfl rfl)
theorem dX0_count_111 : decode cX0_count 111 = .ok (.invokevirtual 225, 3) := dk_182 0 225 (dk_at dksX0_count_3 19 rfl rfl)
theorem dX0_count_114 : decode cX0_count 114 = .ok (.ireturn, 1) := dk_172 (dk_at dksX0_count_3 22 rfl rfl)
theorem dX0_count_115 : decode cX0_count 115 = .ok (.aload_n 0, 1) := dk_42 (dk_at dksX0_count_3 23 rfl rfl)
theorem dX0_count_116 : decode cX0_count 116 = .ok (.aload_n 0, 1) := dk_42 (dk_at dksX0_count_4 0 rfl rfl)
theorem dX0_count_117 : decode cX0_count 117 = .ok (.getfield 19, 3) := dk_180 0 19 (dk_at dksX0_count_4 1 rfl rfl)
theorem dX0_count_120 : decode cX0_count 120 = .ok (.iconst 2, 1) := dk_5 (dk_at dksX0_count_4 4 rfl rfl)
theorem dX0_count_121 : decode cX0_count 121 = .ok (.invokevirtual 225, 3) := dk_182 0 225 (dk_at dksX0_count_4 5 rfl rfl)
theorem dX0_count_124 : decode cX0_count 124 = .ok (.ireturn, 1) := dk_172 (dk_at dksX0_count_4 8 rfl rfl)
theorem dX0_count_125 : decode cX0_count 125 = .ok (.aload_n 0, 1) := dk_42 (dk_at dksX0_count_4 9 rfl rfl)
theorem dX0_count_126 : decode cX0_count 126 = .ok (.getfield 19, 3) := dk_180 0 19 (dk_at dksX0_count_4 10 rfl rfl)
theorem dX0_count_129 : decode cX0_count 129 = .ok (.invokevirtual 284, 3) := dk_182 1 28 (dk_at dksX0_count_4 13 rfl rfl)
theorem dX0_count_132 : decode cX0_count 132 = .ok (.ireturn, 1) := dk_172 (dk_at dksX0_count_4 16 rfl rfl)
theorem dX0_count_133 : decode cX0_count 133 = .ok (.aload_n 0, 1) := dk_42 (dk_at dksX0_count_4 17 rfl rfl)
theorem dX0_count_134 : decode cX0_count 134 = .ok (.getfield 19, 3) := dk_180 0 19 (dk_at dksX0_count_4 18 rfl rfl)
theorem dX0_count_137 : decode cX0_count 137 = .ok (.getfield 250, 3) := dk_180 0 250 (dk_at dksX0_count_4 21 rfl rfl)
theorem dX0_count_140 : decode cX0_count 140 = .ok (.invokestatic 264, 3) := dk_184 1 8 (dk_at dksX0_count_5 0 rfl rfl)
theorem dX0_count_143 : decode cX0_count 143 = .ok (.ireturn, 1) := dk_172 (dk_at dksX0_count_5 3 rfl rfl)
theorem dX0_count_144 : decode cX0_count 144 = .ok (.aload_n 0, 1) := dk_42 (dk_at dksX0_count_5 4 rfl rfl)
theorem dX0_count_145 : decode cX0_count 145 = .ok (.getfield 132, 3) := dk_180 0 132 (dk_at dksX0_count_5 5 rfl rfl)
theorem dX0_count_148 : decode cX0_count 148 = .ok (.ireturn, 1) := dk_172 (dk_at dksX0_count_5 8 rfl rfl)
theorem dX0_count_149 : decode cX0_count 149 = .ok (.aload_n 0, 1) := dk_42 (dk_at dksX0_count_5 9 rfl rfl)
theorem dX0_count_150 : decode cX0_count 150 = .ok (.getfield 135, 3) := dk_180 0 135 (dk_at dksX0_count_5 10 rfl rfl)
theorem dX0_count_153 : decode cX0_count 153 = .ok (.ireturn, 1) := dk_172 (dk_at dksX0_count_5 13 rfl rfl)
theorem dX0_count_154 : decode cX0_count 154 = .ok (.aload_n 0, 1) := dk_42 (dk_at dksX0_count_5 14 rfl rfl)
theorem dX0_count_155 : decode cX0_count 155 = .ok (.getfield 345, 3) := dk_180 1 89 (dk_at dksX0_count_5 15 rfl rfl)
theorem dX0_count_158 : decode cX0_count 158 = .ok (.ireturn, 1) := dk_172 (dk_at dksX0_count_5 18 rfl rfl)
theorem dX0_count_159 : decode cX0_count 159 = .ok (.aload_n 0, 1) := dk_42 (dk_at dksX0_count_5 19 rfl rfl)
theorem dX0_count_160 : decode cX0_count 160 = .ok (.getfield 114, 3) := dk_180 0 114 (dk_at dksX0_count_5 20 rfl rfl)
theorem dX0_count_163 : decode cX0_count 163 = .ok (.ireturn, 1) := dk_172 (dk_at dksX0_count_5 23 rfl rfl)
theorem dX0_count_164 : decode cX0_count 164 = .ok (.iconst (-1), 1) := dk_2 (dk_at dksX0_count_6 0 rfl rfl)
theorem dX0_count_165 : decode cX0_count 165 = .ok (.ireturn, 1) := dk_172 (dk_at dksX0_count_6 1 rfl rfl)
abbrev cX0_image : ByteArray := prog_1_method_65_code
def yX0_image : MethodName := ⟨RX0, "image", "(I)I"⟩
def dkwX0_image_2 : List UInt8 := [180, 0, 19, 180, 0, 201, 172]
abbrev dktX0_image_2 : List UInt8 := dkwX0_image_2 ++ []
def dkwX0_image_1 : List UInt8 := [180, 0, 93, 27, 187, 0, 91, 89, 42, 183, 1, 107, 83, 42, 180, 0, 93, 27, 50, 182, 1, 110, 42]
abbrev dktX0_image_1 : List UInt8 := dkwX0_image_1 ++ dktX0_image_2
def dkwX0_image_0 : List UInt8 := [27, 133, 9, 20, 0, 172, 184, 0, 104, 154, 0, 5, 2, 172, 42, 180, 0, 93, 27, 50, 199, 0, 17, 42]
abbrev dktX0_image_0 : List UInt8 := dkwX0_image_0 ++ dktX0_image_1
theorem dksX0_image_0 : cX0_image.data.toList.drop 0 = dktX0_image_0 := by decide +kernel
theorem dksX0_image_1 : cX0_image.data.toList.drop 24 = dktX0_image_1 := dk_seg dksX0_image_0 24 rfl rfl
theorem dksX0_image_2 : cX0_image.data.toList.drop 47 = dktX0_image_2 := dk_seg dksX0_image_1 23 rfl rfl
theorem dX0_image_0 : decode cX0_image 0 = .ok (.iload_n 1, 1) := dk_27 (dk_at dksX0_image_0 0 rfl rfl)
theorem dX0_image_1 : decode cX0_image 1 = .ok (.i2l, 1) := dk_133 (dk_at dksX0_image_0 1 rfl rfl)
theorem dX0_image_2 : decode cX0_image 2 = .ok (.lconst 0, 1) := dk_9 (dk_at dksX0_image_0 2 rfl rfl)
theorem dX0_image_3 : decode cX0_image 3 = .ok (.ldc2_w 172, 3) := dk_20 0 172 (dk_at dksX0_image_0 3 rfl rfl)
theorem dX0_image_6 : decode cX0_image 6 = .ok (.invokestatic 104, 3) := dk_184 0 104 (dk_at dksX0_image_0 6 rfl rfl)
theorem dX0_image_9 : decode cX0_image 9 = .ok (.ifCond .ne 5, 3) := dk_154 0 5 (dk_at dksX0_image_0 9 rfl rfl)
theorem dX0_image_12 : decode cX0_image 12 = .ok (.iconst (-1), 1) := dk_2 (dk_at dksX0_image_0 12 rfl rfl)
theorem dX0_image_13 : decode cX0_image 13 = .ok (.ireturn, 1) := dk_172 (dk_at dksX0_image_0 13 rfl rfl)
theorem dX0_image_14 : decode cX0_image 14 = .ok (.aload_n 0, 1) := dk_42 (dk_at dksX0_image_0 14 rfl rfl)
theorem dX0_image_15 : decode cX0_image 15 = .ok (.getfield 93, 3) := dk_180 0 93 (dk_at dksX0_image_0 15 rfl rfl)
theorem dX0_image_18 : decode cX0_image 18 = .ok (.iload_n 1, 1) := dk_27 (dk_at dksX0_image_0 18 rfl rfl)
theorem dX0_image_19 : decode cX0_image 19 = .ok (.aaload, 1) := dk_50 (dk_at dksX0_image_0 19 rfl rfl)
theorem dX0_image_20 : decode cX0_image 20 = .ok (.ifnonnull 17, 3) := dk_199 0 17 (dk_at dksX0_image_0 20 rfl rfl)
theorem dX0_image_23 : decode cX0_image 23 = .ok (.aload_n 0, 1) := dk_42 (dk_at dksX0_image_0 23 rfl rfl)
theorem dX0_image_24 : decode cX0_image 24 = .ok (.getfield 93, 3) := dk_180 0 93 (dk_at dksX0_image_1 0 rfl rfl)
theorem dX0_image_27 : decode cX0_image 27 = .ok (.iload_n 1, 1) := dk_27 (dk_at dksX0_image_1 3 rfl rfl)
theorem dX0_image_28 : decode cX0_image 28 = .ok (.new 91, 3) := dk_187 0 91 (dk_at dksX0_image_1 4 rfl rfl)
theorem dX0_image_31 : decode cX0_image 31 = .ok (.dup, 1) := dk_89 (dk_at dksX0_image_1 7 rfl rfl)
theorem dX0_image_32 : decode cX0_image 32 = .ok (.aload_n 0, 1) := dk_42 (dk_at dksX0_image_1 8 rfl rfl)
theorem dX0_image_33 : decode cX0_image 33 = .ok (.invokespecial 363, 3) := dk_183 1 107 (dk_at dksX0_image_1 9 rfl rfl)
theorem dX0_image_36 : decode cX0_image 36 = .ok (.aastore, 1) := dk_83 (dk_at dksX0_image_1 12 rfl rfl)
theorem dX0_image_37 : decode cX0_image 37 = .ok (.aload_n 0, 1) := dk_42 (dk_at dksX0_image_1 13 rfl rfl)
theorem dX0_image_38 : decode cX0_image 38 = .ok (.getfield 93, 3) := dk_180 0 93 (dk_at dksX0_image_1 14 rfl rfl)
theorem dX0_image_41 : decode cX0_image 41 = .ok (.iload_n 1, 1) := dk_27 (dk_at dksX0_image_1 17 rfl rfl)
theorem dX0_image_42 : decode cX0_image 42 = .ok (.aaload, 1) := dk_50 (dk_at dksX0_image_1 18 rfl rfl)
theorem dX0_image_43 : decode cX0_image 43 = .ok (.invokevirtual 366, 3) := dk_182 1 110 (dk_at dksX0_image_1 19 rfl rfl)
theorem dX0_image_46 : decode cX0_image 46 = .ok (.aload_n 0, 1) := dk_42 (dk_at dksX0_image_1 22 rfl rfl)
theorem dX0_image_47 : decode cX0_image 47 = .ok (.getfield 19, 3) := dk_180 0 19 (dk_at dksX0_image_2 0 rfl rfl)
theorem dX0_image_50 : decode cX0_image 50 = .ok (.getfield 201, 3) := dk_180 0 201 (dk_at dksX0_image_2 3 rfl rfl)
theorem dX0_image_53 : decode cX0_image 53 = .ok (.ireturn, 1) := dk_172 (dk_at dksX0_image_2 6 rfl rfl)
abbrev cX0_back : ByteArray := prog_1_method_66_code
def yX0_back : MethodName := ⟨RX0, "back", "(I)I"⟩
def dkwX0_back_1 : List UInt8 := [180, 0, 93, 27, 50, 182, 1, 113, 42, 180, 0, 19, 180, 0, 201, 172]
abbrev dktX0_back_1 : List UInt8 := dkwX0_back_1 ++ []
def dkwX0_back_0 : List UInt8 := [27, 133, 9, 20, 0, 172, 184, 0, 104, 153, 0, 12, 42, 180, 0, 93, 27, 50, 199, 0, 5, 2, 172, 42]
abbrev dktX0_back_0 : List UInt8 := dkwX0_back_0 ++ dktX0_back_1
theorem dksX0_back_0 : cX0_back.data.toList.drop 0 = dktX0_back_0 := by decide +kernel
theorem dksX0_back_1 : cX0_back.data.toList.drop 24 = dktX0_back_1 := dk_seg dksX0_back_0 24 rfl rfl
theorem dX0_back_0 : decode cX0_back 0 = .ok (.iload_n 1, 1) := dk_27 (dk_at dksX0_back_0 0 rfl rfl)
theorem dX0_back_1 : decode cX0_back 1 = .ok (.i2l, 1) := dk_133 (dk_at dksX0_back_0 1 rfl rfl)
theorem dX0_back_2 : decode cX0_back 2 = .ok (.lconst 0, 1) := dk_9 (dk_at dksX0_back_0 2 rfl rfl)
theorem dX0_back_3 : decode cX0_back 3 = .ok (.ldc2_w 172, 3) := dk_20 0 172 (dk_at dksX0_back_0 3 rfl rfl)
theorem dX0_back_6 : decode cX0_back 6 = .ok (.invokestatic 104, 3) := dk_184 0 104 (dk_at dksX0_back_0 6 rfl rfl)
theorem dX0_back_9 : decode cX0_back 9 = .ok (.ifCond .eq 12, 3) := dk_153 0 12 (dk_at dksX0_back_0 9 rfl rfl)
theorem dX0_back_12 : decode cX0_back 12 = .ok (.aload_n 0, 1) := dk_42 (dk_at dksX0_back_0 12 rfl rfl)
theorem dX0_back_13 : decode cX0_back 13 = .ok (.getfield 93, 3) := dk_180 0 93 (dk_at dksX0_back_0 13 rfl rfl)
theorem dX0_back_16 : decode cX0_back 16 = .ok (.iload_n 1, 1) := dk_27 (dk_at dksX0_back_0 16 rfl rfl)
theorem dX0_back_17 : decode cX0_back 17 = .ok (.aaload, 1) := dk_50 (dk_at dksX0_back_0 17 rfl rfl)
theorem dX0_back_18 : decode cX0_back 18 = .ok (.ifnonnull 5, 3) := dk_199 0 5 (dk_at dksX0_back_0 18 rfl rfl)
theorem dX0_back_21 : decode cX0_back 21 = .ok (.iconst (-1), 1) := dk_2 (dk_at dksX0_back_0 21 rfl rfl)
theorem dX0_back_22 : decode cX0_back 22 = .ok (.ireturn, 1) := dk_172 (dk_at dksX0_back_0 22 rfl rfl)
theorem dX0_back_23 : decode cX0_back 23 = .ok (.aload_n 0, 1) := dk_42 (dk_at dksX0_back_0 23 rfl rfl)
theorem dX0_back_24 : decode cX0_back 24 = .ok (.getfield 93, 3) := dk_180 0 93 (dk_at dksX0_back_1 0 rfl rfl)
theorem dX0_back_27 : decode cX0_back 27 = .ok (.iload_n 1, 1) := dk_27 (dk_at dksX0_back_1 3 rfl rfl)
theorem dX0_back_28 : decode cX0_back 28 = .ok (.aaload, 1) := dk_50 (dk_at dksX0_back_1 4 rfl rfl)
theorem dX0_back_29 : decode cX0_back 29 = .ok (.invokevirtual 369, 3) := dk_182 1 113 (dk_at dksX0_back_1 5 rfl rfl)
theorem dX0_back_32 : decode cX0_back 32 = .ok (.aload_n 0, 1) := dk_42 (dk_at dksX0_back_1 8 rfl rfl)
theorem dX0_back_33 : decode cX0_back 33 = .ok (.getfield 19, 3) := dk_180 0 19 (dk_at dksX0_back_1 9 rfl rfl)
theorem dX0_back_36 : decode cX0_back 36 = .ok (.getfield 201, 3) := dk_180 0 201 (dk_at dksX0_back_1 12 rfl rfl)
theorem dX0_back_39 : decode cX0_back 39 = .ok (.ireturn, 1) := dk_172 (dk_at dksX0_back_1 15 rfl rfl)
theorem q129 : (Jvm.Cond.initialized "EdgeWalk") ∈ lw_all := lw_g (lw_at lw_m1 1 rfl) rfl
theorem q165 : (Jvm.Cond.instantiable "EdgeWalk" (25 : Nat)) ∈ lw_all := lw_g (lw_at lw_m1 37 rfl) rfl
theorem q167 : (Jvm.Cond.instanceMethod ({ cls := "EdgeWalk", name := "<init>", desc := "()V" } : Jvm.MethodName)) ∈ lw_all := lw_g (lw_at lw_m1 39 rfl) rfl
theorem q168 : (Jvm.Cond.code ({ cls := "EdgeWalk", name := "<init>", desc := "()V" } : Jvm.MethodName) prog_1_method_4_code (1 : Nat) (Option.none : Option Jvm.ClassFile.FieldType)) ∈ lw_all := lw_g (lw_at lw_m1 40 rfl) rfl
theorem q169 : (Jvm.Cond.methodLink "EdgeWalk" (1 : Nat) ({ cls := "java/lang/Object", name := "<init>", desc := "()V" } : Jvm.MethodName)) ∈ lw_all := lw_g (lw_at lw_m1 41 rfl) rfl
theorem q172 : (Jvm.Cond.classLink "EdgeWalk" (7 : Nat) "EdgeWalk$Sheet") ∈ lw_all := lw_g (lw_at lw_m1 44 rfl) rfl
theorem q174 : (Jvm.Cond.methodLinkNest "EdgeWalk" (9 : Nat) ({ cls := "EdgeWalk$Sheet", name := "<init>", desc := "()V" } : Jvm.MethodName) "EdgeWalk") ∈ lw_tbl := lw_at lw_m1 46 rfl
theorem q214 : (Jvm.Cond.fieldLinkNest "EdgeWalk" (177 : Nat) "EdgeWalk$Sheet" "days" "[I" "EdgeWalk") ∈ lw_tbl := lw_at lw_m1 86 rfl
theorem q217 : (Jvm.Cond.fieldLinkNest "EdgeWalk" (97 : Nat) "EdgeWalk$Sheet" "side" "I" "EdgeWalk") ∈ lw_tbl := lw_at lw_m1 89 rfl
theorem q233 : (Jvm.Cond.classLink "EdgeWalk" (16 : Nat) "EdgeWalk$State") ∈ lw_all := lw_g (lw_at lw_m1 105 rfl) rfl
theorem q235 : (Jvm.Cond.methodLinkNest "EdgeWalk" (18 : Nat) ({ cls := "EdgeWalk$State", name := "<init>", desc := "()V" } : Jvm.MethodName) "EdgeWalk") ∈ lw_tbl := lw_at lw_m1 107 rfl
theorem q240 : (Jvm.Cond.fieldLinkNest "EdgeWalk" (159 : Nat) "EdgeWalk$State" "is" "[I" "EdgeWalk") ∈ lw_tbl := lw_at lw_m1 112 rfl
theorem q242 : (Jvm.Cond.fieldLinkNest "EdgeWalk" (150 : Nat) "EdgeWalk$State" "cell" "[I" "EdgeWalk") ∈ lw_tbl := lw_at lw_m1 114 rfl
theorem q244 : (Jvm.Cond.fieldLinkNest "EdgeWalk" (153 : Nat) "EdgeWalk$State" "faces" "[I" "EdgeWalk") ∈ lw_tbl := lw_at lw_m1 116 rfl
theorem q246 : (Jvm.Cond.fieldLinkNest "EdgeWalk" (156 : Nat) "EdgeWalk$State" "food" "[I" "EdgeWalk") ∈ lw_tbl := lw_at lw_m1 118 rfl
theorem q248 : (Jvm.Cond.fieldLinkNest "EdgeWalk" (162 : Nat) "EdgeWalk$State" "left" "[I" "EdgeWalk") ∈ lw_tbl := lw_at lw_m1 120 rfl
theorem q250 : (Jvm.Cond.fieldLinkNest "EdgeWalk" (311 : Nat) "EdgeWalk$State" "place" "[I" "EdgeWalk") ∈ lw_tbl := lw_at lw_m1 122 rfl
theorem q252 : (Jvm.Cond.fieldLinkNest "EdgeWalk" (165 : Nat) "EdgeWalk$State" "been" "[I" "EdgeWalk") ∈ lw_tbl := lw_at lw_m1 124 rfl
theorem q254 : (Jvm.Cond.fieldLinkNest "EdgeWalk" (174 : Nat) "EdgeWalk$State" "leads" "[I" "EdgeWalk") ∈ lw_tbl := lw_at lw_m1 126 rfl
theorem q256 : (Jvm.Cond.fieldLinkNest "EdgeWalk" (201 : Nat) "EdgeWalk$State" "step" "I" "EdgeWalk") ∈ lw_tbl := lw_at lw_m1 128 rfl
theorem q258 : (Jvm.Cond.fieldLinkNest "EdgeWalk" (250 : Nat) "EdgeWalk$State" "stones" "J" "EdgeWalk") ∈ lw_tbl := lw_at lw_m1 130 rfl
theorem q280 : (Jvm.Cond.classLink "EdgeWalk" (26 : Nat) "java/util/ArrayList") ∈ lw_all := lw_g (lw_at lw_m1 152 rfl) rfl
theorem q281 : (Jvm.Cond.methodLink "EdgeWalk" (28 : Nat) ({ cls := "java/util/ArrayList", name := "<init>", desc := "(I)V" } : Jvm.MethodName)) ∈ lw_all := lw_g (lw_at lw_m1 153 rfl) rfl
theorem q282 : (Jvm.Cond.classLink "EdgeWalk" (39 : Nat) "EdgeWalk$Wrong") ∈ lw_all := lw_g (lw_at lw_m1 154 rfl) rfl
theorem q319 : (Jvm.Cond.methodLinkNest "EdgeWalk" (41 : Nat) ({ cls := "EdgeWalk$Wrong", name := "<init>", desc := "()V" } : Jvm.MethodName) "EdgeWalk") ∈ lw_tbl := lw_at lw_m1 191 rfl
theorem q326 : (Jvm.Cond.fieldLinkNest "EdgeWalk" (111 : Nat) "EdgeWalk$Wrong" "number" "I" "EdgeWalk") ∈ lw_tbl := lw_at lw_m1 198 rfl
theorem q341 : (Jvm.Cond.fieldLink "EdgeWalk" (60 : Nat) "EdgeWalk" "NAMES" "[Ljava/lang/String;") ∈ lw_all := lw_g (lw_at lw_m1 213 rfl) rfl
theorem q342 : (Jvm.Cond.laysStatic "EdgeWalk" "NAMES" "[Ljava/lang/String;") ∈ lw_tbl := lw_at lw_m1 214 rfl
theorem q343 : (Jvm.Cond.methodLink "EdgeWalk" (68 : Nat) ({ cls := "EdgeWalk", name := "newStates", desc := "(I)[LEdgeWalk$State;" } : Jvm.MethodName)) ∈ lw_all := lw_g (lw_at lw_m1 215 rfl) rfl
theorem q344 : (Jvm.Cond.static ({ cls := "EdgeWalk", name := "newStates", desc := "(I)[LEdgeWalk$State;" } : Jvm.MethodName)) ∈ lw_all := lw_g (lw_at lw_m1 216 rfl) rfl
theorem q345 : (Jvm.Cond.code ({ cls := "EdgeWalk", name := "newStates", desc := "(I)[LEdgeWalk$State;" } : Jvm.MethodName) prog_1_method_22_code (3 : Nat) (Option.some (Jvm.ClassFile.FieldType.array (Jvm.ClassFile.FieldType.object "EdgeWalk$State")))) ∈ lw_all := lw_g (lw_at lw_m1 217 rfl) rfl
theorem q347 : (Jvm.Cond.classLink "EdgeWalk" (91 : Nat) "EdgeWalk$Image") ∈ lw_all := lw_g (lw_at lw_m1 219 rfl) rfl
theorem q350 : (Jvm.Cond.fieldLink "EdgeWalk" (10 : Nat) "EdgeWalk" "sheet" "LEdgeWalk$Sheet;") ∈ lw_all := lw_g (lw_at lw_m1 222 rfl) rfl
theorem q352 : (Jvm.Cond.fieldLink "EdgeWalk" (19 : Nat) "EdgeWalk" "state" "LEdgeWalk$State;") ∈ lw_all := lw_g (lw_at lw_m1 224 rfl) rfl
theorem q353 : (Jvm.Cond.fieldLink "EdgeWalk" (23 : Nat) "EdgeWalk" "kept" "LEdgeWalk$State;") ∈ lw_all := lw_g (lw_at lw_m1 225 rfl) rfl
theorem q354 : (Jvm.Cond.fieldLink "EdgeWalk" (31 : Nat) "EdgeWalk" "rules" "Ljava/util/ArrayList;") ∈ lw_all := lw_g (lw_at lw_m1 226 rfl) rfl
theorem q357 : (Jvm.Cond.fieldLink "EdgeWalk" (35 : Nat) "EdgeWalk" "inForce" "I") ∈ lw_all := lw_g (lw_at lw_m1 229 rfl) rfl
theorem q358 : (Jvm.Cond.fieldLink "EdgeWalk" (42 : Nat) "EdgeWalk" "wrong" "LEdgeWalk$Wrong;") ∈ lw_all := lw_g (lw_at lw_m1 230 rfl) rfl
theorem q360 : (Jvm.Cond.fieldLink "EdgeWalk" (46 : Nat) "EdgeWalk" "tape" "[B") ∈ lw_all := lw_g (lw_at lw_m1 232 rfl) rfl
theorem q362 : (Jvm.Cond.fieldLink "EdgeWalk" (114 : Nat) "EdgeWalk" "taped" "I") ∈ lw_all := lw_g (lw_at lw_m1 234 rfl) rfl
theorem q364 : (Jvm.Cond.fieldLink "EdgeWalk" (50 : Nat) "EdgeWalk" "noteWhen" "[I") ∈ lw_all := lw_g (lw_at lw_m1 236 rfl) rfl
theorem q366 : (Jvm.Cond.fieldLink "EdgeWalk" (54 : Nat) "EdgeWalk" "noteWho" "[I") ∈ lw_all := lw_g (lw_at lw_m1 238 rfl) rfl
theorem q368 : (Jvm.Cond.fieldLink "EdgeWalk" (57 : Nat) "EdgeWalk" "noteWhere" "[I") ∈ lw_all := lw_g (lw_at lw_m2 0 rfl) rfl
theorem q370 : (Jvm.Cond.fieldLink "EdgeWalk" (132 : Nat) "EdgeWalk" "notes" "I") ∈ lw_all := lw_g (lw_at lw_m2 2 rfl) rfl
theorem q372 : (Jvm.Cond.fieldLink "EdgeWalk" (345 : Nat) "EdgeWalk" "draw" "I") ∈ lw_all := lw_g (lw_at lw_m2 4 rfl) rfl
theorem q373 : (Jvm.Cond.fieldLink "EdgeWalk" (64 : Nat) "EdgeWalk" "words" "[J") ∈ lw_all := lw_g (lw_at lw_m2 5 rfl) rfl
theorem q374 : (Jvm.Cond.fieldLink "EdgeWalk" (72 : Nat) "EdgeWalk" "past" "[LEdgeWalk$State;") ∈ lw_all := lw_g (lw_at lw_m2 6 rfl) rfl
theorem q376 : (Jvm.Cond.fieldLink "EdgeWalk" (135 : Nat) "EdgeWalk" "pastMany" "I") ∈ lw_all := lw_g (lw_at lw_m2 8 rfl) rfl
theorem q377 : (Jvm.Cond.fieldLink "EdgeWalk" (233 : Nat) "EdgeWalk" "pastAt" "I") ∈ lw_all := lw_g (lw_at lw_m2 9 rfl) rfl
theorem q378 : (Jvm.Cond.fieldLink "EdgeWalk" (76 : Nat) "EdgeWalk" "steps" "[I") ∈ lw_all := lw_g (lw_at lw_m2 10 rfl) rfl
theorem q379 : (Jvm.Cond.fieldLink "EdgeWalk" (287 : Nat) "EdgeWalk" "fewestLost" "I") ∈ lw_all := lw_g (lw_at lw_m2 11 rfl) rfl
theorem q380 : (Jvm.Cond.fieldLink "EdgeWalk" (290 : Nat) "EdgeWalk" "mostFood" "I") ∈ lw_all := lw_g (lw_at lw_m2 12 rfl) rfl
theorem q381 : (Jvm.Cond.fieldLink "EdgeWalk" (79 : Nat) "EdgeWalk" "firstHas" "[I") ∈ lw_all := lw_g (lw_at lw_m2 13 rfl) rfl
theorem q382 : (Jvm.Cond.fieldLink "EdgeWalk" (82 : Nat) "EdgeWalk" "secondHas" "[I") ∈ lw_all := lw_g (lw_at lw_m2 14 rfl) rfl
theorem q383 : (Jvm.Cond.fieldLink "EdgeWalk" (85 : Nat) "EdgeWalk" "lay" "[I") ∈ lw_all := lw_g (lw_at lw_m2 15 rfl) rfl
theorem q384 : (Jvm.Cond.fieldLink "EdgeWalk" (88 : Nat) "EdgeWalk" "shows" "[I") ∈ lw_all := lw_g (lw_at lw_m2 16 rfl) rfl
theorem q385 : (Jvm.Cond.fieldLink "EdgeWalk" (93 : Nat) "EdgeWalk" "images" "[LEdgeWalk$Image;") ∈ lw_all := lw_g (lw_at lw_m2 17 rfl) rfl
theorem q386 : (Jvm.Cond.lays "EdgeWalk" "EdgeWalk" "sheet" "LEdgeWalk$Sheet;") ∈ lw_all := lw_g (lw_at lw_m2 18 rfl) rfl
theorem q387 : (Jvm.Cond.soleField "EdgeWalk" "sheet") ∈ lw_all := lw_g (lw_at lw_m2 19 rfl) rfl
theorem q388 : (Jvm.Cond.laysFinal "EdgeWalk" "EdgeWalk" "state" "LEdgeWalk$State;") ∈ lw_all := lw_g (lw_at lw_m2 20 rfl) rfl
theorem q389 : (Jvm.Cond.soleField "EdgeWalk" "state") ∈ lw_all := lw_g (lw_at lw_m2 21 rfl) rfl
theorem q390 : (Jvm.Cond.laysFinal "EdgeWalk" "EdgeWalk" "kept" "LEdgeWalk$State;") ∈ lw_all := lw_g (lw_at lw_m2 22 rfl) rfl
theorem q391 : (Jvm.Cond.soleField "EdgeWalk" "kept") ∈ lw_all := lw_g (lw_at lw_m2 23 rfl) rfl
theorem q392 : (Jvm.Cond.laysFinal "EdgeWalk" "EdgeWalk" "rules" "Ljava/util/ArrayList;") ∈ lw_all := lw_g (lw_at lw_m2 24 rfl) rfl
theorem q393 : (Jvm.Cond.soleField "EdgeWalk" "rules") ∈ lw_all := lw_g (lw_at lw_m2 25 rfl) rfl
theorem q394 : (Jvm.Cond.lays "EdgeWalk" "EdgeWalk" "inForce" "I") ∈ lw_all := lw_g (lw_at lw_m2 26 rfl) rfl
theorem q395 : (Jvm.Cond.soleField "EdgeWalk" "inForce") ∈ lw_all := lw_g (lw_at lw_m2 27 rfl) rfl
theorem q396 : (Jvm.Cond.laysFinal "EdgeWalk" "EdgeWalk" "wrong" "LEdgeWalk$Wrong;") ∈ lw_all := lw_g (lw_at lw_m2 28 rfl) rfl
theorem q397 : (Jvm.Cond.soleField "EdgeWalk" "wrong") ∈ lw_all := lw_g (lw_at lw_m2 29 rfl) rfl
theorem q398 : (Jvm.Cond.laysFinal "EdgeWalk" "EdgeWalk" "tape" "[B") ∈ lw_all := lw_g (lw_at lw_m2 30 rfl) rfl
theorem q399 : (Jvm.Cond.soleField "EdgeWalk" "tape") ∈ lw_all := lw_g (lw_at lw_m2 31 rfl) rfl
theorem q400 : (Jvm.Cond.lays "EdgeWalk" "EdgeWalk" "taped" "I") ∈ lw_all := lw_g (lw_at lw_m2 32 rfl) rfl
theorem q401 : (Jvm.Cond.soleField "EdgeWalk" "taped") ∈ lw_all := lw_g (lw_at lw_m2 33 rfl) rfl
theorem q402 : (Jvm.Cond.laysFinal "EdgeWalk" "EdgeWalk" "noteWhen" "[I") ∈ lw_all := lw_g (lw_at lw_m2 34 rfl) rfl
theorem q403 : (Jvm.Cond.soleField "EdgeWalk" "noteWhen") ∈ lw_all := lw_g (lw_at lw_m2 35 rfl) rfl
theorem q404 : (Jvm.Cond.laysFinal "EdgeWalk" "EdgeWalk" "noteWho" "[I") ∈ lw_all := lw_g (lw_at lw_m2 36 rfl) rfl
theorem q405 : (Jvm.Cond.soleField "EdgeWalk" "noteWho") ∈ lw_all := lw_g (lw_at lw_m2 37 rfl) rfl
theorem q406 : (Jvm.Cond.laysFinal "EdgeWalk" "EdgeWalk" "noteWhere" "[I") ∈ lw_all := lw_g (lw_at lw_m2 38 rfl) rfl
theorem q407 : (Jvm.Cond.soleField "EdgeWalk" "noteWhere") ∈ lw_all := lw_g (lw_at lw_m2 39 rfl) rfl
theorem q408 : (Jvm.Cond.lays "EdgeWalk" "EdgeWalk" "notes" "I") ∈ lw_all := lw_g (lw_at lw_m2 40 rfl) rfl
theorem q409 : (Jvm.Cond.soleField "EdgeWalk" "notes") ∈ lw_all := lw_g (lw_at lw_m2 41 rfl) rfl
theorem q410 : (Jvm.Cond.lays "EdgeWalk" "EdgeWalk" "draw" "I") ∈ lw_all := lw_g (lw_at lw_m2 42 rfl) rfl
theorem q411 : (Jvm.Cond.soleField "EdgeWalk" "draw") ∈ lw_all := lw_g (lw_at lw_m2 43 rfl) rfl
theorem q412 : (Jvm.Cond.laysFinal "EdgeWalk" "EdgeWalk" "words" "[J") ∈ lw_all := lw_g (lw_at lw_m2 44 rfl) rfl
theorem q413 : (Jvm.Cond.soleField "EdgeWalk" "words") ∈ lw_all := lw_g (lw_at lw_m2 45 rfl) rfl
theorem q414 : (Jvm.Cond.laysFinal "EdgeWalk" "EdgeWalk" "past" "[LEdgeWalk$State;") ∈ lw_all := lw_g (lw_at lw_m2 46 rfl) rfl
theorem q415 : (Jvm.Cond.soleField "EdgeWalk" "past") ∈ lw_all := lw_g (lw_at lw_m2 47 rfl) rfl
theorem q416 : (Jvm.Cond.lays "EdgeWalk" "EdgeWalk" "pastMany" "I") ∈ lw_all := lw_g (lw_at lw_m2 48 rfl) rfl
theorem q417 : (Jvm.Cond.soleField "EdgeWalk" "pastMany") ∈ lw_all := lw_g (lw_at lw_m2 49 rfl) rfl
theorem q418 : (Jvm.Cond.lays "EdgeWalk" "EdgeWalk" "pastAt" "I") ∈ lw_all := lw_g (lw_at lw_m2 50 rfl) rfl
theorem q419 : (Jvm.Cond.soleField "EdgeWalk" "pastAt") ∈ lw_all := lw_g (lw_at lw_m2 51 rfl) rfl
theorem q420 : (Jvm.Cond.laysFinal "EdgeWalk" "EdgeWalk" "steps" "[I") ∈ lw_all := lw_g (lw_at lw_m2 52 rfl) rfl
theorem q421 : (Jvm.Cond.soleField "EdgeWalk" "steps") ∈ lw_all := lw_g (lw_at lw_m2 53 rfl) rfl
theorem q422 : (Jvm.Cond.lays "EdgeWalk" "EdgeWalk" "fewestLost" "I") ∈ lw_all := lw_g (lw_at lw_m2 54 rfl) rfl
theorem q423 : (Jvm.Cond.soleField "EdgeWalk" "fewestLost") ∈ lw_all := lw_g (lw_at lw_m2 55 rfl) rfl
theorem q424 : (Jvm.Cond.lays "EdgeWalk" "EdgeWalk" "mostFood" "I") ∈ lw_all := lw_g (lw_at lw_m2 56 rfl) rfl
theorem q425 : (Jvm.Cond.soleField "EdgeWalk" "mostFood") ∈ lw_all := lw_g (lw_at lw_m2 57 rfl) rfl
theorem q426 : (Jvm.Cond.laysFinal "EdgeWalk" "EdgeWalk" "firstHas" "[I") ∈ lw_all := lw_g (lw_at lw_m2 58 rfl) rfl
theorem q427 : (Jvm.Cond.soleField "EdgeWalk" "firstHas") ∈ lw_all := lw_g (lw_at lw_m2 59 rfl) rfl
theorem q428 : (Jvm.Cond.laysFinal "EdgeWalk" "EdgeWalk" "secondHas" "[I") ∈ lw_all := lw_g (lw_at lw_m2 60 rfl) rfl
theorem q429 : (Jvm.Cond.soleField "EdgeWalk" "secondHas") ∈ lw_all := lw_g (lw_at lw_m2 61 rfl) rfl
theorem q430 : (Jvm.Cond.laysFinal "EdgeWalk" "EdgeWalk" "lay" "[I") ∈ lw_all := lw_g (lw_at lw_m2 62 rfl) rfl
theorem q431 : (Jvm.Cond.soleField "EdgeWalk" "lay") ∈ lw_all := lw_g (lw_at lw_m2 63 rfl) rfl
theorem q432 : (Jvm.Cond.laysFinal "EdgeWalk" "EdgeWalk" "shows" "[I") ∈ lw_all := lw_g (lw_at lw_m2 64 rfl) rfl
theorem q433 : (Jvm.Cond.soleField "EdgeWalk" "shows") ∈ lw_all := lw_g (lw_at lw_m2 65 rfl) rfl
theorem q434 : (Jvm.Cond.laysFinal "EdgeWalk" "EdgeWalk" "images" "[LEdgeWalk$Image;") ∈ lw_all := lw_g (lw_at lw_m2 66 rfl) rfl
theorem q435 : (Jvm.Cond.soleField "EdgeWalk" "images") ∈ lw_all := lw_g (lw_at lw_m2 67 rfl) rfl
theorem q436 : (Jvm.Cond.superclass "EdgeWalk" "java/lang/Object") ∈ lw_all := lw_g (lw_at lw_m2 68 rfl) rfl
theorem q440 : (Jvm.Cond.instanceMethod ({ cls := "EdgeWalk", name := "feed", desc := "(IIIII)I" } : Jvm.MethodName)) ∈ lw_all := lw_g (lw_at lw_m2 72 rfl) rfl
theorem q441 : (Jvm.Cond.selects "EdgeWalk" ({ cls := "EdgeWalk", name := "feed", desc := "(IIIII)I" } : Jvm.MethodName) ({ cls := "EdgeWalk", name := "feed", desc := "(IIIII)I" } : Jvm.MethodName)) ∈ lw_all := lw_g (lw_at lw_m2 73 rfl) rfl
theorem q442 : (Jvm.Cond.code ({ cls := "EdgeWalk", name := "feed", desc := "(IIIII)I" } : Jvm.MethodName) prog_1_method_9_code (6 : Nat) (Option.some Jvm.ClassFile.FieldType.int)) ∈ lw_all := lw_g (lw_at lw_m2 74 rfl) rfl
theorem q443 : (Jvm.Cond.methodLink "EdgeWalk" (117 : Nat) ({ cls := "EdgeWalk", name := "put", desc := "(I)V" } : Jvm.MethodName)) ∈ lw_all := lw_g (lw_at lw_m2 75 rfl) rfl
theorem q444 : (Jvm.Cond.privateMethod ({ cls := "EdgeWalk", name := "put", desc := "(I)V" } : Jvm.MethodName)) ∈ lw_tbl := lw_at lw_m2 76 rfl
theorem q445 : (Jvm.Cond.instanceMethod ({ cls := "EdgeWalk", name := "put", desc := "(I)V" } : Jvm.MethodName)) ∈ lw_all := lw_g (lw_at lw_m2 77 rfl) rfl
theorem q446 : (Jvm.Cond.code ({ cls := "EdgeWalk", name := "put", desc := "(I)V" } : Jvm.MethodName) prog_1_method_10_code (3 : Nat) (Option.none : Option Jvm.ClassFile.FieldType)) ∈ lw_all := lw_g (lw_at lw_m2 78 rfl) rfl
theorem q448 : (Jvm.Cond.instanceMethod ({ cls := "EdgeWalk", name := "end", desc := "(I)I" } : Jvm.MethodName)) ∈ lw_all := lw_g (lw_at lw_m2 80 rfl) rfl
theorem q449 : (Jvm.Cond.selects "EdgeWalk" ({ cls := "EdgeWalk", name := "end", desc := "(I)I" } : Jvm.MethodName) ({ cls := "EdgeWalk", name := "end", desc := "(I)I" } : Jvm.MethodName)) ∈ lw_all := lw_g (lw_at lw_m2 81 rfl) rfl
theorem q450 : (Jvm.Cond.code ({ cls := "EdgeWalk", name := "end", desc := "(I)I" } : Jvm.MethodName) prog_1_method_11_code (2 : Nat) (Option.some Jvm.ClassFile.FieldType.int)) ∈ lw_all := lw_g (lw_at lw_m2 82 rfl) rfl
theorem q452 : (Jvm.Cond.instanceMethod ({ cls := "EdgeWalk", name := "sheet", desc := "()I" } : Jvm.MethodName)) ∈ lw_all := lw_g (lw_at lw_m2 84 rfl) rfl
theorem q453 : (Jvm.Cond.selects "EdgeWalk" ({ cls := "EdgeWalk", name := "sheet", desc := "()I" } : Jvm.MethodName) ({ cls := "EdgeWalk", name := "sheet", desc := "()I" } : Jvm.MethodName)) ∈ lw_all := lw_g (lw_at lw_m2 85 rfl) rfl
theorem q454 : (Jvm.Cond.codeWith ({ cls := "EdgeWalk", name := "sheet", desc := "()I" } : Jvm.MethodName) prog_1_method_12_code (4 : Nat) (Option.some Jvm.ClassFile.FieldType.int) [((0 : Nat), (49 : Nat), (56 : Nat), (39 : Nat)), ((0 : Nat), (49 : Nat), (72 : Nat), (0 : Nat)), ((56 : Nat), (65 : Nat), (72 : Nat), (0 : Nat))]) ∈ lw_all := lw_g (lw_at lw_m2 86 rfl) rfl
theorem q455 : (Jvm.Cond.classLink "EdgeWalk" (120 : Nat) "EdgeWalk$Parser") ∈ lw_all := lw_g (lw_at lw_m2 87 rfl) rfl
theorem q457 : (Jvm.Cond.methodLink "EdgeWalk" (122 : Nat) ({ cls := "EdgeWalk$Parser", name := "<init>", desc := "(LEdgeWalk;[Ljava/lang/String;I)V" } : Jvm.MethodName)) ∈ lw_all := lw_g (lw_at lw_m2 89 rfl) rfl
theorem q483 : (Jvm.Cond.methodLink "EdgeWalk" (125 : Nat) ({ cls := "EdgeWalk$Parser", name := "sheet", desc := "()LEdgeWalk$Sheet;" } : Jvm.MethodName)) ∈ lw_all := lw_g (lw_at lw_m2 115 rfl) rfl
theorem q513 : (Jvm.Cond.static ({ cls := "EdgeWalk", name := "in", desc := "(JJJ)Z" } : Jvm.MethodName)) ∈ lw_all := lw_g (lw_at lw_m2 145 rfl) rfl
theorem q514 : (Jvm.Cond.code ({ cls := "EdgeWalk", name := "in", desc := "(JJJ)Z" } : Jvm.MethodName) prog_1_method_1_code (6 : Nat) (Option.some Jvm.ClassFile.FieldType.boolean)) ∈ lw_all := lw_g (lw_at lw_m2 146 rfl) rfl
theorem q564 : (Jvm.Cond.privateMethod ({ cls := "EdgeWalk", name := "fails", desc := "(II)LEdgeWalk$Wrong;" } : Jvm.MethodName)) ∈ lw_tbl := lw_at lw_m2 196 rfl
theorem q565 : (Jvm.Cond.instanceMethod ({ cls := "EdgeWalk", name := "fails", desc := "(II)LEdgeWalk$Wrong;" } : Jvm.MethodName)) ∈ lw_all := lw_g (lw_at lw_m2 197 rfl) rfl
theorem q566 : (Jvm.Cond.code ({ cls := "EdgeWalk", name := "fails", desc := "(II)LEdgeWalk$Wrong;" } : Jvm.MethodName) prog_1_method_8_code (3 : Nat) (Option.some (Jvm.ClassFile.FieldType.object "EdgeWalk$Wrong"))) ∈ lw_all := lw_g (lw_at lw_m2 198 rfl) rfl
theorem q650 : (Jvm.Cond.selects "EdgeWalk" ({ cls := "java/lang/Object", name := "getClass", desc := "()Ljava/lang/Class;" } : Jvm.MethodName) ({ cls := "java/lang/Object", name := "getClass", desc := "()Ljava/lang/Class;" } : Jvm.MethodName)) ∈ lw_all := lw_g (lw_at lw_m3 42 rfl) rfl
theorem q690 : (Jvm.Cond.methodLink "EdgeWalk" (128 : Nat) ({ cls := "EdgeWalk$State", name := "begin", desc := "(LEdgeWalk$Sheet;)V" } : Jvm.MethodName)) ∈ lw_all := lw_g (lw_at lw_m3 82 rfl) rfl
theorem q708 : (Jvm.Cond.methodLink "EdgeWalk" (100 : Nat) ({ cls := "EdgeWalk$Sheet", name := "goers", desc := "()I" } : Jvm.MethodName)) ∈ lw_all := lw_g (lw_at lw_m3 100 rfl) rfl
theorem q710 : (Jvm.Cond.instanceMethod ({ cls := "EdgeWalk", name := "rule", desc := "()I" } : Jvm.MethodName)) ∈ lw_all := lw_g (lw_at lw_m3 102 rfl) rfl
theorem q711 : (Jvm.Cond.selects "EdgeWalk" ({ cls := "EdgeWalk", name := "rule", desc := "()I" } : Jvm.MethodName) ({ cls := "EdgeWalk", name := "rule", desc := "()I" } : Jvm.MethodName)) ∈ lw_all := lw_g (lw_at lw_m3 103 rfl) rfl
theorem q712 : (Jvm.Cond.codeWith ({ cls := "EdgeWalk", name := "rule", desc := "()I" } : Jvm.MethodName) prog_1_method_13_code (4 : Nat) (Option.some Jvm.ClassFile.FieldType.int) [((14 : Nat), (31 : Nat), (38 : Nat), (39 : Nat)), ((14 : Nat), (31 : Nat), (54 : Nat), (0 : Nat)), ((38 : Nat), (47 : Nat), (54 : Nat), (0 : Nat))]) ∈ lw_all := lw_g (lw_at lw_m3 104 rfl) rfl
theorem q713 : (Jvm.Cond.methodLink "EdgeWalk" (138 : Nat) ({ cls := "java/util/ArrayList", name := "size", desc := "()I" } : Jvm.MethodName)) ∈ lw_all := lw_g (lw_at lw_m3 105 rfl) rfl
theorem q714 : (Jvm.Cond.methodLink "EdgeWalk" (141 : Nat) ({ cls := "EdgeWalk$Parser", name := "rule", desc := "()I" } : Jvm.MethodName)) ∈ lw_all := lw_g (lw_at lw_m3 106 rfl) rfl
theorem q880 : (Jvm.Cond.instanceMethod ({ cls := "EdgeWalk", name := "force", desc := "(I)I" } : Jvm.MethodName)) ∈ lw_all := lw_g (lw_at lw_m4 32 rfl) rfl
theorem q881 : (Jvm.Cond.selects "EdgeWalk" ({ cls := "EdgeWalk", name := "force", desc := "(I)I" } : Jvm.MethodName) ({ cls := "EdgeWalk", name := "force", desc := "(I)I" } : Jvm.MethodName)) ∈ lw_all := lw_g (lw_at lw_m4 33 rfl) rfl
theorem q882 : (Jvm.Cond.code ({ cls := "EdgeWalk", name := "force", desc := "(I)I" } : Jvm.MethodName) prog_1_method_14_code (3 : Nat) (Option.some Jvm.ClassFile.FieldType.int)) ∈ lw_all := lw_g (lw_at lw_m4 34 rfl) rfl
theorem q883 : (Jvm.Cond.constantLong "EdgeWalk" (144 : Nat) (-1 : Int64)) ∈ lw_all := lw_g (lw_at lw_m4 35 rfl) rfl
theorem q884 : (Jvm.Cond.methodLink "EdgeWalk" (104 : Nat) ({ cls := "EdgeWalk", name := "in", desc := "(JJJ)Z" } : Jvm.MethodName)) ∈ lw_all := lw_g (lw_at lw_m4 36 rfl) rfl
theorem q886 : (Jvm.Cond.instanceMethod ({ cls := "EdgeWalk", name := "goer", desc := "(II)I" } : Jvm.MethodName)) ∈ lw_all := lw_g (lw_at lw_m4 38 rfl) rfl
theorem q887 : (Jvm.Cond.selects "EdgeWalk" ({ cls := "EdgeWalk", name := "goer", desc := "(II)I" } : Jvm.MethodName) ({ cls := "EdgeWalk", name := "goer", desc := "(II)I" } : Jvm.MethodName)) ∈ lw_all := lw_g (lw_at lw_m4 39 rfl) rfl
theorem q888 : (Jvm.Cond.code ({ cls := "EdgeWalk", name := "goer", desc := "(II)I" } : Jvm.MethodName) prog_1_method_15_code (3 : Nat) (Option.some Jvm.ClassFile.FieldType.int)) ∈ lw_all := lw_g (lw_at lw_m4 40 rfl) rfl
theorem q889 : (Jvm.Cond.methodLink "EdgeWalk" (146 : Nat) ({ cls := "EdgeWalk", name := "isGoer", desc := "(I)Z" } : Jvm.MethodName)) ∈ lw_all := lw_g (lw_at lw_m4 41 rfl) rfl
theorem q890 : (Jvm.Cond.privateMethod ({ cls := "EdgeWalk", name := "isGoer", desc := "(I)Z" } : Jvm.MethodName)) ∈ lw_tbl := lw_at lw_m4 42 rfl
theorem q891 : (Jvm.Cond.instanceMethod ({ cls := "EdgeWalk", name := "isGoer", desc := "(I)Z" } : Jvm.MethodName)) ∈ lw_all := lw_g (lw_at lw_m4 43 rfl) rfl
theorem q892 : (Jvm.Cond.code ({ cls := "EdgeWalk", name := "isGoer", desc := "(I)Z" } : Jvm.MethodName) prog_1_method_6_code (2 : Nat) (Option.some Jvm.ClassFile.FieldType.boolean)) ∈ lw_all := lw_g (lw_at lw_m4 44 rfl) rfl
theorem q894 : (Jvm.Cond.instanceMethod ({ cls := "EdgeWalk", name := "join", desc := "(II)I" } : Jvm.MethodName)) ∈ lw_all := lw_g (lw_at lw_m4 46 rfl) rfl
theorem q895 : (Jvm.Cond.selects "EdgeWalk" ({ cls := "EdgeWalk", name := "join", desc := "(II)I" } : Jvm.MethodName) ({ cls := "EdgeWalk", name := "join", desc := "(II)I" } : Jvm.MethodName)) ∈ lw_all := lw_g (lw_at lw_m4 47 rfl) rfl
theorem q896 : (Jvm.Cond.code ({ cls := "EdgeWalk", name := "join", desc := "(II)I" } : Jvm.MethodName) prog_1_method_16_code (3 : Nat) (Option.some Jvm.ClassFile.FieldType.int)) ∈ lw_all := lw_g (lw_at lw_m4 48 rfl) rfl
theorem q897 : (Jvm.Cond.methodLink "EdgeWalk" (168 : Nat) ({ cls := "EdgeWalk", name := "isSheet", desc := "()Z" } : Jvm.MethodName)) ∈ lw_all := lw_g (lw_at lw_m4 49 rfl) rfl
theorem q898 : (Jvm.Cond.privateMethod ({ cls := "EdgeWalk", name := "isSheet", desc := "()Z" } : Jvm.MethodName)) ∈ lw_tbl := lw_at lw_m4 50 rfl
theorem q899 : (Jvm.Cond.instanceMethod ({ cls := "EdgeWalk", name := "isSheet", desc := "()Z" } : Jvm.MethodName)) ∈ lw_all := lw_g (lw_at lw_m4 51 rfl) rfl
theorem q900 : (Jvm.Cond.code ({ cls := "EdgeWalk", name := "isSheet", desc := "()Z" } : Jvm.MethodName) prog_1_method_5_code (1 : Nat) (Option.some Jvm.ClassFile.FieldType.boolean)) ∈ lw_all := lw_g (lw_at lw_m4 52 rfl) rfl
theorem q901 : (Jvm.Cond.constantLong "EdgeWalk" (172 : Nat) (3 : Int64)) ∈ lw_all := lw_g (lw_at lw_m4 53 rfl) rfl
theorem q903 : (Jvm.Cond.instanceMethod ({ cls := "EdgeWalk", name := "stoneIn", desc := "(I)I" } : Jvm.MethodName)) ∈ lw_all := lw_g (lw_at lw_m4 55 rfl) rfl
theorem q904 : (Jvm.Cond.selects "EdgeWalk" ({ cls := "EdgeWalk", name := "stoneIn", desc := "(I)I" } : Jvm.MethodName) ({ cls := "EdgeWalk", name := "stoneIn", desc := "(I)I" } : Jvm.MethodName)) ∈ lw_all := lw_g (lw_at lw_m4 56 rfl) rfl
theorem q905 : (Jvm.Cond.code ({ cls := "EdgeWalk", name := "stoneIn", desc := "(I)I" } : Jvm.MethodName) prog_1_method_17_code (2 : Nat) (Option.some Jvm.ClassFile.FieldType.int)) ∈ lw_all := lw_g (lw_at lw_m4 57 rfl) rfl
theorem q906 : (Jvm.Cond.methodLink "EdgeWalk" (180 : Nat) ({ cls := "EdgeWalk", name := "isCell", desc := "(I)Z" } : Jvm.MethodName)) ∈ lw_all := lw_g (lw_at lw_m4 58 rfl) rfl
theorem q907 : (Jvm.Cond.privateMethod ({ cls := "EdgeWalk", name := "isCell", desc := "(I)Z" } : Jvm.MethodName)) ∈ lw_tbl := lw_at lw_m4 59 rfl
theorem q908 : (Jvm.Cond.instanceMethod ({ cls := "EdgeWalk", name := "isCell", desc := "(I)Z" } : Jvm.MethodName)) ∈ lw_all := lw_g (lw_at lw_m4 60 rfl) rfl
theorem q909 : (Jvm.Cond.code ({ cls := "EdgeWalk", name := "isCell", desc := "(I)Z" } : Jvm.MethodName) prog_1_method_7_code (2 : Nat) (Option.some Jvm.ClassFile.FieldType.boolean)) ∈ lw_all := lw_g (lw_at lw_m4 61 rfl) rfl
theorem q910 : (Jvm.Cond.methodLink "EdgeWalk" (108 : Nat) ({ cls := "EdgeWalk$Sheet", name := "cells", desc := "()I" } : Jvm.MethodName)) ∈ lw_all := lw_g (lw_at lw_m4 62 rfl) rfl
theorem q911 : (Jvm.Cond.methodLink "EdgeWalk" (183 : Nat) ({ cls := "EdgeWalk$State", name := "isStone", desc := "(I)Z" } : Jvm.MethodName)) ∈ lw_all := lw_g (lw_at lw_m4 63 rfl) rfl
theorem q915 : (Jvm.Cond.methodLink "EdgeWalk" (186 : Nat) ({ cls := "EdgeWalk", name := "bit", desc := "(Z)I" } : Jvm.MethodName)) ∈ lw_all := lw_g (lw_at lw_m4 67 rfl) rfl
theorem q916 : (Jvm.Cond.static ({ cls := "EdgeWalk", name := "bit", desc := "(Z)I" } : Jvm.MethodName)) ∈ lw_all := lw_g (lw_at lw_m4 68 rfl) rfl
theorem q917 : (Jvm.Cond.code ({ cls := "EdgeWalk", name := "bit", desc := "(Z)I" } : Jvm.MethodName) prog_1_method_3_code (1 : Nat) (Option.some Jvm.ClassFile.FieldType.int)) ∈ lw_all := lw_g (lw_at lw_m4 69 rfl) rfl
theorem q919 : (Jvm.Cond.instanceMethod ({ cls := "EdgeWalk", name := "undo", desc := "()I" } : Jvm.MethodName)) ∈ lw_all := lw_g (lw_at lw_m4 71 rfl) rfl
theorem q920 : (Jvm.Cond.selects "EdgeWalk" ({ cls := "EdgeWalk", name := "undo", desc := "()I" } : Jvm.MethodName) ({ cls := "EdgeWalk", name := "undo", desc := "()I" } : Jvm.MethodName)) ∈ lw_all := lw_g (lw_at lw_m4 72 rfl) rfl
theorem q921 : (Jvm.Cond.code ({ cls := "EdgeWalk", name := "undo", desc := "()I" } : Jvm.MethodName) prog_1_method_24_code (1 : Nat) (Option.some Jvm.ClassFile.FieldType.int)) ∈ lw_all := lw_g (lw_at lw_m4 73 rfl) rfl
theorem q922 : (Jvm.Cond.methodLink "EdgeWalk" (236 : Nat) ({ cls := "EdgeWalk$State", name := "copyFrom", desc := "(LEdgeWalk$State;)V" } : Jvm.MethodName)) ∈ lw_all := lw_g (lw_at lw_m4 74 rfl) rfl
theorem q927 : (Jvm.Cond.instanceMethod ({ cls := "EdgeWalk", name := "step", desc := "()I" } : Jvm.MethodName)) ∈ lw_all := lw_g (lw_at lw_m4 79 rfl) rfl
theorem q928 : (Jvm.Cond.selects "EdgeWalk" ({ cls := "EdgeWalk", name := "step", desc := "()I" } : Jvm.MethodName) ({ cls := "EdgeWalk", name := "step", desc := "()I" } : Jvm.MethodName)) ∈ lw_all := lw_g (lw_at lw_m4 80 rfl) rfl
theorem q929 : (Jvm.Cond.code ({ cls := "EdgeWalk", name := "step", desc := "()I" } : Jvm.MethodName) prog_1_method_25_code (1 : Nat) (Option.some Jvm.ClassFile.FieldType.int)) ∈ lw_all := lw_g (lw_at lw_m4 81 rfl) rfl
theorem q930 : (Jvm.Cond.methodLink "EdgeWalk" (245 : Nat) ({ cls := "EdgeWalk", name := "keeps", desc := "()V" } : Jvm.MethodName)) ∈ lw_all := lw_g (lw_at lw_m4 82 rfl) rfl
theorem q931 : (Jvm.Cond.privateMethod ({ cls := "EdgeWalk", name := "keeps", desc := "()V" } : Jvm.MethodName)) ∈ lw_tbl := lw_at lw_m4 83 rfl
theorem q932 : (Jvm.Cond.instanceMethod ({ cls := "EdgeWalk", name := "keeps", desc := "()V" } : Jvm.MethodName)) ∈ lw_all := lw_g (lw_at lw_m4 84 rfl) rfl
theorem q933 : (Jvm.Cond.code ({ cls := "EdgeWalk", name := "keeps", desc := "()V" } : Jvm.MethodName) prog_1_method_23_code (1 : Nat) (Option.none : Option Jvm.ClassFile.FieldType)) ∈ lw_all := lw_g (lw_at lw_m4 85 rfl) rfl
theorem q934 : (Jvm.Cond.methodLink "EdgeWalk" (240 : Nat) ({ cls := "java/lang/Math", name := "min", desc := "(II)I" } : Jvm.MethodName)) ∈ lw_all := lw_g (lw_at lw_m4 86 rfl) rfl
theorem q935 : (Jvm.Cond.methodLink "EdgeWalk" (230 : Nat) ({ cls := "EdgeWalk", name := "goesOn", desc := "(LEdgeWalk$State;)I" } : Jvm.MethodName)) ∈ lw_all := lw_g (lw_at lw_m4 87 rfl) rfl
theorem q936 : (Jvm.Cond.privateMethod ({ cls := "EdgeWalk", name := "goesOn", desc := "(LEdgeWalk$State;)I" } : Jvm.MethodName)) ∈ lw_tbl := lw_at lw_m4 88 rfl
theorem q937 : (Jvm.Cond.instanceMethod ({ cls := "EdgeWalk", name := "goesOn", desc := "(LEdgeWalk$State;)I" } : Jvm.MethodName)) ∈ lw_all := lw_g (lw_at lw_m4 89 rfl) rfl
theorem q938 : (Jvm.Cond.code ({ cls := "EdgeWalk", name := "goesOn", desc := "(LEdgeWalk$State;)I" } : Jvm.MethodName) prog_1_method_19_code (3 : Nat) (Option.some Jvm.ClassFile.FieldType.int)) ∈ lw_all := lw_g (lw_at lw_m4 90 rfl) rfl
theorem q939 : (Jvm.Cond.methodLink "EdgeWalk" (214 : Nat) ({ cls := "EdgeWalk$State", name := "isOut", desc := "(LEdgeWalk$Sheet;I)V" } : Jvm.MethodName)) ∈ lw_all := lw_g (lw_at lw_m4 91 rfl) rfl
theorem q948 : (Jvm.Cond.methodLink "EdgeWalk" (218 : Nat) ({ cls := "EdgeWalk", name := "turnOf", desc := "(LEdgeWalk$State;I)I" } : Jvm.MethodName)) ∈ lw_all := lw_g (lw_at lw_m4 100 rfl) rfl
theorem q949 : (Jvm.Cond.privateMethod ({ cls := "EdgeWalk", name := "turnOf", desc := "(LEdgeWalk$State;I)I" } : Jvm.MethodName)) ∈ lw_tbl := lw_at lw_m4 101 rfl
theorem q950 : (Jvm.Cond.instanceMethod ({ cls := "EdgeWalk", name := "turnOf", desc := "(LEdgeWalk$State;I)I" } : Jvm.MethodName)) ∈ lw_all := lw_g (lw_at lw_m4 102 rfl) rfl
theorem q951 : (Jvm.Cond.code ({ cls := "EdgeWalk", name := "turnOf", desc := "(LEdgeWalk$State;I)I" } : Jvm.MethodName) prog_1_method_18_code (5 : Nat) (Option.some Jvm.ClassFile.FieldType.int)) ∈ lw_all := lw_g (lw_at lw_m4 103 rfl) rfl
theorem q952 : (Jvm.Cond.methodLink "EdgeWalk" (190 : Nat) ({ cls := "EdgeWalk$Sheet", name := "margin", desc := "(II)I" } : Jvm.MethodName)) ∈ lw_all := lw_g (lw_at lw_m4 104 rfl) rfl
theorem q956 : (Jvm.Cond.methodLink "EdgeWalk" (194 : Nat) ({ cls := "EdgeWalk$Sheet", name := "next", desc := "(II)I" } : Jvm.MethodName)) ∈ lw_all := lw_g (lw_at lw_m4 108 rfl) rfl
theorem q960 : (Jvm.Cond.methodLink "EdgeWalk" (197 : Nat) ({ cls := "EdgeWalk$State", name := "othersWith", desc := "(I)I" } : Jvm.MethodName)) ∈ lw_all := lw_g (lw_at lw_m4 112 rfl) rfl
theorem q965 : (Jvm.Cond.methodLink "EdgeWalk" (204 : Nat) ({ cls := "java/util/ArrayList", name := "get", desc := "(I)Ljava/lang/Object;" } : Jvm.MethodName)) ∈ lw_all := lw_g (lw_at lw_m4 117 rfl) rfl
theorem q966 : (Jvm.Cond.classLink "EdgeWalk" (208 : Nat) "EdgeWalk$Rule") ∈ lw_all := lw_g (lw_at lw_m4 118 rfl) rfl
theorem q967 : (Jvm.Cond.methodLink "EdgeWalk" (210 : Nat) ({ cls := "EdgeWalk$Rule", name := "turns", desc := "([J)I" } : Jvm.MethodName)) ∈ lw_all := lw_g (lw_at lw_m4 119 rfl) rfl
theorem q1010 : (Jvm.Cond.methodLink "EdgeWalk" (222 : Nat) ({ cls := "EdgeWalk$State", name := "goesOn", desc := "(LEdgeWalk$Sheet;I)V" } : Jvm.MethodName)) ∈ lw_all := lw_g (lw_at lw_m4 162 rfl) rfl
theorem q1020 : (Jvm.Cond.methodLink "EdgeWalk" (225 : Nat) ({ cls := "EdgeWalk", name := "those", desc := "(LEdgeWalk$State;I)I" } : Jvm.MethodName)) ∈ lw_all := lw_g (lw_at lw_m4 172 rfl) rfl
theorem q1021 : (Jvm.Cond.privateMethod ({ cls := "EdgeWalk", name := "those", desc := "(LEdgeWalk$State;I)I" } : Jvm.MethodName)) ∈ lw_tbl := lw_at lw_m4 173 rfl
theorem q1022 : (Jvm.Cond.instanceMethod ({ cls := "EdgeWalk", name := "those", desc := "(LEdgeWalk$State;I)I" } : Jvm.MethodName)) ∈ lw_all := lw_g (lw_at lw_m4 174 rfl) rfl
theorem q1023 : (Jvm.Cond.code ({ cls := "EdgeWalk", name := "those", desc := "(LEdgeWalk$State;I)I" } : Jvm.MethodName) prog_1_method_20_code (3 : Nat) (Option.some Jvm.ClassFile.FieldType.int)) ∈ lw_all := lw_g (lw_at lw_m4 175 rfl) rfl
theorem q1024 : (Jvm.Cond.methodLink "EdgeWalk" (228 : Nat) ({ cls := "EdgeWalk$State", name := "those", desc := "(II)I" } : Jvm.MethodName)) ∈ lw_all := lw_g (lw_at lw_m4 176 rfl) rfl
theorem q1029 : (Jvm.Cond.instanceMethod ({ cls := "EdgeWalk", name := "give", desc := "(II)I" } : Jvm.MethodName)) ∈ lw_all := lw_g (lw_at lw_m4 181 rfl) rfl
theorem q1030 : (Jvm.Cond.selects "EdgeWalk" ({ cls := "EdgeWalk", name := "give", desc := "(II)I" } : Jvm.MethodName) ({ cls := "EdgeWalk", name := "give", desc := "(II)I" } : Jvm.MethodName)) ∈ lw_all := lw_g (lw_at lw_m4 182 rfl) rfl
theorem q1031 : (Jvm.Cond.code ({ cls := "EdgeWalk", name := "give", desc := "(II)I" } : Jvm.MethodName) prog_1_method_26_code (3 : Nat) (Option.some Jvm.ClassFile.FieldType.int)) ∈ lw_all := lw_g (lw_at lw_m4 183 rfl) rfl
theorem q1032 : (Jvm.Cond.constantLong "EdgeWalk" (248 : Nat) (20 : Int64)) ∈ lw_all := lw_g (lw_at lw_m4 184 rfl) rfl
theorem q1034 : (Jvm.Cond.instanceMethod ({ cls := "EdgeWalk", name := "way", desc := "(II)I" } : Jvm.MethodName)) ∈ lw_all := lw_g (lw_at lw_m4 186 rfl) rfl
theorem q1035 : (Jvm.Cond.selects "EdgeWalk" ({ cls := "EdgeWalk", name := "way", desc := "(II)I" } : Jvm.MethodName) ({ cls := "EdgeWalk", name := "way", desc := "(II)I" } : Jvm.MethodName)) ∈ lw_all := lw_g (lw_at lw_m4 187 rfl) rfl
theorem q1036 : (Jvm.Cond.code ({ cls := "EdgeWalk", name := "way", desc := "(II)I" } : Jvm.MethodName) prog_1_method_27_code (4 : Nat) (Option.some Jvm.ClassFile.FieldType.int)) ∈ lw_all := lw_g (lw_at lw_m4 188 rfl) rfl
theorem q1038 : (Jvm.Cond.instanceMethod ({ cls := "EdgeWalk", name := "stone", desc := "(I)I" } : Jvm.MethodName)) ∈ lw_all := lw_g (lw_at lw_m4 190 rfl) rfl
theorem q1039 : (Jvm.Cond.selects "EdgeWalk" ({ cls := "EdgeWalk", name := "stone", desc := "(I)I" } : Jvm.MethodName) ({ cls := "EdgeWalk", name := "stone", desc := "(I)I" } : Jvm.MethodName)) ∈ lw_all := lw_g (lw_at lw_m4 191 rfl) rfl
theorem q1040 : (Jvm.Cond.code ({ cls := "EdgeWalk", name := "stone", desc := "(I)I" } : Jvm.MethodName) prog_1_method_28_code (2 : Nat) (Option.some Jvm.ClassFile.FieldType.int)) ∈ lw_all := lw_g (lw_at lw_m4 192 rfl) rfl
theorem q1041 : (Jvm.Cond.methodLink "EdgeWalk" (254 : Nat) ({ cls := "EdgeWalk", name := "stoneIn", desc := "(I)I" } : Jvm.MethodName)) ∈ lw_all := lw_g (lw_at lw_m4 193 rfl) rfl
theorem q1043 : (Jvm.Cond.instanceMethod ({ cls := "EdgeWalk", name := "fold", desc := "(II)I" } : Jvm.MethodName)) ∈ lw_all := lw_g (lw_at lw_m4 195 rfl) rfl
theorem q1044 : (Jvm.Cond.selects "EdgeWalk" ({ cls := "EdgeWalk", name := "fold", desc := "(II)I" } : Jvm.MethodName) ({ cls := "EdgeWalk", name := "fold", desc := "(II)I" } : Jvm.MethodName)) ∈ lw_all := lw_g (lw_at lw_m4 196 rfl) rfl
theorem q1045 : (Jvm.Cond.code ({ cls := "EdgeWalk", name := "fold", desc := "(II)I" } : Jvm.MethodName) prog_1_method_29_code (4 : Nat) (Option.some Jvm.ClassFile.FieldType.int)) ∈ lw_all := lw_g (lw_at lw_m4 197 rfl) rfl
theorem q1047 : (Jvm.Cond.instanceMethod ({ cls := "EdgeWalk", name := "ahead", desc := "(III)I" } : Jvm.MethodName)) ∈ lw_all := lw_g (lw_at lw_m4 199 rfl) rfl
theorem q1048 : (Jvm.Cond.selects "EdgeWalk" ({ cls := "EdgeWalk", name := "ahead", desc := "(III)I" } : Jvm.MethodName) ({ cls := "EdgeWalk", name := "ahead", desc := "(III)I" } : Jvm.MethodName)) ∈ lw_all := lw_g (lw_at lw_m4 200 rfl) rfl
theorem q1049 : (Jvm.Cond.code ({ cls := "EdgeWalk", name := "ahead", desc := "(III)I" } : Jvm.MethodName) prog_1_method_30_code (4 : Nat) (Option.some Jvm.ClassFile.FieldType.int)) ∈ lw_all := lw_g (lw_at lw_m4 201 rfl) rfl
theorem q1050 : (Jvm.Cond.constantLong "EdgeWalk" (257 : Nat) (100 : Int64)) ∈ lw_all := lw_g (lw_at lw_m4 202 rfl) rfl
theorem q1051 : (Jvm.Cond.constantLong "EdgeWalk" (259 : Nat) (2 : Int64)) ∈ lw_all := lw_g (lw_at lw_m4 203 rfl) rfl
theorem q1052 : (Jvm.Cond.methodLink "EdgeWalk" (261 : Nat) ({ cls := "EdgeWalk", name := "goesTill", desc := "(I)V" } : Jvm.MethodName)) ∈ lw_all := lw_g (lw_at lw_m4 204 rfl) rfl
theorem q1053 : (Jvm.Cond.privateMethod ({ cls := "EdgeWalk", name := "goesTill", desc := "(I)V" } : Jvm.MethodName)) ∈ lw_tbl := lw_at lw_m4 205 rfl
theorem q1054 : (Jvm.Cond.instanceMethod ({ cls := "EdgeWalk", name := "goesTill", desc := "(I)V" } : Jvm.MethodName)) ∈ lw_all := lw_g (lw_at lw_m4 206 rfl) rfl
theorem q1055 : (Jvm.Cond.code ({ cls := "EdgeWalk", name := "goesTill", desc := "(I)V" } : Jvm.MethodName) prog_1_method_21_code (3 : Nat) (Option.none : Option Jvm.ClassFile.FieldType)) ∈ lw_all := lw_g (lw_at lw_m4 207 rfl) rfl
theorem q1057 : (Jvm.Cond.instanceMethod ({ cls := "EdgeWalk", name := "home", desc := "(I)I" } : Jvm.MethodName)) ∈ lw_all := lw_g (lw_at lw_m4 209 rfl) rfl
theorem q1058 : (Jvm.Cond.selects "EdgeWalk" ({ cls := "EdgeWalk", name := "home", desc := "(I)I" } : Jvm.MethodName) ({ cls := "EdgeWalk", name := "home", desc := "(I)I" } : Jvm.MethodName)) ∈ lw_all := lw_g (lw_at lw_m4 210 rfl) rfl
theorem q1059 : (Jvm.Cond.code ({ cls := "EdgeWalk", name := "home", desc := "(I)I" } : Jvm.MethodName) prog_1_method_31_code (3 : Nat) (Option.some Jvm.ClassFile.FieldType.int)) ∈ lw_all := lw_g (lw_at lw_m4 211 rfl) rfl
theorem q1061 : (Jvm.Cond.instanceMethod ({ cls := "EdgeWalk", name := "gone", desc := "(I)I" } : Jvm.MethodName)) ∈ lw_all := lw_g (lw_at lw_m4 213 rfl) rfl
theorem q1062 : (Jvm.Cond.selects "EdgeWalk" ({ cls := "EdgeWalk", name := "gone", desc := "(I)I" } : Jvm.MethodName) ({ cls := "EdgeWalk", name := "gone", desc := "(I)I" } : Jvm.MethodName)) ∈ lw_all := lw_g (lw_at lw_m4 214 rfl) rfl
theorem q1063 : (Jvm.Cond.code ({ cls := "EdgeWalk", name := "gone", desc := "(I)I" } : Jvm.MethodName) prog_1_method_32_code (2 : Nat) (Option.some Jvm.ClassFile.FieldType.int)) ∈ lw_all := lw_g (lw_at lw_m4 215 rfl) rfl
theorem q1065 : (Jvm.Cond.instanceMethod ({ cls := "EdgeWalk", name := "leastFood", desc := "(II)I" } : Jvm.MethodName)) ∈ lw_all := lw_g (lw_at lw_m4 217 rfl) rfl
theorem q1066 : (Jvm.Cond.selects "EdgeWalk" ({ cls := "EdgeWalk", name := "leastFood", desc := "(II)I" } : Jvm.MethodName) ({ cls := "EdgeWalk", name := "leastFood", desc := "(II)I" } : Jvm.MethodName)) ∈ lw_all := lw_g (lw_at lw_m4 218 rfl) rfl
theorem q1067 : (Jvm.Cond.code ({ cls := "EdgeWalk", name := "leastFood", desc := "(II)I" } : Jvm.MethodName) prog_1_method_33_code (4 : Nat) (Option.some Jvm.ClassFile.FieldType.int)) ∈ lw_all := lw_g (lw_at lw_m4 219 rfl) rfl
theorem q1069 : (Jvm.Cond.instanceMethod ({ cls := "EdgeWalk", name := "meet", desc := "(II)I" } : Jvm.MethodName)) ∈ lw_all := lw_g (lw_at lw_m4 221 rfl) rfl
theorem q1070 : (Jvm.Cond.selects "EdgeWalk" ({ cls := "EdgeWalk", name := "meet", desc := "(II)I" } : Jvm.MethodName) ({ cls := "EdgeWalk", name := "meet", desc := "(II)I" } : Jvm.MethodName)) ∈ lw_all := lw_g (lw_at lw_m4 222 rfl) rfl
theorem q1071 : (Jvm.Cond.code ({ cls := "EdgeWalk", name := "meet", desc := "(II)I" } : Jvm.MethodName) prog_1_method_34_code (4 : Nat) (Option.some Jvm.ClassFile.FieldType.int)) ∈ lw_all := lw_g (lw_at lw_m4 223 rfl) rfl
theorem q1073 : (Jvm.Cond.instanceMethod ({ cls := "EdgeWalk", name := "seen", desc := "(II)I" } : Jvm.MethodName)) ∈ lw_all := lw_g (lw_at lw_m4 225 rfl) rfl
theorem q1074 : (Jvm.Cond.selects "EdgeWalk" ({ cls := "EdgeWalk", name := "seen", desc := "(II)I" } : Jvm.MethodName) ({ cls := "EdgeWalk", name := "seen", desc := "(II)I" } : Jvm.MethodName)) ∈ lw_all := lw_g (lw_at lw_m4 226 rfl) rfl
theorem q1075 : (Jvm.Cond.code ({ cls := "EdgeWalk", name := "seen", desc := "(II)I" } : Jvm.MethodName) prog_1_method_35_code (6 : Nat) (Option.some Jvm.ClassFile.FieldType.int)) ∈ lw_all := lw_g (lw_at lw_m4 227 rfl) rfl
theorem q1076 : (Jvm.Cond.methodLink "EdgeWalk" (264 : Nat) ({ cls := "java/lang/Long", name := "bitCount", desc := "(J)I" } : Jvm.MethodName)) ∈ lw_all := lw_g (lw_at lw_m4 228 rfl) rfl
theorem q1083 : (Jvm.Cond.instanceMethod ({ cls := "EdgeWalk", name := "longest", desc := "(II)I" } : Jvm.MethodName)) ∈ lw_all := lw_g (lw_at lw_m4 235 rfl) rfl
theorem q1084 : (Jvm.Cond.selects "EdgeWalk" ({ cls := "EdgeWalk", name := "longest", desc := "(II)I" } : Jvm.MethodName) ({ cls := "EdgeWalk", name := "longest", desc := "(II)I" } : Jvm.MethodName)) ∈ lw_all := lw_g (lw_at lw_m4 236 rfl) rfl
theorem q1085 : (Jvm.Cond.code ({ cls := "EdgeWalk", name := "longest", desc := "(II)I" } : Jvm.MethodName) prog_1_method_36_code (5 : Nat) (Option.some Jvm.ClassFile.FieldType.int)) ∈ lw_all := lw_g (lw_at lw_m4 237 rfl) rfl
theorem q1087 : (Jvm.Cond.instanceMethod ({ cls := "EdgeWalk", name := "shortest", desc := "(II)I" } : Jvm.MethodName)) ∈ lw_all := lw_g (lw_at lw_m4 239 rfl) rfl
theorem q1088 : (Jvm.Cond.selects "EdgeWalk" ({ cls := "EdgeWalk", name := "shortest", desc := "(II)I" } : Jvm.MethodName) ({ cls := "EdgeWalk", name := "shortest", desc := "(II)I" } : Jvm.MethodName)) ∈ lw_all := lw_g (lw_at lw_m5 0 rfl) rfl
theorem q1089 : (Jvm.Cond.code ({ cls := "EdgeWalk", name := "shortest", desc := "(II)I" } : Jvm.MethodName) prog_1_method_38_code (6 : Nat) (Option.some Jvm.ClassFile.FieldType.int)) ∈ lw_all := lw_g (lw_at lw_m5 1 rfl) rfl
theorem q1090 : (Jvm.Cond.methodLink "EdgeWalk" (276 : Nat) ({ cls := "EdgeWalk", name := "comesNearer", desc := "(II)Z" } : Jvm.MethodName)) ∈ lw_all := lw_g (lw_at lw_m5 2 rfl) rfl
theorem q1091 : (Jvm.Cond.privateMethod ({ cls := "EdgeWalk", name := "comesNearer", desc := "(II)Z" } : Jvm.MethodName)) ∈ lw_tbl := lw_at lw_m5 3 rfl
theorem q1092 : (Jvm.Cond.instanceMethod ({ cls := "EdgeWalk", name := "comesNearer", desc := "(II)Z" } : Jvm.MethodName)) ∈ lw_all := lw_g (lw_at lw_m5 4 rfl) rfl
theorem q1093 : (Jvm.Cond.code ({ cls := "EdgeWalk", name := "comesNearer", desc := "(II)Z" } : Jvm.MethodName) prog_1_method_37_code (6 : Nat) (Option.some Jvm.ClassFile.FieldType.boolean)) ∈ lw_all := lw_g (lw_at lw_m5 5 rfl) rfl
theorem q1094 : (Jvm.Cond.methodLink "EdgeWalk" (270 : Nat) ({ cls := "EdgeWalk$Sheet", name := "placeAlong", desc := "(II)I" } : Jvm.MethodName)) ∈ lw_all := lw_g (lw_at lw_m5 6 rfl) rfl
theorem q1095 : (Jvm.Cond.methodLink "EdgeWalk" (273 : Nat) ({ cls := "EdgeWalk$Sheet", name := "cellAt", desc := "(II)I" } : Jvm.MethodName)) ∈ lw_all := lw_g (lw_at lw_m5 7 rfl) rfl
theorem q1097 : (Jvm.Cond.instanceMethod ({ cls := "EdgeWalk", name := "bestFold", desc := "(II)I" } : Jvm.MethodName)) ∈ lw_all := lw_g (lw_at lw_m5 9 rfl) rfl
theorem q1098 : (Jvm.Cond.selects "EdgeWalk" ({ cls := "EdgeWalk", name := "bestFold", desc := "(II)I" } : Jvm.MethodName) ({ cls := "EdgeWalk", name := "bestFold", desc := "(II)I" } : Jvm.MethodName)) ∈ lw_all := lw_g (lw_at lw_m5 10 rfl) rfl
theorem q1099 : (Jvm.Cond.code ({ cls := "EdgeWalk", name := "bestFold", desc := "(II)I" } : Jvm.MethodName) prog_1_method_41_code (7 : Nat) (Option.some Jvm.ClassFile.FieldType.int)) ∈ lw_all := lw_g (lw_at lw_m5 11 rfl) rfl
theorem q1100 : (Jvm.Cond.constantLong "EdgeWalk" (293 : Nat) (40 : Int64)) ∈ lw_all := lw_g (lw_at lw_m5 12 rfl) rfl
theorem q1101 : (Jvm.Cond.methodLink "EdgeWalk" (295 : Nat) ({ cls := "EdgeWalk", name := "tries", desc := "()V" } : Jvm.MethodName)) ∈ lw_all := lw_g (lw_at lw_m5 13 rfl) rfl
theorem q1102 : (Jvm.Cond.privateMethod ({ cls := "EdgeWalk", name := "tries", desc := "()V" } : Jvm.MethodName)) ∈ lw_tbl := lw_at lw_m5 14 rfl
theorem q1103 : (Jvm.Cond.instanceMethod ({ cls := "EdgeWalk", name := "tries", desc := "()V" } : Jvm.MethodName)) ∈ lw_all := lw_g (lw_at lw_m5 15 rfl) rfl
theorem q1104 : (Jvm.Cond.code ({ cls := "EdgeWalk", name := "tries", desc := "()V" } : Jvm.MethodName) prog_1_method_40_code (1 : Nat) (Option.none : Option Jvm.ClassFile.FieldType)) ∈ lw_all := lw_g (lw_at lw_m5 16 rfl) rfl
theorem q1105 : (Jvm.Cond.methodLink "EdgeWalk" (298 : Nat) ({ cls := "EdgeWalk", name := "isBetter", desc := "(I)Z" } : Jvm.MethodName)) ∈ lw_all := lw_g (lw_at lw_m5 17 rfl) rfl
theorem q1106 : (Jvm.Cond.privateMethod ({ cls := "EdgeWalk", name := "isBetter", desc := "(I)Z" } : Jvm.MethodName)) ∈ lw_tbl := lw_at lw_m5 18 rfl
theorem q1107 : (Jvm.Cond.instanceMethod ({ cls := "EdgeWalk", name := "isBetter", desc := "(I)Z" } : Jvm.MethodName)) ∈ lw_all := lw_g (lw_at lw_m5 19 rfl) rfl
theorem q1108 : (Jvm.Cond.code ({ cls := "EdgeWalk", name := "isBetter", desc := "(I)Z" } : Jvm.MethodName) prog_1_method_39_code (4 : Nat) (Option.some Jvm.ClassFile.FieldType.boolean)) ∈ lw_all := lw_g (lw_at lw_m5 20 rfl) rfl
theorem q1109 : (Jvm.Cond.methodLink "EdgeWalk" (280 : Nat) ({ cls := "java/lang/Integer", name := "bitCount", desc := "(I)I" } : Jvm.MethodName)) ∈ lw_all := lw_g (lw_at lw_m5 21 rfl) rfl
theorem q1115 : (Jvm.Cond.methodLink "EdgeWalk" (284 : Nat) ({ cls := "EdgeWalk$State", name := "allFood", desc := "()I" } : Jvm.MethodName)) ∈ lw_all := lw_g (lw_at lw_m5 27 rfl) rfl
theorem q1120 : (Jvm.Cond.instanceMethod ({ cls := "EdgeWalk", name := "bestStone", desc := "(II)I" } : Jvm.MethodName)) ∈ lw_all := lw_g (lw_at lw_m5 32 rfl) rfl
theorem q1121 : (Jvm.Cond.selects "EdgeWalk" ({ cls := "EdgeWalk", name := "bestStone", desc := "(II)I" } : Jvm.MethodName) ({ cls := "EdgeWalk", name := "bestStone", desc := "(II)I" } : Jvm.MethodName)) ∈ lw_all := lw_g (lw_at lw_m5 33 rfl) rfl
theorem q1122 : (Jvm.Cond.code ({ cls := "EdgeWalk", name := "bestStone", desc := "(II)I" } : Jvm.MethodName) prog_1_method_42_code (5 : Nat) (Option.some Jvm.ClassFile.FieldType.int)) ∈ lw_all := lw_g (lw_at lw_m5 34 rfl) rfl
theorem q1124 : (Jvm.Cond.instanceMethod ({ cls := "EdgeWalk", name := "rests", desc := "(IIII)I" } : Jvm.MethodName)) ∈ lw_all := lw_g (lw_at lw_m5 36 rfl) rfl
theorem q1125 : (Jvm.Cond.selects "EdgeWalk" ({ cls := "EdgeWalk", name := "rests", desc := "(IIII)I" } : Jvm.MethodName) ({ cls := "EdgeWalk", name := "rests", desc := "(IIII)I" } : Jvm.MethodName)) ∈ lw_all := lw_g (lw_at lw_m5 37 rfl) rfl
theorem q1126 : (Jvm.Cond.code ({ cls := "EdgeWalk", name := "rests", desc := "(IIII)I" } : Jvm.MethodName) prog_1_method_45_code (8 : Nat) (Option.some Jvm.ClassFile.FieldType.int)) ∈ lw_all := lw_g (lw_at lw_m5 38 rfl) rfl
theorem q1127 : (Jvm.Cond.methodLink "EdgeWalk" (304 : Nat) ({ cls := "EdgeWalk", name := "laysFaces", desc := "(III)V" } : Jvm.MethodName)) ∈ lw_all := lw_g (lw_at lw_m5 39 rfl) rfl
theorem q1128 : (Jvm.Cond.privateMethod ({ cls := "EdgeWalk", name := "laysFaces", desc := "(III)V" } : Jvm.MethodName)) ∈ lw_tbl := lw_at lw_m5 40 rfl
theorem q1129 : (Jvm.Cond.instanceMethod ({ cls := "EdgeWalk", name := "laysFaces", desc := "(III)V" } : Jvm.MethodName)) ∈ lw_all := lw_g (lw_at lw_m5 41 rfl) rfl
theorem q1130 : (Jvm.Cond.code ({ cls := "EdgeWalk", name := "laysFaces", desc := "(III)V" } : Jvm.MethodName) prog_1_method_43_code (7 : Nat) (Option.none : Option Jvm.ClassFile.FieldType)) ∈ lw_all := lw_g (lw_at lw_m5 42 rfl) rfl
theorem q1131 : (Jvm.Cond.methodLink "EdgeWalk" (301 : Nat) ({ cls := "EdgeWalk", name := "has", desc := "(II)Z" } : Jvm.MethodName)) ∈ lw_all := lw_g (lw_at lw_m5 43 rfl) rfl
theorem q1132 : (Jvm.Cond.static ({ cls := "EdgeWalk", name := "has", desc := "(II)Z" } : Jvm.MethodName)) ∈ lw_all := lw_g (lw_at lw_m5 44 rfl) rfl
theorem q1133 : (Jvm.Cond.code ({ cls := "EdgeWalk", name := "has", desc := "(II)Z" } : Jvm.MethodName) prog_1_method_2_code (2 : Nat) (Option.some Jvm.ClassFile.FieldType.boolean)) ∈ lw_all := lw_g (lw_at lw_m5 45 rfl) rfl
theorem q1134 : (Jvm.Cond.methodLink "EdgeWalk" (308 : Nat) ({ cls := "EdgeWalk", name := "isRest", desc := "(I)Z" } : Jvm.MethodName)) ∈ lw_all := lw_g (lw_at lw_m5 46 rfl) rfl
theorem q1135 : (Jvm.Cond.privateMethod ({ cls := "EdgeWalk", name := "isRest", desc := "(I)Z" } : Jvm.MethodName)) ∈ lw_tbl := lw_at lw_m5 47 rfl
theorem q1136 : (Jvm.Cond.instanceMethod ({ cls := "EdgeWalk", name := "isRest", desc := "(I)Z" } : Jvm.MethodName)) ∈ lw_all := lw_g (lw_at lw_m5 48 rfl) rfl
theorem q1137 : (Jvm.Cond.code ({ cls := "EdgeWalk", name := "isRest", desc := "(I)Z" } : Jvm.MethodName) prog_1_method_44_code (3 : Nat) (Option.some Jvm.ClassFile.FieldType.boolean)) ∈ lw_all := lw_g (lw_at lw_m5 49 rfl) rfl
theorem q1139 : (Jvm.Cond.instanceMethod ({ cls := "EdgeWalk", name := "ring", desc := "(I)I" } : Jvm.MethodName)) ∈ lw_all := lw_g (lw_at lw_m5 51 rfl) rfl
theorem q1140 : (Jvm.Cond.selects "EdgeWalk" ({ cls := "EdgeWalk", name := "ring", desc := "(I)I" } : Jvm.MethodName) ({ cls := "EdgeWalk", name := "ring", desc := "(I)I" } : Jvm.MethodName)) ∈ lw_all := lw_g (lw_at lw_m5 52 rfl) rfl
theorem q1141 : (Jvm.Cond.code ({ cls := "EdgeWalk", name := "ring", desc := "(I)I" } : Jvm.MethodName) prog_1_method_48_code (4 : Nat) (Option.some Jvm.ClassFile.FieldType.int)) ∈ lw_all := lw_g (lw_at lw_m5 53 rfl) rfl
theorem q1142 : (Jvm.Cond.methodLink "EdgeWalk" (314 : Nat) ({ cls := "EdgeWalk", name := "laysAll", desc := "()V" } : Jvm.MethodName)) ∈ lw_all := lw_g (lw_at lw_m5 54 rfl) rfl
theorem q1143 : (Jvm.Cond.privateMethod ({ cls := "EdgeWalk", name := "laysAll", desc := "()V" } : Jvm.MethodName)) ∈ lw_tbl := lw_at lw_m5 55 rfl
theorem q1144 : (Jvm.Cond.instanceMethod ({ cls := "EdgeWalk", name := "laysAll", desc := "()V" } : Jvm.MethodName)) ∈ lw_all := lw_g (lw_at lw_m5 56 rfl) rfl
theorem q1145 : (Jvm.Cond.code ({ cls := "EdgeWalk", name := "laysAll", desc := "()V" } : Jvm.MethodName) prog_1_method_46_code (4 : Nat) (Option.none : Option Jvm.ClassFile.FieldType)) ∈ lw_all := lw_g (lw_at lw_m5 57 rfl) rfl
theorem q1146 : (Jvm.Cond.methodLink "EdgeWalk" (317 : Nat) ({ cls := "EdgeWalk", name := "areAlike", desc := "(II)Z" } : Jvm.MethodName)) ∈ lw_all := lw_g (lw_at lw_m5 58 rfl) rfl
theorem q1147 : (Jvm.Cond.privateMethod ({ cls := "EdgeWalk", name := "areAlike", desc := "(II)Z" } : Jvm.MethodName)) ∈ lw_tbl := lw_at lw_m5 59 rfl
theorem q1148 : (Jvm.Cond.instanceMethod ({ cls := "EdgeWalk", name := "areAlike", desc := "(II)Z" } : Jvm.MethodName)) ∈ lw_all := lw_g (lw_at lw_m5 60 rfl) rfl
theorem q1149 : (Jvm.Cond.code ({ cls := "EdgeWalk", name := "areAlike", desc := "(II)Z" } : Jvm.MethodName) prog_1_method_47_code (4 : Nat) (Option.some Jvm.ClassFile.FieldType.boolean)) ∈ lw_all := lw_g (lw_at lw_m5 61 rfl) rfl
theorem q1151 : (Jvm.Cond.instanceMethod ({ cls := "EdgeWalk", name := "bread", desc := "(II)I" } : Jvm.MethodName)) ∈ lw_all := lw_g (lw_at lw_m5 63 rfl) rfl
theorem q1152 : (Jvm.Cond.selects "EdgeWalk" ({ cls := "EdgeWalk", name := "bread", desc := "(II)I" } : Jvm.MethodName) ({ cls := "EdgeWalk", name := "bread", desc := "(II)I" } : Jvm.MethodName)) ∈ lw_all := lw_g (lw_at lw_m5 64 rfl) rfl
theorem q1153 : (Jvm.Cond.code ({ cls := "EdgeWalk", name := "bread", desc := "(II)I" } : Jvm.MethodName) prog_1_method_50_code (9 : Nat) (Option.some Jvm.ClassFile.FieldType.int)) ∈ lw_all := lw_g (lw_at lw_m5 65 rfl) rfl
theorem q1154 : (Jvm.Cond.constantLong "EdgeWalk" (320 : Nat) (9999 : Int64)) ∈ lw_all := lw_g (lw_at lw_m5 66 rfl) rfl
theorem q1155 : (Jvm.Cond.methodLink "EdgeWalk" (322 : Nat) ({ cls := "EdgeWalk", name := "shortOf", desc := "(I)I" } : Jvm.MethodName)) ∈ lw_all := lw_g (lw_at lw_m5 67 rfl) rfl
theorem q1156 : (Jvm.Cond.privateMethod ({ cls := "EdgeWalk", name := "shortOf", desc := "(I)I" } : Jvm.MethodName)) ∈ lw_tbl := lw_at lw_m5 68 rfl
theorem q1157 : (Jvm.Cond.instanceMethod ({ cls := "EdgeWalk", name := "shortOf", desc := "(I)I" } : Jvm.MethodName)) ∈ lw_all := lw_g (lw_at lw_m5 69 rfl) rfl
theorem q1158 : (Jvm.Cond.code ({ cls := "EdgeWalk", name := "shortOf", desc := "(I)I" } : Jvm.MethodName) prog_1_method_49_code (2 : Nat) (Option.some Jvm.ClassFile.FieldType.int)) ∈ lw_all := lw_g (lw_at lw_m5 70 rfl) rfl
theorem q1160 : (Jvm.Cond.instanceMethod ({ cls := "EdgeWalk", name := "note", desc := "(III)I" } : Jvm.MethodName)) ∈ lw_all := lw_g (lw_at lw_m5 72 rfl) rfl
theorem q1161 : (Jvm.Cond.selects "EdgeWalk" ({ cls := "EdgeWalk", name := "note", desc := "(III)I" } : Jvm.MethodName) ({ cls := "EdgeWalk", name := "note", desc := "(III)I" } : Jvm.MethodName)) ∈ lw_all := lw_g (lw_at lw_m5 73 rfl) rfl
theorem q1162 : (Jvm.Cond.code ({ cls := "EdgeWalk", name := "note", desc := "(III)I" } : Jvm.MethodName) prog_1_method_51_code (4 : Nat) (Option.some Jvm.ClassFile.FieldType.int)) ∈ lw_all := lw_g (lw_at lw_m5 74 rfl) rfl
theorem q1163 : (Jvm.Cond.constantLong "EdgeWalk" (325 : Nat) (60 : Int64)) ∈ lw_all := lw_g (lw_at lw_m5 75 rfl) rfl
theorem q1165 : (Jvm.Cond.instanceMethod ({ cls := "EdgeWalk", name := "ruled", desc := "(I)I" } : Jvm.MethodName)) ∈ lw_all := lw_g (lw_at lw_m5 77 rfl) rfl
theorem q1166 : (Jvm.Cond.selects "EdgeWalk" ({ cls := "EdgeWalk", name := "ruled", desc := "(I)I" } : Jvm.MethodName) ({ cls := "EdgeWalk", name := "ruled", desc := "(I)I" } : Jvm.MethodName)) ∈ lw_all := lw_g (lw_at lw_m5 78 rfl) rfl
theorem q1167 : (Jvm.Cond.code ({ cls := "EdgeWalk", name := "ruled", desc := "(I)I" } : Jvm.MethodName) prog_1_method_55_code (5 : Nat) (Option.some Jvm.ClassFile.FieldType.int)) ∈ lw_all := lw_g (lw_at lw_m5 79 rfl) rfl
theorem q1168 : (Jvm.Cond.methodLink "EdgeWalk" (333 : Nat) ({ cls := "EdgeWalk", name := "couldRule", desc := "(I)Z" } : Jvm.MethodName)) ∈ lw_all := lw_g (lw_at lw_m5 80 rfl) rfl
theorem q1169 : (Jvm.Cond.privateMethod ({ cls := "EdgeWalk", name := "couldRule", desc := "(I)Z" } : Jvm.MethodName)) ∈ lw_tbl := lw_at lw_m5 81 rfl
theorem q1170 : (Jvm.Cond.instanceMethod ({ cls := "EdgeWalk", name := "couldRule", desc := "(I)Z" } : Jvm.MethodName)) ∈ lw_all := lw_g (lw_at lw_m5 82 rfl) rfl
theorem q1171 : (Jvm.Cond.code ({ cls := "EdgeWalk", name := "couldRule", desc := "(I)Z" } : Jvm.MethodName) prog_1_method_54_code (4 : Nat) (Option.some Jvm.ClassFile.FieldType.boolean)) ∈ lw_all := lw_g (lw_at lw_m5 83 rfl) rfl
theorem q1172 : (Jvm.Cond.methodLink "EdgeWalk" (330 : Nat) ({ cls := "EdgeWalk", name := "doNotesFit", desc := "()Z" } : Jvm.MethodName)) ∈ lw_all := lw_g (lw_at lw_m5 84 rfl) rfl
theorem q1173 : (Jvm.Cond.privateMethod ({ cls := "EdgeWalk", name := "doNotesFit", desc := "()Z" } : Jvm.MethodName)) ∈ lw_tbl := lw_at lw_m5 85 rfl
theorem q1174 : (Jvm.Cond.instanceMethod ({ cls := "EdgeWalk", name := "doNotesFit", desc := "()Z" } : Jvm.MethodName)) ∈ lw_all := lw_g (lw_at lw_m5 86 rfl) rfl
theorem q1175 : (Jvm.Cond.code ({ cls := "EdgeWalk", name := "doNotesFit", desc := "()Z" } : Jvm.MethodName) prog_1_method_53_code (2 : Nat) (Option.some Jvm.ClassFile.FieldType.boolean)) ∈ lw_all := lw_g (lw_at lw_m5 87 rfl) rfl
theorem q1176 : (Jvm.Cond.methodLink "EdgeWalk" (327 : Nat) ({ cls := "EdgeWalk", name := "cellThen", desc := "(II)I" } : Jvm.MethodName)) ∈ lw_all := lw_g (lw_at lw_m5 88 rfl) rfl
theorem q1177 : (Jvm.Cond.privateMethod ({ cls := "EdgeWalk", name := "cellThen", desc := "(II)I" } : Jvm.MethodName)) ∈ lw_tbl := lw_at lw_m5 89 rfl
theorem q1178 : (Jvm.Cond.instanceMethod ({ cls := "EdgeWalk", name := "cellThen", desc := "(II)I" } : Jvm.MethodName)) ∈ lw_all := lw_g (lw_at lw_m5 90 rfl) rfl
theorem q1179 : (Jvm.Cond.code ({ cls := "EdgeWalk", name := "cellThen", desc := "(II)I" } : Jvm.MethodName) prog_1_method_52_code (3 : Nat) (Option.some Jvm.ClassFile.FieldType.int)) ∈ lw_all := lw_g (lw_at lw_m5 91 rfl) rfl
theorem q1181 : (Jvm.Cond.instanceMethod ({ cls := "EdgeWalk", name := "look", desc := "(II)I" } : Jvm.MethodName)) ∈ lw_all := lw_g (lw_at lw_m5 93 rfl) rfl
theorem q1182 : (Jvm.Cond.selects "EdgeWalk" ({ cls := "EdgeWalk", name := "look", desc := "(II)I" } : Jvm.MethodName) ({ cls := "EdgeWalk", name := "look", desc := "(II)I" } : Jvm.MethodName)) ∈ lw_all := lw_g (lw_at lw_m5 94 rfl) rfl
theorem q1183 : (Jvm.Cond.code ({ cls := "EdgeWalk", name := "look", desc := "(II)I" } : Jvm.MethodName) prog_1_method_57_code (6 : Nat) (Option.some Jvm.ClassFile.FieldType.int)) ∈ lw_all := lw_g (lw_at lw_m5 95 rfl) rfl
theorem q1184 : (Jvm.Cond.methodLink "EdgeWalk" (339 : Nat) ({ cls := "EdgeWalk", name := "mostAlike", desc := "(II)I" } : Jvm.MethodName)) ∈ lw_all := lw_g (lw_at lw_m5 96 rfl) rfl
theorem q1185 : (Jvm.Cond.privateMethod ({ cls := "EdgeWalk", name := "mostAlike", desc := "(II)I" } : Jvm.MethodName)) ∈ lw_tbl := lw_at lw_m5 97 rfl
theorem q1186 : (Jvm.Cond.instanceMethod ({ cls := "EdgeWalk", name := "mostAlike", desc := "(II)I" } : Jvm.MethodName)) ∈ lw_all := lw_g (lw_at lw_m5 98 rfl) rfl
theorem q1187 : (Jvm.Cond.code ({ cls := "EdgeWalk", name := "mostAlike", desc := "(II)I" } : Jvm.MethodName) prog_1_method_56_code (7 : Nat) (Option.some Jvm.ClassFile.FieldType.int)) ∈ lw_all := lw_g (lw_at lw_m5 99 rfl) rfl
theorem q1188 : (Jvm.Cond.methodLink "EdgeWalk" (336 : Nat) ({ cls := "java/lang/Math", name := "max", desc := "(II)I" } : Jvm.MethodName)) ∈ lw_all := lw_g (lw_at lw_m5 100 rfl) rfl
theorem q1190 : (Jvm.Cond.instanceMethod ({ cls := "EdgeWalk", name := "folds", desc := "(I)I" } : Jvm.MethodName)) ∈ lw_all := lw_g (lw_at lw_m5 102 rfl) rfl
theorem q1191 : (Jvm.Cond.selects "EdgeWalk" ({ cls := "EdgeWalk", name := "folds", desc := "(I)I" } : Jvm.MethodName) ({ cls := "EdgeWalk", name := "folds", desc := "(I)I" } : Jvm.MethodName)) ∈ lw_all := lw_g (lw_at lw_m5 103 rfl) rfl
theorem q1192 : (Jvm.Cond.code ({ cls := "EdgeWalk", name := "folds", desc := "(I)I" } : Jvm.MethodName) prog_1_method_59_code (5 : Nat) (Option.some Jvm.ClassFile.FieldType.int)) ∈ lw_all := lw_g (lw_at lw_m5 104 rfl) rfl
theorem q1193 : (Jvm.Cond.methodLink "EdgeWalk" (342 : Nat) ({ cls := "EdgeWalk", name := "couldFold", desc := "(I)Z" } : Jvm.MethodName)) ∈ lw_all := lw_g (lw_at lw_m5 105 rfl) rfl
theorem q1194 : (Jvm.Cond.privateMethod ({ cls := "EdgeWalk", name := "couldFold", desc := "(I)Z" } : Jvm.MethodName)) ∈ lw_tbl := lw_at lw_m5 106 rfl
theorem q1195 : (Jvm.Cond.instanceMethod ({ cls := "EdgeWalk", name := "couldFold", desc := "(I)Z" } : Jvm.MethodName)) ∈ lw_all := lw_g (lw_at lw_m5 107 rfl) rfl
theorem q1196 : (Jvm.Cond.code ({ cls := "EdgeWalk", name := "couldFold", desc := "(I)Z" } : Jvm.MethodName) prog_1_method_58_code (3 : Nat) (Option.some Jvm.ClassFile.FieldType.boolean)) ∈ lw_all := lw_g (lw_at lw_m5 108 rfl) rfl
theorem q1198 : (Jvm.Cond.instanceMethod ({ cls := "EdgeWalk", name := "seed", desc := "(I)I" } : Jvm.MethodName)) ∈ lw_all := lw_g (lw_at lw_m5 110 rfl) rfl
theorem q1199 : (Jvm.Cond.selects "EdgeWalk" ({ cls := "EdgeWalk", name := "seed", desc := "(I)I" } : Jvm.MethodName) ({ cls := "EdgeWalk", name := "seed", desc := "(I)I" } : Jvm.MethodName)) ∈ lw_all := lw_g (lw_at lw_m5 111 rfl) rfl
theorem q1200 : (Jvm.Cond.code ({ cls := "EdgeWalk", name := "seed", desc := "(I)I" } : Jvm.MethodName) prog_1_method_60_code (3 : Nat) (Option.some Jvm.ClassFile.FieldType.int)) ∈ lw_all := lw_g (lw_at lw_m5 112 rfl) rfl
theorem q1202 : (Jvm.Cond.instanceMethod ({ cls := "EdgeWalk", name := "gusts", desc := "(IIII)I" } : Jvm.MethodName)) ∈ lw_all := lw_g (lw_at lw_m5 114 rfl) rfl
theorem q1203 : (Jvm.Cond.selects "EdgeWalk" ({ cls := "EdgeWalk", name := "gusts", desc := "(IIII)I" } : Jvm.MethodName) ({ cls := "EdgeWalk", name := "gusts", desc := "(IIII)I" } : Jvm.MethodName)) ∈ lw_all := lw_g (lw_at lw_m5 115 rfl) rfl
theorem q1204 : (Jvm.Cond.code ({ cls := "EdgeWalk", name := "gusts", desc := "(IIII)I" } : Jvm.MethodName) prog_1_method_63_code (10 : Nat) (Option.some Jvm.ClassFile.FieldType.int)) ∈ lw_all := lw_g (lw_at lw_m5 116 rfl) rfl
theorem q1205 : (Jvm.Cond.constantLong "EdgeWalk" (358 : Nat) (10 : Int64)) ∈ lw_all := lw_g (lw_at lw_m5 117 rfl) rfl
theorem q1206 : (Jvm.Cond.methodLink "EdgeWalk" (360 : Nat) ({ cls := "EdgeWalk", name := "drawsGust", desc := "(I)V" } : Jvm.MethodName)) ∈ lw_all := lw_g (lw_at lw_m5 118 rfl) rfl
theorem q1207 : (Jvm.Cond.privateMethod ({ cls := "EdgeWalk", name := "drawsGust", desc := "(I)V" } : Jvm.MethodName)) ∈ lw_tbl := lw_at lw_m5 119 rfl
theorem q1208 : (Jvm.Cond.instanceMethod ({ cls := "EdgeWalk", name := "drawsGust", desc := "(I)V" } : Jvm.MethodName)) ∈ lw_all := lw_g (lw_at lw_m5 120 rfl) rfl
theorem q1209 : (Jvm.Cond.code ({ cls := "EdgeWalk", name := "drawsGust", desc := "(I)V" } : Jvm.MethodName) prog_1_method_62_code (4 : Nat) (Option.none : Option Jvm.ClassFile.FieldType)) ∈ lw_all := lw_g (lw_at lw_m5 121 rfl) rfl
theorem q1210 : (Jvm.Cond.methodLink "EdgeWalk" (355 : Nat) ({ cls := "EdgeWalk", name := "draws", desc := "(I)I" } : Jvm.MethodName)) ∈ lw_all := lw_g (lw_at lw_m5 122 rfl) rfl
theorem q1211 : (Jvm.Cond.privateMethod ({ cls := "EdgeWalk", name := "draws", desc := "(I)I" } : Jvm.MethodName)) ∈ lw_tbl := lw_at lw_m5 123 rfl
theorem q1212 : (Jvm.Cond.instanceMethod ({ cls := "EdgeWalk", name := "draws", desc := "(I)I" } : Jvm.MethodName)) ∈ lw_all := lw_g (lw_at lw_m5 124 rfl) rfl
theorem q1213 : (Jvm.Cond.code ({ cls := "EdgeWalk", name := "draws", desc := "(I)I" } : Jvm.MethodName) prog_1_method_61_code (2 : Nat) (Option.some Jvm.ClassFile.FieldType.int)) ∈ lw_all := lw_g (lw_at lw_m5 125 rfl) rfl
theorem q1214 : (Jvm.Cond.constantLong "EdgeWalk" (348 : Nat) (1103515245 : Int64)) ∈ lw_all := lw_g (lw_at lw_m5 126 rfl) rfl
theorem q1215 : (Jvm.Cond.constantLong "EdgeWalk" (350 : Nat) (12345 : Int64)) ∈ lw_all := lw_g (lw_at lw_m5 127 rfl) rfl
theorem q1216 : (Jvm.Cond.constantLong "EdgeWalk" (352 : Nat) (2147483648 : Int64)) ∈ lw_all := lw_g (lw_at lw_m5 128 rfl) rfl
theorem q1217 : (Jvm.Cond.constant "EdgeWalk" (354 : Nat) (65536 : Int32)) ∈ lw_all := lw_g (lw_at lw_m5 129 rfl) rfl
theorem q1219 : (Jvm.Cond.instanceMethod ({ cls := "EdgeWalk", name := "count", desc := "(I)I" } : Jvm.MethodName)) ∈ lw_all := lw_g (lw_at lw_m5 131 rfl) rfl
theorem q1220 : (Jvm.Cond.selects "EdgeWalk" ({ cls := "EdgeWalk", name := "count", desc := "(I)I" } : Jvm.MethodName) ({ cls := "EdgeWalk", name := "count", desc := "(I)I" } : Jvm.MethodName)) ∈ lw_all := lw_g (lw_at lw_m5 132 rfl) rfl
theorem q1221 : (Jvm.Cond.code ({ cls := "EdgeWalk", name := "count", desc := "(I)I" } : Jvm.MethodName) prog_1_method_64_code (2 : Nat) (Option.some Jvm.ClassFile.FieldType.int)) ∈ lw_all := lw_g (lw_at lw_m5 133 rfl) rfl
theorem q1223 : (Jvm.Cond.instanceMethod ({ cls := "EdgeWalk", name := "image", desc := "(I)I" } : Jvm.MethodName)) ∈ lw_all := lw_g (lw_at lw_m5 135 rfl) rfl
theorem q1224 : (Jvm.Cond.selects "EdgeWalk" ({ cls := "EdgeWalk", name := "image", desc := "(I)I" } : Jvm.MethodName) ({ cls := "EdgeWalk", name := "image", desc := "(I)I" } : Jvm.MethodName)) ∈ lw_all := lw_g (lw_at lw_m5 136 rfl) rfl
theorem q1225 : (Jvm.Cond.code ({ cls := "EdgeWalk", name := "image", desc := "(I)I" } : Jvm.MethodName) prog_1_method_65_code (2 : Nat) (Option.some Jvm.ClassFile.FieldType.int)) ∈ lw_all := lw_g (lw_at lw_m5 137 rfl) rfl
theorem q1227 : (Jvm.Cond.methodLinkNest "EdgeWalk" (363 : Nat) ({ cls := "EdgeWalk$Image", name := "<init>", desc := "(LEdgeWalk;)V" } : Jvm.MethodName) "EdgeWalk") ∈ lw_tbl := lw_at lw_m5 139 rfl
theorem q1261 : (Jvm.Cond.methodLink "EdgeWalk" (366 : Nat) ({ cls := "EdgeWalk$Image", name := "keep", desc := "()V" } : Jvm.MethodName)) ∈ lw_all := lw_g (lw_at lw_m5 173 rfl) rfl
theorem q1267 : (Jvm.Cond.instanceMethod ({ cls := "EdgeWalk", name := "back", desc := "(I)I" } : Jvm.MethodName)) ∈ lw_all := lw_g (lw_at lw_m5 179 rfl) rfl
theorem q1268 : (Jvm.Cond.selects "EdgeWalk" ({ cls := "EdgeWalk", name := "back", desc := "(I)I" } : Jvm.MethodName) ({ cls := "EdgeWalk", name := "back", desc := "(I)I" } : Jvm.MethodName)) ∈ lw_all := lw_g (lw_at lw_m5 180 rfl) rfl
theorem q1269 : (Jvm.Cond.code ({ cls := "EdgeWalk", name := "back", desc := "(I)I" } : Jvm.MethodName) prog_1_method_66_code (2 : Nat) (Option.some Jvm.ClassFile.FieldType.int)) ∈ lw_all := lw_g (lw_at lw_m5 181 rfl) rfl
theorem q1270 : (Jvm.Cond.methodLink "EdgeWalk" (369 : Nat) ({ cls := "EdgeWalk$Image", name := "back", desc := "()V" } : Jvm.MethodName)) ∈ lw_all := lw_g (lw_at lw_m5 182 rfl) rfl
theorem q1914 : (Jvm.Cond.castable "EdgeWalk" "java/lang/Object") ∈ lw_tbl := lw_at lw_m8 106 rfl
theorem q1943 : (Jvm.Cond.stringRef "EdgeWalk" (374 : Nat) "goer") ∈ lw_tbl := lw_at lw_m8 135 rfl
theorem q1944 : (Jvm.Cond.stringRef "EdgeWalk" (376 : Nat) "cell") ∈ lw_tbl := lw_at lw_m8 136 rfl
theorem q1945 : (Jvm.Cond.stringRef "EdgeWalk" (377 : Nat) "row") ∈ lw_tbl := lw_at lw_m8 137 rfl
theorem q1946 : (Jvm.Cond.stringRef "EdgeWalk" (379 : Nat) "column") ∈ lw_tbl := lw_at lw_m8 138 rfl
theorem q1947 : (Jvm.Cond.stringRef "EdgeWalk" (381 : Nat) "faces") ∈ lw_tbl := lw_at lw_m8 139 rfl
theorem q1948 : (Jvm.Cond.stringRef "EdgeWalk" (382 : Nat) "food") ∈ lw_tbl := lw_at lw_m8 140 rfl
theorem q1949 : (Jvm.Cond.stringRef "EdgeWalk" (383 : Nat) "margin") ∈ lw_tbl := lw_at lw_m8 141 rfl
theorem q1950 : (Jvm.Cond.stringRef "EdgeWalk" (384 : Nat) "stone") ∈ lw_tbl := lw_at lw_m8 142 rfl
theorem q1951 : (Jvm.Cond.stringRef "EdgeWalk" (386 : Nat) "here") ∈ lw_tbl := lw_at lw_m8 143 rfl
theorem q1952 : (Jvm.Cond.stringRef "EdgeWalk" (388 : Nat) "been") ∈ lw_tbl := lw_at lw_m8 144 rfl
theorem q1953 : (Jvm.Cond.stringRef "EdgeWalk" (389 : Nat) "step") ∈ lw_tbl := lw_at lw_m8 145 rfl
theorem in_X0 : ∀ w ∈ wsX00, w ∈ lw_all := lw_in wsX00 [386, 388, 390, 392, 394, 396, 398, 400, 402, 404, 406, 408, 410, 412, 414, 416, 418, 420, 422, 424, 426, 428, 430, 432, 434] (by decide +kernel) (by decide +kernel)
