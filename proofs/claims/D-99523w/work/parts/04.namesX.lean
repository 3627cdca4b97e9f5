/-! EdgeWalk$Sheet -/
set_option maxRecDepth 100000
def RX1 : String := "EdgeWalk$Sheet"
def TX1 : u_T := fun k => match k with
  | 0 => ("EdgeWalk$Sheet", "goers", "Ljava/util/ArrayList;", true)
  | 1 => ("EdgeWalk$Sheet", "leads", "[I", true)
  | 2 => ("EdgeWalk$Sheet", "days", "[I", true)
  | 3 => ("EdgeWalk$Sheet", "side", "I", false)
  | _ => ("EdgeWalk$Sheet", "stones", "J", false)
def tyX1 : Nat → FieldType := fun k => match k with
  | 0 => .object "java/util/ArrayList"
  | 1 => .array .int
  | 2 => .array .int
  | 3 => .int
  | _ => .long
abbrev wsX10 : List Cond := u_ws RX1 TX1 5
theorem nmX1 : ∀ a, a < 5 → ∀ b, b < 5 → a ≠ b → (TX1 a).2.1 ≠ (TX1 b).2.1 := by decide +kernel
theorem tyX1_ok : ∀ k, k < 5 → parseFieldDescriptor (TX1 k).2.2.1 = some (tyX1 k) := by decide +kernel
abbrev cX1_init : ByteArray := prog_13_method_1_code
def yX1_init : MethodName := ⟨RX1, "<init>", "()V"⟩
def dkwX1_init_1 : List UInt8 := [89, 4, 4, 79, 89, 5, 5, 79, 89, 6, 6, 79, 181, 0, 20, 42, 7, 188, 10, 181, 0, 24, 177]
abbrev dktX1_init_1 : List UInt8 := dkwX1_init_1 ++ []
def dkwX1_init_0 : List UInt8 := [42, 183, 0, 3, 42, 187, 0, 9, 89, 5, 183, 0, 11, 181, 0, 14, 42, 7, 188, 10, 89, 3, 3, 79]
abbrev dktX1_init_0 : List UInt8 := dkwX1_init_0 ++ dktX1_init_1
theorem dksX1_init_0 : cX1_init.data.toList.drop 0 = dktX1_init_0 := by decide +kernel
theorem dksX1_init_1 : cX1_init.data.toList.drop 24 = dktX1_init_1 := dk_seg dksX1_init_0 24 rfl rfl
theorem dX1_init_0 : decode cX1_init 0 = .ok (.aload_n 0, 1) := dk_42 (dk_at dksX1_init_0 0 rfl rfl)
theorem dX1_init_1 : decode cX1_init 1 = .ok (.invokespecial 3, 3) := dk_183 0 3 (dk_at dksX1_init_0 1 rfl rfl)
theorem dX1_init_4 : decode cX1_init 4 = .ok (.aload_n 0, 1) := dk_42 (dk_at dksX1_init_0 4 rfl rfl)
theorem dX1_init_5 : decode cX1_init 5 = .ok (.new 9, 3) := dk_187 0 9 (dk_at dksX1_init_0 5 rfl rfl)
theorem dX1_init_8 : decode cX1_init 8 = .ok (.dup, 1) := dk_89 (dk_at dksX1_init_0 8 rfl rfl)
theorem dX1_init_9 : decode cX1_init 9 = .ok (.iconst 2, 1) := dk_5 (dk_at dksX1_init_0 9 rfl rfl)
theorem dX1_init_10 : decode cX1_init 10 = .ok (.invokespecial 11, 3) := dk_183 0 11 (dk_at dksX1_init_0 10 rfl rfl)
theorem dX1_init_13 : decode cX1_init 13 = .ok (.putfield 14, 3) := dk_181 0 14 (dk_at dksX1_init_0 13 rfl rfl)
theorem dX1_init_16 : decode cX1_init 16 = .ok (.aload_n 0, 1) := dk_42 (dk_at dksX1_init_0 16 rfl rfl)
theorem dX1_init_17 : decode cX1_init 17 = .ok (.iconst 4, 1) := dk_7 (dk_at dksX1_init_0 17 rfl rfl)
theorem dX1_init_18 : decode cX1_init 18 = .ok (.newarray .int, 2) := dk_188_10 (dk_at dksX1_init_0 18 rfl rfl)
theorem dX1_init_20 : decode cX1_init 20 = .ok (.dup, 1) := dk_89 (dk_at dksX1_init_0 20 rfl rfl)
theorem dX1_init_21 : decode cX1_init 21 = .ok (.iconst 0, 1) := dk_3 (dk_at dksX1_init_0 21 rfl rfl)
theorem dX1_init_22 : decode cX1_init 22 = .ok (.iconst 0, 1) := dk_3 (dk_at dksX1_init_0 22 rfl rfl)
theorem dX1_init_23 : decode cX1_init 23 = .ok (.iastore, 1) := dk_79 (dk_at dksX1_init_0 23 rfl rfl)
theorem dX1_init_24 : decode cX1_init 24 = .ok (.dup, 1) := dk_89 (dk_at dksX1_init_1 0 rfl rfl)
theorem dX1_init_25 : decode cX1_init 25 = .ok (.iconst 1, 1) := dk_4 (dk_at dksX1_init_1 1 rfl rfl)
theorem dX1_init_26 : decode cX1_init 26 = .ok (.iconst 1, 1) := dk_4 (dk_at dksX1_init_1 2 rfl rfl)
theorem dX1_init_27 : decode cX1_init 27 = .ok (.iastore, 1) := dk_79 (dk_at dksX1_init_1 3 rfl rfl)
theorem dX1_init_28 : decode cX1_init 28 = .ok (.dup, 1) := dk_89 (dk_at dksX1_init_1 4 rfl rfl)
theorem dX1_init_29 : decode cX1_init 29 = .ok (.iconst 2, 1) := dk_5 (dk_at dksX1_init_1 5 rfl rfl)
theorem dX1_init_30 : decode cX1_init 30 = .ok (.iconst 2, 1) := dk_5 (dk_at dksX1_init_1 6 rfl rfl)
theorem dX1_init_31 : decode cX1_init 31 = .ok (.iastore, 1) := dk_79 (dk_at dksX1_init_1 7 rfl rfl)
theorem dX1_init_32 : decode cX1_init 32 = .ok (.dup, 1) := dk_89 (dk_at dksX1_init_1 8 rfl rfl)
theorem dX1_init_33 : decode cX1_init 33 = .ok (.iconst 3, 1) := dk_6 (dk_at dksX1_init_1 9 rfl rfl)
theorem dX1_init_34 : decode cX1_init 34 = .ok (.iconst 3, 1) := dk_6 (dk_at dksX1_init_1 10 rfl rfl)
theorem dX1_init_35 : decode cX1_init 35 = .ok (.iastore, 1) := dk_79 (dk_at dksX1_init_1 11 rfl rfl)
theorem dX1_init_36 : decode cX1_init 36 = .ok (.putfield 20, 3) := dk_181 0 20 (dk_at dksX1_init_1 12 rfl rfl)
theorem dX1_init_39 : decode cX1_init 39 = .ok (.aload_n 0, 1) := dk_42 (dk_at dksX1_init_1 15 rfl rfl)
theorem dX1_init_40 : decode cX1_init 40 = .ok (.iconst 4, 1) := dk_7 (dk_at dksX1_init_1 16 rfl rfl)
theorem dX1_init_41 : decode cX1_init 41 = .ok (.newarray .int, 2) := dk_188_10 (dk_at dksX1_init_1 17 rfl rfl)
theorem dX1_init_43 : decode cX1_init 43 = .ok (.putfield 24, 3) := dk_181 0 24 (dk_at dksX1_init_1 19 rfl rfl)
theorem dX1_init_46 : decode cX1_init 46 = .ok (.return_, 1) := dk_177 (dk_at dksX1_init_1 22 rfl rfl)
abbrev cX1_goers : ByteArray := prog_13_method_2_code
def yX1_goers : MethodName := ⟨RX1, "goers", "()I"⟩
def dkwX1_goers_0 : List UInt8 := [42, 180, 0, 14, 182, 0, 27, 172]
abbrev dktX1_goers_0 : List UInt8 := dkwX1_goers_0 ++ []
theorem dksX1_goers_0 : cX1_goers.data.toList.drop 0 = dktX1_goers_0 := by decide +kernel
theorem dX1_goers_0 : decode cX1_goers 0 = .ok (.aload_n 0, 1) := dk_42 (dk_at dksX1_goers_0 0 rfl rfl)
theorem dX1_goers_1 : decode cX1_goers 1 = .ok (.getfield 14, 3) := dk_180 0 14 (dk_at dksX1_goers_0 1 rfl rfl)
theorem dX1_goers_4 : decode cX1_goers 4 = .ok (.invokevirtual 27, 3) := dk_182 0 27 (dk_at dksX1_goers_0 4 rfl rfl)
theorem dX1_goers_7 : decode cX1_goers 7 = .ok (.ireturn, 1) := dk_172 (dk_at dksX1_goers_0 7 rfl rfl)
abbrev cX1_cells : ByteArray := prog_13_method_3_code
def yX1_cells : MethodName := ⟨RX1, "cells", "()I"⟩
def dkwX1_cells_0 : List UInt8 := [42, 180, 0, 31, 42, 180, 0, 31, 104, 172]
abbrev dktX1_cells_0 : List UInt8 := dkwX1_cells_0 ++ []
theorem dksX1_cells_0 : cX1_cells.data.toList.drop 0 = dktX1_cells_0 := by decide +kernel
theorem dX1_cells_0 : decode cX1_cells 0 = .ok (.aload_n 0, 1) := dk_42 (dk_at dksX1_cells_0 0 rfl rfl)
theorem dX1_cells_1 : decode cX1_cells 1 = .ok (.getfield 31, 3) := dk_180 0 31 (dk_at dksX1_cells_0 1 rfl rfl)
theorem dX1_cells_4 : decode cX1_cells 4 = .ok (.aload_n 0, 1) := dk_42 (dk_at dksX1_cells_0 4 rfl rfl)
theorem dX1_cells_5 : decode cX1_cells 5 = .ok (.getfield 31, 3) := dk_180 0 31 (dk_at dksX1_cells_0 5 rfl rfl)
theorem dX1_cells_8 : decode cX1_cells 8 = .ok (.imul, 1) := dk_104 (dk_at dksX1_cells_0 8 rfl rfl)
theorem dX1_cells_9 : decode cX1_cells 9 = .ok (.ireturn, 1) := dk_172 (dk_at dksX1_cells_0 9 rfl rfl)
abbrev cX1_cellAt : ByteArray := prog_13_method_7_code
def yX1_cellAt : MethodName := ⟨RX1, "cellAt", "(II)I"⟩
def dkwX1_cellAt_3 : List UInt8 := [4, 100, 104, 28, 96, 172, 42, 180, 0, 31, 28, 104, 172]
abbrev dktX1_cellAt_3 : List UInt8 := dkwX1_cellAt_3 ++ []
def dkwX1_cellAt_2 : List UInt8 := [28, 172, 42, 180, 0, 31, 28, 104, 42, 180, 0, 31, 96, 4, 100, 172, 42, 180, 0, 31, 42, 180, 0, 31]
abbrev dktX1_cellAt_2 : List UInt8 := dkwX1_cellAt_2 ++ dktX1_cellAt_3
def dkwX1_cellAt_1 : List UInt8 := [170, 0, 0, 0, 0, 0, 57, 0, 0, 0, 0, 0, 0, 0, 2, 0, 0, 0, 27, 0, 0, 0, 29, 0, 0, 0, 43]
abbrev dktX1_cellAt_1 : List UInt8 := dkwX1_cellAt_1 ++ dktX1_cellAt_2
def dkwX1_cellAt_0 : List UInt8 := [27]
abbrev dktX1_cellAt_0 : List UInt8 := dkwX1_cellAt_0 ++ dktX1_cellAt_1
theorem dksX1_cellAt_0 : cX1_cellAt.data.toList.drop 0 = dktX1_cellAt_0 := by decide +kernel
theorem dksX1_cellAt_1 : cX1_cellAt.data.toList.drop 1 = dktX1_cellAt_1 := dk_seg dksX1_cellAt_0 1 rfl rfl
theorem dksX1_cellAt_2 : cX1_cellAt.data.toList.drop 28 = dktX1_cellAt_2 := dk_seg dksX1_cellAt_1 27 rfl rfl
theorem dksX1_cellAt_3 : cX1_cellAt.data.toList.drop 52 = dktX1_cellAt_3 := dk_seg dksX1_cellAt_2 24 rfl rfl
theorem dX1_cellAt_0 : decode cX1_cellAt 0 = .ok (.iload_n 1, 1) := dk_27 (dk_at dksX1_cellAt_0 0 rfl rfl)
theorem dX1_cellAt_1 : decode cX1_cellAt 1 = .ok (.tableswitch 57 0 2 #[27, 29, 43], 27) := by decide +kernel
theorem dX1_cellAt_28 : decode cX1_cellAt 28 = .ok (.iload_n 2, 1) := dk_28 (dk_at dksX1_cellAt_2 0 rfl rfl)
theorem dX1_cellAt_29 : decode cX1_cellAt 29 = .ok (.ireturn, 1) := dk_172 (dk_at dksX1_cellAt_2 1 rfl rfl)
theorem dX1_cellAt_30 : decode cX1_cellAt 30 = .ok (.aload_n 0, 1) := dk_42 (dk_at dksX1_cellAt_2 2 rfl rfl)
theorem dX1_cellAt_31 : decode cX1_cellAt 31 = .ok (.getfield 31, 3) := dk_180 0 31 (dk_at dksX1_cellAt_2 3 rfl rfl)
theorem dX1_cellAt_34 : decode cX1_cellAt 34 = .ok (.iload_n 2, 1) := dk_28 (dk_at dksX1_cellAt_2 6 rfl rfl)
theorem dX1_cellAt_35 : decode cX1_cellAt 35 = .ok (.imul, 1) := dk_104 (dk_at dksX1_cellAt_2 7 rfl rfl)
theorem dX1_cellAt_36 : decode cX1_cellAt 36 = .ok (.aload_n 0, 1) := dk_42 (dk_at dksX1_cellAt_2 8 rfl rfl)
theorem dX1_cellAt_37 : decode cX1_cellAt 37 = .ok (.getfield 31, 3) := dk_180 0 31 (dk_at dksX1_cellAt_2 9 rfl rfl)
theorem dX1_cellAt_40 : decode cX1_cellAt 40 = .ok (.iadd, 1) := dk_96 (dk_at dksX1_cellAt_2 12 rfl rfl)
theorem dX1_cellAt_41 : decode cX1_cellAt 41 = .ok (.iconst 1, 1) := dk_4 (dk_at dksX1_cellAt_2 13 rfl rfl)
theorem dX1_cellAt_42 : decode cX1_cellAt 42 = .ok (.isub, 1) := dk_100 (dk_at dksX1_cellAt_2 14 rfl rfl)
theorem dX1_cellAt_43 : decode cX1_cellAt 43 = .ok (.ireturn, 1) := dk_172 (dk_at dksX1_cellAt_2 15 rfl rfl)
theorem dX1_cellAt_44 : decode cX1_cellAt 44 = .ok (.aload_n 0, 1) := dk_42 (dk_at dksX1_cellAt_2 16 rfl rfl)
theorem dX1_cellAt_45 : decode cX1_cellAt 45 = .ok (.getfield 31, 3) := dk_180 0 31 (dk_at dksX1_cellAt_2 17 rfl rfl)
theorem dX1_cellAt_48 : decode cX1_cellAt 48 = .ok (.aload_n 0, 1) := dk_42 (dk_at dksX1_cellAt_2 20 rfl rfl)
theorem dX1_cellAt_49 : decode cX1_cellAt 49 = .ok (.getfield 31, 3) := dk_180 0 31 (dk_at dksX1_cellAt_2 21 rfl rfl)
theorem dX1_cellAt_52 : decode cX1_cellAt 52 = .ok (.iconst 1, 1) := dk_4 (dk_at dksX1_cellAt_3 0 rfl rfl)
theorem dX1_cellAt_53 : decode cX1_cellAt 53 = .ok (.isub, 1) := dk_100 (dk_at dksX1_cellAt_3 1 rfl rfl)
theorem dX1_cellAt_54 : decode cX1_cellAt 54 = .ok (.imul, 1) := dk_104 (dk_at dksX1_cellAt_3 2 rfl rfl)
theorem dX1_cellAt_55 : decode cX1_cellAt 55 = .ok (.iload_n 2, 1) := dk_28 (dk_at dksX1_cellAt_3 3 rfl rfl)
theorem dX1_cellAt_56 : decode cX1_cellAt 56 = .ok (.iadd, 1) := dk_96 (dk_at dksX1_cellAt_3 4 rfl rfl)
theorem dX1_cellAt_57 : decode cX1_cellAt 57 = .ok (.ireturn, 1) := dk_172 (dk_at dksX1_cellAt_3 5 rfl rfl)
theorem dX1_cellAt_58 : decode cX1_cellAt 58 = .ok (.aload_n 0, 1) := dk_42 (dk_at dksX1_cellAt_3 6 rfl rfl)
theorem dX1_cellAt_59 : decode cX1_cellAt 59 = .ok (.getfield 31, 3) := dk_180 0 31 (dk_at dksX1_cellAt_3 7 rfl rfl)
theorem dX1_cellAt_62 : decode cX1_cellAt 62 = .ok (.iload_n 2, 1) := dk_28 (dk_at dksX1_cellAt_3 10 rfl rfl)
theorem dX1_cellAt_63 : decode cX1_cellAt 63 = .ok (.imul, 1) := dk_104 (dk_at dksX1_cellAt_3 11 rfl rfl)
theorem dX1_cellAt_64 : decode cX1_cellAt 64 = .ok (.ireturn, 1) := dk_172 (dk_at dksX1_cellAt_3 12 rfl rfl)
abbrev cX1_margin : ByteArray := prog_13_method_4_code
def yX1_margin : MethodName := ⟨RX1, "margin", "(II)I"⟩
def dkwX1_margin_3 : List UInt8 := [180, 0, 31, 4, 100, 27, 42, 180, 0, 31, 108, 100, 172, 27, 42, 180, 0, 31, 112, 172]
abbrev dktX1_margin_3 : List UInt8 := dkwX1_margin_3 ++ []
def dkwX1_margin_2 : List UInt8 := [27, 42, 180, 0, 31, 108, 172, 42, 180, 0, 31, 4, 100, 27, 42, 180, 0, 31, 112, 100, 172, 42]
abbrev dktX1_margin_2 : List UInt8 := dkwX1_margin_2 ++ dktX1_margin_3
def dkwX1_margin_1 : List UInt8 := [170, 0, 0, 0, 0, 0, 62, 0, 0, 0, 0, 0, 0, 0, 2, 0, 0, 0, 27, 0, 0, 0, 34, 0, 0, 0, 48]
abbrev dktX1_margin_1 : List UInt8 := dkwX1_margin_1 ++ dktX1_margin_2
def dkwX1_margin_0 : List UInt8 := [28]
abbrev dktX1_margin_0 : List UInt8 := dkwX1_margin_0 ++ dktX1_margin_1
theorem dksX1_margin_0 : cX1_margin.data.toList.drop 0 = dktX1_margin_0 := by decide +kernel
theorem dksX1_margin_1 : cX1_margin.data.toList.drop 1 = dktX1_margin_1 := dk_seg dksX1_margin_0 1 rfl rfl
theorem dksX1_margin_2 : cX1_margin.data.toList.drop 28 = dktX1_margin_2 := dk_seg dksX1_margin_1 27 rfl rfl
theorem dksX1_margin_3 : cX1_margin.data.toList.drop 50 = dktX1_margin_3 := dk_seg dksX1_margin_2 22 rfl rfl
theorem dX1_margin_0 : decode cX1_margin 0 = .ok (.iload_n 2, 1) := dk_28 (dk_at dksX1_margin_0 0 rfl rfl)
theorem dX1_margin_1 : decode cX1_margin 1 = .ok (.tableswitch 62 0 2 #[27, 34, 48], 27) := by decide +kernel
theorem dX1_margin_28 : decode cX1_margin 28 = .ok (.iload_n 1, 1) := dk_27 (dk_at dksX1_margin_2 0 rfl rfl)
theorem dX1_margin_29 : decode cX1_margin 29 = .ok (.aload_n 0, 1) := dk_42 (dk_at dksX1_margin_2 1 rfl rfl)
theorem dX1_margin_30 : decode cX1_margin 30 = .ok (.getfield 31, 3) := dk_180 0 31 (dk_at dksX1_margin_2 2 rfl rfl)
theorem dX1_margin_33 : decode cX1_margin 33 = .ok (.idiv, 1) := dk_108 (dk_at dksX1_margin_2 5 rfl rfl)
theorem dX1_margin_34 : decode cX1_margin 34 = .ok (.ireturn, 1) := dk_172 (dk_at dksX1_margin_2 6 rfl rfl)
theorem dX1_margin_35 : decode cX1_margin 35 = .ok (.aload_n 0, 1) := dk_42 (dk_at dksX1_margin_2 7 rfl rfl)
theorem dX1_margin_36 : decode cX1_margin 36 = .ok (.getfield 31, 3) := dk_180 0 31 (dk_at dksX1_margin_2 8 rfl rfl)
theorem dX1_margin_39 : decode cX1_margin 39 = .ok (.iconst 1, 1) := dk_4 (dk_at dksX1_margin_2 11 rfl rfl)
theorem dX1_margin_40 : decode cX1_margin 40 = .ok (.isub, 1) := dk_100 (dk_at dksX1_margin_2 12 rfl rfl)
theorem dX1_margin_41 : decode cX1_margin 41 = .ok (.iload_n 1, 1) := dk_27 (dk_at dksX1_margin_2 13 rfl rfl)
theorem dX1_margin_42 : decode cX1_margin 42 = .ok (.aload_n 0, 1) := dk_42 (dk_at dksX1_margin_2 14 rfl rfl)
theorem dX1_margin_43 : decode cX1_margin 43 = .ok (.getfield 31, 3) := dk_180 0 31 (dk_at dksX1_margin_2 15 rfl rfl)
theorem dX1_margin_46 : decode cX1_margin 46 = .ok (.irem, 1) := dk_112 (dk_at dksX1_margin_2 18 rfl rfl)
theorem dX1_margin_47 : decode cX1_margin 47 = .ok (.isub, 1) := dk_100 (dk_at dksX1_margin_2 19 rfl rfl)
theorem dX1_margin_48 : decode cX1_margin 48 = .ok (.ireturn, 1) := dk_172 (dk_at dksX1_margin_2 20 rfl rfl)
theorem dX1_margin_49 : decode cX1_margin 49 = .ok (.aload_n 0, 1) := dk_42 (dk_at dksX1_margin_2 21 rfl rfl)
theorem dX1_margin_50 : decode cX1_margin 50 = .ok (.getfield 31, 3) := dk_180 0 31 (dk_at dksX1_margin_3 0 rfl rfl)
theorem dX1_margin_53 : decode cX1_margin 53 = .ok (.iconst 1, 1) := dk_4 (dk_at dksX1_margin_3 3 rfl rfl)
theorem dX1_margin_54 : decode cX1_margin 54 = .ok (.isub, 1) := dk_100 (dk_at dksX1_margin_3 4 rfl rfl)
theorem dX1_margin_55 : decode cX1_margin 55 = .ok (.iload_n 1, 1) := dk_27 (dk_at dksX1_margin_3 5 rfl rfl)
theorem dX1_margin_56 : decode cX1_margin 56 = .ok (.aload_n 0, 1) := dk_42 (dk_at dksX1_margin_3 6 rfl rfl)
theorem dX1_margin_57 : decode cX1_margin 57 = .ok (.getfield 31, 3) := dk_180 0 31 (dk_at dksX1_margin_3 7 rfl rfl)
theorem dX1_margin_60 : decode cX1_margin 60 = .ok (.idiv, 1) := dk_108 (dk_at dksX1_margin_3 10 rfl rfl)
theorem dX1_margin_61 : decode cX1_margin 61 = .ok (.isub, 1) := dk_100 (dk_at dksX1_margin_3 11 rfl rfl)
theorem dX1_margin_62 : decode cX1_margin 62 = .ok (.ireturn, 1) := dk_172 (dk_at dksX1_margin_3 12 rfl rfl)
theorem dX1_margin_63 : decode cX1_margin 63 = .ok (.iload_n 1, 1) := dk_27 (dk_at dksX1_margin_3 13 rfl rfl)
theorem dX1_margin_64 : decode cX1_margin 64 = .ok (.aload_n 0, 1) := dk_42 (dk_at dksX1_margin_3 14 rfl rfl)
theorem dX1_margin_65 : decode cX1_margin 65 = .ok (.getfield 31, 3) := dk_180 0 31 (dk_at dksX1_margin_3 15 rfl rfl)
theorem dX1_margin_68 : decode cX1_margin 68 = .ok (.irem, 1) := dk_112 (dk_at dksX1_margin_3 18 rfl rfl)
theorem dX1_margin_69 : decode cX1_margin 69 = .ok (.ireturn, 1) := dk_172 (dk_at dksX1_margin_3 19 rfl rfl)
abbrev cX1_next : ByteArray := prog_13_method_5_code
def yX1_next : MethodName := ⟨RX1, "next", "(II)I"⟩
def dkwX1_next_1 : List UInt8 := [28, 5, 160, 0, 12, 27, 42, 180, 0, 31, 96, 167, 0, 6, 27, 4, 100, 172]
abbrev dktX1_next_1 : List UInt8 := dkwX1_next_1 ++ []
def dkwX1_next_0 : List UInt8 := [28, 154, 0, 12, 27, 42, 180, 0, 31, 100, 167, 0, 31, 28, 4, 160, 0, 9, 27, 4, 96, 167, 0, 20]
abbrev dktX1_next_0 : List UInt8 := dkwX1_next_0 ++ dktX1_next_1
theorem dksX1_next_0 : cX1_next.data.toList.drop 0 = dktX1_next_0 := by decide +kernel
theorem dksX1_next_1 : cX1_next.data.toList.drop 24 = dktX1_next_1 := dk_seg dksX1_next_0 24 rfl rfl
theorem dX1_next_0 : decode cX1_next 0 = .ok (.iload_n 2, 1) := dk_28 (dk_at dksX1_next_0 0 rfl rfl)
theorem dX1_next_1 : decode cX1_next 1 = .ok (.ifCond .ne 12, 3) := dk_154 0 12 (dk_at dksX1_next_0 1 rfl rfl)
theorem dX1_next_4 : decode cX1_next 4 = .ok (.iload_n 1, 1) := dk_27 (dk_at dksX1_next_0 4 rfl rfl)
theorem dX1_next_5 : decode cX1_next 5 = .ok (.aload_n 0, 1) := dk_42 (dk_at dksX1_next_0 5 rfl rfl)
theorem dX1_next_6 : decode cX1_next 6 = .ok (.getfield 31, 3) := dk_180 0 31 (dk_at dksX1_next_0 6 rfl rfl)
theorem dX1_next_9 : decode cX1_next 9 = .ok (.isub, 1) := dk_100 (dk_at dksX1_next_0 9 rfl rfl)
theorem dX1_next_10 : decode cX1_next 10 = .ok (.goto 31, 3) := dk_167 0 31 (dk_at dksX1_next_0 10 rfl rfl)
theorem dX1_next_13 : decode cX1_next 13 = .ok (.iload_n 2, 1) := dk_28 (dk_at dksX1_next_0 13 rfl rfl)
theorem dX1_next_14 : decode cX1_next 14 = .ok (.iconst 1, 1) := dk_4 (dk_at dksX1_next_0 14 rfl rfl)
theorem dX1_next_15 : decode cX1_next 15 = .ok (.if_icmp .ne 9, 3) := dk_160 0 9 (dk_at dksX1_next_0 15 rfl rfl)
theorem dX1_next_18 : decode cX1_next 18 = .ok (.iload_n 1, 1) := dk_27 (dk_at dksX1_next_0 18 rfl rfl)
theorem dX1_next_19 : decode cX1_next 19 = .ok (.iconst 1, 1) := dk_4 (dk_at dksX1_next_0 19 rfl rfl)
theorem dX1_next_20 : decode cX1_next 20 = .ok (.iadd, 1) := dk_96 (dk_at dksX1_next_0 20 rfl rfl)
theorem dX1_next_21 : decode cX1_next 21 = .ok (.goto 20, 3) := dk_167 0 20 (dk_at dksX1_next_0 21 rfl rfl)
theorem dX1_next_24 : decode cX1_next 24 = .ok (.iload_n 2, 1) := dk_28 (dk_at dksX1_next_1 0 rfl rfl)
theorem dX1_next_25 : decode cX1_next 25 = .ok (.iconst 2, 1) := dk_5 (dk_at dksX1_next_1 1 rfl rfl)
theorem dX1_next_26 : decode cX1_next 26 = .ok (.if_icmp .ne 12, 3) := dk_160 0 12 (dk_at dksX1_next_1 2 rfl rfl)
theorem dX1_next_29 : decode cX1_next 29 = .ok (.iload_n 1, 1) := dk_27 (dk_at dksX1_next_1 5 rfl rfl)
theorem dX1_next_30 : decode cX1_next 30 = .ok (.aload_n 0, 1) := dk_42 (dk_at dksX1_next_1 6 rfl rfl)
theorem dX1_next_31 : decode cX1_next 31 = .ok (.getfield 31, 3) := dk_180 0 31 (dk_at dksX1_next_1 7 rfl rfl)
theorem dX1_next_34 : decode cX1_next 34 = .ok (.iadd, 1) := dk_96 (dk_at dksX1_next_1 10 rfl rfl)
theorem dX1_next_35 : decode cX1_next 35 = .ok (.goto 6, 3) := dk_167 0 6 (dk_at dksX1_next_1 11 rfl rfl)
theorem dX1_next_38 : decode cX1_next 38 = .ok (.iload_n 1, 1) := dk_27 (dk_at dksX1_next_1 14 rfl rfl)
theorem dX1_next_39 : decode cX1_next 39 = .ok (.iconst 1, 1) := dk_4 (dk_at dksX1_next_1 15 rfl rfl)
theorem dX1_next_40 : decode cX1_next 40 = .ok (.isub, 1) := dk_100 (dk_at dksX1_next_1 16 rfl rfl)
theorem dX1_next_41 : decode cX1_next 41 = .ok (.ireturn, 1) := dk_172 (dk_at dksX1_next_1 17 rfl rfl)
abbrev cX1_placeAlong : ByteArray := prog_13_method_6_code
def yX1_placeAlong : MethodName := ⟨RX1, "placeAlong", "(II)I"⟩
def dkwX1_placeAlong_0 : List UInt8 := [28, 5, 112, 154, 0, 12, 27, 42, 180, 0, 31, 112, 167, 0, 9, 27, 42, 180, 0, 31, 108, 172]
abbrev dktX1_placeAlong_0 : List UInt8 := dkwX1_placeAlong_0 ++ []
theorem dksX1_placeAlong_0 : cX1_placeAlong.data.toList.drop 0 = dktX1_placeAlong_0 := by decide +kernel
theorem dX1_placeAlong_0 : decode cX1_placeAlong 0 = .ok (.iload_n 2, 1) := dk_28 (dk_at dksX1_placeAlong_0 0 rfl rfl)
theorem dX1_placeAlong_1 : decode cX1_placeAlong 1 = .ok (.iconst 2, 1) := dk_5 (dk_at dksX1_placeAlong_0 1 rfl rfl)
theorem dX1_placeAlong_2 : decode cX1_placeAlong 2 = .ok (.irem, 1) := dk_112 (dk_at dksX1_placeAlong_0 2 rfl rfl)
theorem dX1_placeAlong_3 : decode cX1_placeAlong 3 = .ok (.ifCond .ne 12, 3) := dk_154 0 12 (dk_at dksX1_placeAlong_0 3 rfl rfl)
theorem dX1_placeAlong_6 : decode cX1_placeAlong 6 = .ok (.iload_n 1, 1) := dk_27 (dk_at dksX1_placeAlong_0 6 rfl rfl)
theorem dX1_placeAlong_7 : decode cX1_placeAlong 7 = .ok (.aload_n 0, 1) := dk_42 (dk_at dksX1_placeAlong_0 7 rfl rfl)
theorem dX1_placeAlong_8 : decode cX1_placeAlong 8 = .ok (.getfield 31, 3) := dk_180 0 31 (dk_at dksX1_placeAlong_0 8 rfl rfl)
theorem dX1_placeAlong_11 : decode cX1_placeAlong 11 = .ok (.irem, 1) := dk_112 (dk_at dksX1_placeAlong_0 11 rfl rfl)
theorem dX1_placeAlong_12 : decode cX1_placeAlong 12 = .ok (.goto 9, 3) := dk_167 0 9 (dk_at dksX1_placeAlong_0 12 rfl rfl)
theorem dX1_placeAlong_15 : decode cX1_placeAlong 15 = .ok (.iload_n 1, 1) := dk_27 (dk_at dksX1_placeAlong_0 15 rfl rfl)
theorem dX1_placeAlong_16 : decode cX1_placeAlong 16 = .ok (.aload_n 0, 1) := dk_42 (dk_at dksX1_placeAlong_0 16 rfl rfl)
theorem dX1_placeAlong_17 : decode cX1_placeAlong 17 = .ok (.getfield 31, 3) := dk_180 0 31 (dk_at dksX1_placeAlong_0 17 rfl rfl)
theorem dX1_placeAlong_20 : decode cX1_placeAlong 20 = .ok (.idiv, 1) := dk_108 (dk_at dksX1_placeAlong_0 20 rfl rfl)
theorem dX1_placeAlong_21 : decode cX1_placeAlong 21 = .ok (.ireturn, 1) := dk_172 (dk_at dksX1_placeAlong_0 21 rfl rfl)
theorem q130 : (Jvm.Cond.initialized "EdgeWalk$Sheet") ∈ lw_all := lw_g (lw_at lw_m1 2 rfl) rfl
theorem q173 : (Jvm.Cond.instantiable "EdgeWalk$Sheet" (5 : Nat)) ∈ lw_all := lw_g (lw_at lw_m1 45 rfl) rfl
theorem q175 : (Jvm.Cond.instanceMethod ({ cls := "EdgeWalk$Sheet", name := "<init>", desc := "()V" } : Jvm.MethodName)) ∈ lw_all := lw_g (lw_at lw_m1 47 rfl) rfl
theorem q176 : (Jvm.Cond.code ({ cls := "EdgeWalk$Sheet", name := "<init>", desc := "()V" } : Jvm.MethodName) prog_13_method_1_code (1 : Nat) (Option.none : Option Jvm.ClassFile.FieldType)) ∈ lw_all := lw_g (lw_at lw_m1 48 rfl) rfl
theorem q177 : (Jvm.Cond.methodLink "EdgeWalk$Sheet" (3 : Nat) ({ cls := "java/lang/Object", name := "<init>", desc := "()V" } : Jvm.MethodName)) ∈ lw_all := lw_g (lw_at lw_m1 49 rfl) rfl
theorem q178 : (Jvm.Cond.classLink "EdgeWalk$Sheet" (9 : Nat) "java/util/ArrayList") ∈ lw_all := lw_g (lw_at lw_m1 50 rfl) rfl
theorem q180 : (Jvm.Cond.methodLink "EdgeWalk$Sheet" (11 : Nat) ({ cls := "java/util/ArrayList", name := "<init>", desc := "(I)V" } : Jvm.MethodName)) ∈ lw_all := lw_g (lw_at lw_m1 52 rfl) rfl
theorem q206 : (Jvm.Cond.fieldLink "EdgeWalk$Sheet" (14 : Nat) "EdgeWalk$Sheet" "goers" "Ljava/util/ArrayList;") ∈ lw_all := lw_g (lw_at lw_m1 78 rfl) rfl
theorem q209 : (Jvm.Cond.fieldLink "EdgeWalk$Sheet" (20 : Nat) "EdgeWalk$Sheet" "leads" "[I") ∈ lw_all := lw_g (lw_at lw_m1 81 rfl) rfl
theorem q212 : (Jvm.Cond.fieldLink "EdgeWalk$Sheet" (24 : Nat) "EdgeWalk$Sheet" "days" "[I") ∈ lw_all := lw_g (lw_at lw_m1 84 rfl) rfl
theorem q216 : (Jvm.Cond.fieldLink "EdgeWalk$Sheet" (31 : Nat) "EdgeWalk$Sheet" "side" "I") ∈ lw_all := lw_g (lw_at lw_m1 88 rfl) rfl
theorem q221 : (Jvm.Cond.laysFinal "EdgeWalk$Sheet" "EdgeWalk$Sheet" "goers" "Ljava/util/ArrayList;") ∈ lw_all := lw_g (lw_at lw_m1 93 rfl) rfl
theorem q222 : (Jvm.Cond.soleField "EdgeWalk$Sheet" "goers") ∈ lw_all := lw_g (lw_at lw_m1 94 rfl) rfl
theorem q223 : (Jvm.Cond.laysFinal "EdgeWalk$Sheet" "EdgeWalk$Sheet" "leads" "[I") ∈ lw_all := lw_g (lw_at lw_m1 95 rfl) rfl
theorem q224 : (Jvm.Cond.soleField "EdgeWalk$Sheet" "leads") ∈ lw_all := lw_g (lw_at lw_m1 96 rfl) rfl
theorem q225 : (Jvm.Cond.laysFinal "EdgeWalk$Sheet" "EdgeWalk$Sheet" "days" "[I") ∈ lw_all := lw_g (lw_at lw_m1 97 rfl) rfl
theorem q226 : (Jvm.Cond.soleField "EdgeWalk$Sheet" "days") ∈ lw_all := lw_g (lw_at lw_m1 98 rfl) rfl
theorem q227 : (Jvm.Cond.lays "EdgeWalk$Sheet" "EdgeWalk$Sheet" "side" "I") ∈ lw_all := lw_g (lw_at lw_m1 99 rfl) rfl
theorem q228 : (Jvm.Cond.soleField "EdgeWalk$Sheet" "side") ∈ lw_all := lw_g (lw_at lw_m1 100 rfl) rfl
theorem q229 : (Jvm.Cond.lays "EdgeWalk$Sheet" "EdgeWalk$Sheet" "stones" "J") ∈ lw_all := lw_g (lw_at lw_m1 101 rfl) rfl
theorem q230 : (Jvm.Cond.soleField "EdgeWalk$Sheet" "stones") ∈ lw_all := lw_g (lw_at lw_m1 102 rfl) rfl
theorem q231 : (Jvm.Cond.superclass "EdgeWalk$Sheet" "java/lang/Object") ∈ lw_all := lw_g (lw_at lw_m1 103 rfl) rfl
theorem q579 : (Jvm.Cond.instanceMethod ({ cls := "EdgeWalk$Sheet", name := "goers", desc := "()I" } : Jvm.MethodName)) ∈ lw_all := lw_g (lw_at lw_m2 211 rfl) rfl
theorem q580 : (Jvm.Cond.selects "EdgeWalk$Sheet" ({ cls := "EdgeWalk$Sheet", name := "goers", desc := "()I" } : Jvm.MethodName) ({ cls := "EdgeWalk$Sheet", name := "goers", desc := "()I" } : Jvm.MethodName)) ∈ lw_all := lw_g (lw_at lw_m2 212 rfl) rfl
theorem q581 : (Jvm.Cond.code ({ cls := "EdgeWalk$Sheet", name := "goers", desc := "()I" } : Jvm.MethodName) prog_13_method_2_code (1 : Nat) (Option.some Jvm.ClassFile.FieldType.int)) ∈ lw_all := lw_g (lw_at lw_m2 213 rfl) rfl
theorem q582 : (Jvm.Cond.methodLink "EdgeWalk$Sheet" (27 : Nat) ({ cls := "java/util/ArrayList", name := "size", desc := "()I" } : Jvm.MethodName)) ∈ lw_all := lw_g (lw_at lw_m2 214 rfl) rfl
theorem q591 : (Jvm.Cond.instanceMethod ({ cls := "EdgeWalk$Sheet", name := "cells", desc := "()I" } : Jvm.MethodName)) ∈ lw_all := lw_g (lw_at lw_m2 223 rfl) rfl
theorem q592 : (Jvm.Cond.selects "EdgeWalk$Sheet" ({ cls := "EdgeWalk$Sheet", name := "cells", desc := "()I" } : Jvm.MethodName) ({ cls := "EdgeWalk$Sheet", name := "cells", desc := "()I" } : Jvm.MethodName)) ∈ lw_all := lw_g (lw_at lw_m2 224 rfl) rfl
theorem q593 : (Jvm.Cond.code ({ cls := "EdgeWalk$Sheet", name := "cells", desc := "()I" } : Jvm.MethodName) prog_13_method_3_code (1 : Nat) (Option.some Jvm.ClassFile.FieldType.int)) ∈ lw_all := lw_g (lw_at lw_m2 225 rfl) rfl
theorem q661 : (Jvm.Cond.selects "EdgeWalk$Sheet" ({ cls := "java/lang/Object", name := "getClass", desc := "()Ljava/lang/Class;" } : Jvm.MethodName) ({ cls := "java/lang/Object", name := "getClass", desc := "()Ljava/lang/Class;" } : Jvm.MethodName)) ∈ lw_all := lw_g (lw_at lw_m3 53 rfl) rfl
theorem q944 : (Jvm.Cond.instanceMethod ({ cls := "EdgeWalk$Sheet", name := "cellAt", desc := "(II)I" } : Jvm.MethodName)) ∈ lw_all := lw_g (lw_at lw_m4 96 rfl) rfl
theorem q945 : (Jvm.Cond.selects "EdgeWalk$Sheet" ({ cls := "EdgeWalk$Sheet", name := "cellAt", desc := "(II)I" } : Jvm.MethodName) ({ cls := "EdgeWalk$Sheet", name := "cellAt", desc := "(II)I" } : Jvm.MethodName)) ∈ lw_all := lw_g (lw_at lw_m4 97 rfl) rfl
theorem q946 : (Jvm.Cond.code ({ cls := "EdgeWalk$Sheet", name := "cellAt", desc := "(II)I" } : Jvm.MethodName) prog_13_method_7_code (3 : Nat) (Option.some Jvm.ClassFile.FieldType.int)) ∈ lw_all := lw_g (lw_at lw_m4 98 rfl) rfl
theorem q953 : (Jvm.Cond.instanceMethod ({ cls := "EdgeWalk$Sheet", name := "margin", desc := "(II)I" } : Jvm.MethodName)) ∈ lw_all := lw_g (lw_at lw_m4 105 rfl) rfl
theorem q954 : (Jvm.Cond.selects "EdgeWalk$Sheet" ({ cls := "EdgeWalk$Sheet", name := "margin", desc := "(II)I" } : Jvm.MethodName) ({ cls := "EdgeWalk$Sheet", name := "margin", desc := "(II)I" } : Jvm.MethodName)) ∈ lw_all := lw_g (lw_at lw_m4 106 rfl) rfl
theorem q955 : (Jvm.Cond.code ({ cls := "EdgeWalk$Sheet", name := "margin", desc := "(II)I" } : Jvm.MethodName) prog_13_method_4_code (3 : Nat) (Option.some Jvm.ClassFile.FieldType.int)) ∈ lw_all := lw_g (lw_at lw_m4 107 rfl) rfl
theorem q957 : (Jvm.Cond.instanceMethod ({ cls := "EdgeWalk$Sheet", name := "next", desc := "(II)I" } : Jvm.MethodName)) ∈ lw_all := lw_g (lw_at lw_m4 109 rfl) rfl
theorem q958 : (Jvm.Cond.selects "EdgeWalk$Sheet" ({ cls := "EdgeWalk$Sheet", name := "next", desc := "(II)I" } : Jvm.MethodName) ({ cls := "EdgeWalk$Sheet", name := "next", desc := "(II)I" } : Jvm.MethodName)) ∈ lw_all := lw_g (lw_at lw_m4 110 rfl) rfl
theorem q959 : (Jvm.Cond.code ({ cls := "EdgeWalk$Sheet", name := "next", desc := "(II)I" } : Jvm.MethodName) prog_13_method_5_code (3 : Nat) (Option.some Jvm.ClassFile.FieldType.int)) ∈ lw_all := lw_g (lw_at lw_m4 111 rfl) rfl
theorem q1016 : (Jvm.Cond.instanceMethod ({ cls := "EdgeWalk$Sheet", name := "placeAlong", desc := "(II)I" } : Jvm.MethodName)) ∈ lw_all := lw_g (lw_at lw_m4 168 rfl) rfl
theorem q1017 : (Jvm.Cond.selects "EdgeWalk$Sheet" ({ cls := "EdgeWalk$Sheet", name := "placeAlong", desc := "(II)I" } : Jvm.MethodName) ({ cls := "EdgeWalk$Sheet", name := "placeAlong", desc := "(II)I" } : Jvm.MethodName)) ∈ lw_all := lw_g (lw_at lw_m4 169 rfl) rfl
theorem q1018 : (Jvm.Cond.code ({ cls := "EdgeWalk$Sheet", name := "placeAlong", desc := "(II)I" } : Jvm.MethodName) prog_13_method_6_code (3 : Nat) (Option.some Jvm.ClassFile.FieldType.int)) ∈ lw_all := lw_g (lw_at lw_m4 170 rfl) rfl
theorem q1915 : (Jvm.Cond.castable "EdgeWalk$Sheet" "java/lang/Object") ∈ lw_tbl := lw_at lw_m8 107 rfl
theorem in_X1 : ∀ w ∈ wsX10, w ∈ lw_all := lw_in wsX10 [221, 223, 225, 227, 229] (by decide +kernel) (by decide +kernel)
/-! EdgeWalk$Asked -/
set_option maxRecDepth 100000
def RX10 : String := "EdgeWalk$Asked"
def TX10 : u_T := fun k => match k with
  | _ => ("EdgeWalk$Asked", "word", "I", true)
def tyX10 : Nat → FieldType := fun k => match k with
  | _ => .int
abbrev wsX100 : List Cond := u_ws RX10 TX10 1
theorem nmX10 : ∀ a, a < 1 → ∀ b, b < 1 → a ≠ b → (TX10 a).2.1 ≠ (TX10 b).2.1 := by decide +kernel
theorem tyX10_ok : ∀ k, k < 1 → parseFieldDescriptor (TX10 k).2.2.1 = some (tyX10 k) := by decide +kernel
abbrev cX10_init : ByteArray := prog_2_method_1_code
def yX10_init : MethodName := ⟨RX10, "<init>", "(I)V"⟩
def dkwX10_init_0 : List UInt8 := [42, 183, 0, 1, 42, 27, 181, 0, 7, 177]
abbrev dktX10_init_0 : List UInt8 := dkwX10_init_0 ++ []
theorem dksX10_init_0 : cX10_init.data.toList.drop 0 = dktX10_init_0 := by decide +kernel
theorem dX10_init_0 : decode cX10_init 0 = .ok (.aload_n 0, 1) := dk_42 (dk_at dksX10_init_0 0 rfl rfl)
theorem dX10_init_1 : decode cX10_init 1 = .ok (.invokespecial 1, 3) := dk_183 0 1 (dk_at dksX10_init_0 1 rfl rfl)
theorem dX10_init_4 : decode cX10_init 4 = .ok (.aload_n 0, 1) := dk_42 (dk_at dksX10_init_0 4 rfl rfl)
theorem dX10_init_5 : decode cX10_init 5 = .ok (.iload_n 1, 1) := dk_27 (dk_at dksX10_init_0 5 rfl rfl)
theorem dX10_init_6 : decode cX10_init 6 = .ok (.putfield 7, 3) := dk_181 0 7 (dk_at dksX10_init_0 6 rfl rfl)
theorem dX10_init_9 : decode cX10_init 9 = .ok (.return_, 1) := dk_177 (dk_at dksX10_init_0 9 rfl rfl)
abbrev cX10_of : ByteArray := prog_2_method_2_code
def yX10_of : MethodName := ⟨RX10, "of", "([J)J"⟩
def dkwX10_of_0 : List UInt8 := [43, 42, 180, 0, 7, 47, 173]
abbrev dktX10_of_0 : List UInt8 := dkwX10_of_0 ++ []
theorem dksX10_of_0 : cX10_of.data.toList.drop 0 = dktX10_of_0 := by decide +kernel
theorem dX10_of_0 : decode cX10_of 0 = .ok (.aload_n 1, 1) := dk_43 (dk_at dksX10_of_0 0 rfl rfl)
theorem dX10_of_1 : decode cX10_of 1 = .ok (.aload_n 0, 1) := dk_42 (dk_at dksX10_of_0 1 rfl rfl)
theorem dX10_of_2 : decode cX10_of 2 = .ok (.getfield 7, 3) := dk_180 0 7 (dk_at dksX10_of_0 2 rfl rfl)
theorem dX10_of_5 : decode cX10_of 5 = .ok (.laload, 1) := dk_47 (dk_at dksX10_of_0 5 rfl rfl)
theorem dX10_of_6 : decode cX10_of 6 = .ok (.lreturn, 1) := dk_173 (dk_at dksX10_of_0 6 rfl rfl)
theorem q154 : (Jvm.Cond.initialized "EdgeWalk$Asked") ∈ lw_all := lw_g (lw_at lw_m1 26 rfl) rfl
theorem q651 : (Jvm.Cond.selects "EdgeWalk$Asked" ({ cls := "java/lang/Object", name := "getClass", desc := "()Ljava/lang/Class;" } : Jvm.MethodName) ({ cls := "java/lang/Object", name := "getClass", desc := "()Ljava/lang/Class;" } : Jvm.MethodName)) ∈ lw_all := lw_g (lw_at lw_m3 43 rfl) rfl
theorem q767 : (Jvm.Cond.instantiable "EdgeWalk$Asked" (1 : Nat)) ∈ lw_all := lw_g (lw_at lw_m3 159 rfl) rfl
theorem q769 : (Jvm.Cond.instanceMethod ({ cls := "EdgeWalk$Asked", name := "<init>", desc := "(I)V" } : Jvm.MethodName)) ∈ lw_all := lw_g (lw_at lw_m3 161 rfl) rfl
theorem q770 : (Jvm.Cond.code ({ cls := "EdgeWalk$Asked", name := "<init>", desc := "(I)V" } : Jvm.MethodName) prog_2_method_1_code (2 : Nat) (Option.none : Option Jvm.ClassFile.FieldType)) ∈ lw_all := lw_g (lw_at lw_m3 162 rfl) rfl
theorem q771 : (Jvm.Cond.methodLinkNest "EdgeWalk$Asked" (1 : Nat) ({ cls := "EdgeWalk$Value", name := "<init>", desc := "()V" } : Jvm.MethodName) "EdgeWalk") ∈ lw_tbl := lw_at lw_m3 163 rfl
theorem q772 : (Jvm.Cond.fieldLink "EdgeWalk$Asked" (7 : Nat) "EdgeWalk$Asked" "word" "I") ∈ lw_all := lw_g (lw_at lw_m3 164 rfl) rfl
theorem q773 : (Jvm.Cond.laysFinal "EdgeWalk$Asked" "EdgeWalk$Asked" "word" "I") ∈ lw_all := lw_g (lw_at lw_m3 165 rfl) rfl
theorem q774 : (Jvm.Cond.soleField "EdgeWalk$Asked" "word") ∈ lw_all := lw_g (lw_at lw_m3 166 rfl) rfl
theorem q775 : (Jvm.Cond.superclass "EdgeWalk$Asked" "EdgeWalk$Value") ∈ lw_all := lw_g (lw_at lw_m3 167 rfl) rfl
theorem q990 : (Jvm.Cond.selects "EdgeWalk$Asked" ({ cls := "EdgeWalk$Value", name := "of", desc := "([J)J" } : Jvm.MethodName) ({ cls := "EdgeWalk$Asked", name := "of", desc := "([J)J" } : Jvm.MethodName)) ∈ lw_all := lw_g (lw_at lw_m4 142 rfl) rfl
theorem q991 : (Jvm.Cond.instanceMethod ({ cls := "EdgeWalk$Asked", name := "of", desc := "([J)J" } : Jvm.MethodName)) ∈ lw_all := lw_g (lw_at lw_m4 143 rfl) rfl
theorem q992 : (Jvm.Cond.code ({ cls := "EdgeWalk$Asked", name := "of", desc := "([J)J" } : Jvm.MethodName) prog_2_method_2_code (2 : Nat) (Option.some Jvm.ClassFile.FieldType.long)) ∈ lw_all := lw_g (lw_at lw_m4 144 rfl) rfl
theorem q1923 : (Jvm.Cond.castable "EdgeWalk$Asked" "java/lang/Object") ∈ lw_tbl := lw_at lw_m8 115 rfl
theorem in_X10 : ∀ w ∈ wsX100, w ∈ lw_all := lw_in wsX100 [773] (by decide +kernel) (by decide +kernel)
/-! EdgeWalk$Joined -/
set_option maxRecDepth 100000
def RX11 : String := "EdgeWalk$Joined"
def TX11 : u_T := fun k => match k with
  | 0 => ("EdgeWalk$Joined", "a", "LEdgeWalk$Value;", true)
  | 1 => ("EdgeWalk$Joined", "b", "LEdgeWalk$Value;", true)
  | _ => ("EdgeWalk$Joined", "sign", "I", true)
def tyX11 : Nat → FieldType := fun k => match k with
  | 0 => .object "EdgeWalk$Value"
  | 1 => .object "EdgeWalk$Value"
  | _ => .int
abbrev wsX110 : List Cond := u_ws RX11 TX11 3
theorem nmX11 : ∀ a, a < 3 → ∀ b, b < 3 → a ≠ b → (TX11 a).2.1 ≠ (TX11 b).2.1 := by decide +kernel
theorem tyX11_ok : ∀ k, k < 3 → parseFieldDescriptor (TX11 k).2.2.1 = some (tyX11 k) := by decide +kernel
abbrev cX11_init : ByteArray := prog_8_method_1_code
def yX11_init : MethodName := ⟨RX11, "<init>", "(LEdgeWalk$Value;LEdgeWalk$Value;I)V"⟩
def dkwX11_init_0 : List UInt8 := [42, 183, 0, 1, 42, 43, 181, 0, 7, 42, 44, 181, 0, 13, 42, 29, 181, 0, 16, 177]
abbrev dktX11_init_0 : List UInt8 := dkwX11_init_0 ++ []
theorem dksX11_init_0 : cX11_init.data.toList.drop 0 = dktX11_init_0 := by decide +kernel
theorem dX11_init_0 : decode cX11_init 0 = .ok (.aload_n 0, 1) := dk_42 (dk_at dksX11_init_0 0 rfl rfl)
theorem dX11_init_1 : decode cX11_init 1 = .ok (.invokespecial 1, 3) := dk_183 0 1 (dk_at dksX11_init_0 1 rfl rfl)
theorem dX11_init_4 : decode cX11_init 4 = .ok (.aload_n 0, 1) := dk_42 (dk_at dksX11_init_0 4 rfl rfl)
theorem dX11_init_5 : decode cX11_init 5 = .ok (.aload_n 1, 1) := dk_43 (dk_at dksX11_init_0 5 rfl rfl)
theorem dX11_init_6 : decode cX11_init 6 = .ok (.putfield 7, 3) := dk_181 0 7 (dk_at dksX11_init_0 6 rfl rfl)
theorem dX11_init_9 : decode cX11_init 9 = .ok (.aload_n 0, 1) := dk_42 (dk_at dksX11_init_0 9 rfl rfl)
theorem dX11_init_10 : decode cX11_init 10 = .ok (.aload_n 2, 1) := dk_44 (dk_at dksX11_init_0 10 rfl rfl)
theorem dX11_init_11 : decode cX11_init 11 = .ok (.putfield 13, 3) := dk_181 0 13 (dk_at dksX11_init_0 11 rfl rfl)
theorem dX11_init_14 : decode cX11_init 14 = .ok (.aload_n 0, 1) := dk_42 (dk_at dksX11_init_0 14 rfl rfl)
theorem dX11_init_15 : decode cX11_init 15 = .ok (.iload_n 3, 1) := dk_29 (dk_at dksX11_init_0 15 rfl rfl)
theorem dX11_init_16 : decode cX11_init 16 = .ok (.putfield 16, 3) := dk_181 0 16 (dk_at dksX11_init_0 16 rfl rfl)
theorem dX11_init_19 : decode cX11_init 19 = .ok (.return_, 1) := dk_177 (dk_at dksX11_init_0 19 rfl rfl)
abbrev cX11_of : ByteArray := prog_8_method_2_code
def yX11_of : MethodName := ⟨RX11, "of", "([J)J"⟩
def dkwX11_of_4 : List UInt8 := [22, 4, 113, 173]
abbrev dktX11_of_4 : List UInt8 := dkwX11_of_4 ++ []
def dkwX11_of_3 : List UInt8 := [154, 0, 7, 9, 167, 0, 23, 42, 180, 0, 16, 16, 47, 160, 0, 10, 32, 22, 4, 109, 167, 0, 7, 32]
abbrev dktX11_of_3 : List UInt8 := dkwX11_of_3 ++ dktX11_of_4
def dkwX11_of_2 : List UInt8 := [101, 167, 0, 50, 42, 180, 0, 16, 16, 42, 160, 0, 10, 32, 22, 4, 105, 167, 0, 34, 22, 4, 9, 148]
abbrev dktX11_of_2 : List UInt8 := dkwX11_of_2 ++ dktX11_of_3
def dkwX11_of_1 : List UInt8 := [16, 43, 160, 0, 10, 32, 22, 4, 97, 167, 0, 66, 42, 180, 0, 16, 16, 45, 160, 0, 10, 32, 22, 4]
abbrev dktX11_of_1 : List UInt8 := dkwX11_of_1 ++ dktX11_of_2
def dkwX11_of_0 : List UInt8 := [42, 180, 0, 7, 43, 182, 0, 20, 65, 42, 180, 0, 13, 43, 182, 0, 20, 55, 4, 42, 180, 0, 16]
abbrev dktX11_of_0 : List UInt8 := dkwX11_of_0 ++ dktX11_of_1
theorem dksX11_of_0 : cX11_of.data.toList.drop 0 = dktX11_of_0 := by decide +kernel
theorem dksX11_of_1 : cX11_of.data.toList.drop 23 = dktX11_of_1 := dk_seg dksX11_of_0 23 rfl rfl
theorem dksX11_of_2 : cX11_of.data.toList.drop 47 = dktX11_of_2 := dk_seg dksX11_of_1 24 rfl rfl
theorem dksX11_of_3 : cX11_of.data.toList.drop 71 = dktX11_of_3 := dk_seg dksX11_of_2 24 rfl rfl
theorem dksX11_of_4 : cX11_of.data.toList.drop 95 = dktX11_of_4 := dk_seg dksX11_of_3 24 rfl rfl
theorem dX11_of_0 : decode cX11_of 0 = .ok (.aload_n 0, 1) := dk_42 (dk_at dksX11_of_0 0 rfl rfl)
theorem dX11_of_1 : decode cX11_of 1 = .ok (.getfield 7, 3) := dk_180 0 7 (dk_at dksX11_of_0 1 rfl rfl)
theorem dX11_of_4 : decode cX11_of 4 = .ok (.aload_n 1, 1) := dk_43 (dk_at dksX11_of_0 4 rfl rfl)
theorem dX11_of_5 : decode cX11_of 5 = .ok (.invokevirtual 20, 3) := dk_182 0 20 (dk_at dksX11_of_0 5 rfl rfl)
theorem dX11_of_8 : decode cX11_of 8 = .ok (.lstore_n 2, 1) := dk_65 (dk_at dksX11_of_0 8 rfl rfl)
theorem dX11_of_9 : decode cX11_of 9 = .ok (.aload_n 0, 1) := dk_42 (dk_at dksX11_of_0 9 rfl rfl)
theorem dX11_of_10 : decode cX11_of 10 = .ok (.getfield 13, 3) := dk_180 0 13 (dk_at dksX11_of_0 10 rfl rfl)
theorem dX11_of_13 : decode cX11_of 13 = .ok (.aload_n 1, 1) := dk_43 (dk_at dksX11_of_0 13 rfl rfl)
theorem dX11_of_14 : decode cX11_of 14 = .ok (.invokevirtual 20, 3) := dk_182 0 20 (dk_at dksX11_of_0 14 rfl rfl)
theorem dX11_of_17 : decode cX11_of 17 = .ok (.lstore 4, 2) := dk_55 4 (dk_at dksX11_of_0 17 rfl rfl)
theorem dX11_of_19 : decode cX11_of 19 = .ok (.aload_n 0, 1) := dk_42 (dk_at dksX11_of_0 19 rfl rfl)
theorem dX11_of_20 : decode cX11_of 20 = .ok (.getfield 16, 3) := dk_180 0 16 (dk_at dksX11_of_0 20 rfl rfl)
theorem dX11_of_23 : decode cX11_of 23 = .ok (.bipush 43, 2) := dk_16 43 (dk_at dksX11_of_1 0 rfl rfl)
theorem dX11_of_25 : decode cX11_of 25 = .ok (.if_icmp .ne 10, 3) := dk_160 0 10 (dk_at dksX11_of_1 2 rfl rfl)
theorem dX11_of_28 : decode cX11_of 28 = .ok (.lload_n 2, 1) := dk_32 (dk_at dksX11_of_1 5 rfl rfl)
theorem dX11_of_29 : decode cX11_of 29 = .ok (.lload 4, 2) := dk_22 4 (dk_at dksX11_of_1 6 rfl rfl)
theorem dX11_of_31 : decode cX11_of 31 = .ok (.ladd, 1) := dk_97 (dk_at dksX11_of_1 8 rfl rfl)
theorem dX11_of_32 : decode cX11_of 32 = .ok (.goto 66, 3) := dk_167 0 66 (dk_at dksX11_of_1 9 rfl rfl)
theorem dX11_of_35 : decode cX11_of 35 = .ok (.aload_n 0, 1) := dk_42 (dk_at dksX11_of_1 12 rfl rfl)
theorem dX11_of_36 : decode cX11_of 36 = .ok (.getfield 16, 3) := dk_180 0 16 (dk_at dksX11_of_1 13 rfl rfl)
theorem dX11_of_39 : decode cX11_of 39 = .ok (.bipush 45, 2) := dk_16 45 (dk_at dksX11_of_1 16 rfl rfl)
theorem dX11_of_41 : decode cX11_of 41 = .ok (.if_icmp .ne 10, 3) := dk_160 0 10 (dk_at dksX11_of_1 18 rfl rfl)
theorem dX11_of_44 : decode cX11_of 44 = .ok (.lload_n 2, 1) := dk_32 (dk_at dksX11_of_1 21 rfl rfl)
theorem dX11_of_45 : decode cX11_of 45 = .ok (.lload 4, 2) := dk_22 4 (dk_at dksX11_of_1 22 rfl rfl)
theorem dX11_of_47 : decode cX11_of 47 = .ok (.lsub, 1) := dk_101 (dk_at dksX11_of_2 0 rfl rfl)
theorem dX11_of_48 : decode cX11_of 48 = .ok (.goto 50, 3) := dk_167 0 50 (dk_at dksX11_of_2 1 rfl rfl)
theorem dX11_of_51 : decode cX11_of 51 = .ok (.aload_n 0, 1) := dk_42 (dk_at dksX11_of_2 4 rfl rfl)
theorem dX11_of_52 : decode cX11_of 52 = .ok (.getfield 16, 3) := dk_180 0 16 (dk_at dksX11_of_2 5 rfl rfl)
theorem dX11_of_55 : decode cX11_of 55 = .ok (.bipush 42, 2) := dk_16 42 (dk_at dksX11_of_2 8 rfl rfl)
theorem dX11_of_57 : decode cX11_of 57 = .ok (.if_icmp .ne 10, 3) := dk_160 0 10 (dk_at dksX11_of_2 10 rfl rfl)
theorem dX11_of_60 : decode cX11_of 60 = .ok (.lload_n 2, 1) := dk_32 (dk_at dksX11_of_2 13 rfl rfl)
theorem dX11_of_61 : decode cX11_of 61 = .ok (.lload 4, 2) := dk_22 4 (dk_at dksX11_of_2 14 rfl rfl)
theorem dX11_of_63 : decode cX11_of 63 = .ok (.lmul, 1) := dk_105 (dk_at dksX11_of_2 16 rfl rfl)
theorem dX11_of_64 : decode cX11_of 64 = .ok (.goto 34, 3) := dk_167 0 34 (dk_at dksX11_of_2 17 rfl rfl)
theorem dX11_of_67 : decode cX11_of 67 = .ok (.lload 4, 2) := dk_22 4 (dk_at dksX11_of_2 20 rfl rfl)
theorem dX11_of_69 : decode cX11_of 69 = .ok (.lconst 0, 1) := dk_9 (dk_at dksX11_of_2 22 rfl rfl)
theorem dX11_of_70 : decode cX11_of 70 = .ok (.lcmp, 1) := dk_148 (dk_at dksX11_of_2 23 rfl rfl)
theorem dX11_of_71 : decode cX11_of 71 = .ok (.ifCond .ne 7, 3) := dk_154 0 7 (dk_at dksX11_of_3 0 rfl rfl)
theorem dX11_of_74 : decode cX11_of 74 = .ok (.lconst 0, 1) := dk_9 (dk_at dksX11_of_3 3 rfl rfl)
theorem dX11_of_75 : decode cX11_of 75 = .ok (.goto 23, 3) := dk_167 0 23 (dk_at dksX11_of_3 4 rfl rfl)
theorem dX11_of_78 : decode cX11_of 78 = .ok (.aload_n 0, 1) := dk_42 (dk_at dksX11_of_3 7 rfl rfl)
theorem dX11_of_79 : decode cX11_of 79 = .ok (.getfield 16, 3) := dk_180 0 16 (dk_at dksX11_of_3 8 rfl rfl)
theorem dX11_of_82 : decode cX11_of 82 = .ok (.bipush 47, 2) := dk_16 47 (dk_at dksX11_of_3 11 rfl rfl)
theorem dX11_of_84 : decode cX11_of 84 = .ok (.if_icmp .ne 10, 3) := dk_160 0 10 (dk_at dksX11_of_3 13 rfl rfl)
theorem dX11_of_87 : decode cX11_of 87 = .ok (.lload_n 2, 1) := dk_32 (dk_at dksX11_of_3 16 rfl rfl)
theorem dX11_of_88 : decode cX11_of 88 = .ok (.lload 4, 2) := dk_22 4 (dk_at dksX11_of_3 17 rfl rfl)
theorem dX11_of_90 : decode cX11_of 90 = .ok (.ldiv, 1) := dk_109 (dk_at dksX11_of_3 19 rfl rfl)
theorem dX11_of_91 : decode cX11_of 91 = .ok (.goto 7, 3) := dk_167 0 7 (dk_at dksX11_of_3 20 rfl rfl)
theorem dX11_of_94 : decode cX11_of 94 = .ok (.lload_n 2, 1) := dk_32 (dk_at dksX11_of_3 23 rfl rfl)
theorem dX11_of_95 : decode cX11_of 95 = .ok (.lload 4, 2) := dk_22 4 (dk_at dksX11_of_4 0 rfl rfl)
theorem dX11_of_97 : decode cX11_of 97 = .ok (.lrem, 1) := dk_113 (dk_at dksX11_of_4 2 rfl rfl)
theorem dX11_of_98 : decode cX11_of 98 = .ok (.lreturn, 1) := dk_173 (dk_at dksX11_of_4 3 rfl rfl)
theorem q155 : (Jvm.Cond.initialized "EdgeWalk$Joined") ∈ lw_all := lw_g (lw_at lw_m1 27 rfl) rfl
theorem q656 : (Jvm.Cond.selects "EdgeWalk$Joined" ({ cls := "java/lang/Object", name := "getClass", desc := "()Ljava/lang/Class;" } : Jvm.MethodName) ({ cls := "java/lang/Object", name := "getClass", desc := "()Ljava/lang/Class;" } : Jvm.MethodName)) ∈ lw_all := lw_g (lw_at lw_m3 48 rfl) rfl
theorem q777 : (Jvm.Cond.instantiable "EdgeWalk$Joined" (3 : Nat)) ∈ lw_all := lw_g (lw_at lw_m3 169 rfl) rfl
theorem q779 : (Jvm.Cond.instanceMethod ({ cls := "EdgeWalk$Joined", name := "<init>", desc := "(LEdgeWalk$Value;LEdgeWalk$Value;I)V" } : Jvm.MethodName)) ∈ lw_all := lw_g (lw_at lw_m3 171 rfl) rfl
theorem q780 : (Jvm.Cond.code ({ cls := "EdgeWalk$Joined", name := "<init>", desc := "(LEdgeWalk$Value;LEdgeWalk$Value;I)V" } : Jvm.MethodName) prog_8_method_1_code (4 : Nat) (Option.none : Option Jvm.ClassFile.FieldType)) ∈ lw_all := lw_g (lw_at lw_m3 172 rfl) rfl
theorem q781 : (Jvm.Cond.methodLinkNest "EdgeWalk$Joined" (1 : Nat) ({ cls := "EdgeWalk$Value", name := "<init>", desc := "()V" } : Jvm.MethodName) "EdgeWalk") ∈ lw_tbl := lw_at lw_m3 173 rfl
theorem q782 : (Jvm.Cond.fieldLink "EdgeWalk$Joined" (7 : Nat) "EdgeWalk$Joined" "a" "LEdgeWalk$Value;") ∈ lw_all := lw_g (lw_at lw_m3 174 rfl) rfl
theorem q783 : (Jvm.Cond.fieldLink "EdgeWalk$Joined" (13 : Nat) "EdgeWalk$Joined" "b" "LEdgeWalk$Value;") ∈ lw_all := lw_g (lw_at lw_m3 175 rfl) rfl
theorem q784 : (Jvm.Cond.fieldLink "EdgeWalk$Joined" (16 : Nat) "EdgeWalk$Joined" "sign" "I") ∈ lw_all := lw_g (lw_at lw_m3 176 rfl) rfl
theorem q785 : (Jvm.Cond.laysFinal "EdgeWalk$Joined" "EdgeWalk$Joined" "a" "LEdgeWalk$Value;") ∈ lw_all := lw_g (lw_at lw_m3 177 rfl) rfl
theorem q786 : (Jvm.Cond.soleField "EdgeWalk$Joined" "a") ∈ lw_all := lw_g (lw_at lw_m3 178 rfl) rfl
theorem q787 : (Jvm.Cond.laysFinal "EdgeWalk$Joined" "EdgeWalk$Joined" "b" "LEdgeWalk$Value;") ∈ lw_all := lw_g (lw_at lw_m3 179 rfl) rfl
theorem q788 : (Jvm.Cond.soleField "EdgeWalk$Joined" "b") ∈ lw_all := lw_g (lw_at lw_m3 180 rfl) rfl
theorem q789 : (Jvm.Cond.laysFinal "EdgeWalk$Joined" "EdgeWalk$Joined" "sign" "I") ∈ lw_all := lw_g (lw_at lw_m3 181 rfl) rfl
theorem q790 : (Jvm.Cond.soleField "EdgeWalk$Joined" "sign") ∈ lw_all := lw_g (lw_at lw_m3 182 rfl) rfl
theorem q791 : (Jvm.Cond.superclass "EdgeWalk$Joined" "EdgeWalk$Value") ∈ lw_all := lw_g (lw_at lw_m3 183 rfl) rfl
theorem q993 : (Jvm.Cond.selects "EdgeWalk$Joined" ({ cls := "EdgeWalk$Value", name := "of", desc := "([J)J" } : Jvm.MethodName) ({ cls := "EdgeWalk$Joined", name := "of", desc := "([J)J" } : Jvm.MethodName)) ∈ lw_all := lw_g (lw_at lw_m4 145 rfl) rfl
theorem q994 : (Jvm.Cond.instanceMethod ({ cls := "EdgeWalk$Joined", name := "of", desc := "([J)J" } : Jvm.MethodName)) ∈ lw_all := lw_g (lw_at lw_m4 146 rfl) rfl
theorem q995 : (Jvm.Cond.code ({ cls := "EdgeWalk$Joined", name := "of", desc := "([J)J" } : Jvm.MethodName) prog_8_method_2_code (6 : Nat) (Option.some Jvm.ClassFile.FieldType.long)) ∈ lw_all := lw_g (lw_at lw_m4 147 rfl) rfl
theorem q996 : (Jvm.Cond.methodLink "EdgeWalk$Joined" (20 : Nat) ({ cls := "EdgeWalk$Value", name := "of", desc := "([J)J" } : Jvm.MethodName)) ∈ lw_all := lw_g (lw_at lw_m4 148 rfl) rfl
theorem q1924 : (Jvm.Cond.castable "EdgeWalk$Joined" "java/lang/Object") ∈ lw_tbl := lw_at lw_m8 116 rfl
theorem in_X11 : ∀ w ∈ wsX110, w ∈ lw_all := lw_in wsX110 [785, 787, 789] (by decide +kernel) (by decide +kernel)
/-! EdgeWalk$Told -/
set_option maxRecDepth 100000
def RX12 : String := "EdgeWalk$Told"
def TX12 : u_T := fun k => match k with
  | 0 => ("EdgeWalk$Told", "sum", "LEdgeWalk$Value;", true)
  | _ => ("EdgeWalk$Told", "when", "LEdgeWalk$Condition;", true)
def tyX12 : Nat → FieldType := fun k => match k with
  | 0 => .object "EdgeWalk$Value"
  | _ => .object "EdgeWalk$Condition"
abbrev wsX120 : List Cond := u_ws RX12 TX12 2
theorem nmX12 : ∀ a, a < 2 → ∀ b, b < 2 → a ≠ b → (TX12 a).2.1 ≠ (TX12 b).2.1 := by decide +kernel
theorem tyX12_ok : ∀ k, k < 2 → parseFieldDescriptor (TX12 k).2.2.1 = some (tyX12 k) := by decide +kernel
abbrev cX12_init : ByteArray := prog_15_method_1_code
def yX12_init : MethodName := ⟨RX12, "<init>", "(LEdgeWalk$Value;LEdgeWalk$Condition;)V"⟩
def dkwX12_init_0 : List UInt8 := [42, 183, 0, 1, 42, 43, 181, 0, 7, 42, 44, 181, 0, 13, 177]
abbrev dktX12_init_0 : List UInt8 := dkwX12_init_0 ++ []
theorem dksX12_init_0 : cX12_init.data.toList.drop 0 = dktX12_init_0 := by decide +kernel
theorem dX12_init_0 : decode cX12_init 0 = .ok (.aload_n 0, 1) := dk_42 (dk_at dksX12_init_0 0 rfl rfl)
theorem dX12_init_1 : decode cX12_init 1 = .ok (.invokespecial 1, 3) := dk_183 0 1 (dk_at dksX12_init_0 1 rfl rfl)
theorem dX12_init_4 : decode cX12_init 4 = .ok (.aload_n 0, 1) := dk_42 (dk_at dksX12_init_0 4 rfl rfl)
theorem dX12_init_5 : decode cX12_init 5 = .ok (.aload_n 1, 1) := dk_43 (dk_at dksX12_init_0 5 rfl rfl)
theorem dX12_init_6 : decode cX12_init 6 = .ok (.putfield 7, 3) := dk_181 0 7 (dk_at dksX12_init_0 6 rfl rfl)
theorem dX12_init_9 : decode cX12_init 9 = .ok (.aload_n 0, 1) := dk_42 (dk_at dksX12_init_0 9 rfl rfl)
theorem dX12_init_10 : decode cX12_init 10 = .ok (.aload_n 2, 1) := dk_44 (dk_at dksX12_init_0 10 rfl rfl)
theorem dX12_init_11 : decode cX12_init 11 = .ok (.putfield 13, 3) := dk_181 0 13 (dk_at dksX12_init_0 11 rfl rfl)
theorem dX12_init_14 : decode cX12_init 14 = .ok (.return_, 1) := dk_177 (dk_at dksX12_init_0 14 rfl rfl)
abbrev cX12_holds : ByteArray := prog_15_method_2_code
def yX12_holds : MethodName := ⟨RX12, "holds", "([J)Z"⟩
def dkwX12_holds_0 : List UInt8 := [42, 180, 0, 13, 198, 0, 14, 42, 180, 0, 13, 43, 182, 0, 17, 153, 0, 7, 4, 167, 0, 4, 3, 172]
abbrev dktX12_holds_0 : List UInt8 := dkwX12_holds_0 ++ []
theorem dksX12_holds_0 : cX12_holds.data.toList.drop 0 = dktX12_holds_0 := by decide +kernel
theorem dX12_holds_0 : decode cX12_holds 0 = .ok (.aload_n 0, 1) := dk_42 (dk_at dksX12_holds_0 0 rfl rfl)
theorem dX12_holds_1 : decode cX12_holds 1 = .ok (.getfield 13, 3) := dk_180 0 13 (dk_at dksX12_holds_0 1 rfl rfl)
theorem dX12_holds_4 : decode cX12_holds 4 = .ok (.ifnull 14, 3) := dk_198 0 14 (dk_at dksX12_holds_0 4 rfl rfl)
theorem dX12_holds_7 : decode cX12_holds 7 = .ok (.aload_n 0, 1) := dk_42 (dk_at dksX12_holds_0 7 rfl rfl)
theorem dX12_holds_8 : decode cX12_holds 8 = .ok (.getfield 13, 3) := dk_180 0 13 (dk_at dksX12_holds_0 8 rfl rfl)
theorem dX12_holds_11 : decode cX12_holds 11 = .ok (.aload_n 1, 1) := dk_43 (dk_at dksX12_holds_0 11 rfl rfl)
theorem dX12_holds_12 : decode cX12_holds 12 = .ok (.invokevirtual 17, 3) := dk_182 0 17 (dk_at dksX12_holds_0 12 rfl rfl)
theorem dX12_holds_15 : decode cX12_holds 15 = .ok (.ifCond .eq 7, 3) := dk_153 0 7 (dk_at dksX12_holds_0 15 rfl rfl)
theorem dX12_holds_18 : decode cX12_holds 18 = .ok (.iconst 1, 1) := dk_4 (dk_at dksX12_holds_0 18 rfl rfl)
theorem dX12_holds_19 : decode cX12_holds 19 = .ok (.goto 4, 3) := dk_167 0 4 (dk_at dksX12_holds_0 19 rfl rfl)
theorem dX12_holds_22 : decode cX12_holds 22 = .ok (.iconst 0, 1) := dk_3 (dk_at dksX12_holds_0 22 rfl rfl)
theorem dX12_holds_23 : decode cX12_holds 23 = .ok (.ireturn, 1) := dk_172 (dk_at dksX12_holds_0 23 rfl rfl)
theorem q156 : (Jvm.Cond.initialized "EdgeWalk$Told") ∈ lw_all := lw_g (lw_at lw_m1 28 rfl) rfl
theorem q663 : (Jvm.Cond.selects "EdgeWalk$Told" ({ cls := "java/lang/Object", name := "getClass", desc := "()Ljava/lang/Class;" } : Jvm.MethodName) ({ cls := "java/lang/Object", name := "getClass", desc := "()Ljava/lang/Class;" } : Jvm.MethodName)) ∈ lw_all := lw_g (lw_at lw_m3 55 rfl) rfl
theorem q793 : (Jvm.Cond.instantiable "EdgeWalk$Told" (2 : Nat)) ∈ lw_all := lw_g (lw_at lw_m3 185 rfl) rfl
theorem q867 : (Jvm.Cond.instanceMethod ({ cls := "EdgeWalk$Told", name := "<init>", desc := "(LEdgeWalk$Value;LEdgeWalk$Condition;)V" } : Jvm.MethodName)) ∈ lw_all := lw_g (lw_at lw_m4 19 rfl) rfl
theorem q868 : (Jvm.Cond.code ({ cls := "EdgeWalk$Told", name := "<init>", desc := "(LEdgeWalk$Value;LEdgeWalk$Condition;)V" } : Jvm.MethodName) prog_15_method_1_code (3 : Nat) (Option.none : Option Jvm.ClassFile.FieldType)) ∈ lw_all := lw_g (lw_at lw_m4 20 rfl) rfl
theorem q869 : (Jvm.Cond.methodLink "EdgeWalk$Told" (1 : Nat) ({ cls := "java/lang/Record", name := "<init>", desc := "()V" } : Jvm.MethodName)) ∈ lw_all := lw_g (lw_at lw_m4 21 rfl) rfl
theorem q870 : (Jvm.Cond.fieldLink "EdgeWalk$Told" (7 : Nat) "EdgeWalk$Told" "sum" "LEdgeWalk$Value;") ∈ lw_all := lw_g (lw_at lw_m4 22 rfl) rfl
theorem q872 : (Jvm.Cond.fieldLink "EdgeWalk$Told" (13 : Nat) "EdgeWalk$Told" "when" "LEdgeWalk$Condition;") ∈ lw_all := lw_g (lw_at lw_m4 24 rfl) rfl
theorem q873 : (Jvm.Cond.laysFinal "EdgeWalk$Told" "EdgeWalk$Told" "sum" "LEdgeWalk$Value;") ∈ lw_all := lw_g (lw_at lw_m4 25 rfl) rfl
theorem q874 : (Jvm.Cond.soleField "EdgeWalk$Told" "sum") ∈ lw_all := lw_g (lw_at lw_m4 26 rfl) rfl
theorem q875 : (Jvm.Cond.laysFinal "EdgeWalk$Told" "EdgeWalk$Told" "when" "LEdgeWalk$Condition;") ∈ lw_all := lw_g (lw_at lw_m4 27 rfl) rfl
theorem q876 : (Jvm.Cond.soleField "EdgeWalk$Told" "when") ∈ lw_all := lw_g (lw_at lw_m4 28 rfl) rfl
theorem q877 : (Jvm.Cond.superclass "EdgeWalk$Told" "java/lang/Record") ∈ lw_all := lw_g (lw_at lw_m4 29 rfl) rfl
theorem q975 : (Jvm.Cond.instanceMethod ({ cls := "EdgeWalk$Told", name := "holds", desc := "([J)Z" } : Jvm.MethodName)) ∈ lw_all := lw_g (lw_at lw_m4 127 rfl) rfl
theorem q976 : (Jvm.Cond.selects "EdgeWalk$Told" ({ cls := "EdgeWalk$Told", name := "holds", desc := "([J)Z" } : Jvm.MethodName) ({ cls := "EdgeWalk$Told", name := "holds", desc := "([J)Z" } : Jvm.MethodName)) ∈ lw_all := lw_g (lw_at lw_m4 128 rfl) rfl
theorem q977 : (Jvm.Cond.code ({ cls := "EdgeWalk$Told", name := "holds", desc := "([J)Z" } : Jvm.MethodName) prog_15_method_2_code (2 : Nat) (Option.some Jvm.ClassFile.FieldType.boolean)) ∈ lw_all := lw_g (lw_at lw_m4 129 rfl) rfl
theorem q978 : (Jvm.Cond.methodLink "EdgeWalk$Told" (17 : Nat) ({ cls := "EdgeWalk$Condition", name := "is", desc := "([J)Z" } : Jvm.MethodName)) ∈ lw_all := lw_g (lw_at lw_m4 130 rfl) rfl
theorem q1925 : (Jvm.Cond.castable "EdgeWalk$Told" "java/lang/Object") ∈ lw_tbl := lw_at lw_m8 117 rfl
theorem in_X12 : ∀ w ∈ wsX120, w ∈ lw_all := lw_in wsX120 [873, 875] (by decide +kernel) (by decide +kernel)
/-! EdgeWalk$Condition -/
set_option maxRecDepth 100000
def RX13 : String := "EdgeWalk$Condition"
abbrev cX13_init : ByteArray := prog_5_method_1_code
def yX13_init : MethodName := ⟨RX13, "<init>", "()V"⟩
theorem dX13_init_0 : decode cX13_init 0 = .ok (.aload_n 0, 1) := by decide +kernel
theorem dX13_init_1 : decode cX13_init 1 = .ok (.invokespecial 1, 3) := by decide +kernel
theorem dX13_init_4 : decode cX13_init 4 = .ok (.return_, 1) := by decide +kernel
theorem q157 : (Jvm.Cond.initialized "EdgeWalk$Condition") ∈ lw_all := lw_g (lw_at lw_m1 29 rfl) rfl
theorem q822 : (Jvm.Cond.instanceMethod ({ cls := "EdgeWalk$Condition", name := "<init>", desc := "()V" } : Jvm.MethodName)) ∈ lw_all := lw_g (lw_at lw_m3 214 rfl) rfl
theorem q823 : (Jvm.Cond.code ({ cls := "EdgeWalk$Condition", name := "<init>", desc := "()V" } : Jvm.MethodName) prog_5_method_1_code (1 : Nat) (Option.none : Option Jvm.ClassFile.FieldType)) ∈ lw_all := lw_g (lw_at lw_m3 215 rfl) rfl
theorem q824 : (Jvm.Cond.methodLink "EdgeWalk$Condition" (1 : Nat) ({ cls := "java/lang/Object", name := "<init>", desc := "()V" } : Jvm.MethodName)) ∈ lw_all := lw_g (lw_at lw_m3 216 rfl) rfl
theorem q979 : (Jvm.Cond.declares ({ cls := "EdgeWalk$Condition", name := "is", desc := "([J)Z" } : Jvm.MethodName)) ∈ lw_tbl := lw_at lw_m4 131 rfl
theorem q980 : (Jvm.Cond.sameMethod "EdgeWalk$Condition" "EdgeWalk$Condition" "is" "([J)Z") ∈ lw_all := lw_g (lw_at lw_m4 132 rfl) rfl
/-! EdgeWalk$Not -/
set_option maxRecDepth 100000
def RX14 : String := "EdgeWalk$Not"
def TX14 : u_T := fun k => match k with
  | _ => ("EdgeWalk$Not", "of", "LEdgeWalk$Condition;", true)
def tyX14 : Nat → FieldType := fun k => match k with
  | _ => .object "EdgeWalk$Condition"
abbrev wsX140 : List Cond := u_ws RX14 TX14 1
theorem nmX14 : ∀ a, a < 1 → ∀ b, b < 1 → a ≠ b → (TX14 a).2.1 ≠ (TX14 b).2.1 := by decide +kernel
theorem tyX14_ok : ∀ k, k < 1 → parseFieldDescriptor (TX14 k).2.2.1 = some (tyX14 k) := by decide +kernel
abbrev cX14_init : ByteArray := prog_9_method_1_code
def yX14_init : MethodName := ⟨RX14, "<init>", "(LEdgeWalk$Condition;)V"⟩
def dkwX14_init_0 : List UInt8 := [42, 183, 0, 1, 42, 43, 181, 0, 7, 177]
abbrev dktX14_init_0 : List UInt8 := dkwX14_init_0 ++ []
theorem dksX14_init_0 : cX14_init.data.toList.drop 0 = dktX14_init_0 := by decide +kernel
theorem dX14_init_0 : decode cX14_init 0 = .ok (.aload_n 0, 1) := dk_42 (dk_at dksX14_init_0 0 rfl rfl)
theorem dX14_init_1 : decode cX14_init 1 = .ok (.invokespecial 1, 3) := dk_183 0 1 (dk_at dksX14_init_0 1 rfl rfl)
theorem dX14_init_4 : decode cX14_init 4 = .ok (.aload_n 0, 1) := dk_42 (dk_at dksX14_init_0 4 rfl rfl)
theorem dX14_init_5 : decode cX14_init 5 = .ok (.aload_n 1, 1) := dk_43 (dk_at dksX14_init_0 5 rfl rfl)
theorem dX14_init_6 : decode cX14_init 6 = .ok (.putfield 7, 3) := dk_181 0 7 (dk_at dksX14_init_0 6 rfl rfl)
theorem dX14_init_9 : decode cX14_init 9 = .ok (.return_, 1) := dk_177 (dk_at dksX14_init_0 9 rfl rfl)
abbrev cX14_is : ByteArray := prog_9_method_2_code
def yX14_is : MethodName := ⟨RX14, "is", "([J)Z"⟩
def dkwX14_is_0 : List UInt8 := [42, 180, 0, 7, 43, 182, 0, 13, 154, 0, 7, 4, 167, 0, 4, 3, 172]
abbrev dktX14_is_0 : List UInt8 := dkwX14_is_0 ++ []
theorem dksX14_is_0 : cX14_is.data.toList.drop 0 = dktX14_is_0 := by decide +kernel
theorem dX14_is_0 : decode cX14_is 0 = .ok (.aload_n 0, 1) := dk_42 (dk_at dksX14_is_0 0 rfl rfl)
theorem dX14_is_1 : decode cX14_is 1 = .ok (.getfield 7, 3) := dk_180 0 7 (dk_at dksX14_is_0 1 rfl rfl)
theorem dX14_is_4 : decode cX14_is 4 = .ok (.aload_n 1, 1) := dk_43 (dk_at dksX14_is_0 4 rfl rfl)
theorem dX14_is_5 : decode cX14_is 5 = .ok (.invokevirtual 13, 3) := dk_182 0 13 (dk_at dksX14_is_0 5 rfl rfl)
theorem dX14_is_8 : decode cX14_is 8 = .ok (.ifCond .ne 7, 3) := dk_154 0 7 (dk_at dksX14_is_0 8 rfl rfl)
theorem dX14_is_11 : decode cX14_is 11 = .ok (.iconst 1, 1) := dk_4 (dk_at dksX14_is_0 11 rfl rfl)
theorem dX14_is_12 : decode cX14_is 12 = .ok (.goto 4, 3) := dk_167 0 4 (dk_at dksX14_is_0 12 rfl rfl)
theorem dX14_is_15 : decode cX14_is 15 = .ok (.iconst 0, 1) := dk_3 (dk_at dksX14_is_0 15 rfl rfl)
theorem dX14_is_16 : decode cX14_is 16 = .ok (.ireturn, 1) := dk_172 (dk_at dksX14_is_0 16 rfl rfl)
theorem q158 : (Jvm.Cond.initialized "EdgeWalk$Not") ∈ lw_all := lw_g (lw_at lw_m1 30 rfl) rfl
theorem q657 : (Jvm.Cond.selects "EdgeWalk$Not" ({ cls := "java/lang/Object", name := "getClass", desc := "()Ljava/lang/Class;" } : Jvm.MethodName) ({ cls := "java/lang/Object", name := "getClass", desc := "()Ljava/lang/Class;" } : Jvm.MethodName)) ∈ lw_all := lw_g (lw_at lw_m3 49 rfl) rfl
theorem q817 : (Jvm.Cond.instantiable "EdgeWalk$Not" (1 : Nat)) ∈ lw_all := lw_g (lw_at lw_m3 209 rfl) rfl
theorem q819 : (Jvm.Cond.instanceMethod ({ cls := "EdgeWalk$Not", name := "<init>", desc := "(LEdgeWalk$Condition;)V" } : Jvm.MethodName)) ∈ lw_all := lw_g (lw_at lw_m3 211 rfl) rfl
theorem q820 : (Jvm.Cond.code ({ cls := "EdgeWalk$Not", name := "<init>", desc := "(LEdgeWalk$Condition;)V" } : Jvm.MethodName) prog_9_method_1_code (2 : Nat) (Option.none : Option Jvm.ClassFile.FieldType)) ∈ lw_all := lw_g (lw_at lw_m3 212 rfl) rfl
theorem q821 : (Jvm.Cond.methodLinkNest "EdgeWalk$Not" (1 : Nat) ({ cls := "EdgeWalk$Condition", name := "<init>", desc := "()V" } : Jvm.MethodName) "EdgeWalk") ∈ lw_tbl := lw_at lw_m3 213 rfl
theorem q825 : (Jvm.Cond.fieldLink "EdgeWalk$Not" (7 : Nat) "EdgeWalk$Not" "of" "LEdgeWalk$Condition;") ∈ lw_all := lw_g (lw_at lw_m3 217 rfl) rfl
theorem q826 : (Jvm.Cond.laysFinal "EdgeWalk$Not" "EdgeWalk$Not" "of" "LEdgeWalk$Condition;") ∈ lw_all := lw_g (lw_at lw_m3 218 rfl) rfl
theorem q827 : (Jvm.Cond.soleField "EdgeWalk$Not" "of") ∈ lw_all := lw_g (lw_at lw_m3 219 rfl) rfl
theorem q828 : (Jvm.Cond.superclass "EdgeWalk$Not" "EdgeWalk$Condition") ∈ lw_all := lw_g (lw_at lw_m3 220 rfl) rfl
theorem q1000 : (Jvm.Cond.instanceMethod ({ cls := "EdgeWalk$Not", name := "is", desc := "([J)Z" } : Jvm.MethodName)) ∈ lw_all := lw_g (lw_at lw_m4 152 rfl) rfl
theorem q1001 : (Jvm.Cond.code ({ cls := "EdgeWalk$Not", name := "is", desc := "([J)Z" } : Jvm.MethodName) prog_9_method_2_code (2 : Nat) (Option.some Jvm.ClassFile.FieldType.boolean)) ∈ lw_all := lw_g (lw_at lw_m4 153 rfl) rfl
theorem q1002 : (Jvm.Cond.methodLink "EdgeWalk$Not" (13 : Nat) ({ cls := "EdgeWalk$Condition", name := "is", desc := "([J)Z" } : Jvm.MethodName)) ∈ lw_all := lw_g (lw_at lw_m4 154 rfl) rfl
theorem q1004 : (Jvm.Cond.selects "EdgeWalk$Not" ({ cls := "EdgeWalk$Condition", name := "is", desc := "([J)Z" } : Jvm.MethodName) ({ cls := "EdgeWalk$Not", name := "is", desc := "([J)Z" } : Jvm.MethodName)) ∈ lw_all := lw_g (lw_at lw_m4 156 rfl) rfl
theorem q1926 : (Jvm.Cond.castable "EdgeWalk$Not" "java/lang/Object") ∈ lw_tbl := lw_at lw_m8 118 rfl
theorem in_X14 : ∀ w ∈ wsX140, w ∈ lw_all := lw_in wsX140 [826] (by decide +kernel) (by decide +kernel)
/-! EdgeWalk$Compared -/
set_option maxRecDepth 100000
def RX15 : String := "EdgeWalk$Compared"
def TX15 : u_T := fun k => match k with
  | 0 => ("EdgeWalk$Compared", "a", "LEdgeWalk$Value;", true)
  | 1 => ("EdgeWalk$Compared", "b", "LEdgeWalk$Value;", true)
  | 2 => ("EdgeWalk$Compared", "sign", "I", true)
  | _ => ("EdgeWalk$Compared", "same", "Z", true)
def tyX15 : Nat → FieldType := fun k => match k with
  | 0 => .object "EdgeWalk$Value"
  | 1 => .object "EdgeWalk$Value"
  | 2 => .int
  | _ => .boolean
abbrev wsX150 : List Cond := u_ws RX15 TX15 4
theorem nmX15 : ∀ a, a < 4 → ∀ b, b < 4 → a ≠ b → (TX15 a).2.1 ≠ (TX15 b).2.1 := by decide +kernel
theorem tyX15_ok : ∀ k, k < 4 → parseFieldDescriptor (TX15 k).2.2.1 = some (tyX15 k) := by decide +kernel
abbrev cX15_init : ByteArray := prog_4_method_1_code
def yX15_init : MethodName := ⟨RX15, "<init>", "(LEdgeWalk$Value;LEdgeWalk$Value;IZ)V"⟩
def dkwX15_init_1 : List UInt8 := [181, 0, 20, 177]
abbrev dktX15_init_1 : List UInt8 := dkwX15_init_1 ++ []
def dkwX15_init_0 : List UInt8 := [42, 183, 0, 1, 42, 43, 181, 0, 7, 42, 44, 181, 0, 13, 42, 29, 181, 0, 16, 42, 21, 4]
abbrev dktX15_init_0 : List UInt8 := dkwX15_init_0 ++ dktX15_init_1
theorem dksX15_init_0 : cX15_init.data.toList.drop 0 = dktX15_init_0 := by decide +kernel
theorem dksX15_init_1 : cX15_init.data.toList.drop 22 = dktX15_init_1 := dk_seg dksX15_init_0 22 rfl rfl
theorem dX15_init_0 : decode cX15_init 0 = .ok (.aload_n 0, 1) := dk_42 (dk_at dksX15_init_0 0 rfl rfl)
theorem dX15_init_1 : decode cX15_init 1 = .ok (.invokespecial 1, 3) := dk_183 0 1 (dk_at dksX15_init_0 1 rfl rfl)
theorem dX15_init_4 : decode cX15_init 4 = .ok (.aload_n 0, 1) := dk_42 (dk_at dksX15_init_0 4 rfl rfl)
theorem dX15_init_5 : decode cX15_init 5 = .ok (.aload_n 1, 1) := dk_43 (dk_at dksX15_init_0 5 rfl rfl)
theorem dX15_init_6 : decode cX15_init 6 = .ok (.putfield 7, 3) := dk_181 0 7 (dk_at dksX15_init_0 6 rfl rfl)
theorem dX15_init_9 : decode cX15_init 9 = .ok (.aload_n 0, 1) := dk_42 (dk_at dksX15_init_0 9 rfl rfl)
theorem dX15_init_10 : decode cX15_init 10 = .ok (.aload_n 2, 1) := dk_44 (dk_at dksX15_init_0 10 rfl rfl)
theorem dX15_init_11 : decode cX15_init 11 = .ok (.putfield 13, 3) := dk_181 0 13 (dk_at dksX15_init_0 11 rfl rfl)
theorem dX15_init_14 : decode cX15_init 14 = .ok (.aload_n 0, 1) := dk_42 (dk_at dksX15_init_0 14 rfl rfl)
theorem dX15_init_15 : decode cX15_init 15 = .ok (.iload_n 3, 1) := dk_29 (dk_at dksX15_init_0 15 rfl rfl)
theorem dX15_init_16 : decode cX15_init 16 = .ok (.putfield 16, 3) := dk_181 0 16 (dk_at dksX15_init_0 16 rfl rfl)
theorem dX15_init_19 : decode cX15_init 19 = .ok (.aload_n 0, 1) := dk_42 (dk_at dksX15_init_0 19 rfl rfl)
theorem dX15_init_20 : decode cX15_init 20 = .ok (.iload 4, 2) := dk_21 4 (dk_at dksX15_init_0 20 rfl rfl)
theorem dX15_init_22 : decode cX15_init 22 = .ok (.putfield 20, 3) := dk_181 0 20 (dk_at dksX15_init_1 0 rfl rfl)
theorem dX15_init_25 : decode cX15_init 25 = .ok (.return_, 1) := dk_177 (dk_at dksX15_init_1 3 rfl rfl)
abbrev cX15_is : ByteArray := prog_4_method_2_code
def yX15_is : MethodName := ⟨RX15, "is", "([J)Z"⟩
def dkwX15_is_3 : List UInt8 := [16, 62, 160, 0, 14, 32, 22, 4, 148, 158, 0, 7, 4, 167, 0, 4, 3, 172]
abbrev dktX15_is_3 : List UInt8 := dkwX15_is_3 ++ []
def dkwX15_is_2 : List UInt8 := [167, 0, 40, 42, 180, 0, 16, 16, 60, 160, 0, 10, 32, 22, 4, 148, 155, 0, 19, 42, 180, 0, 16]
abbrev dktX15_is_2 : List UInt8 := dkwX15_is_2 ++ dktX15_is_3
def dkwX15_is_1 : List UInt8 := [154, 0, 27, 42, 180, 0, 16, 16, 61, 159, 0, 10, 42, 180, 0, 20, 153, 0, 7, 4, 167, 0, 44, 3]
abbrev dktX15_is_1 : List UInt8 := dkwX15_is_1 ++ dktX15_is_2
def dkwX15_is_0 : List UInt8 := [42, 180, 0, 7, 43, 182, 0, 24, 65, 42, 180, 0, 13, 43, 182, 0, 24, 55, 4, 32, 22, 4, 148]
abbrev dktX15_is_0 : List UInt8 := dkwX15_is_0 ++ dktX15_is_1
theorem dksX15_is_0 : cX15_is.data.toList.drop 0 = dktX15_is_0 := by decide +kernel
theorem dksX15_is_1 : cX15_is.data.toList.drop 23 = dktX15_is_1 := dk_seg dksX15_is_0 23 rfl rfl
theorem dksX15_is_2 : cX15_is.data.toList.drop 47 = dktX15_is_2 := dk_seg dksX15_is_1 24 rfl rfl
theorem dksX15_is_3 : cX15_is.data.toList.drop 70 = dktX15_is_3 := dk_seg dksX15_is_2 23 rfl rfl
theorem dX15_is_0 : decode cX15_is 0 = .ok (.aload_n 0, 1) := dk_42 (dk_at dksX15_is_0 0 rfl rfl)
theorem dX15_is_1 : decode cX15_is 1 = .ok (.getfield 7, 3) := dk_180 0 7 (dk_at dksX15_is_0 1 rfl rfl)
theorem dX15_is_4 : decode cX15_is 4 = .ok (.aload_n 1, 1) := dk_43 (dk_at dksX15_is_0 4 rfl rfl)
theorem dX15_is_5 : decode cX15_is 5 = .ok (.invokevirtual 24, 3) := dk_182 0 24 (dk_at dksX15_is_0 5 rfl rfl)
theorem dX15_is_8 : decode cX15_is 8 = .ok (.lstore_n 2, 1) := dk_65 (dk_at dksX15_is_0 8 rfl rfl)
theorem dX15_is_9 : decode cX15_is 9 = .ok (.aload_n 0, 1) := dk_42 (dk_at dksX15_is_0 9 rfl rfl)
theorem dX15_is_10 : decode cX15_is 10 = .ok (.getfield 13, 3) := dk_180 0 13 (dk_at dksX15_is_0 10 rfl rfl)
theorem dX15_is_13 : decode cX15_is 13 = .ok (.aload_n 1, 1) := dk_43 (dk_at dksX15_is_0 13 rfl rfl)
theorem dX15_is_14 : decode cX15_is 14 = .ok (.invokevirtual 24, 3) := dk_182 0 24 (dk_at dksX15_is_0 14 rfl rfl)
theorem dX15_is_17 : decode cX15_is 17 = .ok (.lstore 4, 2) := dk_55 4 (dk_at dksX15_is_0 17 rfl rfl)
theorem dX15_is_19 : decode cX15_is 19 = .ok (.lload_n 2, 1) := dk_32 (dk_at dksX15_is_0 19 rfl rfl)
theorem dX15_is_20 : decode cX15_is 20 = .ok (.lload 4, 2) := dk_22 4 (dk_at dksX15_is_0 20 rfl rfl)
theorem dX15_is_22 : decode cX15_is 22 = .ok (.lcmp, 1) := dk_148 (dk_at dksX15_is_0 22 rfl rfl)
theorem dX15_is_23 : decode cX15_is 23 = .ok (.ifCond .ne 27, 3) := dk_154 0 27 (dk_at dksX15_is_1 0 rfl rfl)
theorem dX15_is_26 : decode cX15_is 26 = .ok (.aload_n 0, 1) := dk_42 (dk_at dksX15_is_1 3 rfl rfl)
theorem dX15_is_27 : decode cX15_is 27 = .ok (.getfield 16, 3) := dk_180 0 16 (dk_at dksX15_is_1 4 rfl rfl)
theorem dX15_is_30 : decode cX15_is 30 = .ok (.bipush 61, 2) := dk_16 61 (dk_at dksX15_is_1 7 rfl rfl)
theorem dX15_is_32 : decode cX15_is 32 = .ok (.if_icmp .eq 10, 3) := dk_159 0 10 (dk_at dksX15_is_1 9 rfl rfl)
theorem dX15_is_35 : decode cX15_is 35 = .ok (.aload_n 0, 1) := dk_42 (dk_at dksX15_is_1 12 rfl rfl)
theorem dX15_is_36 : decode cX15_is 36 = .ok (.getfield 20, 3) := dk_180 0 20 (dk_at dksX15_is_1 13 rfl rfl)
theorem dX15_is_39 : decode cX15_is 39 = .ok (.ifCond .eq 7, 3) := dk_153 0 7 (dk_at dksX15_is_1 16 rfl rfl)
theorem dX15_is_42 : decode cX15_is 42 = .ok (.iconst 1, 1) := dk_4 (dk_at dksX15_is_1 19 rfl rfl)
theorem dX15_is_43 : decode cX15_is 43 = .ok (.goto 44, 3) := dk_167 0 44 (dk_at dksX15_is_1 20 rfl rfl)
theorem dX15_is_46 : decode cX15_is 46 = .ok (.iconst 0, 1) := dk_3 (dk_at dksX15_is_1 23 rfl rfl)
theorem dX15_is_47 : decode cX15_is 47 = .ok (.goto 40, 3) := dk_167 0 40 (dk_at dksX15_is_2 0 rfl rfl)
theorem dX15_is_50 : decode cX15_is 50 = .ok (.aload_n 0, 1) := dk_42 (dk_at dksX15_is_2 3 rfl rfl)
theorem dX15_is_51 : decode cX15_is 51 = .ok (.getfield 16, 3) := dk_180 0 16 (dk_at dksX15_is_2 4 rfl rfl)
theorem dX15_is_54 : decode cX15_is 54 = .ok (.bipush 60, 2) := dk_16 60 (dk_at dksX15_is_2 7 rfl rfl)
theorem dX15_is_56 : decode cX15_is 56 = .ok (.if_icmp .ne 10, 3) := dk_160 0 10 (dk_at dksX15_is_2 9 rfl rfl)
theorem dX15_is_59 : decode cX15_is 59 = .ok (.lload_n 2, 1) := dk_32 (dk_at dksX15_is_2 12 rfl rfl)
theorem dX15_is_60 : decode cX15_is 60 = .ok (.lload 4, 2) := dk_22 4 (dk_at dksX15_is_2 13 rfl rfl)
theorem dX15_is_62 : decode cX15_is 62 = .ok (.lcmp, 1) := dk_148 (dk_at dksX15_is_2 15 rfl rfl)
theorem dX15_is_63 : decode cX15_is 63 = .ok (.ifCond .lt 19, 3) := dk_155 0 19 (dk_at dksX15_is_2 16 rfl rfl)
theorem dX15_is_66 : decode cX15_is 66 = .ok (.aload_n 0, 1) := dk_42 (dk_at dksX15_is_2 19 rfl rfl)
theorem dX15_is_67 : decode cX15_is 67 = .ok (.getfield 16, 3) := dk_180 0 16 (dk_at dksX15_is_2 20 rfl rfl)
theorem dX15_is_70 : decode cX15_is 70 = .ok (.bipush 62, 2) := dk_16 62 (dk_at dksX15_is_3 0 rfl rfl)
theorem dX15_is_72 : decode cX15_is 72 = .ok (.if_icmp .ne 14, 3) := dk_160 0 14 (dk_at dksX15_is_3 2 rfl rfl)
theorem dX15_is_75 : decode cX15_is 75 = .ok (.lload_n 2, 1) := dk_32 (dk_at dksX15_is_3 5 rfl rfl)
theorem dX15_is_76 : decode cX15_is 76 = .ok (.lload 4, 2) := dk_22 4 (dk_at dksX15_is_3 6 rfl rfl)
theorem dX15_is_78 : decode cX15_is 78 = .ok (.lcmp, 1) := dk_148 (dk_at dksX15_is_3 8 rfl rfl)
theorem dX15_is_79 : decode cX15_is 79 = .ok (.ifCond .le 7, 3) := dk_158 0 7 (dk_at dksX15_is_3 9 rfl rfl)
theorem dX15_is_82 : decode cX15_is 82 = .ok (.iconst 1, 1) := dk_4 (dk_at dksX15_is_3 12 rfl rfl)
theorem dX15_is_83 : decode cX15_is 83 = .ok (.goto 4, 3) := dk_167 0 4 (dk_at dksX15_is_3 13 rfl rfl)
theorem dX15_is_86 : decode cX15_is 86 = .ok (.iconst 0, 1) := dk_3 (dk_at dksX15_is_3 16 rfl rfl)
theorem dX15_is_87 : decode cX15_is 87 = .ok (.ireturn, 1) := dk_172 (dk_at dksX15_is_3 17 rfl rfl)
theorem q159 : (Jvm.Cond.initialized "EdgeWalk$Compared") ∈ lw_all := lw_g (lw_at lw_m1 31 rfl) rfl
theorem q653 : (Jvm.Cond.selects "EdgeWalk$Compared" ({ cls := "java/lang/Object", name := "getClass", desc := "()Ljava/lang/Class;" } : Jvm.MethodName) ({ cls := "java/lang/Object", name := "getClass", desc := "()Ljava/lang/Class;" } : Jvm.MethodName)) ∈ lw_all := lw_g (lw_at lw_m3 45 rfl) rfl
theorem q830 : (Jvm.Cond.instantiable "EdgeWalk$Compared" (4 : Nat)) ∈ lw_all := lw_g (lw_at lw_m3 222 rfl) rfl
theorem q832 : (Jvm.Cond.instanceMethod ({ cls := "EdgeWalk$Compared", name := "<init>", desc := "(LEdgeWalk$Value;LEdgeWalk$Value;IZ)V" } : Jvm.MethodName)) ∈ lw_all := lw_g (lw_at lw_m3 224 rfl) rfl
theorem q833 : (Jvm.Cond.code ({ cls := "EdgeWalk$Compared", name := "<init>", desc := "(LEdgeWalk$Value;LEdgeWalk$Value;IZ)V" } : Jvm.MethodName) prog_4_method_1_code (5 : Nat) (Option.none : Option Jvm.ClassFile.FieldType)) ∈ lw_all := lw_g (lw_at lw_m3 225 rfl) rfl
theorem q834 : (Jvm.Cond.methodLinkNest "EdgeWalk$Compared" (1 : Nat) ({ cls := "EdgeWalk$Condition", name := "<init>", desc := "()V" } : Jvm.MethodName) "EdgeWalk") ∈ lw_tbl := lw_at lw_m3 226 rfl
theorem q835 : (Jvm.Cond.fieldLink "EdgeWalk$Compared" (7 : Nat) "EdgeWalk$Compared" "a" "LEdgeWalk$Value;") ∈ lw_all := lw_g (lw_at lw_m3 227 rfl) rfl
theorem q836 : (Jvm.Cond.fieldLink "EdgeWalk$Compared" (13 : Nat) "EdgeWalk$Compared" "b" "LEdgeWalk$Value;") ∈ lw_all := lw_g (lw_at lw_m3 228 rfl) rfl
theorem q837 : (Jvm.Cond.fieldLink "EdgeWalk$Compared" (16 : Nat) "EdgeWalk$Compared" "sign" "I") ∈ lw_all := lw_g (lw_at lw_m3 229 rfl) rfl
theorem q838 : (Jvm.Cond.fieldLink "EdgeWalk$Compared" (20 : Nat) "EdgeWalk$Compared" "same" "Z") ∈ lw_all := lw_g (lw_at lw_m3 230 rfl) rfl
theorem q839 : (Jvm.Cond.laysFinal "EdgeWalk$Compared" "EdgeWalk$Compared" "a" "LEdgeWalk$Value;") ∈ lw_all := lw_g (lw_at lw_m3 231 rfl) rfl
theorem q840 : (Jvm.Cond.soleField "EdgeWalk$Compared" "a") ∈ lw_all := lw_g (lw_at lw_m3 232 rfl) rfl
theorem q841 : (Jvm.Cond.laysFinal "EdgeWalk$Compared" "EdgeWalk$Compared" "b" "LEdgeWalk$Value;") ∈ lw_all := lw_g (lw_at lw_m3 233 rfl) rfl
theorem q842 : (Jvm.Cond.soleField "EdgeWalk$Compared" "b") ∈ lw_all := lw_g (lw_at lw_m3 234 rfl) rfl
theorem q843 : (Jvm.Cond.laysFinal "EdgeWalk$Compared" "EdgeWalk$Compared" "sign" "I") ∈ lw_all := lw_g (lw_at lw_m3 235 rfl) rfl
theorem q844 : (Jvm.Cond.soleField "EdgeWalk$Compared" "sign") ∈ lw_all := lw_g (lw_at lw_m3 236 rfl) rfl
theorem q845 : (Jvm.Cond.laysFinal "EdgeWalk$Compared" "EdgeWalk$Compared" "same" "Z") ∈ lw_all := lw_g (lw_at lw_m3 237 rfl) rfl
theorem q846 : (Jvm.Cond.soleField "EdgeWalk$Compared" "same") ∈ lw_all := lw_g (lw_at lw_m3 238 rfl) rfl
theorem q847 : (Jvm.Cond.superclass "EdgeWalk$Compared" "EdgeWalk$Condition") ∈ lw_all := lw_g (lw_at lw_m3 239 rfl) rfl
theorem q985 : (Jvm.Cond.instanceMethod ({ cls := "EdgeWalk$Compared", name := "is", desc := "([J)Z" } : Jvm.MethodName)) ∈ lw_all := lw_g (lw_at lw_m4 137 rfl) rfl
theorem q986 : (Jvm.Cond.code ({ cls := "EdgeWalk$Compared", name := "is", desc := "([J)Z" } : Jvm.MethodName) prog_4_method_2_code (6 : Nat) (Option.some Jvm.ClassFile.FieldType.boolean)) ∈ lw_all := lw_g (lw_at lw_m4 138 rfl) rfl
theorem q987 : (Jvm.Cond.methodLink "EdgeWalk$Compared" (24 : Nat) ({ cls := "EdgeWalk$Value", name := "of", desc := "([J)J" } : Jvm.MethodName)) ∈ lw_all := lw_g (lw_at lw_m4 139 rfl) rfl
theorem q1003 : (Jvm.Cond.selects "EdgeWalk$Compared" ({ cls := "EdgeWalk$Condition", name := "is", desc := "([J)Z" } : Jvm.MethodName) ({ cls := "EdgeWalk$Compared", name := "is", desc := "([J)Z" } : Jvm.MethodName)) ∈ lw_all := lw_g (lw_at lw_m4 155 rfl) rfl
theorem q1927 : (Jvm.Cond.castable "EdgeWalk$Compared" "java/lang/Object") ∈ lw_tbl := lw_at lw_m8 119 rfl
theorem in_X15 : ∀ w ∈ wsX150, w ∈ lw_all := lw_in wsX150 [839, 841, 843, 845] (by decide +kernel) (by decide +kernel)
/-! EdgeWalk$Both -/
set_option maxRecDepth 100000
def RX16 : String := "EdgeWalk$Both"
def TX16 : u_T := fun k => match k with
  | 0 => ("EdgeWalk$Both", "a", "LEdgeWalk$Condition;", true)
  | 1 => ("EdgeWalk$Both", "b", "LEdgeWalk$Condition;", true)
  | _ => ("EdgeWalk$Both", "or", "Z", true)
def tyX16 : Nat → FieldType := fun k => match k with
  | 0 => .object "EdgeWalk$Condition"
  | 1 => .object "EdgeWalk$Condition"
  | _ => .boolean
abbrev wsX160 : List Cond := u_ws RX16 TX16 3
theorem nmX16 : ∀ a, a < 3 → ∀ b, b < 3 → a ≠ b → (TX16 a).2.1 ≠ (TX16 b).2.1 := by decide +kernel
theorem tyX16_ok : ∀ k, k < 3 → parseFieldDescriptor (TX16 k).2.2.1 = some (tyX16 k) := by decide +kernel
abbrev cX16_init : ByteArray := prog_3_method_1_code
def yX16_init : MethodName := ⟨RX16, "<init>", "(LEdgeWalk$Condition;LEdgeWalk$Condition;Z)V"⟩
def dkwX16_init_0 : List UInt8 := [42, 183, 0, 1, 42, 43, 181, 0, 7, 42, 44, 181, 0, 13, 42, 29, 181, 0, 16, 177]
abbrev dktX16_init_0 : List UInt8 := dkwX16_init_0 ++ []
theorem dksX16_init_0 : cX16_init.data.toList.drop 0 = dktX16_init_0 := by decide +kernel
theorem dX16_init_0 : decode cX16_init 0 = .ok (.aload_n 0, 1) := dk_42 (dk_at dksX16_init_0 0 rfl rfl)
theorem dX16_init_1 : decode cX16_init 1 = .ok (.invokespecial 1, 3) := dk_183 0 1 (dk_at dksX16_init_0 1 rfl rfl)
theorem dX16_init_4 : decode cX16_init 4 = .ok (.aload_n 0, 1) := dk_42 (dk_at dksX16_init_0 4 rfl rfl)
theorem dX16_init_5 : decode cX16_init 5 = .ok (.aload_n 1, 1) := dk_43 (dk_at dksX16_init_0 5 rfl rfl)
theorem dX16_init_6 : decode cX16_init 6 = .ok (.putfield 7, 3) := dk_181 0 7 (dk_at dksX16_init_0 6 rfl rfl)
theorem dX16_init_9 : decode cX16_init 9 = .ok (.aload_n 0, 1) := dk_42 (dk_at dksX16_init_0 9 rfl rfl)
theorem dX16_init_10 : decode cX16_init 10 = .ok (.aload_n 2, 1) := dk_44 (dk_at dksX16_init_0 10 rfl rfl)
theorem dX16_init_11 : decode cX16_init 11 = .ok (.putfield 13, 3) := dk_181 0 13 (dk_at dksX16_init_0 11 rfl rfl)
theorem dX16_init_14 : decode cX16_init 14 = .ok (.aload_n 0, 1) := dk_42 (dk_at dksX16_init_0 14 rfl rfl)
theorem dX16_init_15 : decode cX16_init 15 = .ok (.iload_n 3, 1) := dk_29 (dk_at dksX16_init_0 15 rfl rfl)
theorem dX16_init_16 : decode cX16_init 16 = .ok (.putfield 16, 3) := dk_181 0 16 (dk_at dksX16_init_0 16 rfl rfl)
theorem dX16_init_19 : decode cX16_init 19 = .ok (.return_, 1) := dk_177 (dk_at dksX16_init_0 19 rfl rfl)
abbrev cX16_is : ByteArray := prog_3_method_2_code
def yX16_is : MethodName := ⟨RX16, "is", "([J)Z"⟩
def dkwX16_is_2 : List UInt8 := [153, 0, 18, 42, 180, 0, 13, 43, 182, 0, 20, 153, 0, 7, 4, 167, 0, 4, 3, 172]
abbrev dktX16_is_2 : List UInt8 := dkwX16_is_2 ++ []
def dkwX16_is_1 : List UInt8 := [182, 0, 20, 153, 0, 7, 4, 167, 0, 34, 3, 167, 0, 30, 42, 180, 0, 7, 43, 182, 0, 20]
abbrev dktX16_is_1 : List UInt8 := dkwX16_is_1 ++ dktX16_is_2
def dkwX16_is_0 : List UInt8 := [42, 180, 0, 16, 153, 0, 33, 42, 180, 0, 7, 43, 182, 0, 20, 154, 0, 14, 42, 180, 0, 13, 43]
abbrev dktX16_is_0 : List UInt8 := dkwX16_is_0 ++ dktX16_is_1
theorem dksX16_is_0 : cX16_is.data.toList.drop 0 = dktX16_is_0 := by decide +kernel
theorem dksX16_is_1 : cX16_is.data.toList.drop 23 = dktX16_is_1 := dk_seg dksX16_is_0 23 rfl rfl
theorem dksX16_is_2 : cX16_is.data.toList.drop 45 = dktX16_is_2 := dk_seg dksX16_is_1 22 rfl rfl
theorem dX16_is_0 : decode cX16_is 0 = .ok (.aload_n 0, 1) := dk_42 (dk_at dksX16_is_0 0 rfl rfl)
theorem dX16_is_1 : decode cX16_is 1 = .ok (.getfield 16, 3) := dk_180 0 16 (dk_at dksX16_is_0 1 rfl rfl)
theorem dX16_is_4 : decode cX16_is 4 = .ok (.ifCond .eq 33, 3) := dk_153 0 33 (dk_at dksX16_is_0 4 rfl rfl)
theorem dX16_is_7 : decode cX16_is 7 = .ok (.aload_n 0, 1) := dk_42 (dk_at dksX16_is_0 7 rfl rfl)
theorem dX16_is_8 : decode cX16_is 8 = .ok (.getfield 7, 3) := dk_180 0 7 (dk_at dksX16_is_0 8 rfl rfl)
theorem dX16_is_11 : decode cX16_is 11 = .ok (.aload_n 1, 1) := dk_43 (dk_at dksX16_is_0 11 rfl rfl)
theorem dX16_is_12 : decode cX16_is 12 = .ok (.invokevirtual 20, 3) := dk_182 0 20 (dk_at dksX16_is_0 12 rfl rfl)
theorem dX16_is_15 : decode cX16_is 15 = .ok (.ifCond .ne 14, 3) := dk_154 0 14 (dk_at dksX16_is_0 15 rfl rfl)
theorem dX16_is_18 : decode cX16_is 18 = .ok (.aload_n 0, 1) := dk_42 (dk_at dksX16_is_0 18 rfl rfl)
theorem dX16_is_19 : decode cX16_is 19 = .ok (.getfield 13, 3) := dk_180 0 13 (dk_at dksX16_is_0 19 rfl rfl)
theorem dX16_is_22 : decode cX16_is 22 = .ok (.aload_n 1, 1) := dk_43 (dk_at dksX16_is_0 22 rfl rfl)
theorem dX16_is_23 : decode cX16_is 23 = .ok (.invokevirtual 20, 3) := dk_182 0 20 (dk_at dksX16_is_1 0 rfl rfl)
theorem dX16_is_26 : decode cX16_is 26 = .ok (.ifCond .eq 7, 3) := dk_153 0 7 (dk_at dksX16_is_1 3 rfl rfl)
theorem dX16_is_29 : decode cX16_is 29 = .ok (.iconst 1, 1) := dk_4 (dk_at dksX16_is_1 6 rfl rfl)
theorem dX16_is_30 : decode cX16_is 30 = .ok (.goto 34, 3) := dk_167 0 34 (dk_at dksX16_is_1 7 rfl rfl)
theorem dX16_is_33 : decode cX16_is 33 = .ok (.iconst 0, 1) := dk_3 (dk_at dksX16_is_1 10 rfl rfl)
theorem dX16_is_34 : decode cX16_is 34 = .ok (.goto 30, 3) := dk_167 0 30 (dk_at dksX16_is_1 11 rfl rfl)
theorem dX16_is_37 : decode cX16_is 37 = .ok (.aload_n 0, 1) := dk_42 (dk_at dksX16_is_1 14 rfl rfl)
theorem dX16_is_38 : decode cX16_is 38 = .ok (.getfield 7, 3) := dk_180 0 7 (dk_at dksX16_is_1 15 rfl rfl)
theorem dX16_is_41 : decode cX16_is 41 = .ok (.aload_n 1, 1) := dk_43 (dk_at dksX16_is_1 18 rfl rfl)
theorem dX16_is_42 : decode cX16_is 42 = .ok (.invokevirtual 20, 3) := dk_182 0 20 (dk_at dksX16_is_1 19 rfl rfl)
theorem dX16_is_45 : decode cX16_is 45 = .ok (.ifCond .eq 18, 3) := dk_153 0 18 (dk_at dksX16_is_2 0 rfl rfl)
theorem dX16_is_48 : decode cX16_is 48 = .ok (.aload_n 0, 1) := dk_42 (dk_at dksX16_is_2 3 rfl rfl)
theorem dX16_is_49 : decode cX16_is 49 = .ok (.getfield 13, 3) := dk_180 0 13 (dk_at dksX16_is_2 4 rfl rfl)
theorem dX16_is_52 : decode cX16_is 52 = .ok (.aload_n 1, 1) := dk_43 (dk_at dksX16_is_2 7 rfl rfl)
theorem dX16_is_53 : decode cX16_is 53 = .ok (.invokevirtual 20, 3) := dk_182 0 20 (dk_at dksX16_is_2 8 rfl rfl)
theorem dX16_is_56 : decode cX16_is 56 = .ok (.ifCond .eq 7, 3) := dk_153 0 7 (dk_at dksX16_is_2 11 rfl rfl)
theorem dX16_is_59 : decode cX16_is 59 = .ok (.iconst 1, 1) := dk_4 (dk_at dksX16_is_2 14 rfl rfl)
theorem dX16_is_60 : decode cX16_is 60 = .ok (.goto 4, 3) := dk_167 0 4 (dk_at dksX16_is_2 15 rfl rfl)
theorem dX16_is_63 : decode cX16_is 63 = .ok (.iconst 0, 1) := dk_3 (dk_at dksX16_is_2 18 rfl rfl)
theorem dX16_is_64 : decode cX16_is 64 = .ok (.ireturn, 1) := dk_172 (dk_at dksX16_is_2 19 rfl rfl)
theorem q160 : (Jvm.Cond.initialized "EdgeWalk$Both") ∈ lw_all := lw_g (lw_at lw_m1 32 rfl) rfl
theorem q652 : (Jvm.Cond.selects "EdgeWalk$Both" ({ cls := "java/lang/Object", name := "getClass", desc := "()Ljava/lang/Class;" } : Jvm.MethodName) ({ cls := "java/lang/Object", name := "getClass", desc := "()Ljava/lang/Class;" } : Jvm.MethodName)) ∈ lw_all := lw_g (lw_at lw_m3 44 rfl) rfl
theorem q850 : (Jvm.Cond.instantiable "EdgeWalk$Both" (3 : Nat)) ∈ lw_all := lw_g (lw_at lw_m4 2 rfl) rfl
theorem q852 : (Jvm.Cond.instanceMethod ({ cls := "EdgeWalk$Both", name := "<init>", desc := "(LEdgeWalk$Condition;LEdgeWalk$Condition;Z)V" } : Jvm.MethodName)) ∈ lw_all := lw_g (lw_at lw_m4 4 rfl) rfl
theorem q853 : (Jvm.Cond.code ({ cls := "EdgeWalk$Both", name := "<init>", desc := "(LEdgeWalk$Condition;LEdgeWalk$Condition;Z)V" } : Jvm.MethodName) prog_3_method_1_code (4 : Nat) (Option.none : Option Jvm.ClassFile.FieldType)) ∈ lw_all := lw_g (lw_at lw_m4 5 rfl) rfl
theorem q854 : (Jvm.Cond.methodLinkNest "EdgeWalk$Both" (1 : Nat) ({ cls := "EdgeWalk$Condition", name := "<init>", desc := "()V" } : Jvm.MethodName) "EdgeWalk") ∈ lw_tbl := lw_at lw_m4 6 rfl
theorem q855 : (Jvm.Cond.fieldLink "EdgeWalk$Both" (7 : Nat) "EdgeWalk$Both" "a" "LEdgeWalk$Condition;") ∈ lw_all := lw_g (lw_at lw_m4 7 rfl) rfl
theorem q856 : (Jvm.Cond.fieldLink "EdgeWalk$Both" (13 : Nat) "EdgeWalk$Both" "b" "LEdgeWalk$Condition;") ∈ lw_all := lw_g (lw_at lw_m4 8 rfl) rfl
theorem q857 : (Jvm.Cond.fieldLink "EdgeWalk$Both" (16 : Nat) "EdgeWalk$Both" "or" "Z") ∈ lw_all := lw_g (lw_at lw_m4 9 rfl) rfl
theorem q858 : (Jvm.Cond.laysFinal "EdgeWalk$Both" "EdgeWalk$Both" "a" "LEdgeWalk$Condition;") ∈ lw_all := lw_g (lw_at lw_m4 10 rfl) rfl
theorem q859 : (Jvm.Cond.soleField "EdgeWalk$Both" "a") ∈ lw_all := lw_g (lw_at lw_m4 11 rfl) rfl
theorem q860 : (Jvm.Cond.laysFinal "EdgeWalk$Both" "EdgeWalk$Both" "b" "LEdgeWalk$Condition;") ∈ lw_all := lw_g (lw_at lw_m4 12 rfl) rfl
theorem q861 : (Jvm.Cond.soleField "EdgeWalk$Both" "b") ∈ lw_all := lw_g (lw_at lw_m4 13 rfl) rfl
theorem q862 : (Jvm.Cond.laysFinal "EdgeWalk$Both" "EdgeWalk$Both" "or" "Z") ∈ lw_all := lw_g (lw_at lw_m4 14 rfl) rfl
theorem q863 : (Jvm.Cond.soleField "EdgeWalk$Both" "or") ∈ lw_all := lw_g (lw_at lw_m4 15 rfl) rfl
theorem q864 : (Jvm.Cond.superclass "EdgeWalk$Both" "EdgeWalk$Condition") ∈ lw_all := lw_g (lw_at lw_m4 16 rfl) rfl
theorem q981 : (Jvm.Cond.selects "EdgeWalk$Both" ({ cls := "EdgeWalk$Condition", name := "is", desc := "([J)Z" } : Jvm.MethodName) ({ cls := "EdgeWalk$Both", name := "is", desc := "([J)Z" } : Jvm.MethodName)) ∈ lw_all := lw_g (lw_at lw_m4 133 rfl) rfl
theorem q982 : (Jvm.Cond.instanceMethod ({ cls := "EdgeWalk$Both", name := "is", desc := "([J)Z" } : Jvm.MethodName)) ∈ lw_all := lw_g (lw_at lw_m4 134 rfl) rfl
theorem q983 : (Jvm.Cond.code ({ cls := "EdgeWalk$Both", name := "is", desc := "([J)Z" } : Jvm.MethodName) prog_3_method_2_code (2 : Nat) (Option.some Jvm.ClassFile.FieldType.boolean)) ∈ lw_all := lw_g (lw_at lw_m4 135 rfl) rfl
theorem q984 : (Jvm.Cond.methodLink "EdgeWalk$Both" (20 : Nat) ({ cls := "EdgeWalk$Condition", name := "is", desc := "([J)Z" } : Jvm.MethodName)) ∈ lw_all := lw_g (lw_at lw_m4 136 rfl) rfl
theorem q1928 : (Jvm.Cond.castable "EdgeWalk$Both" "java/lang/Object") ∈ lw_tbl := lw_at lw_m8 120 rfl
theorem in_X16 : ∀ w ∈ wsX160, w ∈ lw_all := lw_in wsX160 [858, 860, 862] (by decide +kernel) (by decide +kernel)
/-! EdgeWalk$Image -/
set_option maxRecDepth 100000
def RX17 : String := "EdgeWalk$Image"
def TX17 : u_T := fun k => match k with
  | 0 => ("EdgeWalk$Image", "its", "LEdgeWalk$Sheet;", false)
  | 1 => ("EdgeWalk$Image", "stood", "LEdgeWalk$State;", true)
  | 2 => ("EdgeWalk$Image", "when", "[I", true)
  | 3 => ("EdgeWalk$Image", "who", "[I", true)
  | 4 => ("EdgeWalk$Image", "where", "[I", true)
  | 5 => ("EdgeWalk$Image", "many", "I", false)
  | 6 => ("EdgeWalk$Image", "force", "I", false)
  | 7 => ("EdgeWalk$Image", "x", "I", false)
  | _ => ("EdgeWalk$Image", "this$0", "LEdgeWalk;", true)
def tyX17 : Nat → FieldType := fun k => match k with
  | 0 => .object "EdgeWalk$Sheet"
  | 1 => .object "EdgeWalk$State"
  | 2 => .array .int
  | 3 => .array .int
  | 4 => .array .int
  | 5 => .int
  | 6 => .int
  | 7 => .int
  | _ => .object "EdgeWalk"
abbrev wsX170 : List Cond := u_ws RX17 TX17 9
theorem nmX17 : ∀ a, a < 9 → ∀ b, b < 9 → a ≠ b → (TX17 a).2.1 ≠ (TX17 b).2.1 := by decide +kernel
theorem tyX17_ok : ∀ k, k < 9 → parseFieldDescriptor (TX17 k).2.2.1 = some (tyX17 k) := by decide +kernel
abbrev cX17_init : ByteArray := prog_7_method_1_code
def yX17_init : MethodName := ⟨RX17, "<init>", "(LEdgeWalk;)V"⟩
def dkwX17_init_1 : List UInt8 := [188, 10, 181, 0, 22, 42, 16, 10, 188, 10, 181, 0, 26, 42, 16, 10, 188, 10, 181, 0, 29, 177]
abbrev dktX17_init_1 : List UInt8 := dkwX17_init_1 ++ []
def dkwX17_init_0 : List UInt8 := [42, 43, 181, 0, 3, 42, 183, 0, 9, 42, 187, 0, 15, 89, 183, 0, 17, 181, 0, 18, 42, 16, 10]
abbrev dktX17_init_0 : List UInt8 := dkwX17_init_0 ++ dktX17_init_1
theorem dksX17_init_0 : cX17_init.data.toList.drop 0 = dktX17_init_0 := by decide +kernel
theorem dksX17_init_1 : cX17_init.data.toList.drop 23 = dktX17_init_1 := dk_seg dksX17_init_0 23 rfl rfl
theorem dX17_init_0 : decode cX17_init 0 = .ok (.aload_n 0, 1) := dk_42 (dk_at dksX17_init_0 0 rfl rfl)
theorem dX17_init_1 : decode cX17_init 1 = .ok (.aload_n 1, 1) := dk_43 (dk_at dksX17_init_0 1 rfl rfl)
theorem dX17_init_2 : decode cX17_init 2 = .ok (.putfield 3, 3) := dk_181 0 3 (dk_at dksX17_init_0 2 rfl rfl)
theorem dX17_init_5 : decode cX17_init 5 = .ok (.aload_n 0, 1) := dk_42 (dk_at dksX17_init_0 5 rfl rfl)
theorem dX17_init_6 : decode cX17_init 6 = .ok (.invokespecial 9, 3) := dk_183 0 9 (dk_at dksX17_init_0 6 rfl rfl)
theorem dX17_init_9 : decode cX17_init 9 = .ok (.aload_n 0, 1) := dk_42 (dk_at dksX17_init_0 9 rfl rfl)
theorem dX17_init_10 : decode cX17_init 10 = .ok (.new 15, 3) := dk_187 0 15 (dk_at dksX17_init_0 10 rfl rfl)
theorem dX17_init_13 : decode cX17_init 13 = .ok (.dup, 1) := dk_89 (dk_at dksX17_init_0 13 rfl rfl)
theorem dX17_init_14 : decode cX17_init 14 = .ok (.invokespecial 17, 3) := dk_183 0 17 (dk_at dksX17_init_0 14 rfl rfl)
theorem dX17_init_17 : decode cX17_init 17 = .ok (.putfield 18, 3) := dk_181 0 18 (dk_at dksX17_init_0 17 rfl rfl)
theorem dX17_init_20 : decode cX17_init 20 = .ok (.aload_n 0, 1) := dk_42 (dk_at dksX17_init_0 20 rfl rfl)
theorem dX17_init_21 : decode cX17_init 21 = .ok (.bipush 10, 2) := dk_16 10 (dk_at dksX17_init_0 21 rfl rfl)
theorem dX17_init_23 : decode cX17_init 23 = .ok (.newarray .int, 2) := dk_188_10 (dk_at dksX17_init_1 0 rfl rfl)
theorem dX17_init_25 : decode cX17_init 25 = .ok (.putfield 22, 3) := dk_181 0 22 (dk_at dksX17_init_1 2 rfl rfl)
theorem dX17_init_28 : decode cX17_init 28 = .ok (.aload_n 0, 1) := dk_42 (dk_at dksX17_init_1 5 rfl rfl)
theorem dX17_init_29 : decode cX17_init 29 = .ok (.bipush 10, 2) := dk_16 10 (dk_at dksX17_init_1 6 rfl rfl)
theorem dX17_init_31 : decode cX17_init 31 = .ok (.newarray .int, 2) := dk_188_10 (dk_at dksX17_init_1 8 rfl rfl)
theorem dX17_init_33 : decode cX17_init 33 = .ok (.putfield 26, 3) := dk_181 0 26 (dk_at dksX17_init_1 10 rfl rfl)
theorem dX17_init_36 : decode cX17_init 36 = .ok (.aload_n 0, 1) := dk_42 (dk_at dksX17_init_1 13 rfl rfl)
theorem dX17_init_37 : decode cX17_init 37 = .ok (.bipush 10, 2) := dk_16 10 (dk_at dksX17_init_1 14 rfl rfl)
theorem dX17_init_39 : decode cX17_init 39 = .ok (.newarray .int, 2) := dk_188_10 (dk_at dksX17_init_1 16 rfl rfl)
theorem dX17_init_41 : decode cX17_init 41 = .ok (.putfield 29, 3) := dk_181 0 29 (dk_at dksX17_init_1 18 rfl rfl)
theorem dX17_init_44 : decode cX17_init 44 = .ok (.return_, 1) := dk_177 (dk_at dksX17_init_1 21 rfl rfl)
abbrev cX17_keep : ByteArray := prog_7_method_2_code
def yX17_keep : MethodName := ⟨RX17, "keep", "()V"⟩
def dkwX17_keep_5 : List UInt8 := [181, 0, 71, 177]
abbrev dktX17_keep_5 : List UInt8 := dkwX17_keep_5 ++ []
def dkwX17_keep_4 : List UInt8 := [181, 0, 59, 42, 42, 180, 0, 3, 180, 0, 62, 181, 0, 65, 42, 42, 180, 0, 3, 180, 0, 68]
abbrev dktX17_keep_4 : List UInt8 := dkwX17_keep_4 ++ dktX17_keep_5
def dkwX17_keep_3 : List UInt8 := [180, 0, 3, 180, 0, 52, 27, 46, 79, 132, 1, 1, 167, 255, 202, 42, 42, 180, 0, 3, 180, 0, 55]
abbrev dktX17_keep_3 : List UInt8 := dkwX17_keep_3 ++ dktX17_keep_4
def dkwX17_keep_2 : List UInt8 := [46, 79, 42, 180, 0, 26, 27, 42, 180, 0, 3, 180, 0, 49, 27, 46, 79, 42, 180, 0, 29, 27, 42]
abbrev dktX17_keep_2 : List UInt8 := dkwX17_keep_2 ++ dktX17_keep_3
def dkwX17_keep_1 : List UInt8 := [182, 0, 42, 3, 60, 27, 16, 10, 162, 0, 54, 42, 180, 0, 22, 27, 42, 180, 0, 3, 180, 0, 46, 27]
abbrev dktX17_keep_1 : List UInt8 := dkwX17_keep_1 ++ dktX17_keep_2
def dkwX17_keep_0 : List UInt8 := [42, 42, 180, 0, 3, 180, 0, 32, 181, 0, 36, 42, 180, 0, 18, 42, 180, 0, 3, 180, 0, 39]
abbrev dktX17_keep_0 : List UInt8 := dkwX17_keep_0 ++ dktX17_keep_1
theorem dksX17_keep_0 : cX17_keep.data.toList.drop 0 = dktX17_keep_0 := by decide +kernel
theorem dksX17_keep_1 : cX17_keep.data.toList.drop 22 = dktX17_keep_1 := dk_seg dksX17_keep_0 22 rfl rfl
theorem dksX17_keep_2 : cX17_keep.data.toList.drop 46 = dktX17_keep_2 := dk_seg dksX17_keep_1 24 rfl rfl
theorem dksX17_keep_3 : cX17_keep.data.toList.drop 69 = dktX17_keep_3 := dk_seg dksX17_keep_2 23 rfl rfl
theorem dksX17_keep_4 : cX17_keep.data.toList.drop 92 = dktX17_keep_4 := dk_seg dksX17_keep_3 23 rfl rfl
theorem dksX17_keep_5 : cX17_keep.data.toList.drop 114 = dktX17_keep_5 := dk_seg dksX17_keep_4 22 rfl rfl
theorem dX17_keep_0 : decode cX17_keep 0 = .ok (.aload_n 0, 1) := dk_42 (dk_at dksX17_keep_0 0 rfl rfl)
theorem dX17_keep_1 : decode cX17_keep 1 = .ok (.aload_n 0, 1) := dk_42 (dk_at dksX17_keep_0 1 rfl rfl)
theorem dX17_keep_2 : decode cX17_keep 2 = .ok (.getfield 3, 3) := dk_180 0 3 (dk_at dksX17_keep_0 2 rfl rfl)
theorem dX17_keep_5 : decode cX17_keep 5 = .ok (.getfield 32, 3) := dk_180 0 32 (dk_at dksX17_keep_0 5 rfl rfl)
theorem dX17_keep_8 : decode cX17_keep 8 = .ok (.putfield 36, 3) := dk_181 0 36 (dk_at dksX17_keep_0 8 rfl rfl)
theorem dX17_keep_11 : decode cX17_keep 11 = .ok (.aload_n 0, 1) := dk_42 (dk_at dksX17_keep_0 11 rfl rfl)
theorem dX17_keep_12 : decode cX17_keep 12 = .ok (.getfield 18, 3) := dk_180 0 18 (dk_at dksX17_keep_0 12 rfl rfl)
theorem dX17_keep_15 : decode cX17_keep 15 = .ok (.aload_n 0, 1) := dk_42 (dk_at dksX17_keep_0 15 rfl rfl)
theorem dX17_keep_16 : decode cX17_keep 16 = .ok (.getfield 3, 3) := dk_180 0 3 (dk_at dksX17_keep_0 16 rfl rfl)
theorem dX17_keep_19 : decode cX17_keep 19 = .ok (.getfield 39, 3) := dk_180 0 39 (dk_at dksX17_keep_0 19 rfl rfl)
theorem dX17_keep_22 : decode cX17_keep 22 = .ok (.invokevirtual 42, 3) := dk_182 0 42 (dk_at dksX17_keep_1 0 rfl rfl)
theorem dX17_keep_25 : decode cX17_keep 25 = .ok (.iconst 0, 1) := dk_3 (dk_at dksX17_keep_1 3 rfl rfl)
theorem dX17_keep_26 : decode cX17_keep 26 = .ok (.istore_n 1, 1) := dk_60 (dk_at dksX17_keep_1 4 rfl rfl)
theorem dX17_keep_27 : decode cX17_keep 27 = .ok (.iload_n 1, 1) := dk_27 (dk_at dksX17_keep_1 5 rfl rfl)
theorem dX17_keep_28 : decode cX17_keep 28 = .ok (.bipush 10, 2) := dk_16 10 (dk_at dksX17_keep_1 6 rfl rfl)
theorem dX17_keep_30 : decode cX17_keep 30 = .ok (.if_icmp .ge 54, 3) := dk_162 0 54 (dk_at dksX17_keep_1 8 rfl rfl)
theorem dX17_keep_33 : decode cX17_keep 33 = .ok (.aload_n 0, 1) := dk_42 (dk_at dksX17_keep_1 11 rfl rfl)
theorem dX17_keep_34 : decode cX17_keep 34 = .ok (.getfield 22, 3) := dk_180 0 22 (dk_at dksX17_keep_1 12 rfl rfl)
theorem dX17_keep_37 : decode cX17_keep 37 = .ok (.iload_n 1, 1) := dk_27 (dk_at dksX17_keep_1 15 rfl rfl)
theorem dX17_keep_38 : decode cX17_keep 38 = .ok (.aload_n 0, 1) := dk_42 (dk_at dksX17_keep_1 16 rfl rfl)
theorem dX17_keep_39 : decode cX17_keep 39 = .ok (.getfield 3, 3) := dk_180 0 3 (dk_at dksX17_keep_1 17 rfl rfl)
theorem dX17_keep_42 : decode cX17_keep 42 = .ok (.getfield 46, 3) := dk_180 0 46 (dk_at dksX17_keep_1 20 rfl rfl)
theorem dX17_keep_45 : decode cX17_keep 45 = .ok (.iload_n 1, 1) := dk_27 (dk_at dksX17_keep_1 23 rfl rfl)
theorem dX17_keep_46 : decode cX17_keep 46 = .ok (.iaload, 1) := dk_46 (dk_at dksX17_keep_2 0 rfl rfl)
theorem dX17_keep_47 : decode cX17_keep 47 = .ok (.iastore, 1) := dk_79 (dk_at dksX17_keep_2 1 rfl rfl)
theorem dX17_keep_48 : decode cX17_keep 48 = .ok (.aload_n 0, 1) := dk_42 (dk_at dksX17_keep_2 2 rfl rfl)
theorem dX17_keep_49 : decode cX17_keep 49 = .ok (.getfield 26, 3) := dk_180 0 26 (dk_at dksX17_keep_2 3 rfl rfl)
theorem dX17_keep_52 : decode cX17_keep 52 = .ok (.iload_n 1, 1) := dk_27 (dk_at dksX17_keep_2 6 rfl rfl)
theorem dX17_keep_53 : decode cX17_keep 53 = .ok (.aload_n 0, 1) := dk_42 (dk_at dksX17_keep_2 7 rfl rfl)
theorem dX17_keep_54 : decode cX17_keep 54 = .ok (.getfield 3, 3) := dk_180 0 3 (dk_at dksX17_keep_2 8 rfl rfl)
theorem dX17_keep_57 : decode cX17_keep 57 = .ok (.getfield 49, 3) := dk_180 0 49 (dk_at dksX17_keep_2 11 rfl rfl)
theorem dX17_keep_60 : decode cX17_keep 60 = .ok (.iload_n 1, 1) := dk_27 (dk_at dksX17_keep_2 14 rfl rfl)
theorem dX17_keep_61 : decode cX17_keep 61 = .ok (.iaload, 1) := dk_46 (dk_at dksX17_keep_2 15 rfl rfl)
theorem dX17_keep_62 : decode cX17_keep 62 = .ok (.iastore, 1) := dk_79 (dk_at dksX17_keep_2 16 rfl rfl)
theorem dX17_keep_63 : decode cX17_keep 63 = .ok (.aload_n 0, 1) := dk_42 (dk_at dksX17_keep_2 17 rfl rfl)
theorem dX17_keep_64 : decode cX17_keep 64 = .ok (.getfield 29, 3) := dk_180 0 29 (dk_at dksX17_keep_2 18 rfl rfl)
theorem dX17_keep_67 : decode cX17_keep 67 = .ok (.iload_n 1, 1) := dk_27 (dk_at dksX17_keep_2 21 rfl rfl)
theorem dX17_keep_68 : decode cX17_keep 68 = .ok (.aload_n 0, 1) := dk_42 (dk_at dksX17_keep_2 22 rfl rfl)
theorem dX17_keep_69 : decode cX17_keep 69 = .ok (.getfield 3, 3) := dk_180 0 3 (dk_at dksX17_keep_3 0 rfl rfl)
theorem dX17_keep_72 : decode cX17_keep 72 = .ok (.getfield 52, 3) := dk_180 0 52 (dk_at dksX17_keep_3 3 rfl rfl)
theorem dX17_keep_75 : decode cX17_keep 75 = .ok (.iload_n 1, 1) := dk_27 (dk_at dksX17_keep_3 6 rfl rfl)
theorem dX17_keep_76 : decode cX17_keep 76 = .ok (.iaload, 1) := dk_46 (dk_at dksX17_keep_3 7 rfl rfl)
theorem dX17_keep_77 : decode cX17_keep 77 = .ok (.iastore, 1) := dk_79 (dk_at dksX17_keep_3 8 rfl rfl)
theorem dX17_keep_78 : decode cX17_keep 78 = .ok (.iinc 1 1, 3) := dk_132 1 1 (dk_at dksX17_keep_3 9 rfl rfl)
theorem dX17_keep_81 : decode cX17_keep 81 = .ok (.goto (-54), 3) := dk_167 255 202 (dk_at dksX17_keep_3 12 rfl rfl)
theorem dX17_keep_84 : decode cX17_keep 84 = .ok (.aload_n 0, 1) := dk_42 (dk_at dksX17_keep_3 15 rfl rfl)
theorem dX17_keep_85 : decode cX17_keep 85 = .ok (.aload_n 0, 1) := dk_42 (dk_at dksX17_keep_3 16 rfl rfl)
theorem dX17_keep_86 : decode cX17_keep 86 = .ok (.getfield 3, 3) := dk_180 0 3 (dk_at dksX17_keep_3 17 rfl rfl)
theorem dX17_keep_89 : decode cX17_keep 89 = .ok (.getfield 55, 3) := dk_180 0 55 (dk_at dksX17_keep_3 20 rfl rfl)
theorem dX17_keep_92 : decode cX17_keep 92 = .ok (.putfield 59, 3) := dk_181 0 59 (dk_at dksX17_keep_4 0 rfl rfl)
theorem dX17_keep_95 : decode cX17_keep 95 = .ok (.aload_n 0, 1) := dk_42 (dk_at dksX17_keep_4 3 rfl rfl)
theorem dX17_keep_96 : decode cX17_keep 96 = .ok (.aload_n 0, 1) := dk_42 (dk_at dksX17_keep_4 4 rfl rfl)
theorem dX17_keep_97 : decode cX17_keep 97 = .ok (.getfield 3, 3) := dk_180 0 3 (dk_at dksX17_keep_4 5 rfl rfl)
theorem dX17_keep_100 : decode cX17_keep 100 = .ok (.getfield 62, 3) := dk_180 0 62 (dk_at dksX17_keep_4 8 rfl rfl)
theorem dX17_keep_103 : decode cX17_keep 103 = .ok (.putfield 65, 3) := dk_181 0 65 (dk_at dksX17_keep_4 11 rfl rfl)
theorem dX17_keep_106 : decode cX17_keep 106 = .ok (.aload_n 0, 1) := dk_42 (dk_at dksX17_keep_4 14 rfl rfl)
theorem dX17_keep_107 : decode cX17_keep 107 = .ok (.aload_n 0, 1) := dk_42 (dk_at dksX17_keep_4 15 rfl rfl)
theorem dX17_keep_108 : decode cX17_keep 108 = .ok (.getfield 3, 3) := dk_180 0 3 (dk_at dksX17_keep_4 16 rfl rfl)
theorem dX17_keep_111 : decode cX17_keep 111 = .ok (.getfield 68, 3) := dk_180 0 68 (dk_at dksX17_keep_4 19 rfl rfl)
theorem dX17_keep_114 : decode cX17_keep 114 = .ok (.putfield 71, 3) := dk_181 0 71 (dk_at dksX17_keep_5 0 rfl rfl)
theorem dX17_keep_117 : decode cX17_keep 117 = .ok (.return_, 1) := dk_177 (dk_at dksX17_keep_5 3 rfl rfl)
abbrev cX17_back : ByteArray := prog_7_method_3_code
def yX17_back : MethodName := ⟨RX17, "back", "()V"⟩
def dkwX17_back_5 : List UInt8 := [181, 0, 68, 42, 180, 0, 3, 3, 181, 0, 74, 177]
abbrev dktX17_back_5 : List UInt8 := dkwX17_back_5 ++ []
def dkwX17_back_4 : List UInt8 := [181, 0, 55, 42, 180, 0, 3, 42, 180, 0, 65, 181, 0, 62, 42, 180, 0, 3, 42, 180, 0, 71]
abbrev dktX17_back_4 : List UInt8 := dkwX17_back_4 ++ dktX17_back_5
def dkwX17_back_3 : List UInt8 := [27, 42, 180, 0, 29, 27, 46, 79, 132, 1, 1, 167, 255, 202, 42, 180, 0, 3, 42, 180, 0, 59]
abbrev dktX17_back_3 : List UInt8 := dkwX17_back_3 ++ dktX17_back_4
def dkwX17_back_2 : List UInt8 := [46, 79, 42, 180, 0, 3, 180, 0, 49, 27, 42, 180, 0, 26, 27, 46, 79, 42, 180, 0, 3, 180, 0, 52]
abbrev dktX17_back_2 : List UInt8 := dkwX17_back_2 ++ dktX17_back_3
def dkwX17_back_1 : List UInt8 := [182, 0, 42, 3, 60, 27, 16, 10, 162, 0, 54, 42, 180, 0, 3, 180, 0, 46, 27, 42, 180, 0, 22, 27]
abbrev dktX17_back_1 : List UInt8 := dkwX17_back_1 ++ dktX17_back_2
def dkwX17_back_0 : List UInt8 := [42, 180, 0, 3, 42, 180, 0, 36, 181, 0, 32, 42, 180, 0, 3, 180, 0, 39, 42, 180, 0, 18]
abbrev dktX17_back_0 : List UInt8 := dkwX17_back_0 ++ dktX17_back_1
theorem dksX17_back_0 : cX17_back.data.toList.drop 0 = dktX17_back_0 := by decide +kernel
theorem dksX17_back_1 : cX17_back.data.toList.drop 22 = dktX17_back_1 := dk_seg dksX17_back_0 22 rfl rfl
theorem dksX17_back_2 : cX17_back.data.toList.drop 46 = dktX17_back_2 := dk_seg dksX17_back_1 24 rfl rfl
theorem dksX17_back_3 : cX17_back.data.toList.drop 70 = dktX17_back_3 := dk_seg dksX17_back_2 24 rfl rfl
theorem dksX17_back_4 : cX17_back.data.toList.drop 92 = dktX17_back_4 := dk_seg dksX17_back_3 22 rfl rfl
theorem dksX17_back_5 : cX17_back.data.toList.drop 114 = dktX17_back_5 := dk_seg dksX17_back_4 22 rfl rfl
theorem dX17_back_0 : decode cX17_back 0 = .ok (.aload_n 0, 1) := dk_42 (dk_at dksX17_back_0 0 rfl rfl)
theorem dX17_back_1 : decode cX17_back 1 = .ok (.getfield 3, 3) := dk_180 0 3 (dk_at dksX17_back_0 1 rfl rfl)
theorem dX17_back_4 : decode cX17_back 4 = .ok (.aload_n 0, 1) := dk_42 (dk_at dksX17_back_0 4 rfl rfl)
theorem dX17_back_5 : decode cX17_back 5 = .ok (.getfield 36, 3) := dk_180 0 36 (dk_at dksX17_back_0 5 rfl rfl)
theorem dX17_back_8 : decode cX17_back 8 = .ok (.putfield 32, 3) := dk_181 0 32 (dk_at dksX17_back_0 8 rfl rfl)
theorem dX17_back_11 : decode cX17_back 11 = .ok (.aload_n 0, 1) := dk_42 (dk_at dksX17_back_0 11 rfl rfl)
theorem dX17_back_12 : decode cX17_back 12 = .ok (.getfield 3, 3) := dk_180 0 3 (dk_at dksX17_back_0 12 rfl rfl)
theorem dX17_back_15 : decode cX17_back 15 = .ok (.getfield 39, 3) := dk_180 0 39 (dk_at dksX17_back_0 15 rfl rfl)
theorem dX17_back_18 : decode cX17_back 18 = .ok (.aload_n 0, 1) := dk_42 (dk_at dksX17_back_0 18 rfl rfl)
theorem dX17_back_19 : decode cX17_back 19 = .ok (.getfield 18, 3) := dk_180 0 18 (dk_at dksX17_back_0 19 rfl rfl)
theorem dX17_back_22 : decode cX17_back 22 = .ok (.invokevirtual 42, 3) := dk_182 0 42 (dk_at dksX17_back_1 0 rfl rfl)
theorem dX17_back_25 : decode cX17_back 25 = .ok (.iconst 0, 1) := dk_3 (dk_at dksX17_back_1 3 rfl rfl)
theorem dX17_back_26 : decode cX17_back 26 = .ok (.istore_n 1, 1) := dk_60 (dk_at dksX17_back_1 4 rfl rfl)
theorem dX17_back_27 : decode cX17_back 27 = .ok (.iload_n 1, 1) := dk_27 (dk_at dksX17_back_1 5 rfl rfl)
theorem dX17_back_28 : decode cX17_back 28 = .ok (.bipush 10, 2) := dk_16 10 (dk_at dksX17_back_1 6 rfl rfl)
theorem dX17_back_30 : decode cX17_back 30 = .ok (.if_icmp .ge 54, 3) := dk_162 0 54 (dk_at dksX17_back_1 8 rfl rfl)
theorem dX17_back_33 : decode cX17_back 33 = .ok (.aload_n 0, 1) := dk_42 (dk_at dksX17_back_1 11 rfl rfl)
theorem dX17_back_34 : decode cX17_back 34 = .ok (.getfield 3, 3) := dk_180 0 3 (dk_at dksX17_back_1 12 rfl rfl)
theorem dX17_back_37 : decode cX17_back 37 = .ok (.getfield 46, 3) := dk_180 0 46 (dk_at dksX17_back_1 15 rfl rfl)
theorem dX17_back_40 : decode cX17_back 40 = .ok (.iload_n 1, 1) := dk_27 (dk_at dksX17_back_1 18 rfl rfl)
theorem dX17_back_41 : decode cX17_back 41 = .ok (.aload_n 0, 1) := dk_42 (dk_at dksX17_back_1 19 rfl rfl)
theorem dX17_back_42 : decode cX17_back 42 = .ok (.getfield 22, 3) := dk_180 0 22 (dk_at dksX17_back_1 20 rfl rfl)
theorem dX17_back_45 : decode cX17_back 45 = .ok (.iload_n 1, 1) := dk_27 (dk_at dksX17_back_1 23 rfl rfl)
theorem dX17_back_46 : decode cX17_back 46 = .ok (.iaload, 1) := dk_46 (dk_at dksX17_back_2 0 rfl rfl)
theorem dX17_back_47 : decode cX17_back 47 = .ok (.iastore, 1) := dk_79 (dk_at dksX17_back_2 1 rfl rfl)
theorem dX17_back_48 : decode cX17_back 48 = .ok (.aload_n 0, 1) := dk_42 (dk_at dksX17_back_2 2 rfl rfl)
theorem dX17_back_49 : decode cX17_back 49 = .ok (.getfield 3, 3) := dk_180 0 3 (dk_at dksX17_back_2 3 rfl rfl)
theorem dX17_back_52 : decode cX17_back 52 = .ok (.getfield 49, 3) := dk_180 0 49 (dk_at dksX17_back_2 6 rfl rfl)
theorem dX17_back_55 : decode cX17_back 55 = .ok (.iload_n 1, 1) := dk_27 (dk_at dksX17_back_2 9 rfl rfl)
theorem dX17_back_56 : decode cX17_back 56 = .ok (.aload_n 0, 1) := dk_42 (dk_at dksX17_back_2 10 rfl rfl)
theorem dX17_back_57 : decode cX17_back 57 = .ok (.getfield 26, 3) := dk_180 0 26 (dk_at dksX17_back_2 11 rfl rfl)
theorem dX17_back_60 : decode cX17_back 60 = .ok (.iload_n 1, 1) := dk_27 (dk_at dksX17_back_2 14 rfl rfl)
theorem dX17_back_61 : decode cX17_back 61 = .ok (.iaload, 1) := dk_46 (dk_at dksX17_back_2 15 rfl rfl)
theorem dX17_back_62 : decode cX17_back 62 = .ok (.iastore, 1) := dk_79 (dk_at dksX17_back_2 16 rfl rfl)
theorem dX17_back_63 : decode cX17_back 63 = .ok (.aload_n 0, 1) := dk_42 (dk_at dksX17_back_2 17 rfl rfl)
theorem dX17_back_64 : decode cX17_back 64 = .ok (.getfield 3, 3) := dk_180 0 3 (dk_at dksX17_back_2 18 rfl rfl)
theorem dX17_back_67 : decode cX17_back 67 = .ok (.getfield 52, 3) := dk_180 0 52 (dk_at dksX17_back_2 21 rfl rfl)
theorem dX17_back_70 : decode cX17_back 70 = .ok (.iload_n 1, 1) := dk_27 (dk_at dksX17_back_3 0 rfl rfl)
theorem dX17_back_71 : decode cX17_back 71 = .ok (.aload_n 0, 1) := dk_42 (dk_at dksX17_back_3 1 rfl rfl)
theorem dX17_back_72 : decode cX17_back 72 = .ok (.getfield 29, 3) := dk_180 0 29 (dk_at dksX17_back_3 2 rfl rfl)
theorem dX17_back_75 : decode cX17_back 75 = .ok (.iload_n 1, 1) := dk_27 (dk_at dksX17_back_3 5 rfl rfl)
theorem dX17_back_76 : decode cX17_back 76 = .ok (.iaload, 1) := dk_46 (dk_at dksX17_back_3 6 rfl rfl)
theorem dX17_back_77 : decode cX17_back 77 = .ok (.iastore, 1) := dk_79 (dk_at dksX17_back_3 7 rfl rfl)
theorem dX17_back_78 : decode cX17_back 78 = .ok (.iinc 1 1, 3) := dk_132 1 1 (dk_at dksX17_back_3 8 rfl rfl)
theorem dX17_back_81 : decode cX17_back 81 = .ok (.goto (-54), 3) := dk_167 255 202 (dk_at dksX17_back_3 11 rfl rfl)
theorem dX17_back_84 : decode cX17_back 84 = .ok (.aload_n 0, 1) := dk_42 (dk_at dksX17_back_3 14 rfl rfl)
theorem dX17_back_85 : decode cX17_back 85 = .ok (.getfield 3, 3) := dk_180 0 3 (dk_at dksX17_back_3 15 rfl rfl)
theorem dX17_back_88 : decode cX17_back 88 = .ok (.aload_n 0, 1) := dk_42 (dk_at dksX17_back_3 18 rfl rfl)
theorem dX17_back_89 : decode cX17_back 89 = .ok (.getfield 59, 3) := dk_180 0 59 (dk_at dksX17_back_3 19 rfl rfl)
theorem dX17_back_92 : decode cX17_back 92 = .ok (.putfield 55, 3) := dk_181 0 55 (dk_at dksX17_back_4 0 rfl rfl)
theorem dX17_back_95 : decode cX17_back 95 = .ok (.aload_n 0, 1) := dk_42 (dk_at dksX17_back_4 3 rfl rfl)
theorem dX17_back_96 : decode cX17_back 96 = .ok (.getfield 3, 3) := dk_180 0 3 (dk_at dksX17_back_4 4 rfl rfl)
theorem dX17_back_99 : decode cX17_back 99 = .ok (.aload_n 0, 1) := dk_42 (dk_at dksX17_back_4 7 rfl rfl)
theorem dX17_back_100 : decode cX17_back 100 = .ok (.getfield 65, 3) := dk_180 0 65 (dk_at dksX17_back_4 8 rfl rfl)
theorem dX17_back_103 : decode cX17_back 103 = .ok (.putfield 62, 3) := dk_181 0 62 (dk_at dksX17_back_4 11 rfl rfl)
theorem dX17_back_106 : decode cX17_back 106 = .ok (.aload_n 0, 1) := dk_42 (dk_at dksX17_back_4 14 rfl rfl)
theorem dX17_back_107 : decode cX17_back 107 = .ok (.getfield 3, 3) := dk_180 0 3 (dk_at dksX17_back_4 15 rfl rfl)
theorem dX17_back_110 : decode cX17_back 110 = .ok (.aload_n 0, 1) := dk_42 (dk_at dksX17_back_4 18 rfl rfl)
theorem dX17_back_111 : decode cX17_back 111 = .ok (.getfield 71, 3) := dk_180 0 71 (dk_at dksX17_back_4 19 rfl rfl)
theorem dX17_back_114 : decode cX17_back 114 = .ok (.putfield 68, 3) := dk_181 0 68 (dk_at dksX17_back_5 0 rfl rfl)
theorem dX17_back_117 : decode cX17_back 117 = .ok (.aload_n 0, 1) := dk_42 (dk_at dksX17_back_5 3 rfl rfl)
theorem dX17_back_118 : decode cX17_back 118 = .ok (.getfield 3, 3) := dk_180 0 3 (dk_at dksX17_back_5 4 rfl rfl)
theorem dX17_back_121 : decode cX17_back 121 = .ok (.iconst 0, 1) := dk_3 (dk_at dksX17_back_5 7 rfl rfl)
theorem dX17_back_122 : decode cX17_back 122 = .ok (.putfield 74, 3) := dk_181 0 74 (dk_at dksX17_back_5 8 rfl rfl)
theorem dX17_back_125 : decode cX17_back 125 = .ok (.return_, 1) := dk_177 (dk_at dksX17_back_5 11 rfl rfl)
theorem q163 : (Jvm.Cond.initialized "EdgeWalk$Image") ∈ lw_all := lw_g (lw_at lw_m1 35 rfl) rfl
theorem q349 : (Jvm.Cond.fieldLinkNest "EdgeWalk$Image" (32 : Nat) "EdgeWalk" "sheet" "LEdgeWalk$Sheet;" "EdgeWalk") ∈ lw_tbl := lw_at lw_m1 221 rfl
theorem q351 : (Jvm.Cond.fieldLinkNest "EdgeWalk$Image" (39 : Nat) "EdgeWalk" "state" "LEdgeWalk$State;" "EdgeWalk") ∈ lw_tbl := lw_at lw_m1 223 rfl
theorem q356 : (Jvm.Cond.fieldLinkNest "EdgeWalk$Image" (62 : Nat) "EdgeWalk" "inForce" "I" "EdgeWalk") ∈ lw_tbl := lw_at lw_m1 228 rfl
theorem q363 : (Jvm.Cond.fieldLinkNest "EdgeWalk$Image" (46 : Nat) "EdgeWalk" "noteWhen" "[I" "EdgeWalk") ∈ lw_tbl := lw_at lw_m1 235 rfl
theorem q365 : (Jvm.Cond.fieldLinkNest "EdgeWalk$Image" (49 : Nat) "EdgeWalk" "noteWho" "[I" "EdgeWalk") ∈ lw_tbl := lw_at lw_m1 237 rfl
theorem q367 : (Jvm.Cond.fieldLinkNest "EdgeWalk$Image" (52 : Nat) "EdgeWalk" "noteWhere" "[I" "EdgeWalk") ∈ lw_tbl := lw_at lw_m1 239 rfl
theorem q369 : (Jvm.Cond.fieldLinkNest "EdgeWalk$Image" (55 : Nat) "EdgeWalk" "notes" "I" "EdgeWalk") ∈ lw_tbl := lw_at lw_m2 1 rfl
theorem q371 : (Jvm.Cond.fieldLinkNest "EdgeWalk$Image" (68 : Nat) "EdgeWalk" "draw" "I" "EdgeWalk") ∈ lw_tbl := lw_at lw_m2 3 rfl
theorem q375 : (Jvm.Cond.fieldLinkNest "EdgeWalk$Image" (74 : Nat) "EdgeWalk" "pastMany" "I" "EdgeWalk") ∈ lw_tbl := lw_at lw_m2 7 rfl
theorem q655 : (Jvm.Cond.selects "EdgeWalk$Image" ({ cls := "java/lang/Object", name := "getClass", desc := "()Ljava/lang/Class;" } : Jvm.MethodName) ({ cls := "java/lang/Object", name := "getClass", desc := "()Ljava/lang/Class;" } : Jvm.MethodName)) ∈ lw_all := lw_g (lw_at lw_m3 47 rfl) rfl
theorem q1226 : (Jvm.Cond.instantiable "EdgeWalk$Image" (9 : Nat)) ∈ lw_all := lw_g (lw_at lw_m5 138 rfl) rfl
theorem q1228 : (Jvm.Cond.instanceMethod ({ cls := "EdgeWalk$Image", name := "<init>", desc := "(LEdgeWalk;)V" } : Jvm.MethodName)) ∈ lw_all := lw_g (lw_at lw_m5 140 rfl) rfl
theorem q1229 : (Jvm.Cond.code ({ cls := "EdgeWalk$Image", name := "<init>", desc := "(LEdgeWalk;)V" } : Jvm.MethodName) prog_7_method_1_code (2 : Nat) (Option.none : Option Jvm.ClassFile.FieldType)) ∈ lw_all := lw_g (lw_at lw_m5 141 rfl) rfl
theorem q1230 : (Jvm.Cond.methodLink "EdgeWalk$Image" (9 : Nat) ({ cls := "java/lang/Object", name := "<init>", desc := "()V" } : Jvm.MethodName)) ∈ lw_all := lw_g (lw_at lw_m5 142 rfl) rfl
theorem q1231 : (Jvm.Cond.classLink "EdgeWalk$Image" (15 : Nat) "EdgeWalk$State") ∈ lw_all := lw_g (lw_at lw_m5 143 rfl) rfl
theorem q1232 : (Jvm.Cond.methodLinkNest "EdgeWalk$Image" (17 : Nat) ({ cls := "EdgeWalk$State", name := "<init>", desc := "()V" } : Jvm.MethodName) "EdgeWalk") ∈ lw_tbl := lw_at lw_m5 144 rfl
theorem q1233 : (Jvm.Cond.fieldLink "EdgeWalk$Image" (36 : Nat) "EdgeWalk$Image" "its" "LEdgeWalk$Sheet;") ∈ lw_all := lw_g (lw_at lw_m5 145 rfl) rfl
theorem q1234 : (Jvm.Cond.fieldLink "EdgeWalk$Image" (18 : Nat) "EdgeWalk$Image" "stood" "LEdgeWalk$State;") ∈ lw_all := lw_g (lw_at lw_m5 146 rfl) rfl
theorem q1235 : (Jvm.Cond.fieldLink "EdgeWalk$Image" (22 : Nat) "EdgeWalk$Image" "when" "[I") ∈ lw_all := lw_g (lw_at lw_m5 147 rfl) rfl
theorem q1236 : (Jvm.Cond.fieldLink "EdgeWalk$Image" (26 : Nat) "EdgeWalk$Image" "who" "[I") ∈ lw_all := lw_g (lw_at lw_m5 148 rfl) rfl
theorem q1237 : (Jvm.Cond.fieldLink "EdgeWalk$Image" (29 : Nat) "EdgeWalk$Image" "where" "[I") ∈ lw_all := lw_g (lw_at lw_m5 149 rfl) rfl
theorem q1238 : (Jvm.Cond.fieldLink "EdgeWalk$Image" (59 : Nat) "EdgeWalk$Image" "many" "I") ∈ lw_all := lw_g (lw_at lw_m5 150 rfl) rfl
theorem q1239 : (Jvm.Cond.fieldLink "EdgeWalk$Image" (65 : Nat) "EdgeWalk$Image" "force" "I") ∈ lw_all := lw_g (lw_at lw_m5 151 rfl) rfl
theorem q1240 : (Jvm.Cond.fieldLink "EdgeWalk$Image" (71 : Nat) "EdgeWalk$Image" "x" "I") ∈ lw_all := lw_g (lw_at lw_m5 152 rfl) rfl
theorem q1241 : (Jvm.Cond.fieldLink "EdgeWalk$Image" (3 : Nat) "EdgeWalk$Image" "this$0" "LEdgeWalk;") ∈ lw_all := lw_g (lw_at lw_m5 153 rfl) rfl
theorem q1242 : (Jvm.Cond.lays "EdgeWalk$Image" "EdgeWalk$Image" "its" "LEdgeWalk$Sheet;") ∈ lw_all := lw_g (lw_at lw_m5 154 rfl) rfl
theorem q1243 : (Jvm.Cond.soleField "EdgeWalk$Image" "its") ∈ lw_all := lw_g (lw_at lw_m5 155 rfl) rfl
theorem q1244 : (Jvm.Cond.laysFinal "EdgeWalk$Image" "EdgeWalk$Image" "stood" "LEdgeWalk$State;") ∈ lw_all := lw_g (lw_at lw_m5 156 rfl) rfl
theorem q1245 : (Jvm.Cond.soleField "EdgeWalk$Image" "stood") ∈ lw_all := lw_g (lw_at lw_m5 157 rfl) rfl
theorem q1246 : (Jvm.Cond.laysFinal "EdgeWalk$Image" "EdgeWalk$Image" "when" "[I") ∈ lw_all := lw_g (lw_at lw_m5 158 rfl) rfl
theorem q1247 : (Jvm.Cond.soleField "EdgeWalk$Image" "when") ∈ lw_all := lw_g (lw_at lw_m5 159 rfl) rfl
theorem q1248 : (Jvm.Cond.laysFinal "EdgeWalk$Image" "EdgeWalk$Image" "who" "[I") ∈ lw_all := lw_g (lw_at lw_m5 160 rfl) rfl
theorem q1249 : (Jvm.Cond.soleField "EdgeWalk$Image" "who") ∈ lw_all := lw_g (lw_at lw_m5 161 rfl) rfl
theorem q1250 : (Jvm.Cond.laysFinal "EdgeWalk$Image" "EdgeWalk$Image" "where" "[I") ∈ lw_all := lw_g (lw_at lw_m5 162 rfl) rfl
theorem q1251 : (Jvm.Cond.soleField "EdgeWalk$Image" "where") ∈ lw_all := lw_g (lw_at lw_m5 163 rfl) rfl
theorem q1252 : (Jvm.Cond.lays "EdgeWalk$Image" "EdgeWalk$Image" "many" "I") ∈ lw_all := lw_g (lw_at lw_m5 164 rfl) rfl
theorem q1253 : (Jvm.Cond.soleField "EdgeWalk$Image" "many") ∈ lw_all := lw_g (lw_at lw_m5 165 rfl) rfl
theorem q1254 : (Jvm.Cond.lays "EdgeWalk$Image" "EdgeWalk$Image" "force" "I") ∈ lw_all := lw_g (lw_at lw_m5 166 rfl) rfl
theorem q1255 : (Jvm.Cond.soleField "EdgeWalk$Image" "force") ∈ lw_all := lw_g (lw_at lw_m5 167 rfl) rfl
theorem q1256 : (Jvm.Cond.lays "EdgeWalk$Image" "EdgeWalk$Image" "x" "I") ∈ lw_all := lw_g (lw_at lw_m5 168 rfl) rfl
theorem q1257 : (Jvm.Cond.soleField "EdgeWalk$Image" "x") ∈ lw_all := lw_g (lw_at lw_m5 169 rfl) rfl
theorem q1258 : (Jvm.Cond.laysFinal "EdgeWalk$Image" "EdgeWalk$Image" "this$0" "LEdgeWalk;") ∈ lw_all := lw_g (lw_at lw_m5 170 rfl) rfl
theorem q1259 : (Jvm.Cond.soleField "EdgeWalk$Image" "this$0") ∈ lw_all := lw_g (lw_at lw_m5 171 rfl) rfl
theorem q1260 : (Jvm.Cond.superclass "EdgeWalk$Image" "java/lang/Object") ∈ lw_all := lw_g (lw_at lw_m5 172 rfl) rfl
theorem q1262 : (Jvm.Cond.instanceMethod ({ cls := "EdgeWalk$Image", name := "keep", desc := "()V" } : Jvm.MethodName)) ∈ lw_all := lw_g (lw_at lw_m5 174 rfl) rfl
theorem q1263 : (Jvm.Cond.selects "EdgeWalk$Image" ({ cls := "EdgeWalk$Image", name := "keep", desc := "()V" } : Jvm.MethodName) ({ cls := "EdgeWalk$Image", name := "keep", desc := "()V" } : Jvm.MethodName)) ∈ lw_all := lw_g (lw_at lw_m5 175 rfl) rfl
theorem q1264 : (Jvm.Cond.code ({ cls := "EdgeWalk$Image", name := "keep", desc := "()V" } : Jvm.MethodName) prog_7_method_2_code (2 : Nat) (Option.none : Option Jvm.ClassFile.FieldType)) ∈ lw_all := lw_g (lw_at lw_m5 176 rfl) rfl
theorem q1265 : (Jvm.Cond.methodLink "EdgeWalk$Image" (42 : Nat) ({ cls := "EdgeWalk$State", name := "copyFrom", desc := "(LEdgeWalk$State;)V" } : Jvm.MethodName)) ∈ lw_all := lw_g (lw_at lw_m5 177 rfl) rfl
theorem q1271 : (Jvm.Cond.instanceMethod ({ cls := "EdgeWalk$Image", name := "back", desc := "()V" } : Jvm.MethodName)) ∈ lw_all := lw_g (lw_at lw_m5 183 rfl) rfl
theorem q1272 : (Jvm.Cond.selects "EdgeWalk$Image" ({ cls := "EdgeWalk$Image", name := "back", desc := "()V" } : Jvm.MethodName) ({ cls := "EdgeWalk$Image", name := "back", desc := "()V" } : Jvm.MethodName)) ∈ lw_all := lw_g (lw_at lw_m5 184 rfl) rfl
theorem q1273 : (Jvm.Cond.code ({ cls := "EdgeWalk$Image", name := "back", desc := "()V" } : Jvm.MethodName) prog_7_method_3_code (2 : Nat) (Option.none : Option Jvm.ClassFile.FieldType)) ∈ lw_all := lw_g (lw_at lw_m5 185 rfl) rfl
theorem q1912 : (Jvm.Cond.castable "EdgeWalk$Image" "java/lang/Object") ∈ lw_tbl := lw_at lw_m8 104 rfl
theorem in_X17 : ∀ w ∈ wsX170, w ∈ lw_all := lw_in wsX170 [1242, 1244, 1246, 1248, 1250, 1252, 1254, 1256, 1258] (by decide +kernel) (by decide +kernel)
/-! EdgeWalk$State -/
set_option maxRecDepth 100000
def RX2 : String := "EdgeWalk$State"
def TX2 : u_T := fun k => match k with
  | 0 => ("EdgeWalk$State", "is", "[I", true)
  | 1 => ("EdgeWalk$State", "cell", "[I", true)
  | 2 => ("EdgeWalk$State", "faces", "[I", true)
  | 3 => ("EdgeWalk$State", "food", "[I", true)
  | 4 => ("EdgeWalk$State", "left", "[I", true)
  | 5 => ("EdgeWalk$State", "place", "[I", true)
  | 6 => ("EdgeWalk$State", "been", "[I", true)
  | 7 => ("EdgeWalk$State", "leads", "[I", true)
  | 8 => ("EdgeWalk$State", "step", "I", false)
  | _ => ("EdgeWalk$State", "stones", "J", false)
def tyX2 : Nat → FieldType := fun k => match k with
  | 0 => .array .int
  | 1 => .array .int
  | 2 => .array .int
  | 3 => .array .int
  | 4 => .array .int
  | 5 => .array .int
  | 6 => .array .int
  | 7 => .array .int
  | 8 => .int
  | _ => .long
abbrev wsX20 : List Cond := u_ws RX2 TX2 10
theorem nmX2 : ∀ a, a < 10 → ∀ b, b < 10 → a ≠ b → (TX2 a).2.1 ≠ (TX2 b).2.1 := by decide +kernel
theorem tyX2_ok : ∀ k, k < 10 → parseFieldDescriptor (TX2 k).2.2.1 = some (tyX2 k) := by decide +kernel
abbrev cX2_init : ByteArray := prog_14_method_1_code
def yX2_init : MethodName := ⟨RX2, "<init>", "()V"⟩
def dkwX2_init_2 : List UInt8 := [42, 8, 188, 10, 181, 0, 30, 42, 7, 188, 10, 181, 0, 33, 177]
abbrev dktX2_init_2 : List UInt8 := dkwX2_init_2 ++ []
def dkwX2_init_1 : List UInt8 := [181, 0, 18, 42, 8, 188, 10, 181, 0, 21, 42, 8, 188, 10, 181, 0, 24, 42, 8, 188, 10, 181, 0, 27]
abbrev dktX2_init_1 : List UInt8 := dkwX2_init_1 ++ dktX2_init_2
def dkwX2_init_0 : List UInt8 := [42, 183, 0, 3, 42, 8, 188, 10, 181, 0, 9, 42, 8, 188, 10, 181, 0, 15, 42, 8, 188, 10]
abbrev dktX2_init_0 : List UInt8 := dkwX2_init_0 ++ dktX2_init_1
theorem dksX2_init_0 : cX2_init.data.toList.drop 0 = dktX2_init_0 := by decide +kernel
theorem dksX2_init_1 : cX2_init.data.toList.drop 22 = dktX2_init_1 := dk_seg dksX2_init_0 22 rfl rfl
theorem dksX2_init_2 : cX2_init.data.toList.drop 46 = dktX2_init_2 := dk_seg dksX2_init_1 24 rfl rfl
theorem dX2_init_0 : decode cX2_init 0 = .ok (.aload_n 0, 1) := dk_42 (dk_at dksX2_init_0 0 rfl rfl)
theorem dX2_init_1 : decode cX2_init 1 = .ok (.invokespecial 3, 3) := dk_183 0 3 (dk_at dksX2_init_0 1 rfl rfl)
theorem dX2_init_4 : decode cX2_init 4 = .ok (.aload_n 0, 1) := dk_42 (dk_at dksX2_init_0 4 rfl rfl)
theorem dX2_init_5 : decode cX2_init 5 = .ok (.iconst 5, 1) := dk_8 (dk_at dksX2_init_0 5 rfl rfl)
theorem dX2_init_6 : decode cX2_init 6 = .ok (.newarray .int, 2) := dk_188_10 (dk_at dksX2_init_0 6 rfl rfl)
theorem dX2_init_8 : decode cX2_init 8 = .ok (.putfield 9, 3) := dk_181 0 9 (dk_at dksX2_init_0 8 rfl rfl)
theorem dX2_init_11 : decode cX2_init 11 = .ok (.aload_n 0, 1) := dk_42 (dk_at dksX2_init_0 11 rfl rfl)
theorem dX2_init_12 : decode cX2_init 12 = .ok (.iconst 5, 1) := dk_8 (dk_at dksX2_init_0 12 rfl rfl)
theorem dX2_init_13 : decode cX2_init 13 = .ok (.newarray .int, 2) := dk_188_10 (dk_at dksX2_init_0 13 rfl rfl)
theorem dX2_init_15 : decode cX2_init 15 = .ok (.putfield 15, 3) := dk_181 0 15 (dk_at dksX2_init_0 15 rfl rfl)
theorem dX2_init_18 : decode cX2_init 18 = .ok (.aload_n 0, 1) := dk_42 (dk_at dksX2_init_0 18 rfl rfl)
theorem dX2_init_19 : decode cX2_init 19 = .ok (.iconst 5, 1) := dk_8 (dk_at dksX2_init_0 19 rfl rfl)
theorem dX2_init_20 : decode cX2_init 20 = .ok (.newarray .int, 2) := dk_188_10 (dk_at dksX2_init_0 20 rfl rfl)
theorem dX2_init_22 : decode cX2_init 22 = .ok (.putfield 18, 3) := dk_181 0 18 (dk_at dksX2_init_1 0 rfl rfl)
theorem dX2_init_25 : decode cX2_init 25 = .ok (.aload_n 0, 1) := dk_42 (dk_at dksX2_init_1 3 rfl rfl)
theorem dX2_init_26 : decode cX2_init 26 = .ok (.iconst 5, 1) := dk_8 (dk_at dksX2_init_1 4 rfl rfl)
theorem dX2_init_27 : decode cX2_init 27 = .ok (.newarray .int, 2) := dk_188_10 (dk_at dksX2_init_1 5 rfl rfl)
theorem dX2_init_29 : decode cX2_init 29 = .ok (.putfield 21, 3) := dk_181 0 21 (dk_at dksX2_init_1 7 rfl rfl)
theorem dX2_init_32 : decode cX2_init 32 = .ok (.aload_n 0, 1) := dk_42 (dk_at dksX2_init_1 10 rfl rfl)
theorem dX2_init_33 : decode cX2_init 33 = .ok (.iconst 5, 1) := dk_8 (dk_at dksX2_init_1 11 rfl rfl)
theorem dX2_init_34 : decode cX2_init 34 = .ok (.newarray .int, 2) := dk_188_10 (dk_at dksX2_init_1 12 rfl rfl)
theorem dX2_init_36 : decode cX2_init 36 = .ok (.putfield 24, 3) := dk_181 0 24 (dk_at dksX2_init_1 14 rfl rfl)
theorem dX2_init_39 : decode cX2_init 39 = .ok (.aload_n 0, 1) := dk_42 (dk_at dksX2_init_1 17 rfl rfl)
theorem dX2_init_40 : decode cX2_init 40 = .ok (.iconst 5, 1) := dk_8 (dk_at dksX2_init_1 18 rfl rfl)
theorem dX2_init_41 : decode cX2_init 41 = .ok (.newarray .int, 2) := dk_188_10 (dk_at dksX2_init_1 19 rfl rfl)
theorem dX2_init_43 : decode cX2_init 43 = .ok (.putfield 27, 3) := dk_181 0 27 (dk_at dksX2_init_1 21 rfl rfl)
theorem dX2_init_46 : decode cX2_init 46 = .ok (.aload_n 0, 1) := dk_42 (dk_at dksX2_init_2 0 rfl rfl)
theorem dX2_init_47 : decode cX2_init 47 = .ok (.iconst 5, 1) := dk_8 (dk_at dksX2_init_2 1 rfl rfl)
theorem dX2_init_48 : decode cX2_init 48 = .ok (.newarray .int, 2) := dk_188_10 (dk_at dksX2_init_2 2 rfl rfl)
theorem dX2_init_50 : decode cX2_init 50 = .ok (.putfield 30, 3) := dk_181 0 30 (dk_at dksX2_init_2 4 rfl rfl)
theorem dX2_init_53 : decode cX2_init 53 = .ok (.aload_n 0, 1) := dk_42 (dk_at dksX2_init_2 7 rfl rfl)
theorem dX2_init_54 : decode cX2_init 54 = .ok (.iconst 4, 1) := dk_7 (dk_at dksX2_init_2 8 rfl rfl)
theorem dX2_init_55 : decode cX2_init 55 = .ok (.newarray .int, 2) := dk_188_10 (dk_at dksX2_init_2 9 rfl rfl)
theorem dX2_init_57 : decode cX2_init 57 = .ok (.putfield 33, 3) := dk_181 0 33 (dk_at dksX2_init_2 11 rfl rfl)
theorem dX2_init_60 : decode cX2_init 60 = .ok (.return_, 1) := dk_177 (dk_at dksX2_init_2 14 rfl rfl)
abbrev cX2_begin : ByteArray := prog_14_method_3_code
def yX2_begin : MethodName := ⟨RX2, "begin", "(LEdgeWalk$Sheet;)V"⟩
def dkwX2_begin_7 : List UInt8 := [28, 46, 79, 132, 2, 1, 167, 255, 236, 42, 3, 181, 0, 36, 42, 43, 180, 0, 68, 181, 0, 40, 177]
abbrev dktX2_begin_7 : List UInt8 := dkwX2_begin_7 ++ []
def dkwX2_begin_6 : List UInt8 := [3, 79, 132, 2, 1, 167, 255, 114, 3, 61, 28, 7, 162, 0, 21, 42, 180, 0, 33, 28, 43, 180, 0, 67]
abbrev dktX2_begin_6 : List UInt8 := dkwX2_begin_6 ++ dktX2_begin_7
def dkwX2_begin_5 : List UInt8 := [167, 0, 4, 3, 79, 42, 180, 0, 24, 28, 3, 79, 42, 180, 0, 27, 28, 3, 79, 42, 180, 0, 30, 28]
abbrev dktX2_begin_5 : List UInt8 := dkwX2_begin_5 ++ dktX2_begin_6
def dkwX2_begin_4 : List UInt8 := [180, 0, 21, 28, 29, 153, 0, 20, 43, 180, 0, 50, 28, 182, 0, 53, 192, 0, 59, 180, 0, 65]
abbrev dktX2_begin_4 : List UInt8 := dkwX2_begin_4 ++ dktX2_begin_5
def dkwX2_begin_3 : List UInt8 := [153, 0, 20, 43, 180, 0, 50, 28, 182, 0, 53, 192, 0, 59, 180, 0, 63, 167, 0, 4, 3, 79, 42]
abbrev dktX2_begin_3 : List UInt8 := dkwX2_begin_3 ++ dktX2_begin_4
def dkwX2_begin_2 : List UInt8 := [180, 0, 50, 28, 182, 0, 53, 192, 0, 59, 180, 0, 61, 167, 0, 4, 2, 79, 42, 180, 0, 18, 28, 29]
abbrev dktX2_begin_2 : List UInt8 := dkwX2_begin_2 ++ dktX2_begin_3
def dkwX2_begin_1 : List UInt8 := [180, 0, 9, 28, 29, 153, 0, 7, 3, 167, 0, 4, 5, 79, 42, 180, 0, 15, 28, 29, 153, 0, 20, 43]
abbrev dktX2_begin_1 : List UInt8 := dkwX2_begin_1 ++ dktX2_begin_2
def dkwX2_begin_0 : List UInt8 := [3, 61, 28, 8, 162, 0, 143, 28, 43, 182, 0, 44, 162, 0, 7, 4, 167, 0, 4, 3, 62, 42]
abbrev dktX2_begin_0 : List UInt8 := dkwX2_begin_0 ++ dktX2_begin_1
theorem dksX2_begin_0 : cX2_begin.data.toList.drop 0 = dktX2_begin_0 := by decide +kernel
theorem dksX2_begin_1 : cX2_begin.data.toList.drop 22 = dktX2_begin_1 := dk_seg dksX2_begin_0 22 rfl rfl
theorem dksX2_begin_2 : cX2_begin.data.toList.drop 46 = dktX2_begin_2 := dk_seg dksX2_begin_1 24 rfl rfl
theorem dksX2_begin_3 : cX2_begin.data.toList.drop 70 = dktX2_begin_3 := dk_seg dksX2_begin_2 24 rfl rfl
theorem dksX2_begin_4 : cX2_begin.data.toList.drop 93 = dktX2_begin_4 := dk_seg dksX2_begin_3 23 rfl rfl
theorem dksX2_begin_5 : cX2_begin.data.toList.drop 115 = dktX2_begin_5 := dk_seg dksX2_begin_4 22 rfl rfl
theorem dksX2_begin_6 : cX2_begin.data.toList.drop 139 = dktX2_begin_6 := dk_seg dksX2_begin_5 24 rfl rfl
theorem dksX2_begin_7 : cX2_begin.data.toList.drop 163 = dktX2_begin_7 := dk_seg dksX2_begin_6 24 rfl rfl
theorem dX2_begin_0 : decode cX2_begin 0 = .ok (.iconst 0, 1) := dk_3 (dk_at dksX2_begin_0 0 rfl rfl)
theorem dX2_begin_1 : decode cX2_begin 1 = .ok (.istore_n 2, 1) := dk_61 (dk_at dksX2_begin_0 1 rfl rfl)
theorem dX2_begin_2 : decode cX2_begin 2 = .ok (.iload_n 2, 1) := dk_28 (dk_at dksX2_begin_0 2 rfl rfl)
theorem dX2_begin_3 : decode cX2_begin 3 = .ok (.iconst 5, 1) := dk_8 (dk_at dksX2_begin_0 3 rfl rfl)
theorem dX2_begin_4 : decode cX2_begin 4 = .ok (.if_icmp .ge 143, 3) := dk_162 0 143 (dk_at dksX2_begin_0 4 rfl rfl)
theorem dX2_begin_7 : decode cX2_begin 7 = .ok (.iload_n 2, 1) := dk_28 (dk_at dksX2_begin_0 7 rfl rfl)
theorem dX2_begin_8 : decode cX2_begin 8 = .ok (.aload_n 1, 1) := dk_43 (dk_at dksX2_begin_0 8 rfl rfl)
theorem dX2_begin_9 : decode cX2_begin 9 = .ok (.invokevirtual 44, 3) := dk_182 0 44 (dk_at dksX2_begin_0 9 rfl rfl)
theorem dX2_begin_12 : decode cX2_begin 12 = .ok (.if_icmp .ge 7, 3) := dk_162 0 7 (dk_at dksX2_begin_0 12 rfl rfl)
theorem dX2_begin_15 : decode cX2_begin 15 = .ok (.iconst 1, 1) := dk_4 (dk_at dksX2_begin_0 15 rfl rfl)
theorem dX2_begin_16 : decode cX2_begin 16 = .ok (.goto 4, 3) := dk_167 0 4 (dk_at dksX2_begin_0 16 rfl rfl)
theorem dX2_begin_19 : decode cX2_begin 19 = .ok (.iconst 0, 1) := dk_3 (dk_at dksX2_begin_0 19 rfl rfl)
theorem dX2_begin_20 : decode cX2_begin 20 = .ok (.istore_n 3, 1) := dk_62 (dk_at dksX2_begin_0 20 rfl rfl)
theorem dX2_begin_21 : decode cX2_begin 21 = .ok (.aload_n 0, 1) := dk_42 (dk_at dksX2_begin_0 21 rfl rfl)
theorem dX2_begin_22 : decode cX2_begin 22 = .ok (.getfield 9, 3) := dk_180 0 9 (dk_at dksX2_begin_1 0 rfl rfl)
theorem dX2_begin_25 : decode cX2_begin 25 = .ok (.iload_n 2, 1) := dk_28 (dk_at dksX2_begin_1 3 rfl rfl)
theorem dX2_begin_26 : decode cX2_begin 26 = .ok (.iload_n 3, 1) := dk_29 (dk_at dksX2_begin_1 4 rfl rfl)
theorem dX2_begin_27 : decode cX2_begin 27 = .ok (.ifCond .eq 7, 3) := dk_153 0 7 (dk_at dksX2_begin_1 5 rfl rfl)
theorem dX2_begin_30 : decode cX2_begin 30 = .ok (.iconst 0, 1) := dk_3 (dk_at dksX2_begin_1 8 rfl rfl)
theorem dX2_begin_31 : decode cX2_begin 31 = .ok (.goto 4, 3) := dk_167 0 4 (dk_at dksX2_begin_1 9 rfl rfl)
theorem dX2_begin_34 : decode cX2_begin 34 = .ok (.iconst 2, 1) := dk_5 (dk_at dksX2_begin_1 12 rfl rfl)
theorem dX2_begin_35 : decode cX2_begin 35 = .ok (.iastore, 1) := dk_79 (dk_at dksX2_begin_1 13 rfl rfl)
theorem dX2_begin_36 : decode cX2_begin 36 = .ok (.aload_n 0, 1) := dk_42 (dk_at dksX2_begin_1 14 rfl rfl)
theorem dX2_begin_37 : decode cX2_begin 37 = .ok (.getfield 15, 3) := dk_180 0 15 (dk_at dksX2_begin_1 15 rfl rfl)
theorem dX2_begin_40 : decode cX2_begin 40 = .ok (.iload_n 2, 1) := dk_28 (dk_at dksX2_begin_1 18 rfl rfl)
theorem dX2_begin_41 : decode cX2_begin 41 = .ok (.iload_n 3, 1) := dk_29 (dk_at dksX2_begin_1 19 rfl rfl)
theorem dX2_begin_42 : decode cX2_begin 42 = .ok (.ifCond .eq 20, 3) := dk_153 0 20 (dk_at dksX2_begin_1 20 rfl rfl)
theorem dX2_begin_45 : decode cX2_begin 45 = .ok (.aload_n 1, 1) := dk_43 (dk_at dksX2_begin_1 23 rfl rfl)
theorem dX2_begin_46 : decode cX2_begin 46 = .ok (.getfield 50, 3) := dk_180 0 50 (dk_at dksX2_begin_2 0 rfl rfl)
theorem dX2_begin_49 : decode cX2_begin 49 = .ok (.iload_n 2, 1) := dk_28 (dk_at dksX2_begin_2 3 rfl rfl)
theorem dX2_begin_50 : decode cX2_begin 50 = .ok (.invokevirtual 53, 3) := dk_182 0 53 (dk_at dksX2_begin_2 4 rfl rfl)
theorem dX2_begin_53 : decode cX2_begin 53 = .ok (.checkcast 59, 3) := dk_192 0 59 (dk_at dksX2_begin_2 7 rfl rfl)
theorem dX2_begin_56 : decode cX2_begin 56 = .ok (.getfield 61, 3) := dk_180 0 61 (dk_at dksX2_begin_2 10 rfl rfl)
theorem dX2_begin_59 : decode cX2_begin 59 = .ok (.goto 4, 3) := dk_167 0 4 (dk_at dksX2_begin_2 13 rfl rfl)
theorem dX2_begin_62 : decode cX2_begin 62 = .ok (.iconst (-1), 1) := dk_2 (dk_at dksX2_begin_2 16 rfl rfl)
theorem dX2_begin_63 : decode cX2_begin 63 = .ok (.iastore, 1) := dk_79 (dk_at dksX2_begin_2 17 rfl rfl)
theorem dX2_begin_64 : decode cX2_begin 64 = .ok (.aload_n 0, 1) := dk_42 (dk_at dksX2_begin_2 18 rfl rfl)
theorem dX2_begin_65 : decode cX2_begin 65 = .ok (.getfield 18, 3) := dk_180 0 18 (dk_at dksX2_begin_2 19 rfl rfl)
theorem dX2_begin_68 : decode cX2_begin 68 = .ok (.iload_n 2, 1) := dk_28 (dk_at dksX2_begin_2 22 rfl rfl)
theorem dX2_begin_69 : decode cX2_begin 69 = .ok (.iload_n 3, 1) := dk_29 (dk_at dksX2_begin_2 23 rfl rfl)
theorem dX2_begin_70 : decode cX2_begin 70 = .ok (.ifCond .eq 20, 3) := dk_153 0 20 (dk_at dksX2_begin_3 0 rfl rfl)
theorem dX2_begin_73 : decode cX2_begin 73 = .ok (.aload_n 1, 1) := dk_43 (dk_at dksX2_begin_3 3 rfl rfl)
theorem dX2_begin_74 : decode cX2_begin 74 = .ok (.getfield 50, 3) := dk_180 0 50 (dk_at dksX2_begin_3 4 rfl rfl)
theorem dX2_begin_77 : decode cX2_begin 77 = .ok (.iload_n 2, 1) := dk_28 (dk_at dksX2_begin_3 7 rfl rfl)
theorem dX2_begin_78 : decode cX2_begin 78 = .ok (.invokevirtual 53, 3) := dk_182 0 53 (dk_at dksX2_begin_3 8 rfl rfl)
theorem dX2_begin_81 : decode cX2_begin 81 = .ok (.checkcast 59, 3) := dk_192 0 59 (dk_at dksX2_begin_3 11 rfl rfl)
theorem dX2_begin_84 : decode cX2_begin 84 = .ok (.getfield 63, 3) := dk_180 0 63 (dk_at dksX2_begin_3 14 rfl rfl)
theorem dX2_begin_87 : decode cX2_begin 87 = .ok (.goto 4, 3) := dk_167 0 4 (dk_at dksX2_begin_3 17 rfl rfl)
theorem dX2_begin_90 : decode cX2_begin 90 = .ok (.iconst 0, 1) := dk_3 (dk_at dksX2_begin_3 20 rfl rfl)
theorem dX2_begin_91 : decode cX2_begin 91 = .ok (.iastore, 1) := dk_79 (dk_at dksX2_begin_3 21 rfl rfl)
theorem dX2_begin_92 : decode cX2_begin 92 = .ok (.aload_n 0, 1) := dk_42 (dk_at dksX2_begin_3 22 rfl rfl)
theorem dX2_begin_93 : decode cX2_begin 93 = .ok (.getfield 21, 3) := dk_180 0 21 (dk_at dksX2_begin_4 0 rfl rfl)
theorem dX2_begin_96 : decode cX2_begin 96 = .ok (.iload_n 2, 1) := dk_28 (dk_at dksX2_begin_4 3 rfl rfl)
theorem dX2_begin_97 : decode cX2_begin 97 = .ok (.iload_n 3, 1) := dk_29 (dk_at dksX2_begin_4 4 rfl rfl)
theorem dX2_begin_98 : decode cX2_begin 98 = .ok (.ifCond .eq 20, 3) := dk_153 0 20 (dk_at dksX2_begin_4 5 rfl rfl)
theorem dX2_begin_101 : decode cX2_begin 101 = .ok (.aload_n 1, 1) := dk_43 (dk_at dksX2_begin_4 8 rfl rfl)
theorem dX2_begin_102 : decode cX2_begin 102 = .ok (.getfield 50, 3) := dk_180 0 50 (dk_at dksX2_begin_4 9 rfl rfl)
theorem dX2_begin_105 : decode cX2_begin 105 = .ok (.iload_n 2, 1) := dk_28 (dk_at dksX2_begin_4 12 rfl rfl)
theorem dX2_begin_106 : decode cX2_begin 106 = .ok (.invokevirtual 53, 3) := dk_182 0 53 (dk_at dksX2_begin_4 13 rfl rfl)
theorem dX2_begin_109 : decode cX2_begin 109 = .ok (.checkcast 59, 3) := dk_192 0 59 (dk_at dksX2_begin_4 16 rfl rfl)
theorem dX2_begin_112 : decode cX2_begin 112 = .ok (.getfield 65, 3) := dk_180 0 65 (dk_at dksX2_begin_4 19 rfl rfl)
theorem dX2_begin_115 : decode cX2_begin 115 = .ok (.goto 4, 3) := dk_167 0 4 (dk_at dksX2_begin_5 0 rfl rfl)
theorem dX2_begin_118 : decode cX2_begin 118 = .ok (.iconst 0, 1) := dk_3 (dk_at dksX2_begin_5 3 rfl rfl)
theorem dX2_begin_119 : decode cX2_begin 119 = .ok (.iastore, 1) := dk_79 (dk_at dksX2_begin_5 4 rfl rfl)
theorem dX2_begin_120 : decode cX2_begin 120 = .ok (.aload_n 0, 1) := dk_42 (dk_at dksX2_begin_5 5 rfl rfl)
theorem dX2_begin_121 : decode cX2_begin 121 = .ok (.getfield 24, 3) := dk_180 0 24 (dk_at dksX2_begin_5 6 rfl rfl)
theorem dX2_begin_124 : decode cX2_begin 124 = .ok (.iload_n 2, 1) := dk_28 (dk_at dksX2_begin_5 9 rfl rfl)
theorem dX2_begin_125 : decode cX2_begin 125 = .ok (.iconst 0, 1) := dk_3 (dk_at dksX2_begin_5 10 rfl rfl)
theorem dX2_begin_126 : decode cX2_begin 126 = .ok (.iastore, 1) := dk_79 (dk_at dksX2_begin_5 11 rfl rfl)
theorem dX2_begin_127 : decode cX2_begin 127 = .ok (.aload_n 0, 1) := dk_42 (dk_at dksX2_begin_5 12 rfl rfl)
theorem dX2_begin_128 : decode cX2_begin 128 = .ok (.getfield 27, 3) := dk_180 0 27 (dk_at dksX2_begin_5 13 rfl rfl)
theorem dX2_begin_131 : decode cX2_begin 131 = .ok (.iload_n 2, 1) := dk_28 (dk_at dksX2_begin_5 16 rfl rfl)
theorem dX2_begin_132 : decode cX2_begin 132 = .ok (.iconst 0, 1) := dk_3 (dk_at dksX2_begin_5 17 rfl rfl)
theorem dX2_begin_133 : decode cX2_begin 133 = .ok (.iastore, 1) := dk_79 (dk_at dksX2_begin_5 18 rfl rfl)
theorem dX2_begin_134 : decode cX2_begin 134 = .ok (.aload_n 0, 1) := dk_42 (dk_at dksX2_begin_5 19 rfl rfl)
theorem dX2_begin_135 : decode cX2_begin 135 = .ok (.getfield 30, 3) := dk_180 0 30 (dk_at dksX2_begin_5 20 rfl rfl)
theorem dX2_begin_138 : decode cX2_begin 138 = .ok (.iload_n 2, 1) := dk_28 (dk_at dksX2_begin_5 23 rfl rfl)
theorem dX2_begin_139 : decode cX2_begin 139 = .ok (.iconst 0, 1) := dk_3 (dk_at dksX2_begin_6 0 rfl rfl)
theorem dX2_begin_140 : decode cX2_begin 140 = .ok (.iastore, 1) := dk_79 (dk_at dksX2_begin_6 1 rfl rfl)
theorem dX2_begin_141 : decode cX2_begin 141 = .ok (.iinc 2 1, 3) := dk_132 2 1 (dk_at dksX2_begin_6 2 rfl rfl)
theorem dX2_begin_144 : decode cX2_begin 144 = .ok (.goto (-142), 3) := dk_167 255 114 (dk_at dksX2_begin_6 5 rfl rfl)
theorem dX2_begin_147 : decode cX2_begin 147 = .ok (.iconst 0, 1) := dk_3 (dk_at dksX2_begin_6 8 rfl rfl)
theorem dX2_begin_148 : decode cX2_begin 148 = .ok (.istore_n 2, 1) := dk_61 (dk_at dksX2_begin_6 9 rfl rfl)
theorem dX2_begin_149 : decode cX2_begin 149 = .ok (.iload_n 2, 1) := dk_28 (dk_at dksX2_begin_6 10 rfl rfl)
theorem dX2_begin_150 : decode cX2_begin 150 = .ok (.iconst 4, 1) := dk_7 (dk_at dksX2_begin_6 11 rfl rfl)
theorem dX2_begin_151 : decode cX2_begin 151 = .ok (.if_icmp .ge 21, 3) := dk_162 0 21 (dk_at dksX2_begin_6 12 rfl rfl)
theorem dX2_begin_154 : decode cX2_begin 154 = .ok (.aload_n 0, 1) := dk_42 (dk_at dksX2_begin_6 15 rfl rfl)
theorem dX2_begin_155 : decode cX2_begin 155 = .ok (.getfield 33, 3) := dk_180 0 33 (dk_at dksX2_begin_6 16 rfl rfl)
theorem dX2_begin_158 : decode cX2_begin 158 = .ok (.iload_n 2, 1) := dk_28 (dk_at dksX2_begin_6 19 rfl rfl)
theorem dX2_begin_159 : decode cX2_begin 159 = .ok (.aload_n 1, 1) := dk_43 (dk_at dksX2_begin_6 20 rfl rfl)
theorem dX2_begin_160 : decode cX2_begin 160 = .ok (.getfield 67, 3) := dk_180 0 67 (dk_at dksX2_begin_6 21 rfl rfl)
theorem dX2_begin_163 : decode cX2_begin 163 = .ok (.iload_n 2, 1) := dk_28 (dk_at dksX2_begin_7 0 rfl rfl)
theorem dX2_begin_164 : decode cX2_begin 164 = .ok (.iaload, 1) := dk_46 (dk_at dksX2_begin_7 1 rfl rfl)
theorem dX2_begin_165 : decode cX2_begin 165 = .ok (.iastore, 1) := dk_79 (dk_at dksX2_begin_7 2 rfl rfl)
theorem dX2_begin_166 : decode cX2_begin 166 = .ok (.iinc 2 1, 3) := dk_132 2 1 (dk_at dksX2_begin_7 3 rfl rfl)
theorem dX2_begin_169 : decode cX2_begin 169 = .ok (.goto (-20), 3) := dk_167 255 236 (dk_at dksX2_begin_7 6 rfl rfl)
theorem dX2_begin_172 : decode cX2_begin 172 = .ok (.aload_n 0, 1) := dk_42 (dk_at dksX2_begin_7 9 rfl rfl)
theorem dX2_begin_173 : decode cX2_begin 173 = .ok (.iconst 0, 1) := dk_3 (dk_at dksX2_begin_7 10 rfl rfl)
theorem dX2_begin_174 : decode cX2_begin 174 = .ok (.putfield 36, 3) := dk_181 0 36 (dk_at dksX2_begin_7 11 rfl rfl)
theorem dX2_begin_177 : decode cX2_begin 177 = .ok (.aload_n 0, 1) := dk_42 (dk_at dksX2_begin_7 14 rfl rfl)
theorem dX2_begin_178 : decode cX2_begin 178 = .ok (.aload_n 1, 1) := dk_43 (dk_at dksX2_begin_7 15 rfl rfl)
theorem dX2_begin_179 : decode cX2_begin 179 = .ok (.getfield 68, 3) := dk_180 0 68 (dk_at dksX2_begin_7 16 rfl rfl)
theorem dX2_begin_182 : decode cX2_begin 182 = .ok (.putfield 40, 3) := dk_181 0 40 (dk_at dksX2_begin_7 19 rfl rfl)
theorem dX2_begin_185 : decode cX2_begin 185 = .ok (.return_, 1) := dk_177 (dk_at dksX2_begin_7 22 rfl rfl)
abbrev cX2_isStone : ByteArray := prog_14_method_4_code
def yX2_isStone : MethodName := ⟨RX2, "isStone", "(I)Z"⟩
def dkwX2_isStone_0 : List UInt8 := [42, 180, 0, 40, 27, 123, 10, 127, 10, 148, 154, 0, 7, 4, 167, 0, 4, 3, 172]
abbrev dktX2_isStone_0 : List UInt8 := dkwX2_isStone_0 ++ []
theorem dksX2_isStone_0 : cX2_isStone.data.toList.drop 0 = dktX2_isStone_0 := by decide +kernel
theorem dX2_isStone_0 : decode cX2_isStone 0 = .ok (.aload_n 0, 1) := dk_42 (dk_at dksX2_isStone_0 0 rfl rfl)
theorem dX2_isStone_1 : decode cX2_isStone 1 = .ok (.getfield 40, 3) := dk_180 0 40 (dk_at dksX2_isStone_0 1 rfl rfl)
theorem dX2_isStone_4 : decode cX2_isStone 4 = .ok (.iload_n 1, 1) := dk_27 (dk_at dksX2_isStone_0 4 rfl rfl)
theorem dX2_isStone_5 : decode cX2_isStone 5 = .ok (.lshr, 1) := dk_123 (dk_at dksX2_isStone_0 5 rfl rfl)
theorem dX2_isStone_6 : decode cX2_isStone 6 = .ok (.lconst 1, 1) := dk_10 (dk_at dksX2_isStone_0 6 rfl rfl)
theorem dX2_isStone_7 : decode cX2_isStone 7 = .ok (.land, 1) := dk_127 (dk_at dksX2_isStone_0 7 rfl rfl)
theorem dX2_isStone_8 : decode cX2_isStone 8 = .ok (.lconst 1, 1) := dk_10 (dk_at dksX2_isStone_0 8 rfl rfl)
theorem dX2_isStone_9 : decode cX2_isStone 9 = .ok (.lcmp, 1) := dk_148 (dk_at dksX2_isStone_0 9 rfl rfl)
theorem dX2_isStone_10 : decode cX2_isStone 10 = .ok (.ifCond .ne 7, 3) := dk_154 0 7 (dk_at dksX2_isStone_0 10 rfl rfl)
theorem dX2_isStone_13 : decode cX2_isStone 13 = .ok (.iconst 1, 1) := dk_4 (dk_at dksX2_isStone_0 13 rfl rfl)
theorem dX2_isStone_14 : decode cX2_isStone 14 = .ok (.goto 4, 3) := dk_167 0 4 (dk_at dksX2_isStone_0 14 rfl rfl)
theorem dX2_isStone_17 : decode cX2_isStone 17 = .ok (.iconst 0, 1) := dk_3 (dk_at dksX2_isStone_0 17 rfl rfl)
theorem dX2_isStone_18 : decode cX2_isStone 18 = .ok (.ireturn, 1) := dk_172 (dk_at dksX2_isStone_0 18 rfl rfl)
abbrev cX2_copyFrom : ByteArray := prog_14_method_2_code
def yX2_copyFrom : MethodName := ⟨RX2, "copyFrom", "(LEdgeWalk$State;)V"⟩
def dkwX2_copyFrom_5 : List UInt8 := [132, 2, 1, 167, 255, 236, 42, 43, 180, 0, 36, 181, 0, 36, 42, 43, 180, 0, 40, 181, 0, 40, 177]
abbrev dktX2_copyFrom_5 : List UInt8 := dkwX2_copyFrom_5 ++ []
def dkwX2_copyFrom_4 : List UInt8 := [167, 255, 164, 3, 61, 28, 7, 162, 0, 21, 42, 180, 0, 33, 28, 43, 180, 0, 33, 28, 46, 79]
abbrev dktX2_copyFrom_4 : List UInt8 := dkwX2_copyFrom_4 ++ dktX2_copyFrom_5
def dkwX2_copyFrom_3 : List UInt8 := [43, 180, 0, 27, 28, 46, 79, 42, 180, 0, 30, 28, 43, 180, 0, 30, 28, 46, 79, 132, 2, 1]
abbrev dktX2_copyFrom_3 : List UInt8 := dkwX2_copyFrom_3 ++ dktX2_copyFrom_4
def dkwX2_copyFrom_2 : List UInt8 := [43, 180, 0, 21, 28, 46, 79, 42, 180, 0, 24, 28, 43, 180, 0, 24, 28, 46, 79, 42, 180, 0, 27, 28]
abbrev dktX2_copyFrom_2 : List UInt8 := dkwX2_copyFrom_2 ++ dktX2_copyFrom_3
def dkwX2_copyFrom_1 : List UInt8 := [43, 180, 0, 15, 28, 46, 79, 42, 180, 0, 18, 28, 43, 180, 0, 18, 28, 46, 79, 42, 180, 0, 21, 28]
abbrev dktX2_copyFrom_1 : List UInt8 := dkwX2_copyFrom_1 ++ dktX2_copyFrom_2
def dkwX2_copyFrom_0 : List UInt8 := [3, 61, 28, 8, 162, 0, 93, 42, 180, 0, 9, 28, 43, 180, 0, 9, 28, 46, 79, 42, 180, 0, 15, 28]
abbrev dktX2_copyFrom_0 : List UInt8 := dkwX2_copyFrom_0 ++ dktX2_copyFrom_1
theorem dksX2_copyFrom_0 : cX2_copyFrom.data.toList.drop 0 = dktX2_copyFrom_0 := by decide +kernel
theorem dksX2_copyFrom_1 : cX2_copyFrom.data.toList.drop 24 = dktX2_copyFrom_1 := dk_seg dksX2_copyFrom_0 24 rfl rfl
theorem dksX2_copyFrom_2 : cX2_copyFrom.data.toList.drop 48 = dktX2_copyFrom_2 := dk_seg dksX2_copyFrom_1 24 rfl rfl
theorem dksX2_copyFrom_3 : cX2_copyFrom.data.toList.drop 72 = dktX2_copyFrom_3 := dk_seg dksX2_copyFrom_2 24 rfl rfl
theorem dksX2_copyFrom_4 : cX2_copyFrom.data.toList.drop 94 = dktX2_copyFrom_4 := dk_seg dksX2_copyFrom_3 22 rfl rfl
theorem dksX2_copyFrom_5 : cX2_copyFrom.data.toList.drop 116 = dktX2_copyFrom_5 := dk_seg dksX2_copyFrom_4 22 rfl rfl
theorem dX2_copyFrom_0 : decode cX2_copyFrom 0 = .ok (.iconst 0, 1) := dk_3 (dk_at dksX2_copyFrom_0 0 rfl rfl)
theorem dX2_copyFrom_1 : decode cX2_copyFrom 1 = .ok (.istore_n 2, 1) := dk_61 (dk_at dksX2_copyFrom_0 1 rfl rfl)
theorem dX2_copyFrom_2 : decode cX2_copyFrom 2 = .ok (.iload_n 2, 1) := dk_28 (dk_at dksX2_copyFrom_0 2 rfl rfl)
theorem dX2_copyFrom_3 : decode cX2_copyFrom 3 = .ok (.iconst 5, 1) := dk_8 (dk_at dksX2_copyFrom_0 3 rfl rfl)
theorem dX2_copyFrom_4 : decode cX2_copyFrom 4 = .ok (.if_icmp .ge 93, 3) := dk_162 0 93 (dk_at dksX2_copyFrom_0 4 rfl rfl)
theorem dX2_copyFrom_7 : decode cX2_copyFrom 7 = .ok (.aload_n 0, 1) := dk_42 (dk_at dksX2_copyFrom_0 7 rfl rfl)
theorem dX2_copyFrom_8 : decode cX2_copyFrom 8 = .ok (.getfield 9, 3) := dk_180 0 9 (dk_at dksX2_copyFrom_0 8 rfl rfl)
theorem dX2_copyFrom_11 : decode cX2_copyFrom 11 = .ok (.iload_n 2, 1) := dk_28 (dk_at dksX2_copyFrom_0 11 rfl rfl)
theorem dX2_copyFrom_12 : decode cX2_copyFrom 12 = .ok (.aload_n 1, 1) := dk_43 (dk_at dksX2_copyFrom_0 12 rfl rfl)
theorem dX2_copyFrom_13 : decode cX2_copyFrom 13 = .ok (.getfield 9, 3) := dk_180 0 9 (dk_at dksX2_copyFrom_0 13 rfl rfl)
theorem dX2_copyFrom_16 : decode cX2_copyFrom 16 = .ok (.iload_n 2, 1) := dk_28 (dk_at dksX2_copyFrom_0 16 rfl rfl)
theorem dX2_copyFrom_17 : decode cX2_copyFrom 17 = .ok (.iaload, 1) := dk_46 (dk_at dksX2_copyFrom_0 17 rfl rfl)
theorem dX2_copyFrom_18 : decode cX2_copyFrom 18 = .ok (.iastore, 1) := dk_79 (dk_at dksX2_copyFrom_0 18 rfl rfl)
theorem dX2_copyFrom_19 : decode cX2_copyFrom 19 = .ok (.aload_n 0, 1) := dk_42 (dk_at dksX2_copyFrom_0 19 rfl rfl)
theorem dX2_copyFrom_20 : decode cX2_copyFrom 20 = .ok (.getfield 15, 3) := dk_180 0 15 (dk_at dksX2_copyFrom_0 20 rfl rfl)
theorem dX2_copyFrom_23 : decode cX2_copyFrom 23 = .ok (.iload_n 2, 1) := dk_28 (dk_at dksX2_copyFrom_0 23 rfl rfl)
theorem dX2_copyFrom_24 : decode cX2_copyFrom 24 = .ok (.aload_n 1, 1) := dk_43 (dk_at dksX2_copyFrom_1 0 rfl rfl)
theorem dX2_copyFrom_25 : decode cX2_copyFrom 25 = .ok (.getfield 15, 3) := dk_180 0 15 (dk_at dksX2_copyFrom_1 1 rfl rfl)
theorem dX2_copyFrom_28 : decode cX2_copyFrom 28 = .ok (.iload_n 2, 1) := dk_28 (dk_at dksX2_copyFrom_1 4 rfl rfl)
theorem dX2_copyFrom_29 : decode cX2_copyFrom 29 = .ok (.iaload, 1) := dk_46 (dk_at dksX2_copyFrom_1 5 rfl rfl)
theorem dX2_copyFrom_30 : decode cX2_copyFrom 30 = .ok (.iastore, 1) := dk_79 (dk_at dksX2_copyFrom_1 6 rfl rfl)
theorem dX2_copyFrom_31 : decode cX2_copyFrom 31 = .ok (.aload_n 0, 1) := dk_42 (dk_at dksX2_copyFrom_1 7 rfl rfl)
theorem dX2_copyFrom_32 : decode cX2_copyFrom 32 = .ok (.getfield 18, 3) := dk_180 0 18 (dk_at dksX2_copyFrom_1 8 rfl rfl)
theorem dX2_copyFrom_35 : decode cX2_copyFrom 35 = .ok (.iload_n 2, 1) := dk_28 (dk_at dksX2_copyFrom_1 11 rfl rfl)
theorem dX2_copyFrom_36 : decode cX2_copyFrom 36 = .ok (.aload_n 1, 1) := dk_43 (dk_at dksX2_copyFrom_1 12 rfl rfl)
theorem dX2_copyFrom_37 : decode cX2_copyFrom 37 = .ok (.getfield 18, 3) := dk_180 0 18 (dk_at dksX2_copyFrom_1 13 rfl rfl)
theorem dX2_copyFrom_40 : decode cX2_copyFrom 40 = .ok (.iload_n 2, 1) := dk_28 (dk_at dksX2_copyFrom_1 16 rfl rfl)
theorem dX2_copyFrom_41 : decode cX2_copyFrom 41 = .ok (.iaload, 1) := dk_46 (dk_at dksX2_copyFrom_1 17 rfl rfl)
theorem dX2_copyFrom_42 : decode cX2_copyFrom 42 = .ok (.iastore, 1) := dk_79 (dk_at dksX2_copyFrom_1 18 rfl rfl)
theorem dX2_copyFrom_43 : decode cX2_copyFrom 43 = .ok (.aload_n 0, 1) := dk_42 (dk_at dksX2_copyFrom_1 19 rfl rfl)
theorem dX2_copyFrom_44 : decode cX2_copyFrom 44 = .ok (.getfield 21, 3) := dk_180 0 21 (dk_at dksX2_copyFrom_1 20 rfl rfl)
theorem dX2_copyFrom_47 : decode cX2_copyFrom 47 = .ok (.iload_n 2, 1) := dk_28 (dk_at dksX2_copyFrom_1 23 rfl rfl)
theorem dX2_copyFrom_48 : decode cX2_copyFrom 48 = .ok (.aload_n 1, 1) := dk_43 (dk_at dksX2_copyFrom_2 0 rfl rfl)
theorem dX2_copyFrom_49 : decode cX2_copyFrom 49 = .ok (.getfield 21, 3) := dk_180 0 21 (dk_at dksX2_copyFrom_2 1 rfl rfl)
theorem dX2_copyFrom_52 : decode cX2_copyFrom 52 = .ok (.iload_n 2, 1) := dk_28 (dk_at dksX2_copyFrom_2 4 rfl rfl)
theorem dX2_copyFrom_53 : decode cX2_copyFrom 53 = .ok (.iaload, 1) := dk_46 (dk_at dksX2_copyFrom_2 5 rfl rfl)
theorem dX2_copyFrom_54 : decode cX2_copyFrom 54 = .ok (.iastore, 1) := dk_79 (dk_at dksX2_copyFrom_2 6 rfl rfl)
theorem dX2_copyFrom_55 : decode cX2_copyFrom 55 = .ok (.aload_n 0, 1) := dk_42 (dk_at dksX2_copyFrom_2 7 rfl rfl)
theorem dX2_copyFrom_56 : decode cX2_copyFrom 56 = .ok (.getfield 24, 3) := dk_180 0 24 (dk_at dksX2_copyFrom_2 8 rfl rfl)
theorem dX2_copyFrom_59 : decode cX2_copyFrom 59 = .ok (.iload_n 2, 1) := dk_28 (dk_at dksX2_copyFrom_2 11 rfl rfl)
theorem dX2_copyFrom_60 : decode cX2_copyFrom 60 = .ok (.aload_n 1, 1) := dk_43 (dk_at dksX2_copyFrom_2 12 rfl rfl)
theorem dX2_copyFrom_61 : decode cX2_copyFrom 61 = .ok (.getfield 24, 3) := dk_180 0 24 (dk_at dksX2_copyFrom_2 13 rfl rfl)
theorem dX2_copyFrom_64 : decode cX2_copyFrom 64 = .ok (.iload_n 2, 1) := dk_28 (dk_at dksX2_copyFrom_2 16 rfl rfl)
theorem dX2_copyFrom_65 : decode cX2_copyFrom 65 = .ok (.iaload, 1) := dk_46 (dk_at dksX2_copyFrom_2 17 rfl rfl)
theorem dX2_copyFrom_66 : decode cX2_copyFrom 66 = .ok (.iastore, 1) := dk_79 (dk_at dksX2_copyFrom_2 18 rfl rfl)
theorem dX2_copyFrom_67 : decode cX2_copyFrom 67 = .ok (.aload_n 0, 1) := dk_42 (dk_at dksX2_copyFrom_2 19 rfl rfl)
theorem dX2_copyFrom_68 : decode cX2_copyFrom 68 = .ok (.getfield 27, 3) := dk_180 0 27 (dk_at dksX2_copyFrom_2 20 rfl rfl)
theorem dX2_copyFrom_71 : decode cX2_copyFrom 71 = .ok (.iload_n 2, 1) := dk_28 (dk_at dksX2_copyFrom_2 23 rfl rfl)
theorem dX2_copyFrom_72 : decode cX2_copyFrom 72 = .ok (.aload_n 1, 1) := dk_43 (dk_at dksX2_copyFrom_3 0 rfl rfl)
theorem dX2_copyFrom_73 : decode cX2_copyFrom 73 = .ok (.getfield 27, 3) := dk_180 0 27 (dk_at dksX2_copyFrom_3 1 rfl rfl)
theorem dX2_copyFrom_76 : decode cX2_copyFrom 76 = .ok (.iload_n 2, 1) := dk_28 (dk_at dksX2_copyFrom_3 4 rfl rfl)
theorem dX2_copyFrom_77 : decode cX2_copyFrom 77 = .ok (.iaload, 1) := dk_46 (dk_at dksX2_copyFrom_3 5 rfl rfl)
theorem dX2_copyFrom_78 : decode cX2_copyFrom 78 = .ok (.iastore, 1) := dk_79 (dk_at dksX2_copyFrom_3 6 rfl rfl)
theorem dX2_copyFrom_79 : decode cX2_copyFrom 79 = .ok (.aload_n 0, 1) := dk_42 (dk_at dksX2_copyFrom_3 7 rfl rfl)
theorem dX2_copyFrom_80 : decode cX2_copyFrom 80 = .ok (.getfield 30, 3) := dk_180 0 30 (dk_at dksX2_copyFrom_3 8 rfl rfl)
theorem dX2_copyFrom_83 : decode cX2_copyFrom 83 = .ok (.iload_n 2, 1) := dk_28 (dk_at dksX2_copyFrom_3 11 rfl rfl)
theorem dX2_copyFrom_84 : decode cX2_copyFrom 84 = .ok (.aload_n 1, 1) := dk_43 (dk_at dksX2_copyFrom_3 12 rfl rfl)
theorem dX2_copyFrom_85 : decode cX2_copyFrom 85 = .ok (.getfield 30, 3) := dk_180 0 30 (dk_at dksX2_copyFrom_3 13 rfl rfl)
theorem dX2_copyFrom_88 : decode cX2_copyFrom 88 = .ok (.iload_n 2, 1) := dk_28 (dk_at dksX2_copyFrom_3 16 rfl rfl)
theorem dX2_copyFrom_89 : decode cX2_copyFrom 89 = .ok (.iaload, 1) := dk_46 (dk_at dksX2_copyFrom_3 17 rfl rfl)
theorem dX2_copyFrom_90 : decode cX2_copyFrom 90 = .ok (.iastore, 1) := dk_79 (dk_at dksX2_copyFrom_3 18 rfl rfl)
theorem dX2_copyFrom_91 : decode cX2_copyFrom 91 = .ok (.iinc 2 1, 3) := dk_132 2 1 (dk_at dksX2_copyFrom_3 19 rfl rfl)
theorem dX2_copyFrom_94 : decode cX2_copyFrom 94 = .ok (.goto (-92), 3) := dk_167 255 164 (dk_at dksX2_copyFrom_4 0 rfl rfl)
theorem dX2_copyFrom_97 : decode cX2_copyFrom 97 = .ok (.iconst 0, 1) := dk_3 (dk_at dksX2_copyFrom_4 3 rfl rfl)
theorem dX2_copyFrom_98 : decode cX2_copyFrom 98 = .ok (.istore_n 2, 1) := dk_61 (dk_at dksX2_copyFrom_4 4 rfl rfl)
theorem dX2_copyFrom_99 : decode cX2_copyFrom 99 = .ok (.iload_n 2, 1) := dk_28 (dk_at dksX2_copyFrom_4 5 rfl rfl)
theorem dX2_copyFrom_100 : decode cX2_copyFrom 100 = .ok (.iconst 4, 1) := dk_7 (dk_at dksX2_copyFrom_4 6 rfl rfl)
theorem dX2_copyFrom_101 : decode cX2_copyFrom 101 = .ok (.if_icmp .ge 21, 3) := dk_162 0 21 (dk_at dksX2_copyFrom_4 7 rfl rfl)
theorem dX2_copyFrom_104 : decode cX2_copyFrom 104 = .ok (.aload_n 0, 1) := dk_42 (dk_at dksX2_copyFrom_4 10 rfl rfl)
theorem dX2_copyFrom_105 : decode cX2_copyFrom 105 = .ok (.getfield 33, 3) := dk_180 0 33 (dk_at dksX2_copyFrom_4 11 rfl rfl)
theorem dX2_copyFrom_108 : decode cX2_copyFrom 108 = .ok (.iload_n 2, 1) := dk_28 (dk_at dksX2_copyFrom_4 14 rfl rfl)
theorem dX2_copyFrom_109 : decode cX2_copyFrom 109 = .ok (.aload_n 1, 1) := dk_43 (dk_at dksX2_copyFrom_4 15 rfl rfl)
theorem dX2_copyFrom_110 : decode cX2_copyFrom 110 = .ok (.getfield 33, 3) := dk_180 0 33 (dk_at dksX2_copyFrom_4 16 rfl rfl)
theorem dX2_copyFrom_113 : decode cX2_copyFrom 113 = .ok (.iload_n 2, 1) := dk_28 (dk_at dksX2_copyFrom_4 19 rfl rfl)
theorem dX2_copyFrom_114 : decode cX2_copyFrom 114 = .ok (.iaload, 1) := dk_46 (dk_at dksX2_copyFrom_4 20 rfl rfl)
theorem dX2_copyFrom_115 : decode cX2_copyFrom 115 = .ok (.iastore, 1) := dk_79 (dk_at dksX2_copyFrom_4 21 rfl rfl)
theorem dX2_copyFrom_116 : decode cX2_copyFrom 116 = .ok (.iinc 2 1, 3) := dk_132 2 1 (dk_at dksX2_copyFrom_5 0 rfl rfl)
theorem dX2_copyFrom_119 : decode cX2_copyFrom 119 = .ok (.goto (-20), 3) := dk_167 255 236 (dk_at dksX2_copyFrom_5 3 rfl rfl)
theorem dX2_copyFrom_122 : decode cX2_copyFrom 122 = .ok (.aload_n 0, 1) := dk_42 (dk_at dksX2_copyFrom_5 6 rfl rfl)
theorem dX2_copyFrom_123 : decode cX2_copyFrom 123 = .ok (.aload_n 1, 1) := dk_43 (dk_at dksX2_copyFrom_5 7 rfl rfl)
theorem dX2_copyFrom_124 : decode cX2_copyFrom 124 = .ok (.getfield 36, 3) := dk_180 0 36 (dk_at dksX2_copyFrom_5 8 rfl rfl)
theorem dX2_copyFrom_127 : decode cX2_copyFrom 127 = .ok (.putfield 36, 3) := dk_181 0 36 (dk_at dksX2_copyFrom_5 11 rfl rfl)
theorem dX2_copyFrom_130 : decode cX2_copyFrom 130 = .ok (.aload_n 0, 1) := dk_42 (dk_at dksX2_copyFrom_5 14 rfl rfl)
theorem dX2_copyFrom_131 : decode cX2_copyFrom 131 = .ok (.aload_n 1, 1) := dk_43 (dk_at dksX2_copyFrom_5 15 rfl rfl)
theorem dX2_copyFrom_132 : decode cX2_copyFrom 132 = .ok (.getfield 40, 3) := dk_180 0 40 (dk_at dksX2_copyFrom_5 16 rfl rfl)
theorem dX2_copyFrom_135 : decode cX2_copyFrom 135 = .ok (.putfield 40, 3) := dk_181 0 40 (dk_at dksX2_copyFrom_5 19 rfl rfl)
theorem dX2_copyFrom_138 : decode cX2_copyFrom 138 = .ok (.return_, 1) := dk_177 (dk_at dksX2_copyFrom_5 22 rfl rfl)
abbrev cX2_isOut : ByteArray := prog_14_method_7_code
def yX2_isOut : MethodName := ⟨RX2, "isOut", "(LEdgeWalk$Sheet;I)V"⟩
def dkwX2_isOut_4 : List UInt8 := [42, 180, 0, 15, 28, 21, 4, 79, 42, 180, 0, 18, 28, 29, 5, 96, 7, 112, 79, 177]
abbrev dktX2_isOut_4 : List UInt8 := dkwX2_isOut_4 ++ []
def dkwX2_isOut_3 : List UInt8 := [28, 46, 182, 0, 90, 54, 4, 42, 21, 4, 182, 0, 86, 153, 0, 4, 177, 42, 180, 0, 9, 28, 3, 79]
abbrev dktX2_isOut_3 : List UInt8 := dkwX2_isOut_3 ++ dktX2_isOut_4
def dkwX2_isOut_2 : List UInt8 := [92, 46, 4, 100, 79, 177, 42, 180, 0, 33, 42, 180, 0, 18, 28, 46, 46, 62, 43, 29, 42, 180, 0, 27]
abbrev dktX2_isOut_2 : List UInt8 := dkwX2_isOut_2 ++ dktX2_isOut_3
def dkwX2_isOut_1 : List UInt8 := [42, 180, 0, 21, 28, 92, 46, 4, 100, 79, 42, 180, 0, 24, 28, 46, 158, 0, 14, 42, 180, 0, 24, 28]
abbrev dktX2_isOut_1 : List UInt8 := dkwX2_isOut_1 ++ dktX2_isOut_2
def dkwX2_isOut_0 : List UInt8 := [42, 180, 0, 21, 28, 46, 154, 0, 18, 42, 180, 0, 9, 28, 5, 79, 42, 180, 0, 24, 28, 3, 79, 177]
abbrev dktX2_isOut_0 : List UInt8 := dkwX2_isOut_0 ++ dktX2_isOut_1
theorem dksX2_isOut_0 : cX2_isOut.data.toList.drop 0 = dktX2_isOut_0 := by decide +kernel
theorem dksX2_isOut_1 : cX2_isOut.data.toList.drop 24 = dktX2_isOut_1 := dk_seg dksX2_isOut_0 24 rfl rfl
theorem dksX2_isOut_2 : cX2_isOut.data.toList.drop 48 = dktX2_isOut_2 := dk_seg dksX2_isOut_1 24 rfl rfl
theorem dksX2_isOut_3 : cX2_isOut.data.toList.drop 72 = dktX2_isOut_3 := dk_seg dksX2_isOut_2 24 rfl rfl
theorem dksX2_isOut_4 : cX2_isOut.data.toList.drop 96 = dktX2_isOut_4 := dk_seg dksX2_isOut_3 24 rfl rfl
theorem dX2_isOut_0 : decode cX2_isOut 0 = .ok (.aload_n 0, 1) := dk_42 (dk_at dksX2_isOut_0 0 rfl rfl)
theorem dX2_isOut_1 : decode cX2_isOut 1 = .ok (.getfield 21, 3) := dk_180 0 21 (dk_at dksX2_isOut_0 1 rfl rfl)
theorem dX2_isOut_4 : decode cX2_isOut 4 = .ok (.iload_n 2, 1) := dk_28 (dk_at dksX2_isOut_0 4 rfl rfl)
theorem dX2_isOut_5 : decode cX2_isOut 5 = .ok (.iaload, 1) := dk_46 (dk_at dksX2_isOut_0 5 rfl rfl)
theorem dX2_isOut_6 : decode cX2_isOut 6 = .ok (.ifCond .ne 18, 3) := dk_154 0 18 (dk_at dksX2_isOut_0 6 rfl rfl)
theorem dX2_isOut_9 : decode cX2_isOut 9 = .ok (.aload_n 0, 1) := dk_42 (dk_at dksX2_isOut_0 9 rfl rfl)
theorem dX2_isOut_10 : decode cX2_isOut 10 = .ok (.getfield 9, 3) := dk_180 0 9 (dk_at dksX2_isOut_0 10 rfl rfl)
theorem dX2_isOut_13 : decode cX2_isOut 13 = .ok (.iload_n 2, 1) := dk_28 (dk_at dksX2_isOut_0 13 rfl rfl)
theorem dX2_isOut_14 : decode cX2_isOut 14 = .ok (.iconst 2, 1) := dk_5 (dk_at dksX2_isOut_0 14 rfl rfl)
theorem dX2_isOut_15 : decode cX2_isOut 15 = .ok (.iastore, 1) := dk_79 (dk_at dksX2_isOut_0 15 rfl rfl)
theorem dX2_isOut_16 : decode cX2_isOut 16 = .ok (.aload_n 0, 1) := dk_42 (dk_at dksX2_isOut_0 16 rfl rfl)
theorem dX2_isOut_17 : decode cX2_isOut 17 = .ok (.getfield 24, 3) := dk_180 0 24 (dk_at dksX2_isOut_0 17 rfl rfl)
theorem dX2_isOut_20 : decode cX2_isOut 20 = .ok (.iload_n 2, 1) := dk_28 (dk_at dksX2_isOut_0 20 rfl rfl)
theorem dX2_isOut_21 : decode cX2_isOut 21 = .ok (.iconst 0, 1) := dk_3 (dk_at dksX2_isOut_0 21 rfl rfl)
theorem dX2_isOut_22 : decode cX2_isOut 22 = .ok (.iastore, 1) := dk_79 (dk_at dksX2_isOut_0 22 rfl rfl)
theorem dX2_isOut_23 : decode cX2_isOut 23 = .ok (.return_, 1) := dk_177 (dk_at dksX2_isOut_0 23 rfl rfl)
theorem dX2_isOut_24 : decode cX2_isOut 24 = .ok (.aload_n 0, 1) := dk_42 (dk_at dksX2_isOut_1 0 rfl rfl)
theorem dX2_isOut_25 : decode cX2_isOut 25 = .ok (.getfield 21, 3) := dk_180 0 21 (dk_at dksX2_isOut_1 1 rfl rfl)
theorem dX2_isOut_28 : decode cX2_isOut 28 = .ok (.iload_n 2, 1) := dk_28 (dk_at dksX2_isOut_1 4 rfl rfl)
theorem dX2_isOut_29 : decode cX2_isOut 29 = .ok (.dup2, 1) := dk_92 (dk_at dksX2_isOut_1 5 rfl rfl)
theorem dX2_isOut_30 : decode cX2_isOut 30 = .ok (.iaload, 1) := dk_46 (dk_at dksX2_isOut_1 6 rfl rfl)
theorem dX2_isOut_31 : decode cX2_isOut 31 = .ok (.iconst 1, 1) := dk_4 (dk_at dksX2_isOut_1 7 rfl rfl)
theorem dX2_isOut_32 : decode cX2_isOut 32 = .ok (.isub, 1) := dk_100 (dk_at dksX2_isOut_1 8 rfl rfl)
theorem dX2_isOut_33 : decode cX2_isOut 33 = .ok (.iastore, 1) := dk_79 (dk_at dksX2_isOut_1 9 rfl rfl)
theorem dX2_isOut_34 : decode cX2_isOut 34 = .ok (.aload_n 0, 1) := dk_42 (dk_at dksX2_isOut_1 10 rfl rfl)
theorem dX2_isOut_35 : decode cX2_isOut 35 = .ok (.getfield 24, 3) := dk_180 0 24 (dk_at dksX2_isOut_1 11 rfl rfl)
theorem dX2_isOut_38 : decode cX2_isOut 38 = .ok (.iload_n 2, 1) := dk_28 (dk_at dksX2_isOut_1 14 rfl rfl)
theorem dX2_isOut_39 : decode cX2_isOut 39 = .ok (.iaload, 1) := dk_46 (dk_at dksX2_isOut_1 15 rfl rfl)
theorem dX2_isOut_40 : decode cX2_isOut 40 = .ok (.ifCond .le 14, 3) := dk_158 0 14 (dk_at dksX2_isOut_1 16 rfl rfl)
theorem dX2_isOut_43 : decode cX2_isOut 43 = .ok (.aload_n 0, 1) := dk_42 (dk_at dksX2_isOut_1 19 rfl rfl)
theorem dX2_isOut_44 : decode cX2_isOut 44 = .ok (.getfield 24, 3) := dk_180 0 24 (dk_at dksX2_isOut_1 20 rfl rfl)
theorem dX2_isOut_47 : decode cX2_isOut 47 = .ok (.iload_n 2, 1) := dk_28 (dk_at dksX2_isOut_1 23 rfl rfl)
theorem dX2_isOut_48 : decode cX2_isOut 48 = .ok (.dup2, 1) := dk_92 (dk_at dksX2_isOut_2 0 rfl rfl)
theorem dX2_isOut_49 : decode cX2_isOut 49 = .ok (.iaload, 1) := dk_46 (dk_at dksX2_isOut_2 1 rfl rfl)
theorem dX2_isOut_50 : decode cX2_isOut 50 = .ok (.iconst 1, 1) := dk_4 (dk_at dksX2_isOut_2 2 rfl rfl)
theorem dX2_isOut_51 : decode cX2_isOut 51 = .ok (.isub, 1) := dk_100 (dk_at dksX2_isOut_2 3 rfl rfl)
theorem dX2_isOut_52 : decode cX2_isOut 52 = .ok (.iastore, 1) := dk_79 (dk_at dksX2_isOut_2 4 rfl rfl)
theorem dX2_isOut_53 : decode cX2_isOut 53 = .ok (.return_, 1) := dk_177 (dk_at dksX2_isOut_2 5 rfl rfl)
theorem dX2_isOut_54 : decode cX2_isOut 54 = .ok (.aload_n 0, 1) := dk_42 (dk_at dksX2_isOut_2 6 rfl rfl)
theorem dX2_isOut_55 : decode cX2_isOut 55 = .ok (.getfield 33, 3) := dk_180 0 33 (dk_at dksX2_isOut_2 7 rfl rfl)
theorem dX2_isOut_58 : decode cX2_isOut 58 = .ok (.aload_n 0, 1) := dk_42 (dk_at dksX2_isOut_2 10 rfl rfl)
theorem dX2_isOut_59 : decode cX2_isOut 59 = .ok (.getfield 18, 3) := dk_180 0 18 (dk_at dksX2_isOut_2 11 rfl rfl)
theorem dX2_isOut_62 : decode cX2_isOut 62 = .ok (.iload_n 2, 1) := dk_28 (dk_at dksX2_isOut_2 14 rfl rfl)
theorem dX2_isOut_63 : decode cX2_isOut 63 = .ok (.iaload, 1) := dk_46 (dk_at dksX2_isOut_2 15 rfl rfl)
theorem dX2_isOut_64 : decode cX2_isOut 64 = .ok (.iaload, 1) := dk_46 (dk_at dksX2_isOut_2 16 rfl rfl)
theorem dX2_isOut_65 : decode cX2_isOut 65 = .ok (.istore_n 3, 1) := dk_62 (dk_at dksX2_isOut_2 17 rfl rfl)
theorem dX2_isOut_66 : decode cX2_isOut 66 = .ok (.aload_n 1, 1) := dk_43 (dk_at dksX2_isOut_2 18 rfl rfl)
theorem dX2_isOut_67 : decode cX2_isOut 67 = .ok (.iload_n 3, 1) := dk_29 (dk_at dksX2_isOut_2 19 rfl rfl)
theorem dX2_isOut_68 : decode cX2_isOut 68 = .ok (.aload_n 0, 1) := dk_42 (dk_at dksX2_isOut_2 20 rfl rfl)
theorem dX2_isOut_69 : decode cX2_isOut 69 = .ok (.getfield 27, 3) := dk_180 0 27 (dk_at dksX2_isOut_2 21 rfl rfl)
theorem dX2_isOut_72 : decode cX2_isOut 72 = .ok (.iload_n 2, 1) := dk_28 (dk_at dksX2_isOut_3 0 rfl rfl)
theorem dX2_isOut_73 : decode cX2_isOut 73 = .ok (.iaload, 1) := dk_46 (dk_at dksX2_isOut_3 1 rfl rfl)
theorem dX2_isOut_74 : decode cX2_isOut 74 = .ok (.invokevirtual 90, 3) := dk_182 0 90 (dk_at dksX2_isOut_3 2 rfl rfl)
theorem dX2_isOut_77 : decode cX2_isOut 77 = .ok (.istore 4, 2) := dk_54 4 (dk_at dksX2_isOut_3 5 rfl rfl)
theorem dX2_isOut_79 : decode cX2_isOut 79 = .ok (.aload_n 0, 1) := dk_42 (dk_at dksX2_isOut_3 7 rfl rfl)
theorem dX2_isOut_80 : decode cX2_isOut 80 = .ok (.iload 4, 2) := dk_21 4 (dk_at dksX2_isOut_3 8 rfl rfl)
theorem dX2_isOut_82 : decode cX2_isOut 82 = .ok (.invokevirtual 86, 3) := dk_182 0 86 (dk_at dksX2_isOut_3 10 rfl rfl)
theorem dX2_isOut_85 : decode cX2_isOut 85 = .ok (.ifCond .eq 4, 3) := dk_153 0 4 (dk_at dksX2_isOut_3 13 rfl rfl)
theorem dX2_isOut_88 : decode cX2_isOut 88 = .ok (.return_, 1) := dk_177 (dk_at dksX2_isOut_3 16 rfl rfl)
theorem dX2_isOut_89 : decode cX2_isOut 89 = .ok (.aload_n 0, 1) := dk_42 (dk_at dksX2_isOut_3 17 rfl rfl)
theorem dX2_isOut_90 : decode cX2_isOut 90 = .ok (.getfield 9, 3) := dk_180 0 9 (dk_at dksX2_isOut_3 18 rfl rfl)
theorem dX2_isOut_93 : decode cX2_isOut 93 = .ok (.iload_n 2, 1) := dk_28 (dk_at dksX2_isOut_3 21 rfl rfl)
theorem dX2_isOut_94 : decode cX2_isOut 94 = .ok (.iconst 0, 1) := dk_3 (dk_at dksX2_isOut_3 22 rfl rfl)
theorem dX2_isOut_95 : decode cX2_isOut 95 = .ok (.iastore, 1) := dk_79 (dk_at dksX2_isOut_3 23 rfl rfl)
theorem dX2_isOut_96 : decode cX2_isOut 96 = .ok (.aload_n 0, 1) := dk_42 (dk_at dksX2_isOut_4 0 rfl rfl)
theorem dX2_isOut_97 : decode cX2_isOut 97 = .ok (.getfield 15, 3) := dk_180 0 15 (dk_at dksX2_isOut_4 1 rfl rfl)
theorem dX2_isOut_100 : decode cX2_isOut 100 = .ok (.iload_n 2, 1) := dk_28 (dk_at dksX2_isOut_4 4 rfl rfl)
theorem dX2_isOut_101 : decode cX2_isOut 101 = .ok (.iload 4, 2) := dk_21 4 (dk_at dksX2_isOut_4 5 rfl rfl)
theorem dX2_isOut_103 : decode cX2_isOut 103 = .ok (.iastore, 1) := dk_79 (dk_at dksX2_isOut_4 7 rfl rfl)
theorem dX2_isOut_104 : decode cX2_isOut 104 = .ok (.aload_n 0, 1) := dk_42 (dk_at dksX2_isOut_4 8 rfl rfl)
theorem dX2_isOut_105 : decode cX2_isOut 105 = .ok (.getfield 18, 3) := dk_180 0 18 (dk_at dksX2_isOut_4 9 rfl rfl)
theorem dX2_isOut_108 : decode cX2_isOut 108 = .ok (.iload_n 2, 1) := dk_28 (dk_at dksX2_isOut_4 12 rfl rfl)
theorem dX2_isOut_109 : decode cX2_isOut 109 = .ok (.iload_n 3, 1) := dk_29 (dk_at dksX2_isOut_4 13 rfl rfl)
theorem dX2_isOut_110 : decode cX2_isOut 110 = .ok (.iconst 2, 1) := dk_5 (dk_at dksX2_isOut_4 14 rfl rfl)
theorem dX2_isOut_111 : decode cX2_isOut 111 = .ok (.iadd, 1) := dk_96 (dk_at dksX2_isOut_4 15 rfl rfl)
theorem dX2_isOut_112 : decode cX2_isOut 112 = .ok (.iconst 4, 1) := dk_7 (dk_at dksX2_isOut_4 16 rfl rfl)
theorem dX2_isOut_113 : decode cX2_isOut 113 = .ok (.irem, 1) := dk_112 (dk_at dksX2_isOut_4 17 rfl rfl)
theorem dX2_isOut_114 : decode cX2_isOut 114 = .ok (.iastore, 1) := dk_79 (dk_at dksX2_isOut_4 18 rfl rfl)
theorem dX2_isOut_115 : decode cX2_isOut 115 = .ok (.return_, 1) := dk_177 (dk_at dksX2_isOut_4 19 rfl rfl)
abbrev cX2_othersWith : ByteArray := prog_14_method_5_code
def yX2_othersWith : MethodName := ⟨RX2, "othersWith", "(I)I"⟩
def dkwX2_othersWith_2 : List UInt8 := [61, 132, 3, 1, 167, 255, 208, 28, 172]
abbrev dktX2_othersWith_2 : List UInt8 := dkwX2_othersWith_2 ++ []
def dkwX2_othersWith_1 : List UInt8 := [42, 180, 0, 15, 29, 46, 42, 180, 0, 15, 27, 46, 160, 0, 7, 4, 167, 0, 4, 3, 184, 0, 69, 96]
abbrev dktX2_othersWith_1 : List UInt8 := dkwX2_othersWith_1 ++ dktX2_othersWith_2
def dkwX2_othersWith_0 : List UInt8 := [3, 61, 3, 62, 29, 8, 162, 0, 49, 28, 29, 27, 159, 0, 31, 42, 180, 0, 9, 29, 46, 154, 0, 22]
abbrev dktX2_othersWith_0 : List UInt8 := dkwX2_othersWith_0 ++ dktX2_othersWith_1
theorem dksX2_othersWith_0 : cX2_othersWith.data.toList.drop 0 = dktX2_othersWith_0 := by decide +kernel
theorem dksX2_othersWith_1 : cX2_othersWith.data.toList.drop 24 = dktX2_othersWith_1 := dk_seg dksX2_othersWith_0 24 rfl rfl
theorem dksX2_othersWith_2 : cX2_othersWith.data.toList.drop 48 = dktX2_othersWith_2 := dk_seg dksX2_othersWith_1 24 rfl rfl
theorem dX2_othersWith_0 : decode cX2_othersWith 0 = .ok (.iconst 0, 1) := dk_3 (dk_at dksX2_othersWith_0 0 rfl rfl)
theorem dX2_othersWith_1 : decode cX2_othersWith 1 = .ok (.istore_n 2, 1) := dk_61 (dk_at dksX2_othersWith_0 1 rfl rfl)
theorem dX2_othersWith_2 : decode cX2_othersWith 2 = .ok (.iconst 0, 1) := dk_3 (dk_at dksX2_othersWith_0 2 rfl rfl)
theorem dX2_othersWith_3 : decode cX2_othersWith 3 = .ok (.istore_n 3, 1) := dk_62 (dk_at dksX2_othersWith_0 3 rfl rfl)
theorem dX2_othersWith_4 : decode cX2_othersWith 4 = .ok (.iload_n 3, 1) := dk_29 (dk_at dksX2_othersWith_0 4 rfl rfl)
theorem dX2_othersWith_5 : decode cX2_othersWith 5 = .ok (.iconst 5, 1) := dk_8 (dk_at dksX2_othersWith_0 5 rfl rfl)
theorem dX2_othersWith_6 : decode cX2_othersWith 6 = .ok (.if_icmp .ge 49, 3) := dk_162 0 49 (dk_at dksX2_othersWith_0 6 rfl rfl)
theorem dX2_othersWith_9 : decode cX2_othersWith 9 = .ok (.iload_n 2, 1) := dk_28 (dk_at dksX2_othersWith_0 9 rfl rfl)
theorem dX2_othersWith_10 : decode cX2_othersWith 10 = .ok (.iload_n 3, 1) := dk_29 (dk_at dksX2_othersWith_0 10 rfl rfl)
theorem dX2_othersWith_11 : decode cX2_othersWith 11 = .ok (.iload_n 1, 1) := dk_27 (dk_at dksX2_othersWith_0 11 rfl rfl)
theorem dX2_othersWith_12 : decode cX2_othersWith 12 = .ok (.if_icmp .eq 31, 3) := dk_159 0 31 (dk_at dksX2_othersWith_0 12 rfl rfl)
theorem dX2_othersWith_15 : decode cX2_othersWith 15 = .ok (.aload_n 0, 1) := dk_42 (dk_at dksX2_othersWith_0 15 rfl rfl)
theorem dX2_othersWith_16 : decode cX2_othersWith 16 = .ok (.getfield 9, 3) := dk_180 0 9 (dk_at dksX2_othersWith_0 16 rfl rfl)
theorem dX2_othersWith_19 : decode cX2_othersWith 19 = .ok (.iload_n 3, 1) := dk_29 (dk_at dksX2_othersWith_0 19 rfl rfl)
theorem dX2_othersWith_20 : decode cX2_othersWith 20 = .ok (.iaload, 1) := dk_46 (dk_at dksX2_othersWith_0 20 rfl rfl)
theorem dX2_othersWith_21 : decode cX2_othersWith 21 = .ok (.ifCond .ne 22, 3) := dk_154 0 22 (dk_at dksX2_othersWith_0 21 rfl rfl)
theorem dX2_othersWith_24 : decode cX2_othersWith 24 = .ok (.aload_n 0, 1) := dk_42 (dk_at dksX2_othersWith_1 0 rfl rfl)
theorem dX2_othersWith_25 : decode cX2_othersWith 25 = .ok (.getfield 15, 3) := dk_180 0 15 (dk_at dksX2_othersWith_1 1 rfl rfl)
theorem dX2_othersWith_28 : decode cX2_othersWith 28 = .ok (.iload_n 3, 1) := dk_29 (dk_at dksX2_othersWith_1 4 rfl rfl)
theorem dX2_othersWith_29 : decode cX2_othersWith 29 = .ok (.iaload, 1) := dk_46 (dk_at dksX2_othersWith_1 5 rfl rfl)
theorem dX2_othersWith_30 : decode cX2_othersWith 30 = .ok (.aload_n 0, 1) := dk_42 (dk_at dksX2_othersWith_1 6 rfl rfl)
theorem dX2_othersWith_31 : decode cX2_othersWith 31 = .ok (.getfield 15, 3) := dk_180 0 15 (dk_at dksX2_othersWith_1 7 rfl rfl)
theorem dX2_othersWith_34 : decode cX2_othersWith 34 = .ok (.iload_n 1, 1) := dk_27 (dk_at dksX2_othersWith_1 10 rfl rfl)
theorem dX2_othersWith_35 : decode cX2_othersWith 35 = .ok (.iaload, 1) := dk_46 (dk_at dksX2_othersWith_1 11 rfl rfl)
theorem dX2_othersWith_36 : decode cX2_othersWith 36 = .ok (.if_icmp .ne 7, 3) := dk_160 0 7 (dk_at dksX2_othersWith_1 12 rfl rfl)
theorem dX2_othersWith_39 : decode cX2_othersWith 39 = .ok (.iconst 1, 1) := dk_4 (dk_at dksX2_othersWith_1 15 rfl rfl)
theorem dX2_othersWith_40 : decode cX2_othersWith 40 = .ok (.goto 4, 3) := dk_167 0 4 (dk_at dksX2_othersWith_1 16 rfl rfl)
theorem dX2_othersWith_43 : decode cX2_othersWith 43 = .ok (.iconst 0, 1) := dk_3 (dk_at dksX2_othersWith_1 19 rfl rfl)
theorem dX2_othersWith_44 : decode cX2_othersWith 44 = .ok (.invokestatic 69, 3) := dk_184 0 69 (dk_at dksX2_othersWith_1 20 rfl rfl)
theorem dX2_othersWith_47 : decode cX2_othersWith 47 = .ok (.iadd, 1) := dk_96 (dk_at dksX2_othersWith_1 23 rfl rfl)
theorem dX2_othersWith_48 : decode cX2_othersWith 48 = .ok (.istore_n 2, 1) := dk_61 (dk_at dksX2_othersWith_2 0 rfl rfl)
theorem dX2_othersWith_49 : decode cX2_othersWith 49 = .ok (.iinc 3 1, 3) := dk_132 3 1 (dk_at dksX2_othersWith_2 1 rfl rfl)
theorem dX2_othersWith_52 : decode cX2_othersWith 52 = .ok (.goto (-48), 3) := dk_167 255 208 (dk_at dksX2_othersWith_2 4 rfl rfl)
theorem dX2_othersWith_55 : decode cX2_othersWith 55 = .ok (.iload_n 2, 1) := dk_28 (dk_at dksX2_othersWith_2 7 rfl rfl)
theorem dX2_othersWith_56 : decode cX2_othersWith 56 = .ok (.ireturn, 1) := dk_172 (dk_at dksX2_othersWith_2 8 rfl rfl)
abbrev cX2_goesOn : ByteArray := prog_14_method_6_code
def yX2_goesOn : MethodName := ⟨RX2, "goesOn", "(LEdgeWalk$Sheet;I)V"⟩
def dkwX2_goesOn_5 : List UInt8 := [28, 46, 42, 180, 0, 18, 28, 46, 182, 0, 83, 79, 177]
abbrev dktX2_goesOn_5 : List UInt8 := dkwX2_goesOn_5 ++ []
def dkwX2_goesOn_4 : List UInt8 := [180, 0, 18, 28, 46, 182, 0, 83, 182, 0, 86, 154, 0, 25, 42, 180, 0, 15, 28, 43, 42, 180, 0, 15]
abbrev dktX2_goesOn_4 : List UInt8 := dkwX2_goesOn_4 ++ dktX2_goesOn_5
def dkwX2_goesOn_3 : List UInt8 := [42, 180, 0, 30, 28, 92, 46, 4, 96, 79, 167, 0, 48, 42, 43, 42, 180, 0, 15, 28, 46, 42]
abbrev dktX2_goesOn_3 : List UInt8 := dkwX2_goesOn_3 ++ dktX2_goesOn_4
def dkwX2_goesOn_2 : List UInt8 := [42, 180, 0, 24, 28, 43, 180, 0, 80, 42, 180, 0, 18, 28, 46, 46, 79, 42, 180, 0, 15, 28, 2, 79]
abbrev dktX2_goesOn_2 : List UInt8 := dkwX2_goesOn_2 ++ dktX2_goesOn_3
def dkwX2_goesOn_1 : List UInt8 := [4, 79, 42, 180, 0, 27, 28, 43, 42, 180, 0, 15, 28, 46, 42, 180, 0, 18, 28, 46, 182, 0, 77, 79]
abbrev dktX2_goesOn_1 : List UInt8 := dkwX2_goesOn_1 ++ dktX2_goesOn_2
def dkwX2_goesOn_0 : List UInt8 := [43, 42, 180, 0, 15, 28, 46, 42, 180, 0, 18, 28, 46, 182, 0, 73, 154, 0, 69, 42, 180, 0, 9, 28]
abbrev dktX2_goesOn_0 : List UInt8 := dkwX2_goesOn_0 ++ dktX2_goesOn_1
theorem dksX2_goesOn_0 : cX2_goesOn.data.toList.drop 0 = dktX2_goesOn_0 := by decide +kernel
theorem dksX2_goesOn_1 : cX2_goesOn.data.toList.drop 24 = dktX2_goesOn_1 := dk_seg dksX2_goesOn_0 24 rfl rfl
theorem dksX2_goesOn_2 : cX2_goesOn.data.toList.drop 48 = dktX2_goesOn_2 := dk_seg dksX2_goesOn_1 24 rfl rfl
theorem dksX2_goesOn_3 : cX2_goesOn.data.toList.drop 72 = dktX2_goesOn_3 := dk_seg dksX2_goesOn_2 24 rfl rfl
theorem dksX2_goesOn_4 : cX2_goesOn.data.toList.drop 94 = dktX2_goesOn_4 := dk_seg dksX2_goesOn_3 22 rfl rfl
theorem dksX2_goesOn_5 : cX2_goesOn.data.toList.drop 118 = dktX2_goesOn_5 := dk_seg dksX2_goesOn_4 24 rfl rfl
theorem dX2_goesOn_0 : decode cX2_goesOn 0 = .ok (.aload_n 1, 1) := dk_43 (dk_at dksX2_goesOn_0 0 rfl rfl)
theorem dX2_goesOn_1 : decode cX2_goesOn 1 = .ok (.aload_n 0, 1) := dk_42 (dk_at dksX2_goesOn_0 1 rfl rfl)
theorem dX2_goesOn_2 : decode cX2_goesOn 2 = .ok (.getfield 15, 3) := dk_180 0 15 (dk_at dksX2_goesOn_0 2 rfl rfl)
theorem dX2_goesOn_5 : decode cX2_goesOn 5 = .ok (.iload_n 2, 1) := dk_28 (dk_at dksX2_goesOn_0 5 rfl rfl)
theorem dX2_goesOn_6 : decode cX2_goesOn 6 = .ok (.iaload, 1) := dk_46 (dk_at dksX2_goesOn_0 6 rfl rfl)
theorem dX2_goesOn_7 : decode cX2_goesOn 7 = .ok (.aload_n 0, 1) := dk_42 (dk_at dksX2_goesOn_0 7 rfl rfl)
theorem dX2_goesOn_8 : decode cX2_goesOn 8 = .ok (.getfield 18, 3) := dk_180 0 18 (dk_at dksX2_goesOn_0 8 rfl rfl)
theorem dX2_goesOn_11 : decode cX2_goesOn 11 = .ok (.iload_n 2, 1) := dk_28 (dk_at dksX2_goesOn_0 11 rfl rfl)
theorem dX2_goesOn_12 : decode cX2_goesOn 12 = .ok (.iaload, 1) := dk_46 (dk_at dksX2_goesOn_0 12 rfl rfl)
theorem dX2_goesOn_13 : decode cX2_goesOn 13 = .ok (.invokevirtual 73, 3) := dk_182 0 73 (dk_at dksX2_goesOn_0 13 rfl rfl)
theorem dX2_goesOn_16 : decode cX2_goesOn 16 = .ok (.ifCond .ne 69, 3) := dk_154 0 69 (dk_at dksX2_goesOn_0 16 rfl rfl)
theorem dX2_goesOn_19 : decode cX2_goesOn 19 = .ok (.aload_n 0, 1) := dk_42 (dk_at dksX2_goesOn_0 19 rfl rfl)
theorem dX2_goesOn_20 : decode cX2_goesOn 20 = .ok (.getfield 9, 3) := dk_180 0 9 (dk_at dksX2_goesOn_0 20 rfl rfl)
theorem dX2_goesOn_23 : decode cX2_goesOn 23 = .ok (.iload_n 2, 1) := dk_28 (dk_at dksX2_goesOn_0 23 rfl rfl)
theorem dX2_goesOn_24 : decode cX2_goesOn 24 = .ok (.iconst 1, 1) := dk_4 (dk_at dksX2_goesOn_1 0 rfl rfl)
theorem dX2_goesOn_25 : decode cX2_goesOn 25 = .ok (.iastore, 1) := dk_79 (dk_at dksX2_goesOn_1 1 rfl rfl)
theorem dX2_goesOn_26 : decode cX2_goesOn 26 = .ok (.aload_n 0, 1) := dk_42 (dk_at dksX2_goesOn_1 2 rfl rfl)
theorem dX2_goesOn_27 : decode cX2_goesOn 27 = .ok (.getfield 27, 3) := dk_180 0 27 (dk_at dksX2_goesOn_1 3 rfl rfl)
theorem dX2_goesOn_30 : decode cX2_goesOn 30 = .ok (.iload_n 2, 1) := dk_28 (dk_at dksX2_goesOn_1 6 rfl rfl)
theorem dX2_goesOn_31 : decode cX2_goesOn 31 = .ok (.aload_n 1, 1) := dk_43 (dk_at dksX2_goesOn_1 7 rfl rfl)
theorem dX2_goesOn_32 : decode cX2_goesOn 32 = .ok (.aload_n 0, 1) := dk_42 (dk_at dksX2_goesOn_1 8 rfl rfl)
theorem dX2_goesOn_33 : decode cX2_goesOn 33 = .ok (.getfield 15, 3) := dk_180 0 15 (dk_at dksX2_goesOn_1 9 rfl rfl)
theorem dX2_goesOn_36 : decode cX2_goesOn 36 = .ok (.iload_n 2, 1) := dk_28 (dk_at dksX2_goesOn_1 12 rfl rfl)
theorem dX2_goesOn_37 : decode cX2_goesOn 37 = .ok (.iaload, 1) := dk_46 (dk_at dksX2_goesOn_1 13 rfl rfl)
theorem dX2_goesOn_38 : decode cX2_goesOn 38 = .ok (.aload_n 0, 1) := dk_42 (dk_at dksX2_goesOn_1 14 rfl rfl)
theorem dX2_goesOn_39 : decode cX2_goesOn 39 = .ok (.getfield 18, 3) := dk_180 0 18 (dk_at dksX2_goesOn_1 15 rfl rfl)
theorem dX2_goesOn_42 : decode cX2_goesOn 42 = .ok (.iload_n 2, 1) := dk_28 (dk_at dksX2_goesOn_1 18 rfl rfl)
theorem dX2_goesOn_43 : decode cX2_goesOn 43 = .ok (.iaload, 1) := dk_46 (dk_at dksX2_goesOn_1 19 rfl rfl)
theorem dX2_goesOn_44 : decode cX2_goesOn 44 = .ok (.invokevirtual 77, 3) := dk_182 0 77 (dk_at dksX2_goesOn_1 20 rfl rfl)
theorem dX2_goesOn_47 : decode cX2_goesOn 47 = .ok (.iastore, 1) := dk_79 (dk_at dksX2_goesOn_1 23 rfl rfl)
theorem dX2_goesOn_48 : decode cX2_goesOn 48 = .ok (.aload_n 0, 1) := dk_42 (dk_at dksX2_goesOn_2 0 rfl rfl)
theorem dX2_goesOn_49 : decode cX2_goesOn 49 = .ok (.getfield 24, 3) := dk_180 0 24 (dk_at dksX2_goesOn_2 1 rfl rfl)
theorem dX2_goesOn_52 : decode cX2_goesOn 52 = .ok (.iload_n 2, 1) := dk_28 (dk_at dksX2_goesOn_2 4 rfl rfl)
theorem dX2_goesOn_53 : decode cX2_goesOn 53 = .ok (.aload_n 1, 1) := dk_43 (dk_at dksX2_goesOn_2 5 rfl rfl)
theorem dX2_goesOn_54 : decode cX2_goesOn 54 = .ok (.getfield 80, 3) := dk_180 0 80 (dk_at dksX2_goesOn_2 6 rfl rfl)
theorem dX2_goesOn_57 : decode cX2_goesOn 57 = .ok (.aload_n 0, 1) := dk_42 (dk_at dksX2_goesOn_2 9 rfl rfl)
theorem dX2_goesOn_58 : decode cX2_goesOn 58 = .ok (.getfield 18, 3) := dk_180 0 18 (dk_at dksX2_goesOn_2 10 rfl rfl)
theorem dX2_goesOn_61 : decode cX2_goesOn 61 = .ok (.iload_n 2, 1) := dk_28 (dk_at dksX2_goesOn_2 13 rfl rfl)
theorem dX2_goesOn_62 : decode cX2_goesOn 62 = .ok (.iaload, 1) := dk_46 (dk_at dksX2_goesOn_2 14 rfl rfl)
theorem dX2_goesOn_63 : decode cX2_goesOn 63 = .ok (.iaload, 1) := dk_46 (dk_at dksX2_goesOn_2 15 rfl rfl)
theorem dX2_goesOn_64 : decode cX2_goesOn 64 = .ok (.iastore, 1) := dk_79 (dk_at dksX2_goesOn_2 16 rfl rfl)
theorem dX2_goesOn_65 : decode cX2_goesOn 65 = .ok (.aload_n 0, 1) := dk_42 (dk_at dksX2_goesOn_2 17 rfl rfl)
theorem dX2_goesOn_66 : decode cX2_goesOn 66 = .ok (.getfield 15, 3) := dk_180 0 15 (dk_at dksX2_goesOn_2 18 rfl rfl)
theorem dX2_goesOn_69 : decode cX2_goesOn 69 = .ok (.iload_n 2, 1) := dk_28 (dk_at dksX2_goesOn_2 21 rfl rfl)
theorem dX2_goesOn_70 : decode cX2_goesOn 70 = .ok (.iconst (-1), 1) := dk_2 (dk_at dksX2_goesOn_2 22 rfl rfl)
theorem dX2_goesOn_71 : decode cX2_goesOn 71 = .ok (.iastore, 1) := dk_79 (dk_at dksX2_goesOn_2 23 rfl rfl)
theorem dX2_goesOn_72 : decode cX2_goesOn 72 = .ok (.aload_n 0, 1) := dk_42 (dk_at dksX2_goesOn_3 0 rfl rfl)
theorem dX2_goesOn_73 : decode cX2_goesOn 73 = .ok (.getfield 30, 3) := dk_180 0 30 (dk_at dksX2_goesOn_3 1 rfl rfl)
theorem dX2_goesOn_76 : decode cX2_goesOn 76 = .ok (.iload_n 2, 1) := dk_28 (dk_at dksX2_goesOn_3 4 rfl rfl)
theorem dX2_goesOn_77 : decode cX2_goesOn 77 = .ok (.dup2, 1) := dk_92 (dk_at dksX2_goesOn_3 5 rfl rfl)
theorem dX2_goesOn_78 : decode cX2_goesOn 78 = .ok (.iaload, 1) := dk_46 (dk_at dksX2_goesOn_3 6 rfl rfl)
theorem dX2_goesOn_79 : decode cX2_goesOn 79 = .ok (.iconst 1, 1) := dk_4 (dk_at dksX2_goesOn_3 7 rfl rfl)
theorem dX2_goesOn_80 : decode cX2_goesOn 80 = .ok (.iadd, 1) := dk_96 (dk_at dksX2_goesOn_3 8 rfl rfl)
theorem dX2_goesOn_81 : decode cX2_goesOn 81 = .ok (.iastore, 1) := dk_79 (dk_at dksX2_goesOn_3 9 rfl rfl)
theorem dX2_goesOn_82 : decode cX2_goesOn 82 = .ok (.goto 48, 3) := dk_167 0 48 (dk_at dksX2_goesOn_3 10 rfl rfl)
theorem dX2_goesOn_85 : decode cX2_goesOn 85 = .ok (.aload_n 0, 1) := dk_42 (dk_at dksX2_goesOn_3 13 rfl rfl)
theorem dX2_goesOn_86 : decode cX2_goesOn 86 = .ok (.aload_n 1, 1) := dk_43 (dk_at dksX2_goesOn_3 14 rfl rfl)
theorem dX2_goesOn_87 : decode cX2_goesOn 87 = .ok (.aload_n 0, 1) := dk_42 (dk_at dksX2_goesOn_3 15 rfl rfl)
theorem dX2_goesOn_88 : decode cX2_goesOn 88 = .ok (.getfield 15, 3) := dk_180 0 15 (dk_at dksX2_goesOn_3 16 rfl rfl)
theorem dX2_goesOn_91 : decode cX2_goesOn 91 = .ok (.iload_n 2, 1) := dk_28 (dk_at dksX2_goesOn_3 19 rfl rfl)
theorem dX2_goesOn_92 : decode cX2_goesOn 92 = .ok (.iaload, 1) := dk_46 (dk_at dksX2_goesOn_3 20 rfl rfl)
theorem dX2_goesOn_93 : decode cX2_goesOn 93 = .ok (.aload_n 0, 1) := dk_42 (dk_at dksX2_goesOn_3 21 rfl rfl)
theorem dX2_goesOn_94 : decode cX2_goesOn 94 = .ok (.getfield 18, 3) := dk_180 0 18 (dk_at dksX2_goesOn_4 0 rfl rfl)
theorem dX2_goesOn_97 : decode cX2_goesOn 97 = .ok (.iload_n 2, 1) := dk_28 (dk_at dksX2_goesOn_4 3 rfl rfl)
theorem dX2_goesOn_98 : decode cX2_goesOn 98 = .ok (.iaload, 1) := dk_46 (dk_at dksX2_goesOn_4 4 rfl rfl)
theorem dX2_goesOn_99 : decode cX2_goesOn 99 = .ok (.invokevirtual 83, 3) := dk_182 0 83 (dk_at dksX2_goesOn_4 5 rfl rfl)
theorem dX2_goesOn_102 : decode cX2_goesOn 102 = .ok (.invokevirtual 86, 3) := dk_182 0 86 (dk_at dksX2_goesOn_4 8 rfl rfl)
theorem dX2_goesOn_105 : decode cX2_goesOn 105 = .ok (.ifCond .ne 25, 3) := dk_154 0 25 (dk_at dksX2_goesOn_4 11 rfl rfl)
theorem dX2_goesOn_108 : decode cX2_goesOn 108 = .ok (.aload_n 0, 1) := dk_42 (dk_at dksX2_goesOn_4 14 rfl rfl)
theorem dX2_goesOn_109 : decode cX2_goesOn 109 = .ok (.getfield 15, 3) := dk_180 0 15 (dk_at dksX2_goesOn_4 15 rfl rfl)
theorem dX2_goesOn_112 : decode cX2_goesOn 112 = .ok (.iload_n 2, 1) := dk_28 (dk_at dksX2_goesOn_4 18 rfl rfl)
theorem dX2_goesOn_113 : decode cX2_goesOn 113 = .ok (.aload_n 1, 1) := dk_43 (dk_at dksX2_goesOn_4 19 rfl rfl)
theorem dX2_goesOn_114 : decode cX2_goesOn 114 = .ok (.aload_n 0, 1) := dk_42 (dk_at dksX2_goesOn_4 20 rfl rfl)
theorem dX2_goesOn_115 : decode cX2_goesOn 115 = .ok (.getfield 15, 3) := dk_180 0 15 (dk_at dksX2_goesOn_4 21 rfl rfl)
theorem dX2_goesOn_118 : decode cX2_goesOn 118 = .ok (.iload_n 2, 1) := dk_28 (dk_at dksX2_goesOn_5 0 rfl rfl)
theorem dX2_goesOn_119 : decode cX2_goesOn 119 = .ok (.iaload, 1) := dk_46 (dk_at dksX2_goesOn_5 1 rfl rfl)
theorem dX2_goesOn_120 : decode cX2_goesOn 120 = .ok (.aload_n 0, 1) := dk_42 (dk_at dksX2_goesOn_5 2 rfl rfl)
theorem dX2_goesOn_121 : decode cX2_goesOn 121 = .ok (.getfield 18, 3) := dk_180 0 18 (dk_at dksX2_goesOn_5 3 rfl rfl)
theorem dX2_goesOn_124 : decode cX2_goesOn 124 = .ok (.iload_n 2, 1) := dk_28 (dk_at dksX2_goesOn_5 6 rfl rfl)
theorem dX2_goesOn_125 : decode cX2_goesOn 125 = .ok (.iaload, 1) := dk_46 (dk_at dksX2_goesOn_5 7 rfl rfl)
theorem dX2_goesOn_126 : decode cX2_goesOn 126 = .ok (.invokevirtual 83, 3) := dk_182 0 83 (dk_at dksX2_goesOn_5 8 rfl rfl)
theorem dX2_goesOn_129 : decode cX2_goesOn 129 = .ok (.iastore, 1) := dk_79 (dk_at dksX2_goesOn_5 11 rfl rfl)
theorem dX2_goesOn_130 : decode cX2_goesOn 130 = .ok (.return_, 1) := dk_177 (dk_at dksX2_goesOn_5 12 rfl rfl)
abbrev cX2_those : ByteArray := prog_14_method_8_code
def yX2_those : MethodName := ⟨RX2, "those", "(II)I"⟩
def dkwX2_those_1 : List UInt8 := [21, 4, 120, 167, 0, 4, 3, 128, 62, 132, 4, 1, 167, 255, 225, 29, 172]
abbrev dktX2_those_1 : List UInt8 := dkwX2_those_1 ++ []
def dkwX2_those_0 : List UInt8 := [3, 62, 3, 54, 4, 21, 4, 28, 162, 0, 31, 29, 42, 180, 0, 9, 21, 4, 46, 27, 160, 0, 10, 4]
abbrev dktX2_those_0 : List UInt8 := dkwX2_those_0 ++ dktX2_those_1
theorem dksX2_those_0 : cX2_those.data.toList.drop 0 = dktX2_those_0 := by decide +kernel
theorem dksX2_those_1 : cX2_those.data.toList.drop 24 = dktX2_those_1 := dk_seg dksX2_those_0 24 rfl rfl
theorem dX2_those_0 : decode cX2_those 0 = .ok (.iconst 0, 1) := dk_3 (dk_at dksX2_those_0 0 rfl rfl)
theorem dX2_those_1 : decode cX2_those 1 = .ok (.istore_n 3, 1) := dk_62 (dk_at dksX2_those_0 1 rfl rfl)
theorem dX2_those_2 : decode cX2_those 2 = .ok (.iconst 0, 1) := dk_3 (dk_at dksX2_those_0 2 rfl rfl)
theorem dX2_those_3 : decode cX2_those 3 = .ok (.istore 4, 2) := dk_54 4 (dk_at dksX2_those_0 3 rfl rfl)
theorem dX2_those_5 : decode cX2_those 5 = .ok (.iload 4, 2) := dk_21 4 (dk_at dksX2_those_0 5 rfl rfl)
theorem dX2_those_7 : decode cX2_those 7 = .ok (.iload_n 2, 1) := dk_28 (dk_at dksX2_those_0 7 rfl rfl)
theorem dX2_those_8 : decode cX2_those 8 = .ok (.if_icmp .ge 31, 3) := dk_162 0 31 (dk_at dksX2_those_0 8 rfl rfl)
theorem dX2_those_11 : decode cX2_those 11 = .ok (.iload_n 3, 1) := dk_29 (dk_at dksX2_those_0 11 rfl rfl)
theorem dX2_those_12 : decode cX2_those 12 = .ok (.aload_n 0, 1) := dk_42 (dk_at dksX2_those_0 12 rfl rfl)
theorem dX2_those_13 : decode cX2_those 13 = .ok (.getfield 9, 3) := dk_180 0 9 (dk_at dksX2_those_0 13 rfl rfl)
theorem dX2_those_16 : decode cX2_those 16 = .ok (.iload 4, 2) := dk_21 4 (dk_at dksX2_those_0 16 rfl rfl)
theorem dX2_those_18 : decode cX2_those 18 = .ok (.iaload, 1) := dk_46 (dk_at dksX2_those_0 18 rfl rfl)
theorem dX2_those_19 : decode cX2_those 19 = .ok (.iload_n 1, 1) := dk_27 (dk_at dksX2_those_0 19 rfl rfl)
theorem dX2_those_20 : decode cX2_those 20 = .ok (.if_icmp .ne 10, 3) := dk_160 0 10 (dk_at dksX2_those_0 20 rfl rfl)
theorem dX2_those_23 : decode cX2_those 23 = .ok (.iconst 1, 1) := dk_4 (dk_at dksX2_those_0 23 rfl rfl)
theorem dX2_those_24 : decode cX2_those 24 = .ok (.iload 4, 2) := dk_21 4 (dk_at dksX2_those_1 0 rfl rfl)
theorem dX2_those_26 : decode cX2_those 26 = .ok (.ishl, 1) := dk_120 (dk_at dksX2_those_1 2 rfl rfl)
theorem dX2_those_27 : decode cX2_those 27 = .ok (.goto 4, 3) := dk_167 0 4 (dk_at dksX2_those_1 3 rfl rfl)
theorem dX2_those_30 : decode cX2_those 30 = .ok (.iconst 0, 1) := dk_3 (dk_at dksX2_those_1 6 rfl rfl)
theorem dX2_those_31 : decode cX2_those 31 = .ok (.ior, 1) := dk_128 (dk_at dksX2_those_1 7 rfl rfl)
theorem dX2_those_32 : decode cX2_those 32 = .ok (.istore_n 3, 1) := dk_62 (dk_at dksX2_those_1 8 rfl rfl)
theorem dX2_those_33 : decode cX2_those 33 = .ok (.iinc 4 1, 3) := dk_132 4 1 (dk_at dksX2_those_1 9 rfl rfl)
theorem dX2_those_36 : decode cX2_those 36 = .ok (.goto (-31), 3) := dk_167 255 225 (dk_at dksX2_those_1 12 rfl rfl)
theorem dX2_those_39 : decode cX2_those 39 = .ok (.iload_n 3, 1) := dk_29 (dk_at dksX2_those_1 15 rfl rfl)
theorem dX2_those_40 : decode cX2_those 40 = .ok (.ireturn, 1) := dk_172 (dk_at dksX2_those_1 16 rfl rfl)
abbrev cX2_allFood : ByteArray := prog_14_method_9_code
def yX2_allFood : MethodName := ⟨RX2, "allFood", "()I"⟩
def dkwX2_allFood_1 : List UInt8 := [42, 180, 0, 21, 28, 46, 96, 60, 132, 2, 1, 167, 255, 225, 27, 172]
abbrev dktX2_allFood_1 : List UInt8 := dkwX2_allFood_1 ++ []
def dkwX2_allFood_0 : List UInt8 := [3, 60, 3, 61, 28, 8, 162, 0, 32, 27, 42, 180, 0, 9, 28, 46, 5, 160, 0, 7, 3, 167, 0, 9]
abbrev dktX2_allFood_0 : List UInt8 := dkwX2_allFood_0 ++ dktX2_allFood_1
theorem dksX2_allFood_0 : cX2_allFood.data.toList.drop 0 = dktX2_allFood_0 := by decide +kernel
theorem dksX2_allFood_1 : cX2_allFood.data.toList.drop 24 = dktX2_allFood_1 := dk_seg dksX2_allFood_0 24 rfl rfl
theorem dX2_allFood_0 : decode cX2_allFood 0 = .ok (.iconst 0, 1) := dk_3 (dk_at dksX2_allFood_0 0 rfl rfl)
theorem dX2_allFood_1 : decode cX2_allFood 1 = .ok (.istore_n 1, 1) := dk_60 (dk_at dksX2_allFood_0 1 rfl rfl)
theorem dX2_allFood_2 : decode cX2_allFood 2 = .ok (.iconst 0, 1) := dk_3 (dk_at dksX2_allFood_0 2 rfl rfl)
theorem dX2_allFood_3 : decode cX2_allFood 3 = .ok (.istore_n 2, 1) := dk_61 (dk_at dksX2_allFood_0 3 rfl rfl)
theorem dX2_allFood_4 : decode cX2_allFood 4 = .ok (.iload_n 2, 1) := dk_28 (dk_at dksX2_allFood_0 4 rfl rfl)
theorem dX2_allFood_5 : decode cX2_allFood 5 = .ok (.iconst 5, 1) := dk_8 (dk_at dksX2_allFood_0 5 rfl rfl)
theorem dX2_allFood_6 : decode cX2_allFood 6 = .ok (.if_icmp .ge 32, 3) := dk_162 0 32 (dk_at dksX2_allFood_0 6 rfl rfl)
theorem dX2_allFood_9 : decode cX2_allFood 9 = .ok (.iload_n 1, 1) := dk_27 (dk_at dksX2_allFood_0 9 rfl rfl)
theorem dX2_allFood_10 : decode cX2_allFood 10 = .ok (.aload_n 0, 1) := dk_42 (dk_at dksX2_allFood_0 10 rfl rfl)
theorem dX2_allFood_11 : decode cX2_allFood 11 = .ok (.getfield 9, 3) := dk_180 0 9 (dk_at dksX2_allFood_0 11 rfl rfl)
theorem dX2_allFood_14 : decode cX2_allFood 14 = .ok (.iload_n 2, 1) := dk_28 (dk_at dksX2_allFood_0 14 rfl rfl)
theorem dX2_allFood_15 : decode cX2_allFood 15 = .ok (.iaload, 1) := dk_46 (dk_at dksX2_allFood_0 15 rfl rfl)
theorem dX2_allFood_16 : decode cX2_allFood 16 = .ok (.iconst 2, 1) := dk_5 (dk_at dksX2_allFood_0 16 rfl rfl)
theorem dX2_allFood_17 : decode cX2_allFood 17 = .ok (.if_icmp .ne 7, 3) := dk_160 0 7 (dk_at dksX2_allFood_0 17 rfl rfl)
theorem dX2_allFood_20 : decode cX2_allFood 20 = .ok (.iconst 0, 1) := dk_3 (dk_at dksX2_allFood_0 20 rfl rfl)
theorem dX2_allFood_21 : decode cX2_allFood 21 = .ok (.goto 9, 3) := dk_167 0 9 (dk_at dksX2_allFood_0 21 rfl rfl)
theorem dX2_allFood_24 : decode cX2_allFood 24 = .ok (.aload_n 0, 1) := dk_42 (dk_at dksX2_allFood_1 0 rfl rfl)
theorem dX2_allFood_25 : decode cX2_allFood 25 = .ok (.getfield 21, 3) := dk_180 0 21 (dk_at dksX2_allFood_1 1 rfl rfl)
theorem dX2_allFood_28 : decode cX2_allFood 28 = .ok (.iload_n 2, 1) := dk_28 (dk_at dksX2_allFood_1 4 rfl rfl)
theorem dX2_allFood_29 : decode cX2_allFood 29 = .ok (.iaload, 1) := dk_46 (dk_at dksX2_allFood_1 5 rfl rfl)
theorem dX2_allFood_30 : decode cX2_allFood 30 = .ok (.iadd, 1) := dk_96 (dk_at dksX2_allFood_1 6 rfl rfl)
theorem dX2_allFood_31 : decode cX2_allFood 31 = .ok (.istore_n 1, 1) := dk_60 (dk_at dksX2_allFood_1 7 rfl rfl)
theorem dX2_allFood_32 : decode cX2_allFood 32 = .ok (.iinc 2 1, 3) := dk_132 2 1 (dk_at dksX2_allFood_1 8 rfl rfl)
theorem dX2_allFood_35 : decode cX2_allFood 35 = .ok (.goto (-31), 3) := dk_167 255 225 (dk_at dksX2_allFood_1 11 rfl rfl)
theorem dX2_allFood_38 : decode cX2_allFood 38 = .ok (.iload_n 1, 1) := dk_27 (dk_at dksX2_allFood_1 14 rfl rfl)
theorem dX2_allFood_39 : decode cX2_allFood 39 = .ok (.ireturn, 1) := dk_172 (dk_at dksX2_allFood_1 15 rfl rfl)
theorem q134 : (Jvm.Cond.initialized "EdgeWalk$State") ∈ lw_all := lw_g (lw_at lw_m1 6 rfl) rfl
theorem q207 : (Jvm.Cond.fieldLinkNest "EdgeWalk$State" (50 : Nat) "EdgeWalk$Sheet" "goers" "Ljava/util/ArrayList;" "EdgeWalk") ∈ lw_tbl := lw_at lw_m1 79 rfl
theorem q210 : (Jvm.Cond.fieldLinkNest "EdgeWalk$State" (67 : Nat) "EdgeWalk$Sheet" "leads" "[I" "EdgeWalk") ∈ lw_tbl := lw_at lw_m1 82 rfl
theorem q213 : (Jvm.Cond.fieldLinkNest "EdgeWalk$State" (80 : Nat) "EdgeWalk$Sheet" "days" "[I" "EdgeWalk") ∈ lw_tbl := lw_at lw_m1 85 rfl
theorem q219 : (Jvm.Cond.fieldLinkNest "EdgeWalk$State" (68 : Nat) "EdgeWalk$Sheet" "stones" "J" "EdgeWalk") ∈ lw_tbl := lw_at lw_m1 91 rfl
theorem q234 : (Jvm.Cond.instantiable "EdgeWalk$State" (10 : Nat)) ∈ lw_all := lw_g (lw_at lw_m1 106 rfl) rfl
theorem q236 : (Jvm.Cond.instanceMethod ({ cls := "EdgeWalk$State", name := "<init>", desc := "()V" } : Jvm.MethodName)) ∈ lw_all := lw_g (lw_at lw_m1 108 rfl) rfl
theorem q237 : (Jvm.Cond.code ({ cls := "EdgeWalk$State", name := "<init>", desc := "()V" } : Jvm.MethodName) prog_14_method_1_code (1 : Nat) (Option.none : Option Jvm.ClassFile.FieldType)) ∈ lw_all := lw_g (lw_at lw_m1 109 rfl) rfl
theorem q238 : (Jvm.Cond.methodLink "EdgeWalk$State" (3 : Nat) ({ cls := "java/lang/Object", name := "<init>", desc := "()V" } : Jvm.MethodName)) ∈ lw_all := lw_g (lw_at lw_m1 110 rfl) rfl
theorem q239 : (Jvm.Cond.fieldLink "EdgeWalk$State" (9 : Nat) "EdgeWalk$State" "is" "[I") ∈ lw_all := lw_g (lw_at lw_m1 111 rfl) rfl
theorem q241 : (Jvm.Cond.fieldLink "EdgeWalk$State" (15 : Nat) "EdgeWalk$State" "cell" "[I") ∈ lw_all := lw_g (lw_at lw_m1 113 rfl) rfl
theorem q243 : (Jvm.Cond.fieldLink "EdgeWalk$State" (18 : Nat) "EdgeWalk$State" "faces" "[I") ∈ lw_all := lw_g (lw_at lw_m1 115 rfl) rfl
theorem q245 : (Jvm.Cond.fieldLink "EdgeWalk$State" (21 : Nat) "EdgeWalk$State" "food" "[I") ∈ lw_all := lw_g (lw_at lw_m1 117 rfl) rfl
theorem q247 : (Jvm.Cond.fieldLink "EdgeWalk$State" (24 : Nat) "EdgeWalk$State" "left" "[I") ∈ lw_all := lw_g (lw_at lw_m1 119 rfl) rfl
theorem q249 : (Jvm.Cond.fieldLink "EdgeWalk$State" (27 : Nat) "EdgeWalk$State" "place" "[I") ∈ lw_all := lw_g (lw_at lw_m1 121 rfl) rfl
theorem q251 : (Jvm.Cond.fieldLink "EdgeWalk$State" (30 : Nat) "EdgeWalk$State" "been" "[I") ∈ lw_all := lw_g (lw_at lw_m1 123 rfl) rfl
theorem q253 : (Jvm.Cond.fieldLink "EdgeWalk$State" (33 : Nat) "EdgeWalk$State" "leads" "[I") ∈ lw_all := lw_g (lw_at lw_m1 125 rfl) rfl
theorem q255 : (Jvm.Cond.fieldLink "EdgeWalk$State" (36 : Nat) "EdgeWalk$State" "step" "I") ∈ lw_all := lw_g (lw_at lw_m1 127 rfl) rfl
theorem q257 : (Jvm.Cond.fieldLink "EdgeWalk$State" (40 : Nat) "EdgeWalk$State" "stones" "J") ∈ lw_all := lw_g (lw_at lw_m1 129 rfl) rfl
theorem q259 : (Jvm.Cond.laysFinal "EdgeWalk$State" "EdgeWalk$State" "is" "[I") ∈ lw_all := lw_g (lw_at lw_m1 131 rfl) rfl
theorem q260 : (Jvm.Cond.soleField "EdgeWalk$State" "is") ∈ lw_all := lw_g (lw_at lw_m1 132 rfl) rfl
theorem q261 : (Jvm.Cond.laysFinal "EdgeWalk$State" "EdgeWalk$State" "cell" "[I") ∈ lw_all := lw_g (lw_at lw_m1 133 rfl) rfl
theorem q262 : (Jvm.Cond.soleField "EdgeWalk$State" "cell") ∈ lw_all := lw_g (lw_at lw_m1 134 rfl) rfl
theorem q263 : (Jvm.Cond.laysFinal "EdgeWalk$State" "EdgeWalk$State" "faces" "[I") ∈ lw_all := lw_g (lw_at lw_m1 135 rfl) rfl
theorem q264 : (Jvm.Cond.soleField "EdgeWalk$State" "faces") ∈ lw_all := lw_g (lw_at lw_m1 136 rfl) rfl
theorem q265 : (Jvm.Cond.laysFinal "EdgeWalk$State" "EdgeWalk$State" "food" "[I") ∈ lw_all := lw_g (lw_at lw_m1 137 rfl) rfl
theorem q266 : (Jvm.Cond.soleField "EdgeWalk$State" "food") ∈ lw_all := lw_g (lw_at lw_m1 138 rfl) rfl
theorem q267 : (Jvm.Cond.laysFinal "EdgeWalk$State" "EdgeWalk$State" "left" "[I") ∈ lw_all := lw_g (lw_at lw_m1 139 rfl) rfl
theorem q268 : (Jvm.Cond.soleField "EdgeWalk$State" "left") ∈ lw_all := lw_g (lw_at lw_m1 140 rfl) rfl
theorem q269 : (Jvm.Cond.laysFinal "EdgeWalk$State" "EdgeWalk$State" "place" "[I") ∈ lw_all := lw_g (lw_at lw_m1 141 rfl) rfl
theorem q270 : (Jvm.Cond.soleField "EdgeWalk$State" "place") ∈ lw_all := lw_g (lw_at lw_m1 142 rfl) rfl
theorem q271 : (Jvm.Cond.laysFinal "EdgeWalk$State" "EdgeWalk$State" "been" "[I") ∈ lw_all := lw_g (lw_at lw_m1 143 rfl) rfl
theorem q272 : (Jvm.Cond.soleField "EdgeWalk$State" "been") ∈ lw_all := lw_g (lw_at lw_m1 144 rfl) rfl
theorem q273 : (Jvm.Cond.laysFinal "EdgeWalk$State" "EdgeWalk$State" "leads" "[I") ∈ lw_all := lw_g (lw_at lw_m1 145 rfl) rfl
theorem q274 : (Jvm.Cond.soleField "EdgeWalk$State" "leads") ∈ lw_all := lw_g (lw_at lw_m1 146 rfl) rfl
theorem q275 : (Jvm.Cond.lays "EdgeWalk$State" "EdgeWalk$State" "step" "I") ∈ lw_all := lw_g (lw_at lw_m1 147 rfl) rfl
theorem q276 : (Jvm.Cond.soleField "EdgeWalk$State" "step") ∈ lw_all := lw_g (lw_at lw_m1 148 rfl) rfl
theorem q277 : (Jvm.Cond.lays "EdgeWalk$State" "EdgeWalk$State" "stones" "J") ∈ lw_all := lw_g (lw_at lw_m1 149 rfl) rfl
theorem q278 : (Jvm.Cond.soleField "EdgeWalk$State" "stones") ∈ lw_all := lw_g (lw_at lw_m1 150 rfl) rfl
theorem q279 : (Jvm.Cond.superclass "EdgeWalk$State" "java/lang/Object") ∈ lw_all := lw_g (lw_at lw_m1 151 rfl) rfl
theorem q604 : (Jvm.Cond.fieldLinkNest "EdgeWalk$State" (61 : Nat) "EdgeWalk$Goer" "cell" "I" "EdgeWalk") ∈ lw_tbl := lw_at lw_m2 236 rfl
theorem q606 : (Jvm.Cond.fieldLinkNest "EdgeWalk$State" (63 : Nat) "EdgeWalk$Goer" "faces" "I" "EdgeWalk") ∈ lw_tbl := lw_at lw_m2 238 rfl
theorem q608 : (Jvm.Cond.fieldLinkNest "EdgeWalk$State" (65 : Nat) "EdgeWalk$Goer" "food" "I" "EdgeWalk") ∈ lw_tbl := lw_at lw_m3 0 rfl
theorem q662 : (Jvm.Cond.selects "EdgeWalk$State" ({ cls := "java/lang/Object", name := "getClass", desc := "()Ljava/lang/Class;" } : Jvm.MethodName) ({ cls := "java/lang/Object", name := "getClass", desc := "()Ljava/lang/Class;" } : Jvm.MethodName)) ∈ lw_all := lw_g (lw_at lw_m3 54 rfl) rfl
theorem q691 : (Jvm.Cond.instanceMethod ({ cls := "EdgeWalk$State", name := "begin", desc := "(LEdgeWalk$Sheet;)V" } : Jvm.MethodName)) ∈ lw_all := lw_g (lw_at lw_m3 83 rfl) rfl
theorem q692 : (Jvm.Cond.selects "EdgeWalk$State" ({ cls := "EdgeWalk$State", name := "begin", desc := "(LEdgeWalk$Sheet;)V" } : Jvm.MethodName) ({ cls := "EdgeWalk$State", name := "begin", desc := "(LEdgeWalk$Sheet;)V" } : Jvm.MethodName)) ∈ lw_all := lw_g (lw_at lw_m3 84 rfl) rfl
theorem q693 : (Jvm.Cond.code ({ cls := "EdgeWalk$State", name := "begin", desc := "(LEdgeWalk$Sheet;)V" } : Jvm.MethodName) prog_14_method_3_code (4 : Nat) (Option.none : Option Jvm.ClassFile.FieldType)) ∈ lw_all := lw_g (lw_at lw_m3 85 rfl) rfl
theorem q694 : (Jvm.Cond.methodLink "EdgeWalk$State" (44 : Nat) ({ cls := "EdgeWalk$Sheet", name := "goers", desc := "()I" } : Jvm.MethodName)) ∈ lw_all := lw_g (lw_at lw_m3 86 rfl) rfl
theorem q695 : (Jvm.Cond.methodLink "EdgeWalk$State" (53 : Nat) ({ cls := "java/util/ArrayList", name := "get", desc := "(I)Ljava/lang/Object;" } : Jvm.MethodName)) ∈ lw_all := lw_g (lw_at lw_m3 87 rfl) rfl
theorem q707 : (Jvm.Cond.classLink "EdgeWalk$State" (59 : Nat) "EdgeWalk$Goer") ∈ lw_all := lw_g (lw_at lw_m3 99 rfl) rfl
theorem q912 : (Jvm.Cond.instanceMethod ({ cls := "EdgeWalk$State", name := "isStone", desc := "(I)Z" } : Jvm.MethodName)) ∈ lw_all := lw_g (lw_at lw_m4 64 rfl) rfl
theorem q913 : (Jvm.Cond.selects "EdgeWalk$State" ({ cls := "EdgeWalk$State", name := "isStone", desc := "(I)Z" } : Jvm.MethodName) ({ cls := "EdgeWalk$State", name := "isStone", desc := "(I)Z" } : Jvm.MethodName)) ∈ lw_all := lw_g (lw_at lw_m4 65 rfl) rfl
theorem q914 : (Jvm.Cond.code ({ cls := "EdgeWalk$State", name := "isStone", desc := "(I)Z" } : Jvm.MethodName) prog_14_method_4_code (2 : Nat) (Option.some Jvm.ClassFile.FieldType.boolean)) ∈ lw_all := lw_g (lw_at lw_m4 66 rfl) rfl
theorem q923 : (Jvm.Cond.instanceMethod ({ cls := "EdgeWalk$State", name := "copyFrom", desc := "(LEdgeWalk$State;)V" } : Jvm.MethodName)) ∈ lw_all := lw_g (lw_at lw_m4 75 rfl) rfl
theorem q924 : (Jvm.Cond.selects "EdgeWalk$State" ({ cls := "EdgeWalk$State", name := "copyFrom", desc := "(LEdgeWalk$State;)V" } : Jvm.MethodName) ({ cls := "EdgeWalk$State", name := "copyFrom", desc := "(LEdgeWalk$State;)V" } : Jvm.MethodName)) ∈ lw_all := lw_g (lw_at lw_m4 76 rfl) rfl
theorem q925 : (Jvm.Cond.code ({ cls := "EdgeWalk$State", name := "copyFrom", desc := "(LEdgeWalk$State;)V" } : Jvm.MethodName) prog_14_method_2_code (3 : Nat) (Option.none : Option Jvm.ClassFile.FieldType)) ∈ lw_all := lw_g (lw_at lw_m4 77 rfl) rfl
theorem q940 : (Jvm.Cond.instanceMethod ({ cls := "EdgeWalk$State", name := "isOut", desc := "(LEdgeWalk$Sheet;I)V" } : Jvm.MethodName)) ∈ lw_all := lw_g (lw_at lw_m4 92 rfl) rfl
theorem q941 : (Jvm.Cond.selects "EdgeWalk$State" ({ cls := "EdgeWalk$State", name := "isOut", desc := "(LEdgeWalk$Sheet;I)V" } : Jvm.MethodName) ({ cls := "EdgeWalk$State", name := "isOut", desc := "(LEdgeWalk$Sheet;I)V" } : Jvm.MethodName)) ∈ lw_all := lw_g (lw_at lw_m4 93 rfl) rfl
theorem q942 : (Jvm.Cond.code ({ cls := "EdgeWalk$State", name := "isOut", desc := "(LEdgeWalk$Sheet;I)V" } : Jvm.MethodName) prog_14_method_7_code (5 : Nat) (Option.none : Option Jvm.ClassFile.FieldType)) ∈ lw_all := lw_g (lw_at lw_m4 94 rfl) rfl
theorem q943 : (Jvm.Cond.methodLink "EdgeWalk$State" (90 : Nat) ({ cls := "EdgeWalk$Sheet", name := "cellAt", desc := "(II)I" } : Jvm.MethodName)) ∈ lw_all := lw_g (lw_at lw_m4 95 rfl) rfl
theorem q947 : (Jvm.Cond.methodLink "EdgeWalk$State" (86 : Nat) ({ cls := "EdgeWalk$State", name := "isStone", desc := "(I)Z" } : Jvm.MethodName)) ∈ lw_all := lw_g (lw_at lw_m4 99 rfl) rfl
theorem q961 : (Jvm.Cond.instanceMethod ({ cls := "EdgeWalk$State", name := "othersWith", desc := "(I)I" } : Jvm.MethodName)) ∈ lw_all := lw_g (lw_at lw_m4 113 rfl) rfl
theorem q962 : (Jvm.Cond.selects "EdgeWalk$State" ({ cls := "EdgeWalk$State", name := "othersWith", desc := "(I)I" } : Jvm.MethodName) ({ cls := "EdgeWalk$State", name := "othersWith", desc := "(I)I" } : Jvm.MethodName)) ∈ lw_all := lw_g (lw_at lw_m4 114 rfl) rfl
theorem q963 : (Jvm.Cond.code ({ cls := "EdgeWalk$State", name := "othersWith", desc := "(I)I" } : Jvm.MethodName) prog_14_method_5_code (4 : Nat) (Option.some Jvm.ClassFile.FieldType.int)) ∈ lw_all := lw_g (lw_at lw_m4 115 rfl) rfl
theorem q964 : (Jvm.Cond.methodLinkNest "EdgeWalk$State" (69 : Nat) ({ cls := "EdgeWalk", name := "bit", desc := "(Z)I" } : Jvm.MethodName) "EdgeWalk") ∈ lw_tbl := lw_at lw_m4 116 rfl
theorem q1011 : (Jvm.Cond.instanceMethod ({ cls := "EdgeWalk$State", name := "goesOn", desc := "(LEdgeWalk$Sheet;I)V" } : Jvm.MethodName)) ∈ lw_all := lw_g (lw_at lw_m4 163 rfl) rfl
theorem q1012 : (Jvm.Cond.selects "EdgeWalk$State" ({ cls := "EdgeWalk$State", name := "goesOn", desc := "(LEdgeWalk$Sheet;I)V" } : Jvm.MethodName) ({ cls := "EdgeWalk$State", name := "goesOn", desc := "(LEdgeWalk$Sheet;I)V" } : Jvm.MethodName)) ∈ lw_all := lw_g (lw_at lw_m4 164 rfl) rfl
theorem q1013 : (Jvm.Cond.code ({ cls := "EdgeWalk$State", name := "goesOn", desc := "(LEdgeWalk$Sheet;I)V" } : Jvm.MethodName) prog_14_method_6_code (3 : Nat) (Option.none : Option Jvm.ClassFile.FieldType)) ∈ lw_all := lw_g (lw_at lw_m4 165 rfl) rfl
theorem q1014 : (Jvm.Cond.methodLink "EdgeWalk$State" (73 : Nat) ({ cls := "EdgeWalk$Sheet", name := "margin", desc := "(II)I" } : Jvm.MethodName)) ∈ lw_all := lw_g (lw_at lw_m4 166 rfl) rfl
theorem q1015 : (Jvm.Cond.methodLink "EdgeWalk$State" (77 : Nat) ({ cls := "EdgeWalk$Sheet", name := "placeAlong", desc := "(II)I" } : Jvm.MethodName)) ∈ lw_all := lw_g (lw_at lw_m4 167 rfl) rfl
theorem q1019 : (Jvm.Cond.methodLink "EdgeWalk$State" (83 : Nat) ({ cls := "EdgeWalk$Sheet", name := "next", desc := "(II)I" } : Jvm.MethodName)) ∈ lw_all := lw_g (lw_at lw_m4 171 rfl) rfl
theorem q1025 : (Jvm.Cond.instanceMethod ({ cls := "EdgeWalk$State", name := "those", desc := "(II)I" } : Jvm.MethodName)) ∈ lw_all := lw_g (lw_at lw_m4 177 rfl) rfl
theorem q1026 : (Jvm.Cond.selects "EdgeWalk$State" ({ cls := "EdgeWalk$State", name := "those", desc := "(II)I" } : Jvm.MethodName) ({ cls := "EdgeWalk$State", name := "those", desc := "(II)I" } : Jvm.MethodName)) ∈ lw_all := lw_g (lw_at lw_m4 178 rfl) rfl
theorem q1027 : (Jvm.Cond.code ({ cls := "EdgeWalk$State", name := "those", desc := "(II)I" } : Jvm.MethodName) prog_14_method_8_code (5 : Nat) (Option.some Jvm.ClassFile.FieldType.int)) ∈ lw_all := lw_g (lw_at lw_m4 179 rfl) rfl
theorem q1116 : (Jvm.Cond.instanceMethod ({ cls := "EdgeWalk$State", name := "allFood", desc := "()I" } : Jvm.MethodName)) ∈ lw_all := lw_g (lw_at lw_m5 28 rfl) rfl
theorem q1117 : (Jvm.Cond.selects "EdgeWalk$State" ({ cls := "EdgeWalk$State", name := "allFood", desc := "()I" } : Jvm.MethodName) ({ cls := "EdgeWalk$State", name := "allFood", desc := "()I" } : Jvm.MethodName)) ∈ lw_all := lw_g (lw_at lw_m5 29 rfl) rfl
theorem q1118 : (Jvm.Cond.code ({ cls := "EdgeWalk$State", name := "allFood", desc := "()I" } : Jvm.MethodName) prog_14_method_9_code (3 : Nat) (Option.some Jvm.ClassFile.FieldType.int)) ∈ lw_all := lw_g (lw_at lw_m5 30 rfl) rfl
theorem q1911 : (Jvm.Cond.castable "EdgeWalk$State" "java/lang/Object") ∈ lw_tbl := lw_at lw_m8 103 rfl
theorem in_X2 : ∀ w ∈ wsX20, w ∈ lw_all := lw_in wsX20 [259, 261, 263, 265, 267, 269, 271, 273, 275, 277] (by decide +kernel) (by decide +kernel)
/-! EdgeWalk$Wrong -/
set_option maxRecDepth 100000
def RX3 : String := "EdgeWalk$Wrong"
def TX3 : u_T := fun k => match k with
  | 0 => ("java/lang/Throwable", "cause", "Ljava/lang/Throwable;", false)
  | 1 => ("java/lang/Throwable", "stackTrace", "[Ljava/lang/StackTraceElement;", false)
  | 2 => ("java/lang/Throwable", "suppressedExceptions", "Ljava/util/List;", false)
  | 3 => ("java/lang/Throwable", "detailMessage", "Ljava/lang/String;", false)
  | 4 => ("java/lang/Throwable", "backtrace", "Ljava/lang/Object;", false)
  | 5 => ("java/lang/Throwable", "depth", "I", false)
  | _ => ("EdgeWalk$Wrong", "number", "I", false)
def tyX3 : Nat → FieldType := fun k => match k with
  | 0 => .object "java/lang/Throwable"
  | 1 => .array (.object "java/lang/StackTraceElement")
  | 2 => .object "java/util/List"
  | 3 => .object "java/lang/String"
  | 4 => .object "java/lang/Object"
  | 5 => .int
  | _ => .int
abbrev wsX30 : List Cond := u_ws RX3 TX3 7
theorem nmX3 : ∀ a, a < 7 → ∀ b, b < 7 → a ≠ b → (TX3 a).2.1 ≠ (TX3 b).2.1 := by decide +kernel
theorem tyX3_ok : ∀ k, k < 7 → parseFieldDescriptor (TX3 k).2.2.1 = some (tyX3 k) := by decide +kernel
abbrev cX3_init : ByteArray := prog_17_method_1_code
def yX3_init : MethodName := ⟨RX3, "<init>", "()V"⟩
theorem dX3_init_0 : decode cX3_init 0 = .ok (.aload_n 0, 1) := by decide +kernel
theorem dX3_init_1 : decode cX3_init 1 = .ok (.invokespecial 1, 3) := by decide +kernel
theorem dX3_init_4 : decode cX3_init 4 = .ok (.return_, 1) := by decide +kernel
theorem q137 : (Jvm.Cond.initialized "EdgeWalk$Wrong") ∈ lw_all := lw_g (lw_at lw_m1 9 rfl) rfl
theorem q283 : (Jvm.Cond.instantiable "EdgeWalk$Wrong" (7 : Nat)) ∈ lw_all := lw_g (lw_at lw_m1 155 rfl) rfl
theorem q284 : (Jvm.Cond.castable "EdgeWalk$Wrong" "EdgeWalk$Wrong") ∈ lw_tbl := lw_at lw_m1 156 rfl
theorem q289 : (Jvm.Cond.selects "EdgeWalk$Wrong" ({ cls := "java/lang/Throwable", name := "fillInStackTrace", desc := "(I)Ljava/lang/Throwable;" } : Jvm.MethodName) ({ cls := "java/lang/Throwable", name := "fillInStackTrace", desc := "(I)Ljava/lang/Throwable;" } : Jvm.MethodName)) ∈ lw_all := lw_g (lw_at lw_m1 161 rfl) rfl
theorem q290 : (Jvm.Cond.selects "EdgeWalk$Wrong" ({ cls := "java/lang/Throwable", name := "fillInStackTrace", desc := "()Ljava/lang/Throwable;" } : Jvm.MethodName) ({ cls := "java/lang/Throwable", name := "fillInStackTrace", desc := "()Ljava/lang/Throwable;" } : Jvm.MethodName)) ∈ lw_all := lw_g (lw_at lw_m1 162 rfl) rfl
theorem q291 : (Jvm.Cond.lays "EdgeWalk$Wrong" "java/lang/Throwable" "cause" "Ljava/lang/Throwable;") ∈ lw_all := lw_g (lw_at lw_m1 163 rfl) rfl
theorem q293 : (Jvm.Cond.lays "EdgeWalk$Wrong" "java/lang/Throwable" "stackTrace" "[Ljava/lang/StackTraceElement;") ∈ lw_all := lw_g (lw_at lw_m1 165 rfl) rfl
theorem q295 : (Jvm.Cond.lays "EdgeWalk$Wrong" "java/lang/Throwable" "suppressedExceptions" "Ljava/util/List;") ∈ lw_all := lw_g (lw_at lw_m1 167 rfl) rfl
theorem q297 : (Jvm.Cond.lays "EdgeWalk$Wrong" "java/lang/Throwable" "detailMessage" "Ljava/lang/String;") ∈ lw_all := lw_g (lw_at lw_m1 169 rfl) rfl
theorem q299 : (Jvm.Cond.lays "EdgeWalk$Wrong" "java/lang/Throwable" "backtrace" "Ljava/lang/Object;") ∈ lw_all := lw_g (lw_at lw_m1 171 rfl) rfl
theorem q320 : (Jvm.Cond.instanceMethod ({ cls := "EdgeWalk$Wrong", name := "<init>", desc := "()V" } : Jvm.MethodName)) ∈ lw_all := lw_g (lw_at lw_m1 192 rfl) rfl
theorem q321 : (Jvm.Cond.code ({ cls := "EdgeWalk$Wrong", name := "<init>", desc := "()V" } : Jvm.MethodName) prog_17_method_1_code (1 : Nat) (Option.none : Option Jvm.ClassFile.FieldType)) ∈ lw_all := lw_g (lw_at lw_m1 193 rfl) rfl
theorem q322 : (Jvm.Cond.methodLink "EdgeWalk$Wrong" (1 : Nat) ({ cls := "java/lang/Exception", name := "<init>", desc := "()V" } : Jvm.MethodName)) ∈ lw_all := lw_g (lw_at lw_m1 194 rfl) rfl
theorem q331 : (Jvm.Cond.lays "EdgeWalk$Wrong" "EdgeWalk$Wrong" "number" "I") ∈ lw_all := lw_g (lw_at lw_m1 203 rfl) rfl
theorem q332 : (Jvm.Cond.soleField "EdgeWalk$Wrong" "number") ∈ lw_all := lw_g (lw_at lw_m1 204 rfl) rfl
theorem q337 : (Jvm.Cond.lays "EdgeWalk$Wrong" "java/lang/Throwable" "depth" "I") ∈ lw_all := lw_g (lw_at lw_m1 209 rfl) rfl
theorem q340 : (Jvm.Cond.superclass "EdgeWalk$Wrong" "java/lang/Exception") ∈ lw_all := lw_g (lw_at lw_m1 212 rfl) rfl
theorem q664 : (Jvm.Cond.selects "EdgeWalk$Wrong" ({ cls := "java/lang/Object", name := "getClass", desc := "()Ljava/lang/Class;" } : Jvm.MethodName) ({ cls := "java/lang/Object", name := "getClass", desc := "()Ljava/lang/Class;" } : Jvm.MethodName)) ∈ lw_all := lw_g (lw_at lw_m3 56 rfl) rfl
theorem q1917 : (Jvm.Cond.castable "EdgeWalk$Wrong" "java/lang/Object") ∈ lw_tbl := lw_at lw_m8 109 rfl
theorem in_X3 : ∀ w ∈ wsX30, w ∈ lw_all := lw_in wsX30 [291, 293, 295, 297, 299, 337, 331] (by decide +kernel) (by decide +kernel)
/-! EdgeWalk$Parser -/
set_option maxRecDepth 100000
def RX5 : String := "EdgeWalk$Parser"
def TX5 : u_T := fun k => match k with
  | 0 => ("EdgeWalk$Parser", "names", "[Ljava/lang/String;", true)
  | 1 => ("EdgeWalk$Parser", "at", "I", false)
  | 2 => ("EdgeWalk$Parser", "deep", "I", false)
  | 3 => ("EdgeWalk$Parser", "counted", "I", false)
  | 4 => ("EdgeWalk$Parser", "clauses", "I", false)
  | 5 => ("EdgeWalk$Parser", "most", "I", true)
  | _ => ("EdgeWalk$Parser", "this$0", "LEdgeWalk;", true)
def tyX5 : Nat → FieldType := fun k => match k with
  | 0 => .array (.object "java/lang/String")
  | 1 => .int
  | 2 => .int
  | 3 => .int
  | 4 => .int
  | 5 => .int
  | _ => .object "EdgeWalk"
abbrev wsX50 : List Cond := u_ws RX5 TX5 7
theorem nmX5 : ∀ a, a < 7 → ∀ b, b < 7 → a ≠ b → (TX5 a).2.1 ≠ (TX5 b).2.1 := by decide +kernel
theorem tyX5_ok : ∀ k, k < 7 → parseFieldDescriptor (TX5 k).2.2.1 = some (tyX5 k) := by decide +kernel
abbrev cX5_init : ByteArray := prog_10_method_1_code
def yX5_init : MethodName := ⟨RX5, "<init>", "(LEdgeWalk;[Ljava/lang/String;I)V"⟩
def dkwX5_init_0 : List UInt8 := [42, 43, 181, 0, 3, 42, 183, 0, 9, 42, 44, 181, 0, 15, 42, 29, 181, 0, 19, 177]
abbrev dktX5_init_0 : List UInt8 := dkwX5_init_0 ++ []
theorem dksX5_init_0 : cX5_init.data.toList.drop 0 = dktX5_init_0 := by decide +kernel
theorem dX5_init_0 : decode cX5_init 0 = .ok (.aload_n 0, 1) := dk_42 (dk_at dksX5_init_0 0 rfl rfl)
theorem dX5_init_1 : decode cX5_init 1 = .ok (.aload_n 1, 1) := dk_43 (dk_at dksX5_init_0 1 rfl rfl)
theorem dX5_init_2 : decode cX5_init 2 = .ok (.putfield 3, 3) := dk_181 0 3 (dk_at dksX5_init_0 2 rfl rfl)
theorem dX5_init_5 : decode cX5_init 5 = .ok (.aload_n 0, 1) := dk_42 (dk_at dksX5_init_0 5 rfl rfl)
theorem dX5_init_6 : decode cX5_init 6 = .ok (.invokespecial 9, 3) := dk_183 0 9 (dk_at dksX5_init_0 6 rfl rfl)
theorem dX5_init_9 : decode cX5_init 9 = .ok (.aload_n 0, 1) := dk_42 (dk_at dksX5_init_0 9 rfl rfl)
theorem dX5_init_10 : decode cX5_init 10 = .ok (.aload_n 2, 1) := dk_44 (dk_at dksX5_init_0 10 rfl rfl)
theorem dX5_init_11 : decode cX5_init 11 = .ok (.putfield 15, 3) := dk_181 0 15 (dk_at dksX5_init_0 11 rfl rfl)
theorem dX5_init_14 : decode cX5_init 14 = .ok (.aload_n 0, 1) := dk_42 (dk_at dksX5_init_0 14 rfl rfl)
theorem dX5_init_15 : decode cX5_init 15 = .ok (.iload_n 3, 1) := dk_29 (dk_at dksX5_init_0 15 rfl rfl)
theorem dX5_init_16 : decode cX5_init 16 = .ok (.putfield 19, 3) := dk_181 0 19 (dk_at dksX5_init_0 16 rfl rfl)
theorem dX5_init_19 : decode cX5_init 19 = .ok (.return_, 1) := dk_177 (dk_at dksX5_init_0 19 rfl rfl)
abbrev cX5_sheet : ByteArray := prog_10_method_22_code
def yX5_sheet : MethodName := ⟨RX5, "sheet", "()LEdgeWalk$Sheet;"⟩
def dkwX5_sheet_1 : List UInt8 := [182, 0, 218, 167, 255, 244, 43, 176]
abbrev dktX5_sheet_1 : List UInt8 := dkwX5_sheet_1 ++ []
def dkwX5_sheet_0 : List UInt8 := [187, 0, 151, 89, 183, 0, 217, 76, 42, 43, 182, 0, 218, 42, 182, 0, 221, 153, 0, 11, 42, 43]
abbrev dktX5_sheet_0 : List UInt8 := dkwX5_sheet_0 ++ dktX5_sheet_1
theorem dksX5_sheet_0 : cX5_sheet.data.toList.drop 0 = dktX5_sheet_0 := by decide +kernel
theorem dksX5_sheet_1 : cX5_sheet.data.toList.drop 22 = dktX5_sheet_1 := dk_seg dksX5_sheet_0 22 rfl rfl
theorem dX5_sheet_0 : decode cX5_sheet 0 = .ok (.new 151, 3) := dk_187 0 151 (dk_at dksX5_sheet_0 0 rfl rfl)
theorem dX5_sheet_3 : decode cX5_sheet 3 = .ok (.dup, 1) := dk_89 (dk_at dksX5_sheet_0 3 rfl rfl)
theorem dX5_sheet_4 : decode cX5_sheet 4 = .ok (.invokespecial 217, 3) := dk_183 0 217 (dk_at dksX5_sheet_0 4 rfl rfl)
theorem dX5_sheet_7 : decode cX5_sheet 7 = .ok (.astore_n 1, 1) := dk_76 (dk_at dksX5_sheet_0 7 rfl rfl)
theorem dX5_sheet_8 : decode cX5_sheet 8 = .ok (.aload_n 0, 1) := dk_42 (dk_at dksX5_sheet_0 8 rfl rfl)
theorem dX5_sheet_9 : decode cX5_sheet 9 = .ok (.aload_n 1, 1) := dk_43 (dk_at dksX5_sheet_0 9 rfl rfl)
theorem dX5_sheet_10 : decode cX5_sheet 10 = .ok (.invokevirtual 218, 3) := dk_182 0 218 (dk_at dksX5_sheet_0 10 rfl rfl)
theorem dX5_sheet_13 : decode cX5_sheet 13 = .ok (.aload_n 0, 1) := dk_42 (dk_at dksX5_sheet_0 13 rfl rfl)
theorem dX5_sheet_14 : decode cX5_sheet 14 = .ok (.invokevirtual 221, 3) := dk_182 0 221 (dk_at dksX5_sheet_0 14 rfl rfl)
theorem dX5_sheet_17 : decode cX5_sheet 17 = .ok (.ifCond .eq 11, 3) := dk_153 0 11 (dk_at dksX5_sheet_0 17 rfl rfl)
theorem dX5_sheet_20 : decode cX5_sheet 20 = .ok (.aload_n 0, 1) := dk_42 (dk_at dksX5_sheet_0 20 rfl rfl)
theorem dX5_sheet_21 : decode cX5_sheet 21 = .ok (.aload_n 1, 1) := dk_43 (dk_at dksX5_sheet_0 21 rfl rfl)
theorem dX5_sheet_22 : decode cX5_sheet 22 = .ok (.invokevirtual 218, 3) := dk_182 0 218 (dk_at dksX5_sheet_1 0 rfl rfl)
theorem dX5_sheet_25 : decode cX5_sheet 25 = .ok (.goto (-12), 3) := dk_167 255 244 (dk_at dksX5_sheet_1 3 rfl rfl)
theorem dX5_sheet_28 : decode cX5_sheet 28 = .ok (.aload_n 1, 1) := dk_43 (dk_at dksX5_sheet_1 6 rfl rfl)
theorem dX5_sheet_29 : decode cX5_sheet 29 = .ok (.areturn, 1) := dk_176 (dk_at dksX5_sheet_1 7 rfl rfl)
abbrev cX5_clause : ByteArray := prog_10_method_19_code
def yX5_clause : MethodName := ⟨RX5, "clause", "(LEdgeWalk$Sheet;)V"⟩
def dkwX5_clause_6 : List UInt8 := [180, 0, 23, 182, 0, 69, 191, 177]
abbrev dktX5_clause_6 : List UInt8 := dkwX5_clause_6 ++ []
def dkwX5_clause_5 : List UInt8 := [182, 0, 150, 4, 100, 182, 0, 82, 121, 129, 181, 0, 199, 167, 0, 16, 42, 180, 0, 3, 3, 42]
abbrev dktX5_clause_5 : List UInt8 := dkwX5_clause_5 ++ dktX5_clause_6
def dkwX5_clause_4 : List UInt8 := [167, 0, 51, 42, 18, 197, 28, 182, 0, 182, 153, 0, 28, 43, 89, 180, 0, 199, 10, 42, 3, 43]
abbrev dktX5_clause_4 : List UInt8 := dkwX5_clause_4 ++ dktX5_clause_5
def dkwX5_clause_3 : List UInt8 := [43, 182, 0, 190, 167, 0, 69, 42, 18, 193, 28, 182, 0, 182, 153, 0, 11, 42, 43, 182, 0, 195]
abbrev dktX5_clause_3 : List UInt8 := dkwX5_clause_3 ++ dktX5_clause_4
def dkwX5_clause_2 : List UInt8 := [28, 153, 0, 15, 43, 182, 0, 188, 8, 162, 0, 7, 4, 167, 0, 4, 3, 182, 0, 182, 153, 0, 11, 42]
abbrev dktX5_clause_2 : List UInt8 := dkwX5_clause_2 ++ dktX5_clause_3
def dkwX5_clause_1 : List UInt8 := [3, 182, 0, 182, 153, 0, 17, 43, 42, 5, 16, 6, 182, 0, 82, 181, 0, 177, 167, 0, 103, 42, 18, 186]
abbrev dktX5_clause_1 : List UInt8 := dkwX5_clause_1 ++ dktX5_clause_2
def dkwX5_clause_0 : List UInt8 := [43, 180, 0, 177, 158, 0, 7, 4, 167, 0, 4, 3, 61, 42, 18, 180, 28, 154, 0, 7, 4, 167, 0, 4]
abbrev dktX5_clause_0 : List UInt8 := dkwX5_clause_0 ++ dktX5_clause_1
theorem dksX5_clause_0 : cX5_clause.data.toList.drop 0 = dktX5_clause_0 := by decide +kernel
theorem dksX5_clause_1 : cX5_clause.data.toList.drop 24 = dktX5_clause_1 := dk_seg dksX5_clause_0 24 rfl rfl
theorem dksX5_clause_2 : cX5_clause.data.toList.drop 48 = dktX5_clause_2 := dk_seg dksX5_clause_1 24 rfl rfl
theorem dksX5_clause_3 : cX5_clause.data.toList.drop 72 = dktX5_clause_3 := dk_seg dksX5_clause_2 24 rfl rfl
theorem dksX5_clause_4 : cX5_clause.data.toList.drop 94 = dktX5_clause_4 := dk_seg dksX5_clause_3 22 rfl rfl
theorem dksX5_clause_5 : cX5_clause.data.toList.drop 116 = dktX5_clause_5 := dk_seg dksX5_clause_4 22 rfl rfl
theorem dksX5_clause_6 : cX5_clause.data.toList.drop 138 = dktX5_clause_6 := dk_seg dksX5_clause_5 22 rfl rfl
theorem dX5_clause_0 : decode cX5_clause 0 = .ok (.aload_n 1, 1) := dk_43 (dk_at dksX5_clause_0 0 rfl rfl)
theorem dX5_clause_1 : decode cX5_clause 1 = .ok (.getfield 177, 3) := dk_180 0 177 (dk_at dksX5_clause_0 1 rfl rfl)
theorem dX5_clause_4 : decode cX5_clause 4 = .ok (.ifCond .le 7, 3) := dk_158 0 7 (dk_at dksX5_clause_0 4 rfl rfl)
theorem dX5_clause_7 : decode cX5_clause 7 = .ok (.iconst 1, 1) := dk_4 (dk_at dksX5_clause_0 7 rfl rfl)
theorem dX5_clause_8 : decode cX5_clause 8 = .ok (.goto 4, 3) := dk_167 0 4 (dk_at dksX5_clause_0 8 rfl rfl)
theorem dX5_clause_11 : decode cX5_clause 11 = .ok (.iconst 0, 1) := dk_3 (dk_at dksX5_clause_0 11 rfl rfl)
theorem dX5_clause_12 : decode cX5_clause 12 = .ok (.istore_n 2, 1) := dk_61 (dk_at dksX5_clause_0 12 rfl rfl)
theorem dX5_clause_13 : decode cX5_clause 13 = .ok (.aload_n 0, 1) := dk_42 (dk_at dksX5_clause_0 13 rfl rfl)
theorem dX5_clause_14 : decode cX5_clause 14 = .ok (.ldc 180, 2) := dk_18 180 (dk_at dksX5_clause_0 14 rfl rfl)
theorem dX5_clause_16 : decode cX5_clause 16 = .ok (.iload_n 2, 1) := dk_28 (dk_at dksX5_clause_0 16 rfl rfl)
theorem dX5_clause_17 : decode cX5_clause 17 = .ok (.ifCond .ne 7, 3) := dk_154 0 7 (dk_at dksX5_clause_0 17 rfl rfl)
theorem dX5_clause_20 : decode cX5_clause 20 = .ok (.iconst 1, 1) := dk_4 (dk_at dksX5_clause_0 20 rfl rfl)
theorem dX5_clause_21 : decode cX5_clause 21 = .ok (.goto 4, 3) := dk_167 0 4 (dk_at dksX5_clause_0 21 rfl rfl)
theorem dX5_clause_24 : decode cX5_clause 24 = .ok (.iconst 0, 1) := dk_3 (dk_at dksX5_clause_1 0 rfl rfl)
theorem dX5_clause_25 : decode cX5_clause 25 = .ok (.invokevirtual 182, 3) := dk_182 0 182 (dk_at dksX5_clause_1 1 rfl rfl)
theorem dX5_clause_28 : decode cX5_clause 28 = .ok (.ifCond .eq 17, 3) := dk_153 0 17 (dk_at dksX5_clause_1 4 rfl rfl)
theorem dX5_clause_31 : decode cX5_clause 31 = .ok (.aload_n 1, 1) := dk_43 (dk_at dksX5_clause_1 7 rfl rfl)
theorem dX5_clause_32 : decode cX5_clause 32 = .ok (.aload_n 0, 1) := dk_42 (dk_at dksX5_clause_1 8 rfl rfl)
theorem dX5_clause_33 : decode cX5_clause 33 = .ok (.iconst 2, 1) := dk_5 (dk_at dksX5_clause_1 9 rfl rfl)
theorem dX5_clause_34 : decode cX5_clause 34 = .ok (.bipush 6, 2) := dk_16 6 (dk_at dksX5_clause_1 10 rfl rfl)
theorem dX5_clause_36 : decode cX5_clause 36 = .ok (.invokevirtual 82, 3) := dk_182 0 82 (dk_at dksX5_clause_1 12 rfl rfl)
theorem dX5_clause_39 : decode cX5_clause 39 = .ok (.putfield 177, 3) := dk_181 0 177 (dk_at dksX5_clause_1 15 rfl rfl)
theorem dX5_clause_42 : decode cX5_clause 42 = .ok (.goto 103, 3) := dk_167 0 103 (dk_at dksX5_clause_1 18 rfl rfl)
theorem dX5_clause_45 : decode cX5_clause 45 = .ok (.aload_n 0, 1) := dk_42 (dk_at dksX5_clause_1 21 rfl rfl)
theorem dX5_clause_46 : decode cX5_clause 46 = .ok (.ldc 186, 2) := dk_18 186 (dk_at dksX5_clause_1 22 rfl rfl)
theorem dX5_clause_48 : decode cX5_clause 48 = .ok (.iload_n 2, 1) := dk_28 (dk_at dksX5_clause_2 0 rfl rfl)
theorem dX5_clause_49 : decode cX5_clause 49 = .ok (.ifCond .eq 15, 3) := dk_153 0 15 (dk_at dksX5_clause_2 1 rfl rfl)
theorem dX5_clause_52 : decode cX5_clause 52 = .ok (.aload_n 1, 1) := dk_43 (dk_at dksX5_clause_2 4 rfl rfl)
theorem dX5_clause_53 : decode cX5_clause 53 = .ok (.invokevirtual 188, 3) := dk_182 0 188 (dk_at dksX5_clause_2 5 rfl rfl)
theorem dX5_clause_56 : decode cX5_clause 56 = .ok (.iconst 5, 1) := dk_8 (dk_at dksX5_clause_2 8 rfl rfl)
theorem dX5_clause_57 : decode cX5_clause 57 = .ok (.if_icmp .ge 7, 3) := dk_162 0 7 (dk_at dksX5_clause_2 9 rfl rfl)
theorem dX5_clause_60 : decode cX5_clause 60 = .ok (.iconst 1, 1) := dk_4 (dk_at dksX5_clause_2 12 rfl rfl)
theorem dX5_clause_61 : decode cX5_clause 61 = .ok (.goto 4, 3) := dk_167 0 4 (dk_at dksX5_clause_2 13 rfl rfl)
theorem dX5_clause_64 : decode cX5_clause 64 = .ok (.iconst 0, 1) := dk_3 (dk_at dksX5_clause_2 16 rfl rfl)
theorem dX5_clause_65 : decode cX5_clause 65 = .ok (.invokevirtual 182, 3) := dk_182 0 182 (dk_at dksX5_clause_2 17 rfl rfl)
theorem dX5_clause_68 : decode cX5_clause 68 = .ok (.ifCond .eq 11, 3) := dk_153 0 11 (dk_at dksX5_clause_2 20 rfl rfl)
theorem dX5_clause_71 : decode cX5_clause 71 = .ok (.aload_n 0, 1) := dk_42 (dk_at dksX5_clause_2 23 rfl rfl)
theorem dX5_clause_72 : decode cX5_clause 72 = .ok (.aload_n 1, 1) := dk_43 (dk_at dksX5_clause_3 0 rfl rfl)
theorem dX5_clause_73 : decode cX5_clause 73 = .ok (.invokevirtual 190, 3) := dk_182 0 190 (dk_at dksX5_clause_3 1 rfl rfl)
theorem dX5_clause_76 : decode cX5_clause 76 = .ok (.goto 69, 3) := dk_167 0 69 (dk_at dksX5_clause_3 4 rfl rfl)
theorem dX5_clause_79 : decode cX5_clause 79 = .ok (.aload_n 0, 1) := dk_42 (dk_at dksX5_clause_3 7 rfl rfl)
theorem dX5_clause_80 : decode cX5_clause 80 = .ok (.ldc 193, 2) := dk_18 193 (dk_at dksX5_clause_3 8 rfl rfl)
theorem dX5_clause_82 : decode cX5_clause 82 = .ok (.iload_n 2, 1) := dk_28 (dk_at dksX5_clause_3 10 rfl rfl)
theorem dX5_clause_83 : decode cX5_clause 83 = .ok (.invokevirtual 182, 3) := dk_182 0 182 (dk_at dksX5_clause_3 11 rfl rfl)
theorem dX5_clause_86 : decode cX5_clause 86 = .ok (.ifCond .eq 11, 3) := dk_153 0 11 (dk_at dksX5_clause_3 14 rfl rfl)
theorem dX5_clause_89 : decode cX5_clause 89 = .ok (.aload_n 0, 1) := dk_42 (dk_at dksX5_clause_3 17 rfl rfl)
theorem dX5_clause_90 : decode cX5_clause 90 = .ok (.aload_n 1, 1) := dk_43 (dk_at dksX5_clause_3 18 rfl rfl)
theorem dX5_clause_91 : decode cX5_clause 91 = .ok (.invokevirtual 195, 3) := dk_182 0 195 (dk_at dksX5_clause_3 19 rfl rfl)
theorem dX5_clause_94 : decode cX5_clause 94 = .ok (.goto 51, 3) := dk_167 0 51 (dk_at dksX5_clause_4 0 rfl rfl)
theorem dX5_clause_97 : decode cX5_clause 97 = .ok (.aload_n 0, 1) := dk_42 (dk_at dksX5_clause_4 3 rfl rfl)
theorem dX5_clause_98 : decode cX5_clause 98 = .ok (.ldc 197, 2) := dk_18 197 (dk_at dksX5_clause_4 4 rfl rfl)
theorem dX5_clause_100 : decode cX5_clause 100 = .ok (.iload_n 2, 1) := dk_28 (dk_at dksX5_clause_4 6 rfl rfl)
theorem dX5_clause_101 : decode cX5_clause 101 = .ok (.invokevirtual 182, 3) := dk_182 0 182 (dk_at dksX5_clause_4 7 rfl rfl)
theorem dX5_clause_104 : decode cX5_clause 104 = .ok (.ifCond .eq 28, 3) := dk_153 0 28 (dk_at dksX5_clause_4 10 rfl rfl)
theorem dX5_clause_107 : decode cX5_clause 107 = .ok (.aload_n 1, 1) := dk_43 (dk_at dksX5_clause_4 13 rfl rfl)
theorem dX5_clause_108 : decode cX5_clause 108 = .ok (.dup, 1) := dk_89 (dk_at dksX5_clause_4 14 rfl rfl)
theorem dX5_clause_109 : decode cX5_clause 109 = .ok (.getfield 199, 3) := dk_180 0 199 (dk_at dksX5_clause_4 15 rfl rfl)
theorem dX5_clause_112 : decode cX5_clause 112 = .ok (.lconst 1, 1) := dk_10 (dk_at dksX5_clause_4 18 rfl rfl)
theorem dX5_clause_113 : decode cX5_clause 113 = .ok (.aload_n 0, 1) := dk_42 (dk_at dksX5_clause_4 19 rfl rfl)
theorem dX5_clause_114 : decode cX5_clause 114 = .ok (.iconst 0, 1) := dk_3 (dk_at dksX5_clause_4 20 rfl rfl)
theorem dX5_clause_115 : decode cX5_clause 115 = .ok (.aload_n 1, 1) := dk_43 (dk_at dksX5_clause_4 21 rfl rfl)
theorem dX5_clause_116 : decode cX5_clause 116 = .ok (.invokevirtual 150, 3) := dk_182 0 150 (dk_at dksX5_clause_5 0 rfl rfl)
theorem dX5_clause_119 : decode cX5_clause 119 = .ok (.iconst 1, 1) := dk_4 (dk_at dksX5_clause_5 3 rfl rfl)
theorem dX5_clause_120 : decode cX5_clause 120 = .ok (.isub, 1) := dk_100 (dk_at dksX5_clause_5 4 rfl rfl)
theorem dX5_clause_121 : decode cX5_clause 121 = .ok (.invokevirtual 82, 3) := dk_182 0 82 (dk_at dksX5_clause_5 5 rfl rfl)
theorem dX5_clause_124 : decode cX5_clause 124 = .ok (.lshl, 1) := dk_121 (dk_at dksX5_clause_5 8 rfl rfl)
theorem dX5_clause_125 : decode cX5_clause 125 = .ok (.lor, 1) := dk_129 (dk_at dksX5_clause_5 9 rfl rfl)
theorem dX5_clause_126 : decode cX5_clause 126 = .ok (.putfield 199, 3) := dk_181 0 199 (dk_at dksX5_clause_5 10 rfl rfl)
theorem dX5_clause_129 : decode cX5_clause 129 = .ok (.goto 16, 3) := dk_167 0 16 (dk_at dksX5_clause_5 13 rfl rfl)
theorem dX5_clause_132 : decode cX5_clause 132 = .ok (.aload_n 0, 1) := dk_42 (dk_at dksX5_clause_5 16 rfl rfl)
theorem dX5_clause_133 : decode cX5_clause 133 = .ok (.getfield 3, 3) := dk_180 0 3 (dk_at dksX5_clause_5 17 rfl rfl)
theorem dX5_clause_136 : decode cX5_clause 136 = .ok (.iconst 0, 1) := dk_3 (dk_at dksX5_clause_5 20 rfl rfl)
theorem dX5_clause_137 : decode cX5_clause 137 = .ok (.aload_n 0, 1) := dk_42 (dk_at dksX5_clause_5 21 rfl rfl)
theorem dX5_clause_138 : decode cX5_clause 138 = .ok (.getfield 23, 3) := dk_180 0 23 (dk_at dksX5_clause_6 0 rfl rfl)
theorem dX5_clause_141 : decode cX5_clause 141 = .ok (.invokevirtual 69, 3) := dk_182 0 69 (dk_at dksX5_clause_6 3 rfl rfl)
theorem dX5_clause_144 : decode cX5_clause 144 = .ok (.athrow, 1) := dk_191 (dk_at dksX5_clause_6 6 rfl rfl)
theorem dX5_clause_145 : decode cX5_clause 145 = .ok (.return_, 1) := dk_177 (dk_at dksX5_clause_6 7 rfl rfl)
abbrev cX5_begins : ByteArray := prog_10_method_16_code
def yX5_begins : MethodName := ⟨RX5, "begins", "(Ljava/lang/String;Z)Z"⟩
def dkwX5_begins_2 : List UInt8 := [181, 0, 147, 42, 89, 180, 0, 23, 43, 182, 0, 52, 96, 181, 0, 23, 4, 172]
abbrev dktX5_begins_2 : List UInt8 := dkwX5_begins_2 ++ []
def dkwX5_begins_1 : List UInt8 := [154, 0, 16, 42, 180, 0, 3, 7, 42, 180, 0, 23, 182, 0, 69, 191, 42, 89, 180, 0, 147, 4, 96]
abbrev dktX5_begins_1 : List UInt8 := dkwX5_begins_1 ++ dktX5_begins_2
def dkwX5_begins_0 : List UInt8 := [42, 43, 182, 0, 61, 154, 0, 5, 3, 172, 42, 180, 0, 147, 42, 180, 0, 19, 159, 0, 7, 28]
abbrev dktX5_begins_0 : List UInt8 := dkwX5_begins_0 ++ dktX5_begins_1
theorem dksX5_begins_0 : cX5_begins.data.toList.drop 0 = dktX5_begins_0 := by decide +kernel
theorem dksX5_begins_1 : cX5_begins.data.toList.drop 22 = dktX5_begins_1 := dk_seg dksX5_begins_0 22 rfl rfl
theorem dksX5_begins_2 : cX5_begins.data.toList.drop 45 = dktX5_begins_2 := dk_seg dksX5_begins_1 23 rfl rfl
theorem dX5_begins_0 : decode cX5_begins 0 = .ok (.aload_n 0, 1) := dk_42 (dk_at dksX5_begins_0 0 rfl rfl)
theorem dX5_begins_1 : decode cX5_begins 1 = .ok (.aload_n 1, 1) := dk_43 (dk_at dksX5_begins_0 1 rfl rfl)
theorem dX5_begins_2 : decode cX5_begins 2 = .ok (.invokevirtual 61, 3) := dk_182 0 61 (dk_at dksX5_begins_0 2 rfl rfl)
theorem dX5_begins_5 : decode cX5_begins 5 = .ok (.ifCond .ne 5, 3) := dk_154 0 5 (dk_at dksX5_begins_0 5 rfl rfl)
theorem dX5_begins_8 : decode cX5_begins 8 = .ok (.iconst 0, 1) := dk_3 (dk_at dksX5_begins_0 8 rfl rfl)
theorem dX5_begins_9 : decode cX5_begins 9 = .ok (.ireturn, 1) := dk_172 (dk_at dksX5_begins_0 9 rfl rfl)
theorem dX5_begins_10 : decode cX5_begins 10 = .ok (.aload_n 0, 1) := dk_42 (dk_at dksX5_begins_0 10 rfl rfl)
theorem dX5_begins_11 : decode cX5_begins 11 = .ok (.getfield 147, 3) := dk_180 0 147 (dk_at dksX5_begins_0 11 rfl rfl)
theorem dX5_begins_14 : decode cX5_begins 14 = .ok (.aload_n 0, 1) := dk_42 (dk_at dksX5_begins_0 14 rfl rfl)
theorem dX5_begins_15 : decode cX5_begins 15 = .ok (.getfield 19, 3) := dk_180 0 19 (dk_at dksX5_begins_0 15 rfl rfl)
theorem dX5_begins_18 : decode cX5_begins 18 = .ok (.if_icmp .eq 7, 3) := dk_159 0 7 (dk_at dksX5_begins_0 18 rfl rfl)
theorem dX5_begins_21 : decode cX5_begins 21 = .ok (.iload_n 2, 1) := dk_28 (dk_at dksX5_begins_0 21 rfl rfl)
theorem dX5_begins_22 : decode cX5_begins 22 = .ok (.ifCond .ne 16, 3) := dk_154 0 16 (dk_at dksX5_begins_1 0 rfl rfl)
theorem dX5_begins_25 : decode cX5_begins 25 = .ok (.aload_n 0, 1) := dk_42 (dk_at dksX5_begins_1 3 rfl rfl)
theorem dX5_begins_26 : decode cX5_begins 26 = .ok (.getfield 3, 3) := dk_180 0 3 (dk_at dksX5_begins_1 4 rfl rfl)
theorem dX5_begins_29 : decode cX5_begins 29 = .ok (.iconst 4, 1) := dk_7 (dk_at dksX5_begins_1 7 rfl rfl)
theorem dX5_begins_30 : decode cX5_begins 30 = .ok (.aload_n 0, 1) := dk_42 (dk_at dksX5_begins_1 8 rfl rfl)
theorem dX5_begins_31 : decode cX5_begins 31 = .ok (.getfield 23, 3) := dk_180 0 23 (dk_at dksX5_begins_1 9 rfl rfl)
theorem dX5_begins_34 : decode cX5_begins 34 = .ok (.invokevirtual 69, 3) := dk_182 0 69 (dk_at dksX5_begins_1 12 rfl rfl)
theorem dX5_begins_37 : decode cX5_begins 37 = .ok (.athrow, 1) := dk_191 (dk_at dksX5_begins_1 15 rfl rfl)
theorem dX5_begins_38 : decode cX5_begins 38 = .ok (.aload_n 0, 1) := dk_42 (dk_at dksX5_begins_1 16 rfl rfl)
theorem dX5_begins_39 : decode cX5_begins 39 = .ok (.dup, 1) := dk_89 (dk_at dksX5_begins_1 17 rfl rfl)
theorem dX5_begins_40 : decode cX5_begins 40 = .ok (.getfield 147, 3) := dk_180 0 147 (dk_at dksX5_begins_1 18 rfl rfl)
theorem dX5_begins_43 : decode cX5_begins 43 = .ok (.iconst 1, 1) := dk_4 (dk_at dksX5_begins_1 21 rfl rfl)
theorem dX5_begins_44 : decode cX5_begins 44 = .ok (.iadd, 1) := dk_96 (dk_at dksX5_begins_1 22 rfl rfl)
theorem dX5_begins_45 : decode cX5_begins 45 = .ok (.putfield 147, 3) := dk_181 0 147 (dk_at dksX5_begins_2 0 rfl rfl)
theorem dX5_begins_48 : decode cX5_begins 48 = .ok (.aload_n 0, 1) := dk_42 (dk_at dksX5_begins_2 3 rfl rfl)
theorem dX5_begins_49 : decode cX5_begins 49 = .ok (.dup, 1) := dk_89 (dk_at dksX5_begins_2 4 rfl rfl)
theorem dX5_begins_50 : decode cX5_begins 50 = .ok (.getfield 23, 3) := dk_180 0 23 (dk_at dksX5_begins_2 5 rfl rfl)
theorem dX5_begins_53 : decode cX5_begins 53 = .ok (.aload_n 1, 1) := dk_43 (dk_at dksX5_begins_2 8 rfl rfl)
theorem dX5_begins_54 : decode cX5_begins 54 = .ok (.invokevirtual 52, 3) := dk_182 0 52 (dk_at dksX5_begins_2 9 rfl rfl)
theorem dX5_begins_57 : decode cX5_begins 57 = .ok (.iadd, 1) := dk_96 (dk_at dksX5_begins_2 12 rfl rfl)
theorem dX5_begins_58 : decode cX5_begins 58 = .ok (.putfield 23, 3) := dk_181 0 23 (dk_at dksX5_begins_2 13 rfl rfl)
theorem dX5_begins_61 : decode cX5_begins 61 = .ok (.iconst 1, 1) := dk_4 (dk_at dksX5_begins_2 16 rfl rfl)
theorem dX5_begins_62 : decode cX5_begins 62 = .ok (.ireturn, 1) := dk_172 (dk_at dksX5_begins_2 17 rfl rfl)
abbrev cX5_isWord : ByteArray := prog_10_method_5_code
def yX5_isWord : MethodName := ⟨RX5, "isWord", "(Ljava/lang/String;)Z"⟩
def dkwX5_isWord_5 : List UInt8 := [132, 4, 1, 167, 255, 210, 29, 172]
abbrev dktX5_isWord_5 : List UInt8 := dkwX5_isWord_5 ++ []
def dkwX5_isWord_4 : List UInt8 := [180, 0, 23, 21, 4, 96, 51, 43, 21, 4, 182, 0, 57, 160, 0, 7, 4, 167, 0, 4, 3, 62]
abbrev dktX5_isWord_4 : List UInt8 := dkwX5_isWord_4 ++ dktX5_isWord_5
def dkwX5_isWord_3 : List UInt8 := [54, 4, 21, 4, 43, 182, 0, 52, 162, 0, 43, 29, 153, 0, 39, 42, 180, 0, 3, 180, 0, 29, 42]
abbrev dktX5_isWord_3 : List UInt8 := dkwX5_isWord_3 ++ dktX5_isWord_4
def dkwX5_isWord_2 : List UInt8 := [167, 255, 220, 28, 42, 180, 0, 23, 100, 43, 182, 0, 52, 160, 0, 7, 4, 167, 0, 4, 3, 62, 3]
abbrev dktX5_isWord_2 : List UInt8 := dkwX5_isWord_2 ++ dktX5_isWord_3
def dkwX5_isWord_1 : List UInt8 := [180, 0, 3, 180, 0, 29, 28, 51, 133, 20, 0, 48, 20, 0, 50, 184, 0, 41, 153, 0, 9, 132, 2, 1]
abbrev dktX5_isWord_1 : List UInt8 := dkwX5_isWord_1 ++ dktX5_isWord_2
def dkwX5_isWord_0 : List UInt8 := [42, 182, 0, 45, 87, 42, 180, 0, 23, 61, 28, 42, 180, 0, 3, 180, 0, 26, 162, 0, 31, 42]
abbrev dktX5_isWord_0 : List UInt8 := dkwX5_isWord_0 ++ dktX5_isWord_1
theorem dksX5_isWord_0 : cX5_isWord.data.toList.drop 0 = dktX5_isWord_0 := by decide +kernel
theorem dksX5_isWord_1 : cX5_isWord.data.toList.drop 22 = dktX5_isWord_1 := dk_seg dksX5_isWord_0 22 rfl rfl
theorem dksX5_isWord_2 : cX5_isWord.data.toList.drop 46 = dktX5_isWord_2 := dk_seg dksX5_isWord_1 24 rfl rfl
theorem dksX5_isWord_3 : cX5_isWord.data.toList.drop 69 = dktX5_isWord_3 := dk_seg dksX5_isWord_2 23 rfl rfl
theorem dksX5_isWord_4 : cX5_isWord.data.toList.drop 92 = dktX5_isWord_4 := dk_seg dksX5_isWord_3 23 rfl rfl
theorem dksX5_isWord_5 : cX5_isWord.data.toList.drop 114 = dktX5_isWord_5 := dk_seg dksX5_isWord_4 22 rfl rfl
theorem dX5_isWord_0 : decode cX5_isWord 0 = .ok (.aload_n 0, 1) := dk_42 (dk_at dksX5_isWord_0 0 rfl rfl)
theorem dX5_isWord_1 : decode cX5_isWord 1 = .ok (.invokevirtual 45, 3) := dk_182 0 45 (dk_at dksX5_isWord_0 1 rfl rfl)
theorem dX5_isWord_4 : decode cX5_isWord 4 = .ok (.pop, 1) := dk_87 (dk_at dksX5_isWord_0 4 rfl rfl)
theorem dX5_isWord_5 : decode cX5_isWord 5 = .ok (.aload_n 0, 1) := dk_42 (dk_at dksX5_isWord_0 5 rfl rfl)
theorem dX5_isWord_6 : decode cX5_isWord 6 = .ok (.getfield 23, 3) := dk_180 0 23 (dk_at dksX5_isWord_0 6 rfl rfl)
theorem dX5_isWord_9 : decode cX5_isWord 9 = .ok (.istore_n 2, 1) := dk_61 (dk_at dksX5_isWord_0 9 rfl rfl)
theorem dX5_isWord_10 : decode cX5_isWord 10 = .ok (.iload_n 2, 1) := dk_28 (dk_at dksX5_isWord_0 10 rfl rfl)
theorem dX5_isWord_11 : decode cX5_isWord 11 = .ok (.aload_n 0, 1) := dk_42 (dk_at dksX5_isWord_0 11 rfl rfl)
theorem dX5_isWord_12 : decode cX5_isWord 12 = .ok (.getfield 3, 3) := dk_180 0 3 (dk_at dksX5_isWord_0 12 rfl rfl)
theorem dX5_isWord_15 : decode cX5_isWord 15 = .ok (.getfield 26, 3) := dk_180 0 26 (dk_at dksX5_isWord_0 15 rfl rfl)
theorem dX5_isWord_18 : decode cX5_isWord 18 = .ok (.if_icmp .ge 31, 3) := dk_162 0 31 (dk_at dksX5_isWord_0 18 rfl rfl)
theorem dX5_isWord_21 : decode cX5_isWord 21 = .ok (.aload_n 0, 1) := dk_42 (dk_at dksX5_isWord_0 21 rfl rfl)
theorem dX5_isWord_22 : decode cX5_isWord 22 = .ok (.getfield 3, 3) := dk_180 0 3 (dk_at dksX5_isWord_1 0 rfl rfl)
theorem dX5_isWord_25 : decode cX5_isWord 25 = .ok (.getfield 29, 3) := dk_180 0 29 (dk_at dksX5_isWord_1 3 rfl rfl)
theorem dX5_isWord_28 : decode cX5_isWord 28 = .ok (.iload_n 2, 1) := dk_28 (dk_at dksX5_isWord_1 6 rfl rfl)
theorem dX5_isWord_29 : decode cX5_isWord 29 = .ok (.baload, 1) := dk_51 (dk_at dksX5_isWord_1 7 rfl rfl)
theorem dX5_isWord_30 : decode cX5_isWord 30 = .ok (.i2l, 1) := dk_133 (dk_at dksX5_isWord_1 8 rfl rfl)
theorem dX5_isWord_31 : decode cX5_isWord 31 = .ok (.ldc2_w 48, 3) := dk_20 0 48 (dk_at dksX5_isWord_1 9 rfl rfl)
theorem dX5_isWord_34 : decode cX5_isWord 34 = .ok (.ldc2_w 50, 3) := dk_20 0 50 (dk_at dksX5_isWord_1 12 rfl rfl)
theorem dX5_isWord_37 : decode cX5_isWord 37 = .ok (.invokestatic 41, 3) := dk_184 0 41 (dk_at dksX5_isWord_1 15 rfl rfl)
theorem dX5_isWord_40 : decode cX5_isWord 40 = .ok (.ifCond .eq 9, 3) := dk_153 0 9 (dk_at dksX5_isWord_1 18 rfl rfl)
theorem dX5_isWord_43 : decode cX5_isWord 43 = .ok (.iinc 2 1, 3) := dk_132 2 1 (dk_at dksX5_isWord_1 21 rfl rfl)
theorem dX5_isWord_46 : decode cX5_isWord 46 = .ok (.goto (-36), 3) := dk_167 255 220 (dk_at dksX5_isWord_2 0 rfl rfl)
theorem dX5_isWord_49 : decode cX5_isWord 49 = .ok (.iload_n 2, 1) := dk_28 (dk_at dksX5_isWord_2 3 rfl rfl)
theorem dX5_isWord_50 : decode cX5_isWord 50 = .ok (.aload_n 0, 1) := dk_42 (dk_at dksX5_isWord_2 4 rfl rfl)
theorem dX5_isWord_51 : decode cX5_isWord 51 = .ok (.getfield 23, 3) := dk_180 0 23 (dk_at dksX5_isWord_2 5 rfl rfl)
theorem dX5_isWord_54 : decode cX5_isWord 54 = .ok (.isub, 1) := dk_100 (dk_at dksX5_isWord_2 8 rfl rfl)
theorem dX5_isWord_55 : decode cX5_isWord 55 = .ok (.aload_n 1, 1) := dk_43 (dk_at dksX5_isWord_2 9 rfl rfl)
theorem dX5_isWord_56 : decode cX5_isWord 56 = .ok (.invokevirtual 52, 3) := dk_182 0 52 (dk_at dksX5_isWord_2 10 rfl rfl)
theorem dX5_isWord_59 : decode cX5_isWord 59 = .ok (.if_icmp .ne 7, 3) := dk_160 0 7 (dk_at dksX5_isWord_2 13 rfl rfl)
theorem dX5_isWord_62 : decode cX5_isWord 62 = .ok (.iconst 1, 1) := dk_4 (dk_at dksX5_isWord_2 16 rfl rfl)
theorem dX5_isWord_63 : decode cX5_isWord 63 = .ok (.goto 4, 3) := dk_167 0 4 (dk_at dksX5_isWord_2 17 rfl rfl)
theorem dX5_isWord_66 : decode cX5_isWord 66 = .ok (.iconst 0, 1) := dk_3 (dk_at dksX5_isWord_2 20 rfl rfl)
theorem dX5_isWord_67 : decode cX5_isWord 67 = .ok (.istore_n 3, 1) := dk_62 (dk_at dksX5_isWord_2 21 rfl rfl)
theorem dX5_isWord_68 : decode cX5_isWord 68 = .ok (.iconst 0, 1) := dk_3 (dk_at dksX5_isWord_2 22 rfl rfl)
theorem dX5_isWord_69 : decode cX5_isWord 69 = .ok (.istore 4, 2) := dk_54 4 (dk_at dksX5_isWord_3 0 rfl rfl)
theorem dX5_isWord_71 : decode cX5_isWord 71 = .ok (.iload 4, 2) := dk_21 4 (dk_at dksX5_isWord_3 2 rfl rfl)
theorem dX5_isWord_73 : decode cX5_isWord 73 = .ok (.aload_n 1, 1) := dk_43 (dk_at dksX5_isWord_3 4 rfl rfl)
theorem dX5_isWord_74 : decode cX5_isWord 74 = .ok (.invokevirtual 52, 3) := dk_182 0 52 (dk_at dksX5_isWord_3 5 rfl rfl)
theorem dX5_isWord_77 : decode cX5_isWord 77 = .ok (.if_icmp .ge 43, 3) := dk_162 0 43 (dk_at dksX5_isWord_3 8 rfl rfl)
theorem dX5_isWord_80 : decode cX5_isWord 80 = .ok (.iload_n 3, 1) := dk_29 (dk_at dksX5_isWord_3 11 rfl rfl)
theorem dX5_isWord_81 : decode cX5_isWord 81 = .ok (.ifCond .eq 39, 3) := dk_153 0 39 (dk_at dksX5_isWord_3 12 rfl rfl)
theorem dX5_isWord_84 : decode cX5_isWord 84 = .ok (.aload_n 0, 1) := dk_42 (dk_at dksX5_isWord_3 15 rfl rfl)
theorem dX5_isWord_85 : decode cX5_isWord 85 = .ok (.getfield 3, 3) := dk_180 0 3 (dk_at dksX5_isWord_3 16 rfl rfl)
theorem dX5_isWord_88 : decode cX5_isWord 88 = .ok (.getfield 29, 3) := dk_180 0 29 (dk_at dksX5_isWord_3 19 rfl rfl)
theorem dX5_isWord_91 : decode cX5_isWord 91 = .ok (.aload_n 0, 1) := dk_42 (dk_at dksX5_isWord_3 22 rfl rfl)
theorem dX5_isWord_92 : decode cX5_isWord 92 = .ok (.getfield 23, 3) := dk_180 0 23 (dk_at dksX5_isWord_4 0 rfl rfl)
theorem dX5_isWord_95 : decode cX5_isWord 95 = .ok (.iload 4, 2) := dk_21 4 (dk_at dksX5_isWord_4 3 rfl rfl)
theorem dX5_isWord_97 : decode cX5_isWord 97 = .ok (.iadd, 1) := dk_96 (dk_at dksX5_isWord_4 5 rfl rfl)
theorem dX5_isWord_98 : decode cX5_isWord 98 = .ok (.baload, 1) := dk_51 (dk_at dksX5_isWord_4 6 rfl rfl)
theorem dX5_isWord_99 : decode cX5_isWord 99 = .ok (.aload_n 1, 1) := dk_43 (dk_at dksX5_isWord_4 7 rfl rfl)
theorem dX5_isWord_100 : decode cX5_isWord 100 = .ok (.iload 4, 2) := dk_21 4 (dk_at dksX5_isWord_4 8 rfl rfl)
theorem dX5_isWord_102 : decode cX5_isWord 102 = .ok (.invokevirtual 57, 3) := dk_182 0 57 (dk_at dksX5_isWord_4 10 rfl rfl)
theorem dX5_isWord_105 : decode cX5_isWord 105 = .ok (.if_icmp .ne 7, 3) := dk_160 0 7 (dk_at dksX5_isWord_4 13 rfl rfl)
theorem dX5_isWord_108 : decode cX5_isWord 108 = .ok (.iconst 1, 1) := dk_4 (dk_at dksX5_isWord_4 16 rfl rfl)
theorem dX5_isWord_109 : decode cX5_isWord 109 = .ok (.goto 4, 3) := dk_167 0 4 (dk_at dksX5_isWord_4 17 rfl rfl)
theorem dX5_isWord_112 : decode cX5_isWord 112 = .ok (.iconst 0, 1) := dk_3 (dk_at dksX5_isWord_4 20 rfl rfl)
theorem dX5_isWord_113 : decode cX5_isWord 113 = .ok (.istore_n 3, 1) := dk_62 (dk_at dksX5_isWord_4 21 rfl rfl)
theorem dX5_isWord_114 : decode cX5_isWord 114 = .ok (.iinc 4 1, 3) := dk_132 4 1 (dk_at dksX5_isWord_5 0 rfl rfl)
theorem dX5_isWord_117 : decode cX5_isWord 117 = .ok (.goto (-46), 3) := dk_167 255 210 (dk_at dksX5_isWord_5 3 rfl rfl)
theorem dX5_isWord_120 : decode cX5_isWord 120 = .ok (.iload_n 3, 1) := dk_29 (dk_at dksX5_isWord_5 6 rfl rfl)
theorem dX5_isWord_121 : decode cX5_isWord 121 = .ok (.ireturn, 1) := dk_172 (dk_at dksX5_isWord_5 7 rfl rfl)
abbrev cX5_next : ByteArray := prog_10_method_3_code
def yX5_next : MethodName := ⟨RX5, "next", "()I"⟩
def dkwX5_next_1 : List UInt8 := [182, 0, 33, 172]
abbrev dktX5_next_1 : List UInt8 := dkwX5_next_1 ++ []
def dkwX5_next_0 : List UInt8 := [42, 182, 0, 33, 16, 32, 160, 0, 16, 42, 89, 180, 0, 23, 4, 96, 181, 0, 23, 167, 255, 237, 42]
abbrev dktX5_next_0 : List UInt8 := dkwX5_next_0 ++ dktX5_next_1
theorem dksX5_next_0 : cX5_next.data.toList.drop 0 = dktX5_next_0 := by decide +kernel
theorem dksX5_next_1 : cX5_next.data.toList.drop 23 = dktX5_next_1 := dk_seg dksX5_next_0 23 rfl rfl
theorem dX5_next_0 : decode cX5_next 0 = .ok (.aload_n 0, 1) := dk_42 (dk_at dksX5_next_0 0 rfl rfl)
theorem dX5_next_1 : decode cX5_next 1 = .ok (.invokevirtual 33, 3) := dk_182 0 33 (dk_at dksX5_next_0 1 rfl rfl)
theorem dX5_next_4 : decode cX5_next 4 = .ok (.bipush 32, 2) := dk_16 32 (dk_at dksX5_next_0 4 rfl rfl)
theorem dX5_next_6 : decode cX5_next 6 = .ok (.if_icmp .ne 16, 3) := dk_160 0 16 (dk_at dksX5_next_0 6 rfl rfl)
theorem dX5_next_9 : decode cX5_next 9 = .ok (.aload_n 0, 1) := dk_42 (dk_at dksX5_next_0 9 rfl rfl)
theorem dX5_next_10 : decode cX5_next 10 = .ok (.dup, 1) := dk_89 (dk_at dksX5_next_0 10 rfl rfl)
theorem dX5_next_11 : decode cX5_next 11 = .ok (.getfield 23, 3) := dk_180 0 23 (dk_at dksX5_next_0 11 rfl rfl)
theorem dX5_next_14 : decode cX5_next 14 = .ok (.iconst 1, 1) := dk_4 (dk_at dksX5_next_0 14 rfl rfl)
theorem dX5_next_15 : decode cX5_next 15 = .ok (.iadd, 1) := dk_96 (dk_at dksX5_next_0 15 rfl rfl)
theorem dX5_next_16 : decode cX5_next 16 = .ok (.putfield 23, 3) := dk_181 0 23 (dk_at dksX5_next_0 16 rfl rfl)
theorem dX5_next_19 : decode cX5_next 19 = .ok (.goto (-19), 3) := dk_167 255 237 (dk_at dksX5_next_0 19 rfl rfl)
theorem dX5_next_22 : decode cX5_next 22 = .ok (.aload_n 0, 1) := dk_42 (dk_at dksX5_next_0 22 rfl rfl)
theorem dX5_next_23 : decode cX5_next 23 = .ok (.invokevirtual 33, 3) := dk_182 0 33 (dk_at dksX5_next_1 0 rfl rfl)
theorem dX5_next_26 : decode cX5_next 26 = .ok (.ireturn, 1) := dk_172 (dk_at dksX5_next_1 3 rfl rfl)
abbrev cX5_sign : ByteArray := prog_10_method_2_code
def yX5_sign : MethodName := ⟨RX5, "sign", "()I"⟩
def dkwX5_sign_1 : List UInt8 := [180, 0, 23, 51, 17, 0, 255, 126, 167, 0, 4, 2, 172]
abbrev dktX5_sign_1 : List UInt8 := dkwX5_sign_1 ++ []
def dkwX5_sign_0 : List UInt8 := [42, 180, 0, 23, 42, 180, 0, 3, 180, 0, 26, 162, 0, 22, 42, 180, 0, 3, 180, 0, 29, 42]
abbrev dktX5_sign_0 : List UInt8 := dkwX5_sign_0 ++ dktX5_sign_1
theorem dksX5_sign_0 : cX5_sign.data.toList.drop 0 = dktX5_sign_0 := by decide +kernel
theorem dksX5_sign_1 : cX5_sign.data.toList.drop 22 = dktX5_sign_1 := dk_seg dksX5_sign_0 22 rfl rfl
theorem dX5_sign_0 : decode cX5_sign 0 = .ok (.aload_n 0, 1) := dk_42 (dk_at dksX5_sign_0 0 rfl rfl)
theorem dX5_sign_1 : decode cX5_sign 1 = .ok (.getfield 23, 3) := dk_180 0 23 (dk_at dksX5_sign_0 1 rfl rfl)
theorem dX5_sign_4 : decode cX5_sign 4 = .ok (.aload_n 0, 1) := dk_42 (dk_at dksX5_sign_0 4 rfl rfl)
theorem dX5_sign_5 : decode cX5_sign 5 = .ok (.getfield 3, 3) := dk_180 0 3 (dk_at dksX5_sign_0 5 rfl rfl)
theorem dX5_sign_8 : decode cX5_sign 8 = .ok (.getfield 26, 3) := dk_180 0 26 (dk_at dksX5_sign_0 8 rfl rfl)
theorem dX5_sign_11 : decode cX5_sign 11 = .ok (.if_icmp .ge 22, 3) := dk_162 0 22 (dk_at dksX5_sign_0 11 rfl rfl)
theorem dX5_sign_14 : decode cX5_sign 14 = .ok (.aload_n 0, 1) := dk_42 (dk_at dksX5_sign_0 14 rfl rfl)
theorem dX5_sign_15 : decode cX5_sign 15 = .ok (.getfield 3, 3) := dk_180 0 3 (dk_at dksX5_sign_0 15 rfl rfl)
theorem dX5_sign_18 : decode cX5_sign 18 = .ok (.getfield 29, 3) := dk_180 0 29 (dk_at dksX5_sign_0 18 rfl rfl)
theorem dX5_sign_21 : decode cX5_sign 21 = .ok (.aload_n 0, 1) := dk_42 (dk_at dksX5_sign_0 21 rfl rfl)
theorem dX5_sign_22 : decode cX5_sign 22 = .ok (.getfield 23, 3) := dk_180 0 23 (dk_at dksX5_sign_1 0 rfl rfl)
theorem dX5_sign_25 : decode cX5_sign 25 = .ok (.baload, 1) := dk_51 (dk_at dksX5_sign_1 3 rfl rfl)
theorem dX5_sign_26 : decode cX5_sign 26 = .ok (.sipush 255, 3) := dk_17 0 255 (dk_at dksX5_sign_1 4 rfl rfl)
theorem dX5_sign_29 : decode cX5_sign 29 = .ok (.iand, 1) := dk_126 (dk_at dksX5_sign_1 7 rfl rfl)
theorem dX5_sign_30 : decode cX5_sign 30 = .ok (.goto 4, 3) := dk_167 0 4 (dk_at dksX5_sign_1 8 rfl rfl)
theorem dX5_sign_33 : decode cX5_sign 33 = .ok (.iconst (-1), 1) := dk_2 (dk_at dksX5_sign_1 11 rfl rfl)
theorem dX5_sign_34 : decode cX5_sign 34 = .ok (.ireturn, 1) := dk_172 (dk_at dksX5_sign_1 12 rfl rfl)
abbrev cX5_number : ByteArray := prog_10_method_7_code
def yX5_number : MethodName := ⟨RX5, "number", "(II)I"⟩
def dkwX5_number_4 : List UInt8 := [133, 27, 133, 28, 133, 184, 0, 41, 154, 0, 13, 42, 180, 0, 3, 4, 29, 182, 0, 69, 191, 21, 4, 172]
abbrev dktX5_number_4 : List UInt8 := dkwX5_number_4 ++ []
def dkwX5_number_3 : List UInt8 := [89, 180, 0, 23, 4, 96, 181, 0, 23, 167, 255, 209, 42, 180, 0, 23, 29, 100, 8, 163, 0, 16, 21, 4]
abbrev dktX5_number_3 : List UInt8 := dkwX5_number_3 ++ dktX5_number_4
def dkwX5_number_2 : List UInt8 := [162, 0, 19, 16, 10, 21, 4, 104, 42, 182, 0, 33, 96, 16, 48, 100, 167, 0, 5, 21, 4, 54, 4, 42]
abbrev dktX5_number_2 : List UInt8 := dkwX5_number_2 ++ dktX5_number_3
def dkwX5_number_1 : List UInt8 := [191, 42, 180, 0, 23, 62, 3, 54, 4, 42, 182, 0, 65, 153, 0, 46, 42, 180, 0, 23, 29, 100, 8]
abbrev dktX5_number_1 : List UInt8 := dkwX5_number_1 ++ dktX5_number_2
def dkwX5_number_0 : List UInt8 := [42, 182, 0, 45, 87, 42, 182, 0, 65, 154, 0, 16, 42, 180, 0, 3, 3, 42, 180, 0, 23, 182, 0, 69]
abbrev dktX5_number_0 : List UInt8 := dkwX5_number_0 ++ dktX5_number_1
theorem dksX5_number_0 : cX5_number.data.toList.drop 0 = dktX5_number_0 := by decide +kernel
theorem dksX5_number_1 : cX5_number.data.toList.drop 24 = dktX5_number_1 := dk_seg dksX5_number_0 24 rfl rfl
theorem dksX5_number_2 : cX5_number.data.toList.drop 47 = dktX5_number_2 := dk_seg dksX5_number_1 23 rfl rfl
theorem dksX5_number_3 : cX5_number.data.toList.drop 71 = dktX5_number_3 := dk_seg dksX5_number_2 24 rfl rfl
theorem dksX5_number_4 : cX5_number.data.toList.drop 95 = dktX5_number_4 := dk_seg dksX5_number_3 24 rfl rfl
theorem dX5_number_0 : decode cX5_number 0 = .ok (.aload_n 0, 1) := dk_42 (dk_at dksX5_number_0 0 rfl rfl)
theorem dX5_number_1 : decode cX5_number 1 = .ok (.invokevirtual 45, 3) := dk_182 0 45 (dk_at dksX5_number_0 1 rfl rfl)
theorem dX5_number_4 : decode cX5_number 4 = .ok (.pop, 1) := dk_87 (dk_at dksX5_number_0 4 rfl rfl)
theorem dX5_number_5 : decode cX5_number 5 = .ok (.aload_n 0, 1) := dk_42 (dk_at dksX5_number_0 5 rfl rfl)
theorem dX5_number_6 : decode cX5_number 6 = .ok (.invokevirtual 65, 3) := dk_182 0 65 (dk_at dksX5_number_0 6 rfl rfl)
theorem dX5_number_9 : decode cX5_number 9 = .ok (.ifCond .ne 16, 3) := dk_154 0 16 (dk_at dksX5_number_0 9 rfl rfl)
theorem dX5_number_12 : decode cX5_number 12 = .ok (.aload_n 0, 1) := dk_42 (dk_at dksX5_number_0 12 rfl rfl)
theorem dX5_number_13 : decode cX5_number 13 = .ok (.getfield 3, 3) := dk_180 0 3 (dk_at dksX5_number_0 13 rfl rfl)
theorem dX5_number_16 : decode cX5_number 16 = .ok (.iconst 0, 1) := dk_3 (dk_at dksX5_number_0 16 rfl rfl)
theorem dX5_number_17 : decode cX5_number 17 = .ok (.aload_n 0, 1) := dk_42 (dk_at dksX5_number_0 17 rfl rfl)
theorem dX5_number_18 : decode cX5_number 18 = .ok (.getfield 23, 3) := dk_180 0 23 (dk_at dksX5_number_0 18 rfl rfl)
theorem dX5_number_21 : decode cX5_number 21 = .ok (.invokevirtual 69, 3) := dk_182 0 69 (dk_at dksX5_number_0 21 rfl rfl)
theorem dX5_number_24 : decode cX5_number 24 = .ok (.athrow, 1) := dk_191 (dk_at dksX5_number_1 0 rfl rfl)
theorem dX5_number_25 : decode cX5_number 25 = .ok (.aload_n 0, 1) := dk_42 (dk_at dksX5_number_1 1 rfl rfl)
theorem dX5_number_26 : decode cX5_number 26 = .ok (.getfield 23, 3) := dk_180 0 23 (dk_at dksX5_number_1 2 rfl rfl)
theorem dX5_number_29 : decode cX5_number 29 = .ok (.istore_n 3, 1) := dk_62 (dk_at dksX5_number_1 5 rfl rfl)
theorem dX5_number_30 : decode cX5_number 30 = .ok (.iconst 0, 1) := dk_3 (dk_at dksX5_number_1 6 rfl rfl)
theorem dX5_number_31 : decode cX5_number 31 = .ok (.istore 4, 2) := dk_54 4 (dk_at dksX5_number_1 7 rfl rfl)
theorem dX5_number_33 : decode cX5_number 33 = .ok (.aload_n 0, 1) := dk_42 (dk_at dksX5_number_1 9 rfl rfl)
theorem dX5_number_34 : decode cX5_number 34 = .ok (.invokevirtual 65, 3) := dk_182 0 65 (dk_at dksX5_number_1 10 rfl rfl)
theorem dX5_number_37 : decode cX5_number 37 = .ok (.ifCond .eq 46, 3) := dk_153 0 46 (dk_at dksX5_number_1 13 rfl rfl)
theorem dX5_number_40 : decode cX5_number 40 = .ok (.aload_n 0, 1) := dk_42 (dk_at dksX5_number_1 16 rfl rfl)
theorem dX5_number_41 : decode cX5_number 41 = .ok (.getfield 23, 3) := dk_180 0 23 (dk_at dksX5_number_1 17 rfl rfl)
theorem dX5_number_44 : decode cX5_number 44 = .ok (.iload_n 3, 1) := dk_29 (dk_at dksX5_number_1 20 rfl rfl)
theorem dX5_number_45 : decode cX5_number 45 = .ok (.isub, 1) := dk_100 (dk_at dksX5_number_1 21 rfl rfl)
theorem dX5_number_46 : decode cX5_number 46 = .ok (.iconst 5, 1) := dk_8 (dk_at dksX5_number_1 22 rfl rfl)
theorem dX5_number_47 : decode cX5_number 47 = .ok (.if_icmp .ge 19, 3) := dk_162 0 19 (dk_at dksX5_number_2 0 rfl rfl)
theorem dX5_number_50 : decode cX5_number 50 = .ok (.bipush 10, 2) := dk_16 10 (dk_at dksX5_number_2 3 rfl rfl)
theorem dX5_number_52 : decode cX5_number 52 = .ok (.iload 4, 2) := dk_21 4 (dk_at dksX5_number_2 5 rfl rfl)
theorem dX5_number_54 : decode cX5_number 54 = .ok (.imul, 1) := dk_104 (dk_at dksX5_number_2 7 rfl rfl)
theorem dX5_number_55 : decode cX5_number 55 = .ok (.aload_n 0, 1) := dk_42 (dk_at dksX5_number_2 8 rfl rfl)
theorem dX5_number_56 : decode cX5_number 56 = .ok (.invokevirtual 33, 3) := dk_182 0 33 (dk_at dksX5_number_2 9 rfl rfl)
theorem dX5_number_59 : decode cX5_number 59 = .ok (.iadd, 1) := dk_96 (dk_at dksX5_number_2 12 rfl rfl)
theorem dX5_number_60 : decode cX5_number 60 = .ok (.bipush 48, 2) := dk_16 48 (dk_at dksX5_number_2 13 rfl rfl)
theorem dX5_number_62 : decode cX5_number 62 = .ok (.isub, 1) := dk_100 (dk_at dksX5_number_2 15 rfl rfl)
theorem dX5_number_63 : decode cX5_number 63 = .ok (.goto 5, 3) := dk_167 0 5 (dk_at dksX5_number_2 16 rfl rfl)
theorem dX5_number_66 : decode cX5_number 66 = .ok (.iload 4, 2) := dk_21 4 (dk_at dksX5_number_2 19 rfl rfl)
theorem dX5_number_68 : decode cX5_number 68 = .ok (.istore 4, 2) := dk_54 4 (dk_at dksX5_number_2 21 rfl rfl)
theorem dX5_number_70 : decode cX5_number 70 = .ok (.aload_n 0, 1) := dk_42 (dk_at dksX5_number_2 23 rfl rfl)
theorem dX5_number_71 : decode cX5_number 71 = .ok (.dup, 1) := dk_89 (dk_at dksX5_number_3 0 rfl rfl)
theorem dX5_number_72 : decode cX5_number 72 = .ok (.getfield 23, 3) := dk_180 0 23 (dk_at dksX5_number_3 1 rfl rfl)
theorem dX5_number_75 : decode cX5_number 75 = .ok (.iconst 1, 1) := dk_4 (dk_at dksX5_number_3 4 rfl rfl)
theorem dX5_number_76 : decode cX5_number 76 = .ok (.iadd, 1) := dk_96 (dk_at dksX5_number_3 5 rfl rfl)
theorem dX5_number_77 : decode cX5_number 77 = .ok (.putfield 23, 3) := dk_181 0 23 (dk_at dksX5_number_3 6 rfl rfl)
theorem dX5_number_80 : decode cX5_number 80 = .ok (.goto (-47), 3) := dk_167 255 209 (dk_at dksX5_number_3 9 rfl rfl)
theorem dX5_number_83 : decode cX5_number 83 = .ok (.aload_n 0, 1) := dk_42 (dk_at dksX5_number_3 12 rfl rfl)
theorem dX5_number_84 : decode cX5_number 84 = .ok (.getfield 23, 3) := dk_180 0 23 (dk_at dksX5_number_3 13 rfl rfl)
theorem dX5_number_87 : decode cX5_number 87 = .ok (.iload_n 3, 1) := dk_29 (dk_at dksX5_number_3 16 rfl rfl)
theorem dX5_number_88 : decode cX5_number 88 = .ok (.isub, 1) := dk_100 (dk_at dksX5_number_3 17 rfl rfl)
theorem dX5_number_89 : decode cX5_number 89 = .ok (.iconst 5, 1) := dk_8 (dk_at dksX5_number_3 18 rfl rfl)
theorem dX5_number_90 : decode cX5_number 90 = .ok (.if_icmp .gt 16, 3) := dk_163 0 16 (dk_at dksX5_number_3 19 rfl rfl)
theorem dX5_number_93 : decode cX5_number 93 = .ok (.iload 4, 2) := dk_21 4 (dk_at dksX5_number_3 22 rfl rfl)
theorem dX5_number_95 : decode cX5_number 95 = .ok (.i2l, 1) := dk_133 (dk_at dksX5_number_4 0 rfl rfl)
theorem dX5_number_96 : decode cX5_number 96 = .ok (.iload_n 1, 1) := dk_27 (dk_at dksX5_number_4 1 rfl rfl)
theorem dX5_number_97 : decode cX5_number 97 = .ok (.i2l, 1) := dk_133 (dk_at dksX5_number_4 2 rfl rfl)
theorem dX5_number_98 : decode cX5_number 98 = .ok (.iload_n 2, 1) := dk_28 (dk_at dksX5_number_4 3 rfl rfl)
theorem dX5_number_99 : decode cX5_number 99 = .ok (.i2l, 1) := dk_133 (dk_at dksX5_number_4 4 rfl rfl)
theorem dX5_number_100 : decode cX5_number 100 = .ok (.invokestatic 41, 3) := dk_184 0 41 (dk_at dksX5_number_4 5 rfl rfl)
theorem dX5_number_103 : decode cX5_number 103 = .ok (.ifCond .ne 13, 3) := dk_154 0 13 (dk_at dksX5_number_4 8 rfl rfl)
theorem dX5_number_106 : decode cX5_number 106 = .ok (.aload_n 0, 1) := dk_42 (dk_at dksX5_number_4 11 rfl rfl)
theorem dX5_number_107 : decode cX5_number 107 = .ok (.getfield 3, 3) := dk_180 0 3 (dk_at dksX5_number_4 12 rfl rfl)
theorem dX5_number_110 : decode cX5_number 110 = .ok (.iconst 1, 1) := dk_4 (dk_at dksX5_number_4 15 rfl rfl)
theorem dX5_number_111 : decode cX5_number 111 = .ok (.iload_n 3, 1) := dk_29 (dk_at dksX5_number_4 16 rfl rfl)
theorem dX5_number_112 : decode cX5_number 112 = .ok (.invokevirtual 69, 3) := dk_182 0 69 (dk_at dksX5_number_4 17 rfl rfl)
theorem dX5_number_115 : decode cX5_number 115 = .ok (.athrow, 1) := dk_191 (dk_at dksX5_number_4 20 rfl rfl)
theorem dX5_number_116 : decode cX5_number 116 = .ok (.iload 4, 2) := dk_21 4 (dk_at dksX5_number_4 21 rfl rfl)
theorem dX5_number_118 : decode cX5_number 118 = .ok (.ireturn, 1) := dk_172 (dk_at dksX5_number_4 23 rfl rfl)
abbrev cX5_isDigit : ByteArray := prog_10_method_4_code
def yX5_isDigit : MethodName := ⟨RX5, "isDigit", "()Z"⟩
def dkwX5_isDigit_0 : List UInt8 := [42, 182, 0, 33, 133, 20, 0, 37, 20, 0, 39, 184, 0, 41, 172]
abbrev dktX5_isDigit_0 : List UInt8 := dkwX5_isDigit_0 ++ []
theorem dksX5_isDigit_0 : cX5_isDigit.data.toList.drop 0 = dktX5_isDigit_0 := by decide +kernel
theorem dX5_isDigit_0 : decode cX5_isDigit 0 = .ok (.aload_n 0, 1) := dk_42 (dk_at dksX5_isDigit_0 0 rfl rfl)
theorem dX5_isDigit_1 : decode cX5_isDigit 1 = .ok (.invokevirtual 33, 3) := dk_182 0 33 (dk_at dksX5_isDigit_0 1 rfl rfl)
theorem dX5_isDigit_4 : decode cX5_isDigit 4 = .ok (.i2l, 1) := dk_133 (dk_at dksX5_isDigit_0 4 rfl rfl)
theorem dX5_isDigit_5 : decode cX5_isDigit 5 = .ok (.ldc2_w 37, 3) := dk_20 0 37 (dk_at dksX5_isDigit_0 5 rfl rfl)
theorem dX5_isDigit_8 : decode cX5_isDigit 8 = .ok (.ldc2_w 39, 3) := dk_20 0 39 (dk_at dksX5_isDigit_0 8 rfl rfl)
theorem dX5_isDigit_11 : decode cX5_isDigit 11 = .ok (.invokestatic 41, 3) := dk_184 0 41 (dk_at dksX5_isDigit_0 11 rfl rfl)
theorem dX5_isDigit_14 : decode cX5_isDigit 14 = .ok (.ireturn, 1) := dk_172 (dk_at dksX5_isDigit_0 14 rfl rfl)
abbrev cX5_goer : ByteArray := prog_10_method_17_code
def yX5_goer : MethodName := ⟨RX5, "goer", "(LEdgeWalk$Sheet;)V"⟩
def dkwX5_goer_1 : List UInt8 := [187, 0, 159, 89, 28, 29, 42, 3, 16, 60, 182, 0, 82, 183, 0, 161, 182, 0, 164, 87, 177]
abbrev dktX5_goer_1 : List UInt8 := dkwX5_goer_1 ++ []
def dkwX5_goer_0 : List UInt8 := [42, 3, 43, 182, 0, 150, 4, 100, 182, 0, 82, 61, 42, 3, 6, 182, 0, 82, 62, 43, 180, 0, 155]
abbrev dktX5_goer_0 : List UInt8 := dkwX5_goer_0 ++ dktX5_goer_1
theorem dksX5_goer_0 : cX5_goer.data.toList.drop 0 = dktX5_goer_0 := by decide +kernel
theorem dksX5_goer_1 : cX5_goer.data.toList.drop 23 = dktX5_goer_1 := dk_seg dksX5_goer_0 23 rfl rfl
theorem dX5_goer_0 : decode cX5_goer 0 = .ok (.aload_n 0, 1) := dk_42 (dk_at dksX5_goer_0 0 rfl rfl)
theorem dX5_goer_1 : decode cX5_goer 1 = .ok (.iconst 0, 1) := dk_3 (dk_at dksX5_goer_0 1 rfl rfl)
theorem dX5_goer_2 : decode cX5_goer 2 = .ok (.aload_n 1, 1) := dk_43 (dk_at dksX5_goer_0 2 rfl rfl)
theorem dX5_goer_3 : decode cX5_goer 3 = .ok (.invokevirtual 150, 3) := dk_182 0 150 (dk_at dksX5_goer_0 3 rfl rfl)
theorem dX5_goer_6 : decode cX5_goer 6 = .ok (.iconst 1, 1) := dk_4 (dk_at dksX5_goer_0 6 rfl rfl)
theorem dX5_goer_7 : decode cX5_goer 7 = .ok (.isub, 1) := dk_100 (dk_at dksX5_goer_0 7 rfl rfl)
theorem dX5_goer_8 : decode cX5_goer 8 = .ok (.invokevirtual 82, 3) := dk_182 0 82 (dk_at dksX5_goer_0 8 rfl rfl)
theorem dX5_goer_11 : decode cX5_goer 11 = .ok (.istore_n 2, 1) := dk_61 (dk_at dksX5_goer_0 11 rfl rfl)
theorem dX5_goer_12 : decode cX5_goer 12 = .ok (.aload_n 0, 1) := dk_42 (dk_at dksX5_goer_0 12 rfl rfl)
theorem dX5_goer_13 : decode cX5_goer 13 = .ok (.iconst 0, 1) := dk_3 (dk_at dksX5_goer_0 13 rfl rfl)
theorem dX5_goer_14 : decode cX5_goer 14 = .ok (.iconst 3, 1) := dk_6 (dk_at dksX5_goer_0 14 rfl rfl)
theorem dX5_goer_15 : decode cX5_goer 15 = .ok (.invokevirtual 82, 3) := dk_182 0 82 (dk_at dksX5_goer_0 15 rfl rfl)
theorem dX5_goer_18 : decode cX5_goer 18 = .ok (.istore_n 3, 1) := dk_62 (dk_at dksX5_goer_0 18 rfl rfl)
theorem dX5_goer_19 : decode cX5_goer 19 = .ok (.aload_n 1, 1) := dk_43 (dk_at dksX5_goer_0 19 rfl rfl)
theorem dX5_goer_20 : decode cX5_goer 20 = .ok (.getfield 155, 3) := dk_180 0 155 (dk_at dksX5_goer_0 20 rfl rfl)
theorem dX5_goer_23 : decode cX5_goer 23 = .ok (.new 159, 3) := dk_187 0 159 (dk_at dksX5_goer_1 0 rfl rfl)
theorem dX5_goer_26 : decode cX5_goer 26 = .ok (.dup, 1) := dk_89 (dk_at dksX5_goer_1 3 rfl rfl)
theorem dX5_goer_27 : decode cX5_goer 27 = .ok (.iload_n 2, 1) := dk_28 (dk_at dksX5_goer_1 4 rfl rfl)
theorem dX5_goer_28 : decode cX5_goer 28 = .ok (.iload_n 3, 1) := dk_29 (dk_at dksX5_goer_1 5 rfl rfl)
theorem dX5_goer_29 : decode cX5_goer 29 = .ok (.aload_n 0, 1) := dk_42 (dk_at dksX5_goer_1 6 rfl rfl)
theorem dX5_goer_30 : decode cX5_goer 30 = .ok (.iconst 0, 1) := dk_3 (dk_at dksX5_goer_1 7 rfl rfl)
theorem dX5_goer_31 : decode cX5_goer 31 = .ok (.bipush 60, 2) := dk_16 60 (dk_at dksX5_goer_1 8 rfl rfl)
theorem dX5_goer_33 : decode cX5_goer 33 = .ok (.invokevirtual 82, 3) := dk_182 0 82 (dk_at dksX5_goer_1 10 rfl rfl)
theorem dX5_goer_36 : decode cX5_goer 36 = .ok (.invokespecial 161, 3) := dk_183 0 161 (dk_at dksX5_goer_1 13 rfl rfl)
theorem dX5_goer_39 : decode cX5_goer 39 = .ok (.invokevirtual 164, 3) := dk_182 0 164 (dk_at dksX5_goer_1 16 rfl rfl)
theorem dX5_goer_42 : decode cX5_goer 42 = .ok (.pop, 1) := dk_87 (dk_at dksX5_goer_1 19 rfl rfl)
theorem dX5_goer_43 : decode cX5_goer 43 = .ok (.return_, 1) := dk_177 (dk_at dksX5_goer_1 20 rfl rfl)
abbrev cX5_join : ByteArray := prog_10_method_18_code
def yX5_join : MethodName := ⟨RX5, "join", "(LEdgeWalk$Sheet;)V"⟩
def dkwX5_join_1 : List UInt8 := [182, 0, 82, 79, 43, 180, 0, 174, 28, 29, 79, 177]
abbrev dktX5_join_1 : List UInt8 := dkwX5_join_1 ++ []
def dkwX5_join_0 : List UInt8 := [42, 3, 6, 182, 0, 82, 61, 42, 3, 6, 182, 0, 82, 62, 43, 180, 0, 170, 28, 42, 3, 16, 9]
abbrev dktX5_join_0 : List UInt8 := dkwX5_join_0 ++ dktX5_join_1
theorem dksX5_join_0 : cX5_join.data.toList.drop 0 = dktX5_join_0 := by decide +kernel
theorem dksX5_join_1 : cX5_join.data.toList.drop 23 = dktX5_join_1 := dk_seg dksX5_join_0 23 rfl rfl
theorem dX5_join_0 : decode cX5_join 0 = .ok (.aload_n 0, 1) := dk_42 (dk_at dksX5_join_0 0 rfl rfl)
theorem dX5_join_1 : decode cX5_join 1 = .ok (.iconst 0, 1) := dk_3 (dk_at dksX5_join_0 1 rfl rfl)
theorem dX5_join_2 : decode cX5_join 2 = .ok (.iconst 3, 1) := dk_6 (dk_at dksX5_join_0 2 rfl rfl)
theorem dX5_join_3 : decode cX5_join 3 = .ok (.invokevirtual 82, 3) := dk_182 0 82 (dk_at dksX5_join_0 3 rfl rfl)
theorem dX5_join_6 : decode cX5_join 6 = .ok (.istore_n 2, 1) := dk_61 (dk_at dksX5_join_0 6 rfl rfl)
theorem dX5_join_7 : decode cX5_join 7 = .ok (.aload_n 0, 1) := dk_42 (dk_at dksX5_join_0 7 rfl rfl)
theorem dX5_join_8 : decode cX5_join 8 = .ok (.iconst 0, 1) := dk_3 (dk_at dksX5_join_0 8 rfl rfl)
theorem dX5_join_9 : decode cX5_join 9 = .ok (.iconst 3, 1) := dk_6 (dk_at dksX5_join_0 9 rfl rfl)
theorem dX5_join_10 : decode cX5_join 10 = .ok (.invokevirtual 82, 3) := dk_182 0 82 (dk_at dksX5_join_0 10 rfl rfl)
theorem dX5_join_13 : decode cX5_join 13 = .ok (.istore_n 3, 1) := dk_62 (dk_at dksX5_join_0 13 rfl rfl)
theorem dX5_join_14 : decode cX5_join 14 = .ok (.aload_n 1, 1) := dk_43 (dk_at dksX5_join_0 14 rfl rfl)
theorem dX5_join_15 : decode cX5_join 15 = .ok (.getfield 170, 3) := dk_180 0 170 (dk_at dksX5_join_0 15 rfl rfl)
theorem dX5_join_18 : decode cX5_join 18 = .ok (.iload_n 2, 1) := dk_28 (dk_at dksX5_join_0 18 rfl rfl)
theorem dX5_join_19 : decode cX5_join 19 = .ok (.aload_n 0, 1) := dk_42 (dk_at dksX5_join_0 19 rfl rfl)
theorem dX5_join_20 : decode cX5_join 20 = .ok (.iconst 0, 1) := dk_3 (dk_at dksX5_join_0 20 rfl rfl)
theorem dX5_join_21 : decode cX5_join 21 = .ok (.bipush 9, 2) := dk_16 9 (dk_at dksX5_join_0 21 rfl rfl)
theorem dX5_join_23 : decode cX5_join 23 = .ok (.invokevirtual 82, 3) := dk_182 0 82 (dk_at dksX5_join_1 0 rfl rfl)
theorem dX5_join_26 : decode cX5_join 26 = .ok (.iastore, 1) := dk_79 (dk_at dksX5_join_1 3 rfl rfl)
theorem dX5_join_27 : decode cX5_join 27 = .ok (.aload_n 1, 1) := dk_43 (dk_at dksX5_join_1 4 rfl rfl)
theorem dX5_join_28 : decode cX5_join 28 = .ok (.getfield 174, 3) := dk_180 0 174 (dk_at dksX5_join_1 5 rfl rfl)
theorem dX5_join_31 : decode cX5_join 31 = .ok (.iload_n 2, 1) := dk_28 (dk_at dksX5_join_1 8 rfl rfl)
theorem dX5_join_32 : decode cX5_join 32 = .ok (.iload_n 3, 1) := dk_29 (dk_at dksX5_join_1 9 rfl rfl)
theorem dX5_join_33 : decode cX5_join 33 = .ok (.iastore, 1) := dk_79 (dk_at dksX5_join_1 10 rfl rfl)
theorem dX5_join_34 : decode cX5_join 34 = .ok (.return_, 1) := dk_177 (dk_at dksX5_join_1 11 rfl rfl)
abbrev cX5_goesOn : ByteArray := prog_10_method_21_code
def yX5_goesOn : MethodName := ⟨RX5, "goesOn", "()Z"⟩
def dkwX5_goesOn_1 : List UInt8 := [180, 0, 23, 182, 0, 69, 191, 42, 89, 180, 0, 23, 4, 96, 181, 0, 23, 4, 172]
abbrev dktX5_goesOn_1 : List UInt8 := dkwX5_goesOn_1 ++ []
def dkwX5_goesOn_0 : List UInt8 := [42, 182, 0, 45, 60, 27, 2, 160, 0, 5, 3, 172, 27, 16, 59, 159, 0, 16, 42, 180, 0, 3, 3, 42]
abbrev dktX5_goesOn_0 : List UInt8 := dkwX5_goesOn_0 ++ dktX5_goesOn_1
theorem dksX5_goesOn_0 : cX5_goesOn.data.toList.drop 0 = dktX5_goesOn_0 := by decide +kernel
theorem dksX5_goesOn_1 : cX5_goesOn.data.toList.drop 24 = dktX5_goesOn_1 := dk_seg dksX5_goesOn_0 24 rfl rfl
theorem dX5_goesOn_0 : decode cX5_goesOn 0 = .ok (.aload_n 0, 1) := dk_42 (dk_at dksX5_goesOn_0 0 rfl rfl)
theorem dX5_goesOn_1 : decode cX5_goesOn 1 = .ok (.invokevirtual 45, 3) := dk_182 0 45 (dk_at dksX5_goesOn_0 1 rfl rfl)
theorem dX5_goesOn_4 : decode cX5_goesOn 4 = .ok (.istore_n 1, 1) := dk_60 (dk_at dksX5_goesOn_0 4 rfl rfl)
theorem dX5_goesOn_5 : decode cX5_goesOn 5 = .ok (.iload_n 1, 1) := dk_27 (dk_at dksX5_goesOn_0 5 rfl rfl)
theorem dX5_goesOn_6 : decode cX5_goesOn 6 = .ok (.iconst (-1), 1) := dk_2 (dk_at dksX5_goesOn_0 6 rfl rfl)
theorem dX5_goesOn_7 : decode cX5_goesOn 7 = .ok (.if_icmp .ne 5, 3) := dk_160 0 5 (dk_at dksX5_goesOn_0 7 rfl rfl)
theorem dX5_goesOn_10 : decode cX5_goesOn 10 = .ok (.iconst 0, 1) := dk_3 (dk_at dksX5_goesOn_0 10 rfl rfl)
theorem dX5_goesOn_11 : decode cX5_goesOn 11 = .ok (.ireturn, 1) := dk_172 (dk_at dksX5_goesOn_0 11 rfl rfl)
theorem dX5_goesOn_12 : decode cX5_goesOn 12 = .ok (.iload_n 1, 1) := dk_27 (dk_at dksX5_goesOn_0 12 rfl rfl)
theorem dX5_goesOn_13 : decode cX5_goesOn 13 = .ok (.bipush 59, 2) := dk_16 59 (dk_at dksX5_goesOn_0 13 rfl rfl)
theorem dX5_goesOn_15 : decode cX5_goesOn 15 = .ok (.if_icmp .eq 16, 3) := dk_159 0 16 (dk_at dksX5_goesOn_0 15 rfl rfl)
theorem dX5_goesOn_18 : decode cX5_goesOn 18 = .ok (.aload_n 0, 1) := dk_42 (dk_at dksX5_goesOn_0 18 rfl rfl)
theorem dX5_goesOn_19 : decode cX5_goesOn 19 = .ok (.getfield 3, 3) := dk_180 0 3 (dk_at dksX5_goesOn_0 19 rfl rfl)
theorem dX5_goesOn_22 : decode cX5_goesOn 22 = .ok (.iconst 0, 1) := dk_3 (dk_at dksX5_goesOn_0 22 rfl rfl)
theorem dX5_goesOn_23 : decode cX5_goesOn 23 = .ok (.aload_n 0, 1) := dk_42 (dk_at dksX5_goesOn_0 23 rfl rfl)
theorem dX5_goesOn_24 : decode cX5_goesOn 24 = .ok (.getfield 23, 3) := dk_180 0 23 (dk_at dksX5_goesOn_1 0 rfl rfl)
theorem dX5_goesOn_27 : decode cX5_goesOn 27 = .ok (.invokevirtual 69, 3) := dk_182 0 69 (dk_at dksX5_goesOn_1 3 rfl rfl)
theorem dX5_goesOn_30 : decode cX5_goesOn 30 = .ok (.athrow, 1) := dk_191 (dk_at dksX5_goesOn_1 6 rfl rfl)
theorem dX5_goesOn_31 : decode cX5_goesOn 31 = .ok (.aload_n 0, 1) := dk_42 (dk_at dksX5_goesOn_1 7 rfl rfl)
theorem dX5_goesOn_32 : decode cX5_goesOn 32 = .ok (.dup, 1) := dk_89 (dk_at dksX5_goesOn_1 8 rfl rfl)
theorem dX5_goesOn_33 : decode cX5_goesOn 33 = .ok (.getfield 23, 3) := dk_180 0 23 (dk_at dksX5_goesOn_1 9 rfl rfl)
theorem dX5_goesOn_36 : decode cX5_goesOn 36 = .ok (.iconst 1, 1) := dk_4 (dk_at dksX5_goesOn_1 12 rfl rfl)
theorem dX5_goesOn_37 : decode cX5_goesOn 37 = .ok (.iadd, 1) := dk_96 (dk_at dksX5_goesOn_1 13 rfl rfl)
theorem dX5_goesOn_38 : decode cX5_goesOn 38 = .ok (.putfield 23, 3) := dk_181 0 23 (dk_at dksX5_goesOn_1 14 rfl rfl)
theorem dX5_goesOn_41 : decode cX5_goesOn 41 = .ok (.iconst 1, 1) := dk_4 (dk_at dksX5_goesOn_1 17 rfl rfl)
theorem dX5_goesOn_42 : decode cX5_goesOn 42 = .ok (.ireturn, 1) := dk_172 (dk_at dksX5_goesOn_1 18 rfl rfl)
abbrev cX5_rule : ByteArray := prog_10_method_23_code
def yX5_rule : MethodName := ⟨RX5, "rule", "()I"⟩
def dkwX5_rule_2 : List UInt8 := [180, 0, 228, 182, 0, 231, 4, 100, 172]
abbrev dktX5_rule_2 : List UInt8 := dkwX5_rule_2 ++ []
def dkwX5_rule_1 : List UInt8 := [182, 0, 225, 167, 255, 244, 42, 180, 0, 3, 180, 0, 228, 43, 182, 0, 164, 87, 42, 180, 0, 3]
abbrev dktX5_rule_1 : List UInt8 := dkwX5_rule_1 ++ dktX5_rule_2
def dkwX5_rule_0 : List UInt8 := [187, 0, 206, 89, 183, 0, 224, 76, 42, 43, 182, 0, 225, 42, 182, 0, 221, 153, 0, 11, 42, 43]
abbrev dktX5_rule_0 : List UInt8 := dkwX5_rule_0 ++ dktX5_rule_1
theorem dksX5_rule_0 : cX5_rule.data.toList.drop 0 = dktX5_rule_0 := by decide +kernel
theorem dksX5_rule_1 : cX5_rule.data.toList.drop 22 = dktX5_rule_1 := dk_seg dksX5_rule_0 22 rfl rfl
theorem dksX5_rule_2 : cX5_rule.data.toList.drop 44 = dktX5_rule_2 := dk_seg dksX5_rule_1 22 rfl rfl
theorem dX5_rule_0 : decode cX5_rule 0 = .ok (.new 206, 3) := dk_187 0 206 (dk_at dksX5_rule_0 0 rfl rfl)
theorem dX5_rule_3 : decode cX5_rule 3 = .ok (.dup, 1) := dk_89 (dk_at dksX5_rule_0 3 rfl rfl)
theorem dX5_rule_4 : decode cX5_rule 4 = .ok (.invokespecial 224, 3) := dk_183 0 224 (dk_at dksX5_rule_0 4 rfl rfl)
theorem dX5_rule_7 : decode cX5_rule 7 = .ok (.astore_n 1, 1) := dk_76 (dk_at dksX5_rule_0 7 rfl rfl)
theorem dX5_rule_8 : decode cX5_rule 8 = .ok (.aload_n 0, 1) := dk_42 (dk_at dksX5_rule_0 8 rfl rfl)
theorem dX5_rule_9 : decode cX5_rule 9 = .ok (.aload_n 1, 1) := dk_43 (dk_at dksX5_rule_0 9 rfl rfl)
theorem dX5_rule_10 : decode cX5_rule 10 = .ok (.invokevirtual 225, 3) := dk_182 0 225 (dk_at dksX5_rule_0 10 rfl rfl)
theorem dX5_rule_13 : decode cX5_rule 13 = .ok (.aload_n 0, 1) := dk_42 (dk_at dksX5_rule_0 13 rfl rfl)
theorem dX5_rule_14 : decode cX5_rule 14 = .ok (.invokevirtual 221, 3) := dk_182 0 221 (dk_at dksX5_rule_0 14 rfl rfl)
theorem dX5_rule_17 : decode cX5_rule 17 = .ok (.ifCond .eq 11, 3) := dk_153 0 11 (dk_at dksX5_rule_0 17 rfl rfl)
theorem dX5_rule_20 : decode cX5_rule 20 = .ok (.aload_n 0, 1) := dk_42 (dk_at dksX5_rule_0 20 rfl rfl)
theorem dX5_rule_21 : decode cX5_rule 21 = .ok (.aload_n 1, 1) := dk_43 (dk_at dksX5_rule_0 21 rfl rfl)
theorem dX5_rule_22 : decode cX5_rule 22 = .ok (.invokevirtual 225, 3) := dk_182 0 225 (dk_at dksX5_rule_1 0 rfl rfl)
theorem dX5_rule_25 : decode cX5_rule 25 = .ok (.goto (-12), 3) := dk_167 255 244 (dk_at dksX5_rule_1 3 rfl rfl)
theorem dX5_rule_28 : decode cX5_rule 28 = .ok (.aload_n 0, 1) := dk_42 (dk_at dksX5_rule_1 6 rfl rfl)
theorem dX5_rule_29 : decode cX5_rule 29 = .ok (.getfield 3, 3) := dk_180 0 3 (dk_at dksX5_rule_1 7 rfl rfl)
theorem dX5_rule_32 : decode cX5_rule 32 = .ok (.getfield 228, 3) := dk_180 0 228 (dk_at dksX5_rule_1 10 rfl rfl)
theorem dX5_rule_35 : decode cX5_rule 35 = .ok (.aload_n 1, 1) := dk_43 (dk_at dksX5_rule_1 13 rfl rfl)
theorem dX5_rule_36 : decode cX5_rule 36 = .ok (.invokevirtual 164, 3) := dk_182 0 164 (dk_at dksX5_rule_1 14 rfl rfl)
theorem dX5_rule_39 : decode cX5_rule 39 = .ok (.pop, 1) := dk_87 (dk_at dksX5_rule_1 17 rfl rfl)
theorem dX5_rule_40 : decode cX5_rule 40 = .ok (.aload_n 0, 1) := dk_42 (dk_at dksX5_rule_1 18 rfl rfl)
theorem dX5_rule_41 : decode cX5_rule 41 = .ok (.getfield 3, 3) := dk_180 0 3 (dk_at dksX5_rule_1 19 rfl rfl)
theorem dX5_rule_44 : decode cX5_rule 44 = .ok (.getfield 228, 3) := dk_180 0 228 (dk_at dksX5_rule_2 0 rfl rfl)
theorem dX5_rule_47 : decode cX5_rule 47 = .ok (.invokevirtual 231, 3) := dk_182 0 231 (dk_at dksX5_rule_2 3 rfl rfl)
theorem dX5_rule_50 : decode cX5_rule 50 = .ok (.iconst 1, 1) := dk_4 (dk_at dksX5_rule_2 6 rfl rfl)
theorem dX5_rule_51 : decode cX5_rule 51 = .ok (.isub, 1) := dk_100 (dk_at dksX5_rule_2 7 rfl rfl)
theorem dX5_rule_52 : decode cX5_rule 52 = .ok (.ireturn, 1) := dk_172 (dk_at dksX5_rule_2 8 rfl rfl)
abbrev cX5_clause_2 : ByteArray := prog_10_method_20_code
def yX5_clause_2 : MethodName := ⟨RX5, "clause", "(LEdgeWalk$Rule;)V"⟩
def dkwX5_clause_2_2 : List UInt8 := [182, 0, 121, 167, 0, 4, 1, 183, 0, 214, 182, 0, 164, 87, 177]
abbrev dktX5_clause_2_2 : List UInt8 := dkwX5_clause_2_2 ++ []
def dkwX5_clause_2_1 : List UInt8 := [182, 0, 124, 77, 43, 180, 0, 205, 187, 0, 210, 89, 44, 42, 18, 212, 182, 0, 134, 153, 0, 10, 42]
abbrev dktX5_clause_2_1 : List UInt8 := dkwX5_clause_2_1 ++ dktX5_clause_2_2
def dkwX5_clause_2_0 : List UInt8 := [42, 18, 203, 4, 182, 0, 182, 154, 0, 16, 42, 180, 0, 3, 3, 42, 180, 0, 23, 182, 0, 69, 191, 42]
abbrev dktX5_clause_2_0 : List UInt8 := dkwX5_clause_2_0 ++ dktX5_clause_2_1
theorem dksX5_clause_2_0 : cX5_clause_2.data.toList.drop 0 = dktX5_clause_2_0 := by decide +kernel
theorem dksX5_clause_2_1 : cX5_clause_2.data.toList.drop 24 = dktX5_clause_2_1 := dk_seg dksX5_clause_2_0 24 rfl rfl
theorem dksX5_clause_2_2 : cX5_clause_2.data.toList.drop 47 = dktX5_clause_2_2 := dk_seg dksX5_clause_2_1 23 rfl rfl
theorem dX5_clause_2_0 : decode cX5_clause_2 0 = .ok (.aload_n 0, 1) := dk_42 (dk_at dksX5_clause_2_0 0 rfl rfl)
theorem dX5_clause_2_1 : decode cX5_clause_2 1 = .ok (.ldc 203, 2) := dk_18 203 (dk_at dksX5_clause_2_0 1 rfl rfl)
theorem dX5_clause_2_3 : decode cX5_clause_2 3 = .ok (.iconst 1, 1) := dk_4 (dk_at dksX5_clause_2_0 3 rfl rfl)
theorem dX5_clause_2_4 : decode cX5_clause_2 4 = .ok (.invokevirtual 182, 3) := dk_182 0 182 (dk_at dksX5_clause_2_0 4 rfl rfl)
theorem dX5_clause_2_7 : decode cX5_clause_2 7 = .ok (.ifCond .ne 16, 3) := dk_154 0 16 (dk_at dksX5_clause_2_0 7 rfl rfl)
theorem dX5_clause_2_10 : decode cX5_clause_2 10 = .ok (.aload_n 0, 1) := dk_42 (dk_at dksX5_clause_2_0 10 rfl rfl)
theorem dX5_clause_2_11 : decode cX5_clause_2 11 = .ok (.getfield 3, 3) := dk_180 0 3 (dk_at dksX5_clause_2_0 11 rfl rfl)
theorem dX5_clause_2_14 : decode cX5_clause_2 14 = .ok (.iconst 0, 1) := dk_3 (dk_at dksX5_clause_2_0 14 rfl rfl)
theorem dX5_clause_2_15 : decode cX5_clause_2 15 = .ok (.aload_n 0, 1) := dk_42 (dk_at dksX5_clause_2_0 15 rfl rfl)
theorem dX5_clause_2_16 : decode cX5_clause_2 16 = .ok (.getfield 23, 3) := dk_180 0 23 (dk_at dksX5_clause_2_0 16 rfl rfl)
theorem dX5_clause_2_19 : decode cX5_clause_2 19 = .ok (.invokevirtual 69, 3) := dk_182 0 69 (dk_at dksX5_clause_2_0 19 rfl rfl)
theorem dX5_clause_2_22 : decode cX5_clause_2 22 = .ok (.athrow, 1) := dk_191 (dk_at dksX5_clause_2_0 22 rfl rfl)
theorem dX5_clause_2_23 : decode cX5_clause_2 23 = .ok (.aload_n 0, 1) := dk_42 (dk_at dksX5_clause_2_0 23 rfl rfl)
theorem dX5_clause_2_24 : decode cX5_clause_2 24 = .ok (.invokevirtual 124, 3) := dk_182 0 124 (dk_at dksX5_clause_2_1 0 rfl rfl)
theorem dX5_clause_2_27 : decode cX5_clause_2 27 = .ok (.astore_n 2, 1) := dk_77 (dk_at dksX5_clause_2_1 3 rfl rfl)
theorem dX5_clause_2_28 : decode cX5_clause_2 28 = .ok (.aload_n 1, 1) := dk_43 (dk_at dksX5_clause_2_1 4 rfl rfl)
theorem dX5_clause_2_29 : decode cX5_clause_2 29 = .ok (.getfield 205, 3) := dk_180 0 205 (dk_at dksX5_clause_2_1 5 rfl rfl)
theorem dX5_clause_2_32 : decode cX5_clause_2 32 = .ok (.new 210, 3) := dk_187 0 210 (dk_at dksX5_clause_2_1 8 rfl rfl)
theorem dX5_clause_2_35 : decode cX5_clause_2 35 = .ok (.dup, 1) := dk_89 (dk_at dksX5_clause_2_1 11 rfl rfl)
theorem dX5_clause_2_36 : decode cX5_clause_2 36 = .ok (.aload_n 2, 1) := dk_44 (dk_at dksX5_clause_2_1 12 rfl rfl)
theorem dX5_clause_2_37 : decode cX5_clause_2 37 = .ok (.aload_n 0, 1) := dk_42 (dk_at dksX5_clause_2_1 13 rfl rfl)
theorem dX5_clause_2_38 : decode cX5_clause_2 38 = .ok (.ldc 212, 2) := dk_18 212 (dk_at dksX5_clause_2_1 14 rfl rfl)
theorem dX5_clause_2_40 : decode cX5_clause_2 40 = .ok (.invokevirtual 134, 3) := dk_182 0 134 (dk_at dksX5_clause_2_1 16 rfl rfl)
theorem dX5_clause_2_43 : decode cX5_clause_2 43 = .ok (.ifCond .eq 10, 3) := dk_153 0 10 (dk_at dksX5_clause_2_1 19 rfl rfl)
theorem dX5_clause_2_46 : decode cX5_clause_2 46 = .ok (.aload_n 0, 1) := dk_42 (dk_at dksX5_clause_2_1 22 rfl rfl)
theorem dX5_clause_2_47 : decode cX5_clause_2 47 = .ok (.invokevirtual 121, 3) := dk_182 0 121 (dk_at dksX5_clause_2_2 0 rfl rfl)
theorem dX5_clause_2_50 : decode cX5_clause_2 50 = .ok (.goto 4, 3) := dk_167 0 4 (dk_at dksX5_clause_2_2 3 rfl rfl)
theorem dX5_clause_2_53 : decode cX5_clause_2 53 = .ok (.aconst_null, 1) := dk_1 (dk_at dksX5_clause_2_2 6 rfl rfl)
theorem dX5_clause_2_54 : decode cX5_clause_2 54 = .ok (.invokespecial 214, 3) := dk_183 0 214 (dk_at dksX5_clause_2_2 7 rfl rfl)
theorem dX5_clause_2_57 : decode cX5_clause_2 57 = .ok (.invokevirtual 164, 3) := dk_182 0 164 (dk_at dksX5_clause_2_2 10 rfl rfl)
theorem dX5_clause_2_60 : decode cX5_clause_2 60 = .ok (.pop, 1) := dk_87 (dk_at dksX5_clause_2_2 13 rfl rfl)
theorem dX5_clause_2_61 : decode cX5_clause_2 61 = .ok (.return_, 1) := dk_177 (dk_at dksX5_clause_2_2 14 rfl rfl)
abbrev cX5_sum : ByteArray := prog_10_method_12_code
def yX5_sum : MethodName := ⟨RX5, "sum", "()LEdgeWalk$Value;"⟩
def dkwX5_sum_2 : List UInt8 := [183, 0, 101, 76, 167, 255, 209, 43, 176]
abbrev dktX5_sum_2 : List UInt8 := dkwX5_sum_2 ++ []
def dkwX5_sum_1 : List UInt8 := [182, 0, 33, 61, 42, 89, 180, 0, 23, 4, 96, 181, 0, 23, 187, 0, 99, 89, 43, 42, 182, 0, 104, 28]
abbrev dktX5_sum_1 : List UInt8 := dkwX5_sum_1 ++ dktX5_sum_2
def dkwX5_sum_0 : List UInt8 := [42, 182, 0, 104, 76, 42, 182, 0, 45, 16, 43, 159, 0, 12, 42, 182, 0, 33, 16, 45, 160, 0, 35, 42]
abbrev dktX5_sum_0 : List UInt8 := dkwX5_sum_0 ++ dktX5_sum_1
theorem dksX5_sum_0 : cX5_sum.data.toList.drop 0 = dktX5_sum_0 := by decide +kernel
theorem dksX5_sum_1 : cX5_sum.data.toList.drop 24 = dktX5_sum_1 := dk_seg dksX5_sum_0 24 rfl rfl
theorem dksX5_sum_2 : cX5_sum.data.toList.drop 48 = dktX5_sum_2 := dk_seg dksX5_sum_1 24 rfl rfl
theorem dX5_sum_0 : decode cX5_sum 0 = .ok (.aload_n 0, 1) := dk_42 (dk_at dksX5_sum_0 0 rfl rfl)
theorem dX5_sum_1 : decode cX5_sum 1 = .ok (.invokevirtual 104, 3) := dk_182 0 104 (dk_at dksX5_sum_0 1 rfl rfl)
theorem dX5_sum_4 : decode cX5_sum 4 = .ok (.astore_n 1, 1) := dk_76 (dk_at dksX5_sum_0 4 rfl rfl)
theorem dX5_sum_5 : decode cX5_sum 5 = .ok (.aload_n 0, 1) := dk_42 (dk_at dksX5_sum_0 5 rfl rfl)
theorem dX5_sum_6 : decode cX5_sum 6 = .ok (.invokevirtual 45, 3) := dk_182 0 45 (dk_at dksX5_sum_0 6 rfl rfl)
theorem dX5_sum_9 : decode cX5_sum 9 = .ok (.bipush 43, 2) := dk_16 43 (dk_at dksX5_sum_0 9 rfl rfl)
theorem dX5_sum_11 : decode cX5_sum 11 = .ok (.if_icmp .eq 12, 3) := dk_159 0 12 (dk_at dksX5_sum_0 11 rfl rfl)
theorem dX5_sum_14 : decode cX5_sum 14 = .ok (.aload_n 0, 1) := dk_42 (dk_at dksX5_sum_0 14 rfl rfl)
theorem dX5_sum_15 : decode cX5_sum 15 = .ok (.invokevirtual 33, 3) := dk_182 0 33 (dk_at dksX5_sum_0 15 rfl rfl)
theorem dX5_sum_18 : decode cX5_sum 18 = .ok (.bipush 45, 2) := dk_16 45 (dk_at dksX5_sum_0 18 rfl rfl)
theorem dX5_sum_20 : decode cX5_sum 20 = .ok (.if_icmp .ne 35, 3) := dk_160 0 35 (dk_at dksX5_sum_0 20 rfl rfl)
theorem dX5_sum_23 : decode cX5_sum 23 = .ok (.aload_n 0, 1) := dk_42 (dk_at dksX5_sum_0 23 rfl rfl)
theorem dX5_sum_24 : decode cX5_sum 24 = .ok (.invokevirtual 33, 3) := dk_182 0 33 (dk_at dksX5_sum_1 0 rfl rfl)
theorem dX5_sum_27 : decode cX5_sum 27 = .ok (.istore_n 2, 1) := dk_61 (dk_at dksX5_sum_1 3 rfl rfl)
theorem dX5_sum_28 : decode cX5_sum 28 = .ok (.aload_n 0, 1) := dk_42 (dk_at dksX5_sum_1 4 rfl rfl)
theorem dX5_sum_29 : decode cX5_sum 29 = .ok (.dup, 1) := dk_89 (dk_at dksX5_sum_1 5 rfl rfl)
theorem dX5_sum_30 : decode cX5_sum 30 = .ok (.getfield 23, 3) := dk_180 0 23 (dk_at dksX5_sum_1 6 rfl rfl)
theorem dX5_sum_33 : decode cX5_sum 33 = .ok (.iconst 1, 1) := dk_4 (dk_at dksX5_sum_1 9 rfl rfl)
theorem dX5_sum_34 : decode cX5_sum 34 = .ok (.iadd, 1) := dk_96 (dk_at dksX5_sum_1 10 rfl rfl)
theorem dX5_sum_35 : decode cX5_sum 35 = .ok (.putfield 23, 3) := dk_181 0 23 (dk_at dksX5_sum_1 11 rfl rfl)
theorem dX5_sum_38 : decode cX5_sum 38 = .ok (.new 99, 3) := dk_187 0 99 (dk_at dksX5_sum_1 14 rfl rfl)
theorem dX5_sum_41 : decode cX5_sum 41 = .ok (.dup, 1) := dk_89 (dk_at dksX5_sum_1 17 rfl rfl)
theorem dX5_sum_42 : decode cX5_sum 42 = .ok (.aload_n 1, 1) := dk_43 (dk_at dksX5_sum_1 18 rfl rfl)
theorem dX5_sum_43 : decode cX5_sum 43 = .ok (.aload_n 0, 1) := dk_42 (dk_at dksX5_sum_1 19 rfl rfl)
theorem dX5_sum_44 : decode cX5_sum 44 = .ok (.invokevirtual 104, 3) := dk_182 0 104 (dk_at dksX5_sum_1 20 rfl rfl)
theorem dX5_sum_47 : decode cX5_sum 47 = .ok (.iload_n 2, 1) := dk_28 (dk_at dksX5_sum_1 23 rfl rfl)
theorem dX5_sum_48 : decode cX5_sum 48 = .ok (.invokespecial 101, 3) := dk_183 0 101 (dk_at dksX5_sum_2 0 rfl rfl)
theorem dX5_sum_51 : decode cX5_sum 51 = .ok (.astore_n 1, 1) := dk_76 (dk_at dksX5_sum_2 3 rfl rfl)
theorem dX5_sum_52 : decode cX5_sum 52 = .ok (.goto (-47), 3) := dk_167 255 209 (dk_at dksX5_sum_2 4 rfl rfl)
theorem dX5_sum_55 : decode cX5_sum 55 = .ok (.aload_n 1, 1) := dk_43 (dk_at dksX5_sum_2 7 rfl rfl)
theorem dX5_sum_56 : decode cX5_sum 56 = .ok (.areturn, 1) := dk_176 (dk_at dksX5_sum_2 8 rfl rfl)
abbrev cX5_term : ByteArray := prog_10_method_11_code
def yX5_term : MethodName := ⟨RX5, "term", "()LEdgeWalk$Value;"⟩
def dkwX5_term_2 : List UInt8 := [187, 0, 99, 89, 43, 42, 182, 0, 95, 28, 183, 0, 101, 76, 167, 255, 200, 43, 176]
abbrev dktX5_term_2 : List UInt8 := dkwX5_term_2 ++ []
def dkwX5_term_1 : List UInt8 := [182, 0, 33, 16, 37, 160, 0, 35, 42, 182, 0, 33, 61, 42, 89, 180, 0, 23, 4, 96, 181, 0, 23]
abbrev dktX5_term_1 : List UInt8 := dkwX5_term_1 ++ dktX5_term_2
def dkwX5_term_0 : List UInt8 := [42, 182, 0, 95, 76, 42, 182, 0, 45, 16, 42, 159, 0, 21, 42, 182, 0, 33, 16, 47, 159, 0, 12, 42]
abbrev dktX5_term_0 : List UInt8 := dkwX5_term_0 ++ dktX5_term_1
theorem dksX5_term_0 : cX5_term.data.toList.drop 0 = dktX5_term_0 := by decide +kernel
theorem dksX5_term_1 : cX5_term.data.toList.drop 24 = dktX5_term_1 := dk_seg dksX5_term_0 24 rfl rfl
theorem dksX5_term_2 : cX5_term.data.toList.drop 47 = dktX5_term_2 := dk_seg dksX5_term_1 23 rfl rfl
theorem dX5_term_0 : decode cX5_term 0 = .ok (.aload_n 0, 1) := dk_42 (dk_at dksX5_term_0 0 rfl rfl)
theorem dX5_term_1 : decode cX5_term 1 = .ok (.invokevirtual 95, 3) := dk_182 0 95 (dk_at dksX5_term_0 1 rfl rfl)
theorem dX5_term_4 : decode cX5_term 4 = .ok (.astore_n 1, 1) := dk_76 (dk_at dksX5_term_0 4 rfl rfl)
theorem dX5_term_5 : decode cX5_term 5 = .ok (.aload_n 0, 1) := dk_42 (dk_at dksX5_term_0 5 rfl rfl)
theorem dX5_term_6 : decode cX5_term 6 = .ok (.invokevirtual 45, 3) := dk_182 0 45 (dk_at dksX5_term_0 6 rfl rfl)
theorem dX5_term_9 : decode cX5_term 9 = .ok (.bipush 42, 2) := dk_16 42 (dk_at dksX5_term_0 9 rfl rfl)
theorem dX5_term_11 : decode cX5_term 11 = .ok (.if_icmp .eq 21, 3) := dk_159 0 21 (dk_at dksX5_term_0 11 rfl rfl)
theorem dX5_term_14 : decode cX5_term 14 = .ok (.aload_n 0, 1) := dk_42 (dk_at dksX5_term_0 14 rfl rfl)
theorem dX5_term_15 : decode cX5_term 15 = .ok (.invokevirtual 33, 3) := dk_182 0 33 (dk_at dksX5_term_0 15 rfl rfl)
theorem dX5_term_18 : decode cX5_term 18 = .ok (.bipush 47, 2) := dk_16 47 (dk_at dksX5_term_0 18 rfl rfl)
theorem dX5_term_20 : decode cX5_term 20 = .ok (.if_icmp .eq 12, 3) := dk_159 0 12 (dk_at dksX5_term_0 20 rfl rfl)
theorem dX5_term_23 : decode cX5_term 23 = .ok (.aload_n 0, 1) := dk_42 (dk_at dksX5_term_0 23 rfl rfl)
theorem dX5_term_24 : decode cX5_term 24 = .ok (.invokevirtual 33, 3) := dk_182 0 33 (dk_at dksX5_term_1 0 rfl rfl)
theorem dX5_term_27 : decode cX5_term 27 = .ok (.bipush 37, 2) := dk_16 37 (dk_at dksX5_term_1 3 rfl rfl)
theorem dX5_term_29 : decode cX5_term 29 = .ok (.if_icmp .ne 35, 3) := dk_160 0 35 (dk_at dksX5_term_1 5 rfl rfl)
theorem dX5_term_32 : decode cX5_term 32 = .ok (.aload_n 0, 1) := dk_42 (dk_at dksX5_term_1 8 rfl rfl)
theorem dX5_term_33 : decode cX5_term 33 = .ok (.invokevirtual 33, 3) := dk_182 0 33 (dk_at dksX5_term_1 9 rfl rfl)
theorem dX5_term_36 : decode cX5_term 36 = .ok (.istore_n 2, 1) := dk_61 (dk_at dksX5_term_1 12 rfl rfl)
theorem dX5_term_37 : decode cX5_term 37 = .ok (.aload_n 0, 1) := dk_42 (dk_at dksX5_term_1 13 rfl rfl)
theorem dX5_term_38 : decode cX5_term 38 = .ok (.dup, 1) := dk_89 (dk_at dksX5_term_1 14 rfl rfl)
theorem dX5_term_39 : decode cX5_term 39 = .ok (.getfield 23, 3) := dk_180 0 23 (dk_at dksX5_term_1 15 rfl rfl)
theorem dX5_term_42 : decode cX5_term 42 = .ok (.iconst 1, 1) := dk_4 (dk_at dksX5_term_1 18 rfl rfl)
theorem dX5_term_43 : decode cX5_term 43 = .ok (.iadd, 1) := dk_96 (dk_at dksX5_term_1 19 rfl rfl)
theorem dX5_term_44 : decode cX5_term 44 = .ok (.putfield 23, 3) := dk_181 0 23 (dk_at dksX5_term_1 20 rfl rfl)
theorem dX5_term_47 : decode cX5_term 47 = .ok (.new 99, 3) := dk_187 0 99 (dk_at dksX5_term_2 0 rfl rfl)
theorem dX5_term_50 : decode cX5_term 50 = .ok (.dup, 1) := dk_89 (dk_at dksX5_term_2 3 rfl rfl)
theorem dX5_term_51 : decode cX5_term 51 = .ok (.aload_n 1, 1) := dk_43 (dk_at dksX5_term_2 4 rfl rfl)
theorem dX5_term_52 : decode cX5_term 52 = .ok (.aload_n 0, 1) := dk_42 (dk_at dksX5_term_2 5 rfl rfl)
theorem dX5_term_53 : decode cX5_term 53 = .ok (.invokevirtual 95, 3) := dk_182 0 95 (dk_at dksX5_term_2 6 rfl rfl)
theorem dX5_term_56 : decode cX5_term 56 = .ok (.iload_n 2, 1) := dk_28 (dk_at dksX5_term_2 9 rfl rfl)
theorem dX5_term_57 : decode cX5_term 57 = .ok (.invokespecial 101, 3) := dk_183 0 101 (dk_at dksX5_term_2 10 rfl rfl)
theorem dX5_term_60 : decode cX5_term 60 = .ok (.astore_n 1, 1) := dk_76 (dk_at dksX5_term_2 13 rfl rfl)
theorem dX5_term_61 : decode cX5_term 61 = .ok (.goto (-56), 3) := dk_167 255 200 (dk_at dksX5_term_2 14 rfl rfl)
theorem dX5_term_64 : decode cX5_term 64 = .ok (.aload_n 1, 1) := dk_43 (dk_at dksX5_term_2 17 rfl rfl)
theorem dX5_term_65 : decode cX5_term 65 = .ok (.areturn, 1) := dk_176 (dk_at dksX5_term_2 18 rfl rfl)
abbrev cX5_value : ByteArray := prog_10_method_10_code
def yX5_value : MethodName := ⟨RX5, "value", "()LEdgeWalk$Value;"⟩
def dkwX5_value_4 : List UInt8 := [183, 0, 94, 176, 132, 2, 1, 167, 255, 196, 42, 180, 0, 3, 3, 27, 182, 0, 69, 191]
abbrev dktX5_value_4 : List UInt8 := dkwX5_value_4 ++ []
def dkwX5_value_3 : List UInt8 := [42, 89, 180, 0, 23, 42, 180, 0, 15, 28, 50, 182, 0, 52, 96, 181, 0, 23, 187, 0, 92, 89, 28]
abbrev dktX5_value_3 : List UInt8 := dkwX5_value_3 ++ dktX5_value_4
def dkwX5_value_2 : List UInt8 := [162, 0, 57, 42, 42, 180, 0, 15, 28, 50, 182, 0, 61, 154, 0, 6, 167, 0, 35, 42, 27, 182, 0, 89]
abbrev dktX5_value_2 : List UInt8 := dkwX5_value_2 ++ dktX5_value_3
def dkwX5_value_1 : List UInt8 := [18, 81, 182, 0, 82, 183, 0, 86, 77, 42, 27, 182, 0, 89, 44, 176, 3, 61, 28, 42, 180, 0, 15, 190]
abbrev dktX5_value_1 : List UInt8 := dkwX5_value_1 ++ dktX5_value_2
def dkwX5_value_0 : List UInt8 := [42, 182, 0, 45, 87, 42, 180, 0, 23, 60, 42, 182, 0, 65, 153, 0, 25, 187, 0, 79, 89, 42, 3]
abbrev dktX5_value_0 : List UInt8 := dkwX5_value_0 ++ dktX5_value_1
theorem dksX5_value_0 : cX5_value.data.toList.drop 0 = dktX5_value_0 := by decide +kernel
theorem dksX5_value_1 : cX5_value.data.toList.drop 23 = dktX5_value_1 := dk_seg dksX5_value_0 23 rfl rfl
theorem dksX5_value_2 : cX5_value.data.toList.drop 47 = dktX5_value_2 := dk_seg dksX5_value_1 24 rfl rfl
theorem dksX5_value_3 : cX5_value.data.toList.drop 71 = dktX5_value_3 := dk_seg dksX5_value_2 24 rfl rfl
theorem dksX5_value_4 : cX5_value.data.toList.drop 94 = dktX5_value_4 := dk_seg dksX5_value_3 23 rfl rfl
theorem dX5_value_0 : decode cX5_value 0 = .ok (.aload_n 0, 1) := dk_42 (dk_at dksX5_value_0 0 rfl rfl)
theorem dX5_value_1 : decode cX5_value 1 = .ok (.invokevirtual 45, 3) := dk_182 0 45 (dk_at dksX5_value_0 1 rfl rfl)
theorem dX5_value_4 : decode cX5_value 4 = .ok (.pop, 1) := dk_87 (dk_at dksX5_value_0 4 rfl rfl)
theorem dX5_value_5 : decode cX5_value 5 = .ok (.aload_n 0, 1) := dk_42 (dk_at dksX5_value_0 5 rfl rfl)
theorem dX5_value_6 : decode cX5_value 6 = .ok (.getfield 23, 3) := dk_180 0 23 (dk_at dksX5_value_0 6 rfl rfl)
theorem dX5_value_9 : decode cX5_value 9 = .ok (.istore_n 1, 1) := dk_60 (dk_at dksX5_value_0 9 rfl rfl)
theorem dX5_value_10 : decode cX5_value 10 = .ok (.aload_n 0, 1) := dk_42 (dk_at dksX5_value_0 10 rfl rfl)
theorem dX5_value_11 : decode cX5_value 11 = .ok (.invokevirtual 65, 3) := dk_182 0 65 (dk_at dksX5_value_0 11 rfl rfl)
theorem dX5_value_14 : decode cX5_value 14 = .ok (.ifCond .eq 25, 3) := dk_153 0 25 (dk_at dksX5_value_0 14 rfl rfl)
theorem dX5_value_17 : decode cX5_value 17 = .ok (.new 79, 3) := dk_187 0 79 (dk_at dksX5_value_0 17 rfl rfl)
theorem dX5_value_20 : decode cX5_value 20 = .ok (.dup, 1) := dk_89 (dk_at dksX5_value_0 20 rfl rfl)
theorem dX5_value_21 : decode cX5_value 21 = .ok (.aload_n 0, 1) := dk_42 (dk_at dksX5_value_0 21 rfl rfl)
theorem dX5_value_22 : decode cX5_value 22 = .ok (.iconst 0, 1) := dk_3 (dk_at dksX5_value_0 22 rfl rfl)
theorem dX5_value_23 : decode cX5_value 23 = .ok (.ldc 81, 2) := dk_18 81 (dk_at dksX5_value_1 0 rfl rfl)
theorem dX5_value_25 : decode cX5_value 25 = .ok (.invokevirtual 82, 3) := dk_182 0 82 (dk_at dksX5_value_1 2 rfl rfl)
theorem dX5_value_28 : decode cX5_value 28 = .ok (.invokespecial 86, 3) := dk_183 0 86 (dk_at dksX5_value_1 5 rfl rfl)
theorem dX5_value_31 : decode cX5_value 31 = .ok (.astore_n 2, 1) := dk_77 (dk_at dksX5_value_1 8 rfl rfl)
theorem dX5_value_32 : decode cX5_value 32 = .ok (.aload_n 0, 1) := dk_42 (dk_at dksX5_value_1 9 rfl rfl)
theorem dX5_value_33 : decode cX5_value 33 = .ok (.iload_n 1, 1) := dk_27 (dk_at dksX5_value_1 10 rfl rfl)
theorem dX5_value_34 : decode cX5_value 34 = .ok (.invokevirtual 89, 3) := dk_182 0 89 (dk_at dksX5_value_1 11 rfl rfl)
theorem dX5_value_37 : decode cX5_value 37 = .ok (.aload_n 2, 1) := dk_44 (dk_at dksX5_value_1 14 rfl rfl)
theorem dX5_value_38 : decode cX5_value 38 = .ok (.areturn, 1) := dk_176 (dk_at dksX5_value_1 15 rfl rfl)
theorem dX5_value_39 : decode cX5_value 39 = .ok (.iconst 0, 1) := dk_3 (dk_at dksX5_value_1 16 rfl rfl)
theorem dX5_value_40 : decode cX5_value 40 = .ok (.istore_n 2, 1) := dk_61 (dk_at dksX5_value_1 17 rfl rfl)
theorem dX5_value_41 : decode cX5_value 41 = .ok (.iload_n 2, 1) := dk_28 (dk_at dksX5_value_1 18 rfl rfl)
theorem dX5_value_42 : decode cX5_value 42 = .ok (.aload_n 0, 1) := dk_42 (dk_at dksX5_value_1 19 rfl rfl)
theorem dX5_value_43 : decode cX5_value 43 = .ok (.getfield 15, 3) := dk_180 0 15 (dk_at dksX5_value_1 20 rfl rfl)
theorem dX5_value_46 : decode cX5_value 46 = .ok (.arraylength, 1) := dk_190 (dk_at dksX5_value_1 23 rfl rfl)
theorem dX5_value_47 : decode cX5_value 47 = .ok (.if_icmp .ge 57, 3) := dk_162 0 57 (dk_at dksX5_value_2 0 rfl rfl)
theorem dX5_value_50 : decode cX5_value 50 = .ok (.aload_n 0, 1) := dk_42 (dk_at dksX5_value_2 3 rfl rfl)
theorem dX5_value_51 : decode cX5_value 51 = .ok (.aload_n 0, 1) := dk_42 (dk_at dksX5_value_2 4 rfl rfl)
theorem dX5_value_52 : decode cX5_value 52 = .ok (.getfield 15, 3) := dk_180 0 15 (dk_at dksX5_value_2 5 rfl rfl)
theorem dX5_value_55 : decode cX5_value 55 = .ok (.iload_n 2, 1) := dk_28 (dk_at dksX5_value_2 8 rfl rfl)
theorem dX5_value_56 : decode cX5_value 56 = .ok (.aaload, 1) := dk_50 (dk_at dksX5_value_2 9 rfl rfl)
theorem dX5_value_57 : decode cX5_value 57 = .ok (.invokevirtual 61, 3) := dk_182 0 61 (dk_at dksX5_value_2 10 rfl rfl)
theorem dX5_value_60 : decode cX5_value 60 = .ok (.ifCond .ne 6, 3) := dk_154 0 6 (dk_at dksX5_value_2 13 rfl rfl)
theorem dX5_value_63 : decode cX5_value 63 = .ok (.goto 35, 3) := dk_167 0 35 (dk_at dksX5_value_2 16 rfl rfl)
theorem dX5_value_66 : decode cX5_value 66 = .ok (.aload_n 0, 1) := dk_42 (dk_at dksX5_value_2 19 rfl rfl)
theorem dX5_value_67 : decode cX5_value 67 = .ok (.iload_n 1, 1) := dk_27 (dk_at dksX5_value_2 20 rfl rfl)
theorem dX5_value_68 : decode cX5_value 68 = .ok (.invokevirtual 89, 3) := dk_182 0 89 (dk_at dksX5_value_2 21 rfl rfl)
theorem dX5_value_71 : decode cX5_value 71 = .ok (.aload_n 0, 1) := dk_42 (dk_at dksX5_value_3 0 rfl rfl)
theorem dX5_value_72 : decode cX5_value 72 = .ok (.dup, 1) := dk_89 (dk_at dksX5_value_3 1 rfl rfl)
theorem dX5_value_73 : decode cX5_value 73 = .ok (.getfield 23, 3) := dk_180 0 23 (dk_at dksX5_value_3 2 rfl rfl)
theorem dX5_value_76 : decode cX5_value 76 = .ok (.aload_n 0, 1) := dk_42 (dk_at dksX5_value_3 5 rfl rfl)
theorem dX5_value_77 : decode cX5_value 77 = .ok (.getfield 15, 3) := dk_180 0 15 (dk_at dksX5_value_3 6 rfl rfl)
theorem dX5_value_80 : decode cX5_value 80 = .ok (.iload_n 2, 1) := dk_28 (dk_at dksX5_value_3 9 rfl rfl)
theorem dX5_value_81 : decode cX5_value 81 = .ok (.aaload, 1) := dk_50 (dk_at dksX5_value_3 10 rfl rfl)
theorem dX5_value_82 : decode cX5_value 82 = .ok (.invokevirtual 52, 3) := dk_182 0 52 (dk_at dksX5_value_3 11 rfl rfl)
theorem dX5_value_85 : decode cX5_value 85 = .ok (.iadd, 1) := dk_96 (dk_at dksX5_value_3 14 rfl rfl)
theorem dX5_value_86 : decode cX5_value 86 = .ok (.putfield 23, 3) := dk_181 0 23 (dk_at dksX5_value_3 15 rfl rfl)
theorem dX5_value_89 : decode cX5_value 89 = .ok (.new 92, 3) := dk_187 0 92 (dk_at dksX5_value_3 18 rfl rfl)
theorem dX5_value_92 : decode cX5_value 92 = .ok (.dup, 1) := dk_89 (dk_at dksX5_value_3 21 rfl rfl)
theorem dX5_value_93 : decode cX5_value 93 = .ok (.iload_n 2, 1) := dk_28 (dk_at dksX5_value_3 22 rfl rfl)
theorem dX5_value_94 : decode cX5_value 94 = .ok (.invokespecial 94, 3) := dk_183 0 94 (dk_at dksX5_value_4 0 rfl rfl)
theorem dX5_value_97 : decode cX5_value 97 = .ok (.areturn, 1) := dk_176 (dk_at dksX5_value_4 3 rfl rfl)
theorem dX5_value_98 : decode cX5_value 98 = .ok (.iinc 2 1, 3) := dk_132 2 1 (dk_at dksX5_value_4 4 rfl rfl)
theorem dX5_value_101 : decode cX5_value 101 = .ok (.goto (-60), 3) := dk_167 255 196 (dk_at dksX5_value_4 7 rfl rfl)
theorem dX5_value_104 : decode cX5_value 104 = .ok (.aload_n 0, 1) := dk_42 (dk_at dksX5_value_4 10 rfl rfl)
theorem dX5_value_105 : decode cX5_value 105 = .ok (.getfield 3, 3) := dk_180 0 3 (dk_at dksX5_value_4 11 rfl rfl)
theorem dX5_value_108 : decode cX5_value 108 = .ok (.iconst 0, 1) := dk_3 (dk_at dksX5_value_4 14 rfl rfl)
theorem dX5_value_109 : decode cX5_value 109 = .ok (.iload_n 1, 1) := dk_27 (dk_at dksX5_value_4 15 rfl rfl)
theorem dX5_value_110 : decode cX5_value 110 = .ok (.invokevirtual 69, 3) := dk_182 0 69 (dk_at dksX5_value_4 16 rfl rfl)
theorem dX5_value_113 : decode cX5_value 113 = .ok (.athrow, 1) := dk_191 (dk_at dksX5_value_4 19 rfl rfl)
abbrev cX5_counts : ByteArray := prog_10_method_8_code
def yX5_counts : MethodName := ⟨RX5, "counts", "(I)V"⟩
def dkwX5_counts_1 : List UInt8 := [4, 96, 181, 0, 73, 177]
abbrev dktX5_counts_1 : List UInt8 := dkwX5_counts_1 ++ []
def dkwX5_counts_0 : List UInt8 := [42, 180, 0, 73, 16, 60, 160, 0, 13, 42, 180, 0, 3, 6, 27, 182, 0, 69, 191, 42, 89, 180, 0, 73]
abbrev dktX5_counts_0 : List UInt8 := dkwX5_counts_0 ++ dktX5_counts_1
theorem dksX5_counts_0 : cX5_counts.data.toList.drop 0 = dktX5_counts_0 := by decide +kernel
theorem dksX5_counts_1 : cX5_counts.data.toList.drop 24 = dktX5_counts_1 := dk_seg dksX5_counts_0 24 rfl rfl
theorem dX5_counts_0 : decode cX5_counts 0 = .ok (.aload_n 0, 1) := dk_42 (dk_at dksX5_counts_0 0 rfl rfl)
theorem dX5_counts_1 : decode cX5_counts 1 = .ok (.getfield 73, 3) := dk_180 0 73 (dk_at dksX5_counts_0 1 rfl rfl)
theorem dX5_counts_4 : decode cX5_counts 4 = .ok (.bipush 60, 2) := dk_16 60 (dk_at dksX5_counts_0 4 rfl rfl)
theorem dX5_counts_6 : decode cX5_counts 6 = .ok (.if_icmp .ne 13, 3) := dk_160 0 13 (dk_at dksX5_counts_0 6 rfl rfl)
theorem dX5_counts_9 : decode cX5_counts 9 = .ok (.aload_n 0, 1) := dk_42 (dk_at dksX5_counts_0 9 rfl rfl)
theorem dX5_counts_10 : decode cX5_counts 10 = .ok (.getfield 3, 3) := dk_180 0 3 (dk_at dksX5_counts_0 10 rfl rfl)
theorem dX5_counts_13 : decode cX5_counts 13 = .ok (.iconst 3, 1) := dk_6 (dk_at dksX5_counts_0 13 rfl rfl)
theorem dX5_counts_14 : decode cX5_counts 14 = .ok (.iload_n 1, 1) := dk_27 (dk_at dksX5_counts_0 14 rfl rfl)
theorem dX5_counts_15 : decode cX5_counts 15 = .ok (.invokevirtual 69, 3) := dk_182 0 69 (dk_at dksX5_counts_0 15 rfl rfl)
theorem dX5_counts_18 : decode cX5_counts 18 = .ok (.athrow, 1) := dk_191 (dk_at dksX5_counts_0 18 rfl rfl)
theorem dX5_counts_19 : decode cX5_counts 19 = .ok (.aload_n 0, 1) := dk_42 (dk_at dksX5_counts_0 19 rfl rfl)
theorem dX5_counts_20 : decode cX5_counts 20 = .ok (.dup, 1) := dk_89 (dk_at dksX5_counts_0 20 rfl rfl)
theorem dX5_counts_21 : decode cX5_counts 21 = .ok (.getfield 73, 3) := dk_180 0 73 (dk_at dksX5_counts_0 21 rfl rfl)
theorem dX5_counts_24 : decode cX5_counts 24 = .ok (.iconst 1, 1) := dk_4 (dk_at dksX5_counts_1 0 rfl rfl)
theorem dX5_counts_25 : decode cX5_counts 25 = .ok (.iadd, 1) := dk_96 (dk_at dksX5_counts_1 1 rfl rfl)
theorem dX5_counts_26 : decode cX5_counts 26 = .ok (.putfield 73, 3) := dk_181 0 73 (dk_at dksX5_counts_1 2 rfl rfl)
theorem dX5_counts_29 : decode cX5_counts 29 = .ok (.return_, 1) := dk_177 (dk_at dksX5_counts_1 5 rfl rfl)
abbrev cX5_takes : ByteArray := prog_10_method_6_code
def yX5_takes : MethodName := ⟨RX5, "takes", "(Ljava/lang/String;)Z"⟩
def dkwX5_takes_1 : List UInt8 := [181, 0, 23, 28, 172]
abbrev dktX5_takes_1 : List UInt8 := dkwX5_takes_1 ++ []
def dkwX5_takes_0 : List UInt8 := [42, 43, 182, 0, 61, 61, 42, 89, 180, 0, 23, 28, 153, 0, 10, 43, 182, 0, 52, 167, 0, 4, 3, 96]
abbrev dktX5_takes_0 : List UInt8 := dkwX5_takes_0 ++ dktX5_takes_1
theorem dksX5_takes_0 : cX5_takes.data.toList.drop 0 = dktX5_takes_0 := by decide +kernel
theorem dksX5_takes_1 : cX5_takes.data.toList.drop 24 = dktX5_takes_1 := dk_seg dksX5_takes_0 24 rfl rfl
theorem dX5_takes_0 : decode cX5_takes 0 = .ok (.aload_n 0, 1) := dk_42 (dk_at dksX5_takes_0 0 rfl rfl)
theorem dX5_takes_1 : decode cX5_takes 1 = .ok (.aload_n 1, 1) := dk_43 (dk_at dksX5_takes_0 1 rfl rfl)
theorem dX5_takes_2 : decode cX5_takes 2 = .ok (.invokevirtual 61, 3) := dk_182 0 61 (dk_at dksX5_takes_0 2 rfl rfl)
theorem dX5_takes_5 : decode cX5_takes 5 = .ok (.istore_n 2, 1) := dk_61 (dk_at dksX5_takes_0 5 rfl rfl)
theorem dX5_takes_6 : decode cX5_takes 6 = .ok (.aload_n 0, 1) := dk_42 (dk_at dksX5_takes_0 6 rfl rfl)
theorem dX5_takes_7 : decode cX5_takes 7 = .ok (.dup, 1) := dk_89 (dk_at dksX5_takes_0 7 rfl rfl)
theorem dX5_takes_8 : decode cX5_takes 8 = .ok (.getfield 23, 3) := dk_180 0 23 (dk_at dksX5_takes_0 8 rfl rfl)
theorem dX5_takes_11 : decode cX5_takes 11 = .ok (.iload_n 2, 1) := dk_28 (dk_at dksX5_takes_0 11 rfl rfl)
theorem dX5_takes_12 : decode cX5_takes 12 = .ok (.ifCond .eq 10, 3) := dk_153 0 10 (dk_at dksX5_takes_0 12 rfl rfl)
theorem dX5_takes_15 : decode cX5_takes 15 = .ok (.aload_n 1, 1) := dk_43 (dk_at dksX5_takes_0 15 rfl rfl)
theorem dX5_takes_16 : decode cX5_takes 16 = .ok (.invokevirtual 52, 3) := dk_182 0 52 (dk_at dksX5_takes_0 16 rfl rfl)
theorem dX5_takes_19 : decode cX5_takes 19 = .ok (.goto 4, 3) := dk_167 0 4 (dk_at dksX5_takes_0 19 rfl rfl)
theorem dX5_takes_22 : decode cX5_takes 22 = .ok (.iconst 0, 1) := dk_3 (dk_at dksX5_takes_0 22 rfl rfl)
theorem dX5_takes_23 : decode cX5_takes 23 = .ok (.iadd, 1) := dk_96 (dk_at dksX5_takes_0 23 rfl rfl)
theorem dX5_takes_24 : decode cX5_takes 24 = .ok (.putfield 23, 3) := dk_181 0 23 (dk_at dksX5_takes_1 0 rfl rfl)
theorem dX5_takes_27 : decode cX5_takes 27 = .ok (.iload_n 2, 1) := dk_28 (dk_at dksX5_takes_1 3 rfl rfl)
theorem dX5_takes_28 : decode cX5_takes 28 = .ok (.ireturn, 1) := dk_172 (dk_at dksX5_takes_1 4 rfl rfl)
abbrev cX5_test : ByteArray := prog_10_method_15_code
def yX5_test : MethodName := ⟨RX5, "test", "()LEdgeWalk$Condition;"⟩
def dkwX5_test_1 : List UInt8 := [183, 0, 139, 76, 167, 255, 233, 43, 176]
abbrev dktX5_test_1 : List UInt8 := dkwX5_test_1 ++ []
def dkwX5_test_0 : List UInt8 := [42, 182, 0, 142, 76, 42, 18, 145, 182, 0, 134, 153, 0, 20, 187, 0, 137, 89, 43, 42, 182, 0, 142, 4]
abbrev dktX5_test_0 : List UInt8 := dkwX5_test_0 ++ dktX5_test_1
theorem dksX5_test_0 : cX5_test.data.toList.drop 0 = dktX5_test_0 := by decide +kernel
theorem dksX5_test_1 : cX5_test.data.toList.drop 24 = dktX5_test_1 := dk_seg dksX5_test_0 24 rfl rfl
theorem dX5_test_0 : decode cX5_test 0 = .ok (.aload_n 0, 1) := dk_42 (dk_at dksX5_test_0 0 rfl rfl)
theorem dX5_test_1 : decode cX5_test 1 = .ok (.invokevirtual 142, 3) := dk_182 0 142 (dk_at dksX5_test_0 1 rfl rfl)
theorem dX5_test_4 : decode cX5_test 4 = .ok (.astore_n 1, 1) := dk_76 (dk_at dksX5_test_0 4 rfl rfl)
theorem dX5_test_5 : decode cX5_test 5 = .ok (.aload_n 0, 1) := dk_42 (dk_at dksX5_test_0 5 rfl rfl)
theorem dX5_test_6 : decode cX5_test 6 = .ok (.ldc 145, 2) := dk_18 145 (dk_at dksX5_test_0 6 rfl rfl)
theorem dX5_test_8 : decode cX5_test 8 = .ok (.invokevirtual 134, 3) := dk_182 0 134 (dk_at dksX5_test_0 8 rfl rfl)
theorem dX5_test_11 : decode cX5_test 11 = .ok (.ifCond .eq 20, 3) := dk_153 0 20 (dk_at dksX5_test_0 11 rfl rfl)
theorem dX5_test_14 : decode cX5_test 14 = .ok (.new 137, 3) := dk_187 0 137 (dk_at dksX5_test_0 14 rfl rfl)
theorem dX5_test_17 : decode cX5_test 17 = .ok (.dup, 1) := dk_89 (dk_at dksX5_test_0 17 rfl rfl)
theorem dX5_test_18 : decode cX5_test 18 = .ok (.aload_n 1, 1) := dk_43 (dk_at dksX5_test_0 18 rfl rfl)
theorem dX5_test_19 : decode cX5_test 19 = .ok (.aload_n 0, 1) := dk_42 (dk_at dksX5_test_0 19 rfl rfl)
theorem dX5_test_20 : decode cX5_test 20 = .ok (.invokevirtual 142, 3) := dk_182 0 142 (dk_at dksX5_test_0 20 rfl rfl)
theorem dX5_test_23 : decode cX5_test 23 = .ok (.iconst 1, 1) := dk_4 (dk_at dksX5_test_0 23 rfl rfl)
theorem dX5_test_24 : decode cX5_test 24 = .ok (.invokespecial 139, 3) := dk_183 0 139 (dk_at dksX5_test_1 0 rfl rfl)
theorem dX5_test_27 : decode cX5_test 27 = .ok (.astore_n 1, 1) := dk_76 (dk_at dksX5_test_1 3 rfl rfl)
theorem dX5_test_28 : decode cX5_test 28 = .ok (.goto (-23), 3) := dk_167 255 233 (dk_at dksX5_test_1 4 rfl rfl)
theorem dX5_test_31 : decode cX5_test 31 = .ok (.aload_n 1, 1) := dk_43 (dk_at dksX5_test_1 7 rfl rfl)
theorem dX5_test_32 : decode cX5_test 32 = .ok (.areturn, 1) := dk_176 (dk_at dksX5_test_1 8 rfl rfl)
abbrev cX5_part : ByteArray := prog_10_method_14_code
def yX5_part : MethodName := ⟨RX5, "part", "()LEdgeWalk$Condition;"⟩
def dkwX5_part_1 : List UInt8 := [183, 0, 139, 76, 167, 255, 233, 43, 176]
abbrev dktX5_part_1 : List UInt8 := dkwX5_part_1 ++ []
def dkwX5_part_0 : List UInt8 := [42, 182, 0, 114, 76, 42, 18, 132, 182, 0, 134, 153, 0, 20, 187, 0, 137, 89, 43, 42, 182, 0, 114, 3]
abbrev dktX5_part_0 : List UInt8 := dkwX5_part_0 ++ dktX5_part_1
theorem dksX5_part_0 : cX5_part.data.toList.drop 0 = dktX5_part_0 := by decide +kernel
theorem dksX5_part_1 : cX5_part.data.toList.drop 24 = dktX5_part_1 := dk_seg dksX5_part_0 24 rfl rfl
theorem dX5_part_0 : decode cX5_part 0 = .ok (.aload_n 0, 1) := dk_42 (dk_at dksX5_part_0 0 rfl rfl)
theorem dX5_part_1 : decode cX5_part 1 = .ok (.invokevirtual 114, 3) := dk_182 0 114 (dk_at dksX5_part_0 1 rfl rfl)
theorem dX5_part_4 : decode cX5_part 4 = .ok (.astore_n 1, 1) := dk_76 (dk_at dksX5_part_0 4 rfl rfl)
theorem dX5_part_5 : decode cX5_part 5 = .ok (.aload_n 0, 1) := dk_42 (dk_at dksX5_part_0 5 rfl rfl)
theorem dX5_part_6 : decode cX5_part 6 = .ok (.ldc 132, 2) := dk_18 132 (dk_at dksX5_part_0 6 rfl rfl)
theorem dX5_part_8 : decode cX5_part 8 = .ok (.invokevirtual 134, 3) := dk_182 0 134 (dk_at dksX5_part_0 8 rfl rfl)
theorem dX5_part_11 : decode cX5_part 11 = .ok (.ifCond .eq 20, 3) := dk_153 0 20 (dk_at dksX5_part_0 11 rfl rfl)
theorem dX5_part_14 : decode cX5_part 14 = .ok (.new 137, 3) := dk_187 0 137 (dk_at dksX5_part_0 14 rfl rfl)
theorem dX5_part_17 : decode cX5_part 17 = .ok (.dup, 1) := dk_89 (dk_at dksX5_part_0 17 rfl rfl)
theorem dX5_part_18 : decode cX5_part 18 = .ok (.aload_n 1, 1) := dk_43 (dk_at dksX5_part_0 18 rfl rfl)
theorem dX5_part_19 : decode cX5_part 19 = .ok (.aload_n 0, 1) := dk_42 (dk_at dksX5_part_0 19 rfl rfl)
theorem dX5_part_20 : decode cX5_part 20 = .ok (.invokevirtual 114, 3) := dk_182 0 114 (dk_at dksX5_part_0 20 rfl rfl)
theorem dX5_part_23 : decode cX5_part 23 = .ok (.iconst 0, 1) := dk_3 (dk_at dksX5_part_0 23 rfl rfl)
theorem dX5_part_24 : decode cX5_part 24 = .ok (.invokespecial 139, 3) := dk_183 0 139 (dk_at dksX5_part_1 0 rfl rfl)
theorem dX5_part_27 : decode cX5_part 27 = .ok (.astore_n 1, 1) := dk_76 (dk_at dksX5_part_1 3 rfl rfl)
theorem dX5_part_28 : decode cX5_part 28 = .ok (.goto (-23), 3) := dk_167 255 233 (dk_at dksX5_part_1 4 rfl rfl)
theorem dX5_part_31 : decode cX5_part 31 = .ok (.aload_n 1, 1) := dk_43 (dk_at dksX5_part_1 7 rfl rfl)
theorem dX5_part_32 : decode cX5_part 32 = .ok (.areturn, 1) := dk_176 (dk_at dksX5_part_1 8 rfl rfl)
abbrev cX5_fact : ByteArray := prog_10_method_13_code
def yX5_fact : MethodName := ⟨RX5, "fact", "()LEdgeWalk$Condition;"⟩
def dkwX5_fact_10 : List UInt8 := [182, 0, 124, 29, 21, 4, 183, 0, 129, 176]
abbrev dktX5_fact_10 : List UInt8 := dkwX5_fact_10 ++ []
def dkwX5_fact_9 : List UInt8 := [180, 0, 23, 21, 4, 153, 0, 7, 4, 167, 0, 4, 3, 96, 181, 0, 23, 187, 0, 127, 89, 44, 42]
abbrev dktX5_fact_9 : List UInt8 := dkwX5_fact_9 ++ dktX5_fact_10
def dkwX5_fact_8 : List UInt8 := [16, 61, 159, 0, 16, 42, 182, 0, 33, 16, 61, 160, 0, 7, 4, 167, 0, 4, 3, 54, 4, 42, 89]
abbrev dktX5_fact_8 : List UInt8 := dkwX5_fact_8 ++ dktX5_fact_9
def dkwX5_fact_7 : List UInt8 := [182, 0, 69, 191, 42, 42, 180, 0, 23, 182, 0, 89, 42, 89, 180, 0, 23, 4, 96, 181, 0, 23, 29]
abbrev dktX5_fact_7 : List UInt8 := dkwX5_fact_7 ++ dktX5_fact_8
def dkwX5_fact_6 : List UInt8 := [159, 0, 28, 29, 16, 61, 159, 0, 22, 29, 16, 62, 159, 0, 16, 42, 180, 0, 3, 3, 42, 180, 0, 23]
abbrev dktX5_fact_6 : List UInt8 := dkwX5_fact_6 ++ dktX5_fact_7
def dkwX5_fact_5 : List UInt8 := [89, 180, 0, 76, 4, 100, 181, 0, 76, 44, 176, 42, 182, 0, 124, 77, 42, 182, 0, 45, 62, 29, 16, 60]
abbrev dktX5_fact_5 : List UInt8 := dkwX5_fact_5 ++ dktX5_fact_6
def dkwX5_fact_4 : List UInt8 := [42, 180, 0, 3, 3, 42, 180, 0, 23, 182, 0, 69, 191, 42, 89, 180, 0, 23, 4, 96, 181, 0, 23, 42]
abbrev dktX5_fact_4 : List UInt8 := dkwX5_fact_4 ++ dktX5_fact_5
def dkwX5_fact_3 : List UInt8 := [42, 89, 180, 0, 23, 4, 96, 181, 0, 23, 42, 182, 0, 121, 77, 42, 182, 0, 45, 16, 93, 159, 0, 16]
abbrev dktX5_fact_3 : List UInt8 := dkwX5_fact_3 ++ dktX5_fact_4
def dkwX5_fact_2 : List UInt8 := [180, 0, 76, 4, 100, 181, 0, 76, 44, 176, 42, 182, 0, 33, 16, 91, 160, 0, 67, 42, 27, 182, 0, 109]
abbrev dktX5_fact_2 : List UInt8 := dkwX5_fact_2 ++ dktX5_fact_3
def dkwX5_fact_1 : List UInt8 := [42, 89, 180, 0, 23, 6, 96, 181, 0, 23, 187, 0, 112, 89, 42, 182, 0, 114, 183, 0, 118, 77, 42, 89]
abbrev dktX5_fact_1 : List UInt8 := dkwX5_fact_1 ++ dktX5_fact_2
def dkwX5_fact_0 : List UInt8 := [42, 182, 0, 45, 87, 42, 180, 0, 23, 60, 42, 18, 107, 182, 0, 61, 153, 0, 42, 42, 27, 182, 0, 109]
abbrev dktX5_fact_0 : List UInt8 := dkwX5_fact_0 ++ dktX5_fact_1
theorem dksX5_fact_0 : cX5_fact.data.toList.drop 0 = dktX5_fact_0 := by decide +kernel
theorem dksX5_fact_1 : cX5_fact.data.toList.drop 24 = dktX5_fact_1 := dk_seg dksX5_fact_0 24 rfl rfl
theorem dksX5_fact_2 : cX5_fact.data.toList.drop 48 = dktX5_fact_2 := dk_seg dksX5_fact_1 24 rfl rfl
theorem dksX5_fact_3 : cX5_fact.data.toList.drop 72 = dktX5_fact_3 := dk_seg dksX5_fact_2 24 rfl rfl
theorem dksX5_fact_4 : cX5_fact.data.toList.drop 96 = dktX5_fact_4 := dk_seg dksX5_fact_3 24 rfl rfl
theorem dksX5_fact_5 : cX5_fact.data.toList.drop 120 = dktX5_fact_5 := dk_seg dksX5_fact_4 24 rfl rfl
theorem dksX5_fact_6 : cX5_fact.data.toList.drop 144 = dktX5_fact_6 := dk_seg dksX5_fact_5 24 rfl rfl
theorem dksX5_fact_7 : cX5_fact.data.toList.drop 168 = dktX5_fact_7 := dk_seg dksX5_fact_6 24 rfl rfl
theorem dksX5_fact_8 : cX5_fact.data.toList.drop 191 = dktX5_fact_8 := dk_seg dksX5_fact_7 23 rfl rfl
theorem dksX5_fact_9 : cX5_fact.data.toList.drop 214 = dktX5_fact_9 := dk_seg dksX5_fact_8 23 rfl rfl
theorem dksX5_fact_10 : cX5_fact.data.toList.drop 237 = dktX5_fact_10 := dk_seg dksX5_fact_9 23 rfl rfl
theorem dX5_fact_0 : decode cX5_fact 0 = .ok (.aload_n 0, 1) := dk_42 (dk_at dksX5_fact_0 0 rfl rfl)
theorem dX5_fact_1 : decode cX5_fact 1 = .ok (.invokevirtual 45, 3) := dk_182 0 45 (dk_at dksX5_fact_0 1 rfl rfl)
theorem dX5_fact_4 : decode cX5_fact 4 = .ok (.pop, 1) := dk_87 (dk_at dksX5_fact_0 4 rfl rfl)
theorem dX5_fact_5 : decode cX5_fact 5 = .ok (.aload_n 0, 1) := dk_42 (dk_at dksX5_fact_0 5 rfl rfl)
theorem dX5_fact_6 : decode cX5_fact 6 = .ok (.getfield 23, 3) := dk_180 0 23 (dk_at dksX5_fact_0 6 rfl rfl)
theorem dX5_fact_9 : decode cX5_fact 9 = .ok (.istore_n 1, 1) := dk_60 (dk_at dksX5_fact_0 9 rfl rfl)
theorem dX5_fact_10 : decode cX5_fact 10 = .ok (.aload_n 0, 1) := dk_42 (dk_at dksX5_fact_0 10 rfl rfl)
theorem dX5_fact_11 : decode cX5_fact 11 = .ok (.ldc 107, 2) := dk_18 107 (dk_at dksX5_fact_0 11 rfl rfl)
theorem dX5_fact_13 : decode cX5_fact 13 = .ok (.invokevirtual 61, 3) := dk_182 0 61 (dk_at dksX5_fact_0 13 rfl rfl)
theorem dX5_fact_16 : decode cX5_fact 16 = .ok (.ifCond .eq 42, 3) := dk_153 0 42 (dk_at dksX5_fact_0 16 rfl rfl)
theorem dX5_fact_19 : decode cX5_fact 19 = .ok (.aload_n 0, 1) := dk_42 (dk_at dksX5_fact_0 19 rfl rfl)
theorem dX5_fact_20 : decode cX5_fact 20 = .ok (.iload_n 1, 1) := dk_27 (dk_at dksX5_fact_0 20 rfl rfl)
theorem dX5_fact_21 : decode cX5_fact 21 = .ok (.invokevirtual 109, 3) := dk_182 0 109 (dk_at dksX5_fact_0 21 rfl rfl)
theorem dX5_fact_24 : decode cX5_fact 24 = .ok (.aload_n 0, 1) := dk_42 (dk_at dksX5_fact_1 0 rfl rfl)
theorem dX5_fact_25 : decode cX5_fact 25 = .ok (.dup, 1) := dk_89 (dk_at dksX5_fact_1 1 rfl rfl)
theorem dX5_fact_26 : decode cX5_fact 26 = .ok (.getfield 23, 3) := dk_180 0 23 (dk_at dksX5_fact_1 2 rfl rfl)
theorem dX5_fact_29 : decode cX5_fact 29 = .ok (.iconst 3, 1) := dk_6 (dk_at dksX5_fact_1 5 rfl rfl)
theorem dX5_fact_30 : decode cX5_fact 30 = .ok (.iadd, 1) := dk_96 (dk_at dksX5_fact_1 6 rfl rfl)
theorem dX5_fact_31 : decode cX5_fact 31 = .ok (.putfield 23, 3) := dk_181 0 23 (dk_at dksX5_fact_1 7 rfl rfl)
theorem dX5_fact_34 : decode cX5_fact 34 = .ok (.new 112, 3) := dk_187 0 112 (dk_at dksX5_fact_1 10 rfl rfl)
theorem dX5_fact_37 : decode cX5_fact 37 = .ok (.dup, 1) := dk_89 (dk_at dksX5_fact_1 13 rfl rfl)
theorem dX5_fact_38 : decode cX5_fact 38 = .ok (.aload_n 0, 1) := dk_42 (dk_at dksX5_fact_1 14 rfl rfl)
theorem dX5_fact_39 : decode cX5_fact 39 = .ok (.invokevirtual 114, 3) := dk_182 0 114 (dk_at dksX5_fact_1 15 rfl rfl)
theorem dX5_fact_42 : decode cX5_fact 42 = .ok (.invokespecial 118, 3) := dk_183 0 118 (dk_at dksX5_fact_1 18 rfl rfl)
theorem dX5_fact_45 : decode cX5_fact 45 = .ok (.astore_n 2, 1) := dk_77 (dk_at dksX5_fact_1 21 rfl rfl)
theorem dX5_fact_46 : decode cX5_fact 46 = .ok (.aload_n 0, 1) := dk_42 (dk_at dksX5_fact_1 22 rfl rfl)
theorem dX5_fact_47 : decode cX5_fact 47 = .ok (.dup, 1) := dk_89 (dk_at dksX5_fact_1 23 rfl rfl)
theorem dX5_fact_48 : decode cX5_fact 48 = .ok (.getfield 76, 3) := dk_180 0 76 (dk_at dksX5_fact_2 0 rfl rfl)
theorem dX5_fact_51 : decode cX5_fact 51 = .ok (.iconst 1, 1) := dk_4 (dk_at dksX5_fact_2 3 rfl rfl)
theorem dX5_fact_52 : decode cX5_fact 52 = .ok (.isub, 1) := dk_100 (dk_at dksX5_fact_2 4 rfl rfl)
theorem dX5_fact_53 : decode cX5_fact 53 = .ok (.putfield 76, 3) := dk_181 0 76 (dk_at dksX5_fact_2 5 rfl rfl)
theorem dX5_fact_56 : decode cX5_fact 56 = .ok (.aload_n 2, 1) := dk_44 (dk_at dksX5_fact_2 8 rfl rfl)
theorem dX5_fact_57 : decode cX5_fact 57 = .ok (.areturn, 1) := dk_176 (dk_at dksX5_fact_2 9 rfl rfl)
theorem dX5_fact_58 : decode cX5_fact 58 = .ok (.aload_n 0, 1) := dk_42 (dk_at dksX5_fact_2 10 rfl rfl)
theorem dX5_fact_59 : decode cX5_fact 59 = .ok (.invokevirtual 33, 3) := dk_182 0 33 (dk_at dksX5_fact_2 11 rfl rfl)
theorem dX5_fact_62 : decode cX5_fact 62 = .ok (.bipush 91, 2) := dk_16 91 (dk_at dksX5_fact_2 14 rfl rfl)
theorem dX5_fact_64 : decode cX5_fact 64 = .ok (.if_icmp .ne 67, 3) := dk_160 0 67 (dk_at dksX5_fact_2 16 rfl rfl)
theorem dX5_fact_67 : decode cX5_fact 67 = .ok (.aload_n 0, 1) := dk_42 (dk_at dksX5_fact_2 19 rfl rfl)
theorem dX5_fact_68 : decode cX5_fact 68 = .ok (.iload_n 1, 1) := dk_27 (dk_at dksX5_fact_2 20 rfl rfl)
theorem dX5_fact_69 : decode cX5_fact 69 = .ok (.invokevirtual 109, 3) := dk_182 0 109 (dk_at dksX5_fact_2 21 rfl rfl)
theorem dX5_fact_72 : decode cX5_fact 72 = .ok (.aload_n 0, 1) := dk_42 (dk_at dksX5_fact_3 0 rfl rfl)
theorem dX5_fact_73 : decode cX5_fact 73 = .ok (.dup, 1) := dk_89 (dk_at dksX5_fact_3 1 rfl rfl)
theorem dX5_fact_74 : decode cX5_fact 74 = .ok (.getfield 23, 3) := dk_180 0 23 (dk_at dksX5_fact_3 2 rfl rfl)
theorem dX5_fact_77 : decode cX5_fact 77 = .ok (.iconst 1, 1) := dk_4 (dk_at dksX5_fact_3 5 rfl rfl)
theorem dX5_fact_78 : decode cX5_fact 78 = .ok (.iadd, 1) := dk_96 (dk_at dksX5_fact_3 6 rfl rfl)
theorem dX5_fact_79 : decode cX5_fact 79 = .ok (.putfield 23, 3) := dk_181 0 23 (dk_at dksX5_fact_3 7 rfl rfl)
theorem dX5_fact_82 : decode cX5_fact 82 = .ok (.aload_n 0, 1) := dk_42 (dk_at dksX5_fact_3 10 rfl rfl)
theorem dX5_fact_83 : decode cX5_fact 83 = .ok (.invokevirtual 121, 3) := dk_182 0 121 (dk_at dksX5_fact_3 11 rfl rfl)
theorem dX5_fact_86 : decode cX5_fact 86 = .ok (.astore_n 2, 1) := dk_77 (dk_at dksX5_fact_3 14 rfl rfl)
theorem dX5_fact_87 : decode cX5_fact 87 = .ok (.aload_n 0, 1) := dk_42 (dk_at dksX5_fact_3 15 rfl rfl)
theorem dX5_fact_88 : decode cX5_fact 88 = .ok (.invokevirtual 45, 3) := dk_182 0 45 (dk_at dksX5_fact_3 16 rfl rfl)
theorem dX5_fact_91 : decode cX5_fact 91 = .ok (.bipush 93, 2) := dk_16 93 (dk_at dksX5_fact_3 19 rfl rfl)
theorem dX5_fact_93 : decode cX5_fact 93 = .ok (.if_icmp .eq 16, 3) := dk_159 0 16 (dk_at dksX5_fact_3 21 rfl rfl)
theorem dX5_fact_96 : decode cX5_fact 96 = .ok (.aload_n 0, 1) := dk_42 (dk_at dksX5_fact_4 0 rfl rfl)
theorem dX5_fact_97 : decode cX5_fact 97 = .ok (.getfield 3, 3) := dk_180 0 3 (dk_at dksX5_fact_4 1 rfl rfl)
theorem dX5_fact_100 : decode cX5_fact 100 = .ok (.iconst 0, 1) := dk_3 (dk_at dksX5_fact_4 4 rfl rfl)
theorem dX5_fact_101 : decode cX5_fact 101 = .ok (.aload_n 0, 1) := dk_42 (dk_at dksX5_fact_4 5 rfl rfl)
theorem dX5_fact_102 : decode cX5_fact 102 = .ok (.getfield 23, 3) := dk_180 0 23 (dk_at dksX5_fact_4 6 rfl rfl)
theorem dX5_fact_105 : decode cX5_fact 105 = .ok (.invokevirtual 69, 3) := dk_182 0 69 (dk_at dksX5_fact_4 9 rfl rfl)
theorem dX5_fact_108 : decode cX5_fact 108 = .ok (.athrow, 1) := dk_191 (dk_at dksX5_fact_4 12 rfl rfl)
theorem dX5_fact_109 : decode cX5_fact 109 = .ok (.aload_n 0, 1) := dk_42 (dk_at dksX5_fact_4 13 rfl rfl)
theorem dX5_fact_110 : decode cX5_fact 110 = .ok (.dup, 1) := dk_89 (dk_at dksX5_fact_4 14 rfl rfl)
theorem dX5_fact_111 : decode cX5_fact 111 = .ok (.getfield 23, 3) := dk_180 0 23 (dk_at dksX5_fact_4 15 rfl rfl)
theorem dX5_fact_114 : decode cX5_fact 114 = .ok (.iconst 1, 1) := dk_4 (dk_at dksX5_fact_4 18 rfl rfl)
theorem dX5_fact_115 : decode cX5_fact 115 = .ok (.iadd, 1) := dk_96 (dk_at dksX5_fact_4 19 rfl rfl)
theorem dX5_fact_116 : decode cX5_fact 116 = .ok (.putfield 23, 3) := dk_181 0 23 (dk_at dksX5_fact_4 20 rfl rfl)
theorem dX5_fact_119 : decode cX5_fact 119 = .ok (.aload_n 0, 1) := dk_42 (dk_at dksX5_fact_4 23 rfl rfl)
theorem dX5_fact_120 : decode cX5_fact 120 = .ok (.dup, 1) := dk_89 (dk_at dksX5_fact_5 0 rfl rfl)
theorem dX5_fact_121 : decode cX5_fact 121 = .ok (.getfield 76, 3) := dk_180 0 76 (dk_at dksX5_fact_5 1 rfl rfl)
theorem dX5_fact_124 : decode cX5_fact 124 = .ok (.iconst 1, 1) := dk_4 (dk_at dksX5_fact_5 4 rfl rfl)
theorem dX5_fact_125 : decode cX5_fact 125 = .ok (.isub, 1) := dk_100 (dk_at dksX5_fact_5 5 rfl rfl)
theorem dX5_fact_126 : decode cX5_fact 126 = .ok (.putfield 76, 3) := dk_181 0 76 (dk_at dksX5_fact_5 6 rfl rfl)
theorem dX5_fact_129 : decode cX5_fact 129 = .ok (.aload_n 2, 1) := dk_44 (dk_at dksX5_fact_5 9 rfl rfl)
theorem dX5_fact_130 : decode cX5_fact 130 = .ok (.areturn, 1) := dk_176 (dk_at dksX5_fact_5 10 rfl rfl)
theorem dX5_fact_131 : decode cX5_fact 131 = .ok (.aload_n 0, 1) := dk_42 (dk_at dksX5_fact_5 11 rfl rfl)
theorem dX5_fact_132 : decode cX5_fact 132 = .ok (.invokevirtual 124, 3) := dk_182 0 124 (dk_at dksX5_fact_5 12 rfl rfl)
theorem dX5_fact_135 : decode cX5_fact 135 = .ok (.astore_n 2, 1) := dk_77 (dk_at dksX5_fact_5 15 rfl rfl)
theorem dX5_fact_136 : decode cX5_fact 136 = .ok (.aload_n 0, 1) := dk_42 (dk_at dksX5_fact_5 16 rfl rfl)
theorem dX5_fact_137 : decode cX5_fact 137 = .ok (.invokevirtual 45, 3) := dk_182 0 45 (dk_at dksX5_fact_5 17 rfl rfl)
theorem dX5_fact_140 : decode cX5_fact 140 = .ok (.istore_n 3, 1) := dk_62 (dk_at dksX5_fact_5 20 rfl rfl)
theorem dX5_fact_141 : decode cX5_fact 141 = .ok (.iload_n 3, 1) := dk_29 (dk_at dksX5_fact_5 21 rfl rfl)
theorem dX5_fact_142 : decode cX5_fact 142 = .ok (.bipush 60, 2) := dk_16 60 (dk_at dksX5_fact_5 22 rfl rfl)
theorem dX5_fact_144 : decode cX5_fact 144 = .ok (.if_icmp .eq 28, 3) := dk_159 0 28 (dk_at dksX5_fact_6 0 rfl rfl)
theorem dX5_fact_147 : decode cX5_fact 147 = .ok (.iload_n 3, 1) := dk_29 (dk_at dksX5_fact_6 3 rfl rfl)
theorem dX5_fact_148 : decode cX5_fact 148 = .ok (.bipush 61, 2) := dk_16 61 (dk_at dksX5_fact_6 4 rfl rfl)
theorem dX5_fact_150 : decode cX5_fact 150 = .ok (.if_icmp .eq 22, 3) := dk_159 0 22 (dk_at dksX5_fact_6 6 rfl rfl)
theorem dX5_fact_153 : decode cX5_fact 153 = .ok (.iload_n 3, 1) := dk_29 (dk_at dksX5_fact_6 9 rfl rfl)
theorem dX5_fact_154 : decode cX5_fact 154 = .ok (.bipush 62, 2) := dk_16 62 (dk_at dksX5_fact_6 10 rfl rfl)
theorem dX5_fact_156 : decode cX5_fact 156 = .ok (.if_icmp .eq 16, 3) := dk_159 0 16 (dk_at dksX5_fact_6 12 rfl rfl)
theorem dX5_fact_159 : decode cX5_fact 159 = .ok (.aload_n 0, 1) := dk_42 (dk_at dksX5_fact_6 15 rfl rfl)
theorem dX5_fact_160 : decode cX5_fact 160 = .ok (.getfield 3, 3) := dk_180 0 3 (dk_at dksX5_fact_6 16 rfl rfl)
theorem dX5_fact_163 : decode cX5_fact 163 = .ok (.iconst 0, 1) := dk_3 (dk_at dksX5_fact_6 19 rfl rfl)
theorem dX5_fact_164 : decode cX5_fact 164 = .ok (.aload_n 0, 1) := dk_42 (dk_at dksX5_fact_6 20 rfl rfl)
theorem dX5_fact_165 : decode cX5_fact 165 = .ok (.getfield 23, 3) := dk_180 0 23 (dk_at dksX5_fact_6 21 rfl rfl)
theorem dX5_fact_168 : decode cX5_fact 168 = .ok (.invokevirtual 69, 3) := dk_182 0 69 (dk_at dksX5_fact_7 0 rfl rfl)
theorem dX5_fact_171 : decode cX5_fact 171 = .ok (.athrow, 1) := dk_191 (dk_at dksX5_fact_7 3 rfl rfl)
theorem dX5_fact_172 : decode cX5_fact 172 = .ok (.aload_n 0, 1) := dk_42 (dk_at dksX5_fact_7 4 rfl rfl)
theorem dX5_fact_173 : decode cX5_fact 173 = .ok (.aload_n 0, 1) := dk_42 (dk_at dksX5_fact_7 5 rfl rfl)
theorem dX5_fact_174 : decode cX5_fact 174 = .ok (.getfield 23, 3) := dk_180 0 23 (dk_at dksX5_fact_7 6 rfl rfl)
theorem dX5_fact_177 : decode cX5_fact 177 = .ok (.invokevirtual 89, 3) := dk_182 0 89 (dk_at dksX5_fact_7 9 rfl rfl)
theorem dX5_fact_180 : decode cX5_fact 180 = .ok (.aload_n 0, 1) := dk_42 (dk_at dksX5_fact_7 12 rfl rfl)
theorem dX5_fact_181 : decode cX5_fact 181 = .ok (.dup, 1) := dk_89 (dk_at dksX5_fact_7 13 rfl rfl)
theorem dX5_fact_182 : decode cX5_fact 182 = .ok (.getfield 23, 3) := dk_180 0 23 (dk_at dksX5_fact_7 14 rfl rfl)
theorem dX5_fact_185 : decode cX5_fact 185 = .ok (.iconst 1, 1) := dk_4 (dk_at dksX5_fact_7 17 rfl rfl)
theorem dX5_fact_186 : decode cX5_fact 186 = .ok (.iadd, 1) := dk_96 (dk_at dksX5_fact_7 18 rfl rfl)
theorem dX5_fact_187 : decode cX5_fact 187 = .ok (.putfield 23, 3) := dk_181 0 23 (dk_at dksX5_fact_7 19 rfl rfl)
theorem dX5_fact_190 : decode cX5_fact 190 = .ok (.iload_n 3, 1) := dk_29 (dk_at dksX5_fact_7 22 rfl rfl)
theorem dX5_fact_191 : decode cX5_fact 191 = .ok (.bipush 61, 2) := dk_16 61 (dk_at dksX5_fact_8 0 rfl rfl)
theorem dX5_fact_193 : decode cX5_fact 193 = .ok (.if_icmp .eq 16, 3) := dk_159 0 16 (dk_at dksX5_fact_8 2 rfl rfl)
theorem dX5_fact_196 : decode cX5_fact 196 = .ok (.aload_n 0, 1) := dk_42 (dk_at dksX5_fact_8 5 rfl rfl)
theorem dX5_fact_197 : decode cX5_fact 197 = .ok (.invokevirtual 33, 3) := dk_182 0 33 (dk_at dksX5_fact_8 6 rfl rfl)
theorem dX5_fact_200 : decode cX5_fact 200 = .ok (.bipush 61, 2) := dk_16 61 (dk_at dksX5_fact_8 9 rfl rfl)
theorem dX5_fact_202 : decode cX5_fact 202 = .ok (.if_icmp .ne 7, 3) := dk_160 0 7 (dk_at dksX5_fact_8 11 rfl rfl)
theorem dX5_fact_205 : decode cX5_fact 205 = .ok (.iconst 1, 1) := dk_4 (dk_at dksX5_fact_8 14 rfl rfl)
theorem dX5_fact_206 : decode cX5_fact 206 = .ok (.goto 4, 3) := dk_167 0 4 (dk_at dksX5_fact_8 15 rfl rfl)
theorem dX5_fact_209 : decode cX5_fact 209 = .ok (.iconst 0, 1) := dk_3 (dk_at dksX5_fact_8 18 rfl rfl)
theorem dX5_fact_210 : decode cX5_fact 210 = .ok (.istore 4, 2) := dk_54 4 (dk_at dksX5_fact_8 19 rfl rfl)
theorem dX5_fact_212 : decode cX5_fact 212 = .ok (.aload_n 0, 1) := dk_42 (dk_at dksX5_fact_8 21 rfl rfl)
theorem dX5_fact_213 : decode cX5_fact 213 = .ok (.dup, 1) := dk_89 (dk_at dksX5_fact_8 22 rfl rfl)
theorem dX5_fact_214 : decode cX5_fact 214 = .ok (.getfield 23, 3) := dk_180 0 23 (dk_at dksX5_fact_9 0 rfl rfl)
theorem dX5_fact_217 : decode cX5_fact 217 = .ok (.iload 4, 2) := dk_21 4 (dk_at dksX5_fact_9 3 rfl rfl)
theorem dX5_fact_219 : decode cX5_fact 219 = .ok (.ifCond .eq 7, 3) := dk_153 0 7 (dk_at dksX5_fact_9 5 rfl rfl)
theorem dX5_fact_222 : decode cX5_fact 222 = .ok (.iconst 1, 1) := dk_4 (dk_at dksX5_fact_9 8 rfl rfl)
theorem dX5_fact_223 : decode cX5_fact 223 = .ok (.goto 4, 3) := dk_167 0 4 (dk_at dksX5_fact_9 9 rfl rfl)
theorem dX5_fact_226 : decode cX5_fact 226 = .ok (.iconst 0, 1) := dk_3 (dk_at dksX5_fact_9 12 rfl rfl)
theorem dX5_fact_227 : decode cX5_fact 227 = .ok (.iadd, 1) := dk_96 (dk_at dksX5_fact_9 13 rfl rfl)
theorem dX5_fact_228 : decode cX5_fact 228 = .ok (.putfield 23, 3) := dk_181 0 23 (dk_at dksX5_fact_9 14 rfl rfl)
theorem dX5_fact_231 : decode cX5_fact 231 = .ok (.new 127, 3) := dk_187 0 127 (dk_at dksX5_fact_9 17 rfl rfl)
theorem dX5_fact_234 : decode cX5_fact 234 = .ok (.dup, 1) := dk_89 (dk_at dksX5_fact_9 20 rfl rfl)
theorem dX5_fact_235 : decode cX5_fact 235 = .ok (.aload_n 2, 1) := dk_44 (dk_at dksX5_fact_9 21 rfl rfl)
theorem dX5_fact_236 : decode cX5_fact 236 = .ok (.aload_n 0, 1) := dk_42 (dk_at dksX5_fact_9 22 rfl rfl)
theorem dX5_fact_237 : decode cX5_fact 237 = .ok (.invokevirtual 124, 3) := dk_182 0 124 (dk_at dksX5_fact_10 0 rfl rfl)
theorem dX5_fact_240 : decode cX5_fact 240 = .ok (.iload_n 3, 1) := dk_29 (dk_at dksX5_fact_10 3 rfl rfl)
theorem dX5_fact_241 : decode cX5_fact 241 = .ok (.iload 4, 2) := dk_21 4 (dk_at dksX5_fact_10 4 rfl rfl)
theorem dX5_fact_243 : decode cX5_fact 243 = .ok (.invokespecial 129, 3) := dk_183 0 129 (dk_at dksX5_fact_10 6 rfl rfl)
theorem dX5_fact_246 : decode cX5_fact 246 = .ok (.areturn, 1) := dk_176 (dk_at dksX5_fact_10 9 rfl rfl)
abbrev cX5_goesDeeper : ByteArray := prog_10_method_9_code
def yX5_goesDeeper : MethodName := ⟨RX5, "goesDeeper", "(I)V"⟩
def dkwX5_goesDeeper_1 : List UInt8 := [4, 96, 181, 0, 76, 177]
abbrev dktX5_goesDeeper_1 : List UInt8 := dkwX5_goesDeeper_1 ++ []
def dkwX5_goesDeeper_0 : List UInt8 := [42, 180, 0, 76, 16, 10, 160, 0, 13, 42, 180, 0, 3, 5, 27, 182, 0, 69, 191, 42, 89, 180, 0, 76]
abbrev dktX5_goesDeeper_0 : List UInt8 := dkwX5_goesDeeper_0 ++ dktX5_goesDeeper_1
theorem dksX5_goesDeeper_0 : cX5_goesDeeper.data.toList.drop 0 = dktX5_goesDeeper_0 := by decide +kernel
theorem dksX5_goesDeeper_1 : cX5_goesDeeper.data.toList.drop 24 = dktX5_goesDeeper_1 := dk_seg dksX5_goesDeeper_0 24 rfl rfl
theorem dX5_goesDeeper_0 : decode cX5_goesDeeper 0 = .ok (.aload_n 0, 1) := dk_42 (dk_at dksX5_goesDeeper_0 0 rfl rfl)
theorem dX5_goesDeeper_1 : decode cX5_goesDeeper 1 = .ok (.getfield 76, 3) := dk_180 0 76 (dk_at dksX5_goesDeeper_0 1 rfl rfl)
theorem dX5_goesDeeper_4 : decode cX5_goesDeeper 4 = .ok (.bipush 10, 2) := dk_16 10 (dk_at dksX5_goesDeeper_0 4 rfl rfl)
theorem dX5_goesDeeper_6 : decode cX5_goesDeeper 6 = .ok (.if_icmp .ne 13, 3) := dk_160 0 13 (dk_at dksX5_goesDeeper_0 6 rfl rfl)
theorem dX5_goesDeeper_9 : decode cX5_goesDeeper 9 = .ok (.aload_n 0, 1) := dk_42 (dk_at dksX5_goesDeeper_0 9 rfl rfl)
theorem dX5_goesDeeper_10 : decode cX5_goesDeeper 10 = .ok (.getfield 3, 3) := dk_180 0 3 (dk_at dksX5_goesDeeper_0 10 rfl rfl)
theorem dX5_goesDeeper_13 : decode cX5_goesDeeper 13 = .ok (.iconst 2, 1) := dk_5 (dk_at dksX5_goesDeeper_0 13 rfl rfl)
theorem dX5_goesDeeper_14 : decode cX5_goesDeeper 14 = .ok (.iload_n 1, 1) := dk_27 (dk_at dksX5_goesDeeper_0 14 rfl rfl)
theorem dX5_goesDeeper_15 : decode cX5_goesDeeper 15 = .ok (.invokevirtual 69, 3) := dk_182 0 69 (dk_at dksX5_goesDeeper_0 15 rfl rfl)
theorem dX5_goesDeeper_18 : decode cX5_goesDeeper 18 = .ok (.athrow, 1) := dk_191 (dk_at dksX5_goesDeeper_0 18 rfl rfl)
theorem dX5_goesDeeper_19 : decode cX5_goesDeeper 19 = .ok (.aload_n 0, 1) := dk_42 (dk_at dksX5_goesDeeper_0 19 rfl rfl)
theorem dX5_goesDeeper_20 : decode cX5_goesDeeper 20 = .ok (.dup, 1) := dk_89 (dk_at dksX5_goesDeeper_0 20 rfl rfl)
theorem dX5_goesDeeper_21 : decode cX5_goesDeeper 21 = .ok (.getfield 76, 3) := dk_180 0 76 (dk_at dksX5_goesDeeper_0 21 rfl rfl)
theorem dX5_goesDeeper_24 : decode cX5_goesDeeper 24 = .ok (.iconst 1, 1) := dk_4 (dk_at dksX5_goesDeeper_1 0 rfl rfl)
theorem dX5_goesDeeper_25 : decode cX5_goesDeeper 25 = .ok (.iadd, 1) := dk_96 (dk_at dksX5_goesDeeper_1 1 rfl rfl)
theorem dX5_goesDeeper_26 : decode cX5_goesDeeper 26 = .ok (.putfield 76, 3) := dk_181 0 76 (dk_at dksX5_goesDeeper_1 2 rfl rfl)
theorem dX5_goesDeeper_29 : decode cX5_goesDeeper 29 = .ok (.return_, 1) := dk_177 (dk_at dksX5_goesDeeper_1 5 rfl rfl)
theorem q139 : (Jvm.Cond.initialized "EdgeWalk$Parser") ∈ lw_all := lw_g (lw_at lw_m1 11 rfl) rfl
theorem q208 : (Jvm.Cond.fieldLinkNest "EdgeWalk$Parser" (155 : Nat) "EdgeWalk$Sheet" "goers" "Ljava/util/ArrayList;" "EdgeWalk") ∈ lw_tbl := lw_at lw_m1 80 rfl
theorem q211 : (Jvm.Cond.fieldLinkNest "EdgeWalk$Parser" (174 : Nat) "EdgeWalk$Sheet" "leads" "[I" "EdgeWalk") ∈ lw_tbl := lw_at lw_m1 83 rfl
theorem q215 : (Jvm.Cond.fieldLinkNest "EdgeWalk$Parser" (170 : Nat) "EdgeWalk$Sheet" "days" "[I" "EdgeWalk") ∈ lw_tbl := lw_at lw_m1 87 rfl
theorem q218 : (Jvm.Cond.fieldLinkNest "EdgeWalk$Parser" (177 : Nat) "EdgeWalk$Sheet" "side" "I" "EdgeWalk") ∈ lw_tbl := lw_at lw_m1 90 rfl
theorem q220 : (Jvm.Cond.fieldLinkNest "EdgeWalk$Parser" (199 : Nat) "EdgeWalk$Sheet" "stones" "J" "EdgeWalk") ∈ lw_tbl := lw_at lw_m1 92 rfl
theorem q355 : (Jvm.Cond.fieldLinkNest "EdgeWalk$Parser" (228 : Nat) "EdgeWalk" "rules" "Ljava/util/ArrayList;" "EdgeWalk") ∈ lw_tbl := lw_at lw_m1 227 rfl
theorem q359 : (Jvm.Cond.fieldLinkNest "EdgeWalk$Parser" (29 : Nat) "EdgeWalk" "tape" "[B" "EdgeWalk") ∈ lw_tbl := lw_at lw_m1 231 rfl
theorem q361 : (Jvm.Cond.fieldLinkNest "EdgeWalk$Parser" (26 : Nat) "EdgeWalk" "taped" "I" "EdgeWalk") ∈ lw_tbl := lw_at lw_m1 233 rfl
theorem q456 : (Jvm.Cond.instantiable "EdgeWalk$Parser" (7 : Nat)) ∈ lw_all := lw_g (lw_at lw_m2 88 rfl) rfl
theorem q458 : (Jvm.Cond.instanceMethod ({ cls := "EdgeWalk$Parser", name := "<init>", desc := "(LEdgeWalk;[Ljava/lang/String;I)V" } : Jvm.MethodName)) ∈ lw_all := lw_g (lw_at lw_m2 90 rfl) rfl
theorem q459 : (Jvm.Cond.code ({ cls := "EdgeWalk$Parser", name := "<init>", desc := "(LEdgeWalk;[Ljava/lang/String;I)V" } : Jvm.MethodName) prog_10_method_1_code (4 : Nat) (Option.none : Option Jvm.ClassFile.FieldType)) ∈ lw_all := lw_g (lw_at lw_m2 91 rfl) rfl
theorem q460 : (Jvm.Cond.methodLink "EdgeWalk$Parser" (9 : Nat) ({ cls := "java/lang/Object", name := "<init>", desc := "()V" } : Jvm.MethodName)) ∈ lw_all := lw_g (lw_at lw_m2 92 rfl) rfl
theorem q461 : (Jvm.Cond.fieldLink "EdgeWalk$Parser" (15 : Nat) "EdgeWalk$Parser" "names" "[Ljava/lang/String;") ∈ lw_all := lw_g (lw_at lw_m2 93 rfl) rfl
theorem q462 : (Jvm.Cond.fieldLink "EdgeWalk$Parser" (23 : Nat) "EdgeWalk$Parser" "at" "I") ∈ lw_all := lw_g (lw_at lw_m2 94 rfl) rfl
theorem q463 : (Jvm.Cond.fieldLink "EdgeWalk$Parser" (76 : Nat) "EdgeWalk$Parser" "deep" "I") ∈ lw_all := lw_g (lw_at lw_m2 95 rfl) rfl
theorem q464 : (Jvm.Cond.fieldLink "EdgeWalk$Parser" (73 : Nat) "EdgeWalk$Parser" "counted" "I") ∈ lw_all := lw_g (lw_at lw_m2 96 rfl) rfl
theorem q465 : (Jvm.Cond.fieldLink "EdgeWalk$Parser" (147 : Nat) "EdgeWalk$Parser" "clauses" "I") ∈ lw_all := lw_g (lw_at lw_m2 97 rfl) rfl
theorem q466 : (Jvm.Cond.fieldLink "EdgeWalk$Parser" (19 : Nat) "EdgeWalk$Parser" "most" "I") ∈ lw_all := lw_g (lw_at lw_m2 98 rfl) rfl
theorem q467 : (Jvm.Cond.fieldLink "EdgeWalk$Parser" (3 : Nat) "EdgeWalk$Parser" "this$0" "LEdgeWalk;") ∈ lw_all := lw_g (lw_at lw_m2 99 rfl) rfl
theorem q468 : (Jvm.Cond.laysFinal "EdgeWalk$Parser" "EdgeWalk$Parser" "names" "[Ljava/lang/String;") ∈ lw_all := lw_g (lw_at lw_m2 100 rfl) rfl
theorem q469 : (Jvm.Cond.soleField "EdgeWalk$Parser" "names") ∈ lw_all := lw_g (lw_at lw_m2 101 rfl) rfl
theorem q470 : (Jvm.Cond.lays "EdgeWalk$Parser" "EdgeWalk$Parser" "at" "I") ∈ lw_all := lw_g (lw_at lw_m2 102 rfl) rfl
theorem q471 : (Jvm.Cond.soleField "EdgeWalk$Parser" "at") ∈ lw_all := lw_g (lw_at lw_m2 103 rfl) rfl
theorem q472 : (Jvm.Cond.lays "EdgeWalk$Parser" "EdgeWalk$Parser" "deep" "I") ∈ lw_all := lw_g (lw_at lw_m2 104 rfl) rfl
theorem q473 : (Jvm.Cond.soleField "EdgeWalk$Parser" "deep") ∈ lw_all := lw_g (lw_at lw_m2 105 rfl) rfl
theorem q474 : (Jvm.Cond.lays "EdgeWalk$Parser" "EdgeWalk$Parser" "counted" "I") ∈ lw_all := lw_g (lw_at lw_m2 106 rfl) rfl
theorem q475 : (Jvm.Cond.soleField "EdgeWalk$Parser" "counted") ∈ lw_all := lw_g (lw_at lw_m2 107 rfl) rfl
theorem q476 : (Jvm.Cond.lays "EdgeWalk$Parser" "EdgeWalk$Parser" "clauses" "I") ∈ lw_all := lw_g (lw_at lw_m2 108 rfl) rfl
theorem q477 : (Jvm.Cond.soleField "EdgeWalk$Parser" "clauses") ∈ lw_all := lw_g (lw_at lw_m2 109 rfl) rfl
theorem q478 : (Jvm.Cond.laysFinal "EdgeWalk$Parser" "EdgeWalk$Parser" "most" "I") ∈ lw_all := lw_g (lw_at lw_m2 110 rfl) rfl
theorem q479 : (Jvm.Cond.soleField "EdgeWalk$Parser" "most") ∈ lw_all := lw_g (lw_at lw_m2 111 rfl) rfl
theorem q480 : (Jvm.Cond.laysFinal "EdgeWalk$Parser" "EdgeWalk$Parser" "this$0" "LEdgeWalk;") ∈ lw_all := lw_g (lw_at lw_m2 112 rfl) rfl
theorem q481 : (Jvm.Cond.soleField "EdgeWalk$Parser" "this$0") ∈ lw_all := lw_g (lw_at lw_m2 113 rfl) rfl
theorem q482 : (Jvm.Cond.superclass "EdgeWalk$Parser" "java/lang/Object") ∈ lw_all := lw_g (lw_at lw_m2 114 rfl) rfl
theorem q484 : (Jvm.Cond.instanceMethod ({ cls := "EdgeWalk$Parser", name := "sheet", desc := "()LEdgeWalk$Sheet;" } : Jvm.MethodName)) ∈ lw_all := lw_g (lw_at lw_m2 116 rfl) rfl
theorem q485 : (Jvm.Cond.selects "EdgeWalk$Parser" ({ cls := "EdgeWalk$Parser", name := "sheet", desc := "()LEdgeWalk$Sheet;" } : Jvm.MethodName) ({ cls := "EdgeWalk$Parser", name := "sheet", desc := "()LEdgeWalk$Sheet;" } : Jvm.MethodName)) ∈ lw_all := lw_g (lw_at lw_m2 117 rfl) rfl
theorem q486 : (Jvm.Cond.code ({ cls := "EdgeWalk$Parser", name := "sheet", desc := "()LEdgeWalk$Sheet;" } : Jvm.MethodName) prog_10_method_22_code (2 : Nat) (Option.some (Jvm.ClassFile.FieldType.object "EdgeWalk$Sheet"))) ∈ lw_all := lw_g (lw_at lw_m2 118 rfl) rfl
theorem q487 : (Jvm.Cond.classLink "EdgeWalk$Parser" (151 : Nat) "EdgeWalk$Sheet") ∈ lw_all := lw_g (lw_at lw_m2 119 rfl) rfl
theorem q488 : (Jvm.Cond.methodLinkNest "EdgeWalk$Parser" (217 : Nat) ({ cls := "EdgeWalk$Sheet", name := "<init>", desc := "()V" } : Jvm.MethodName) "EdgeWalk") ∈ lw_tbl := lw_at lw_m2 120 rfl
theorem q489 : (Jvm.Cond.methodLink "EdgeWalk$Parser" (218 : Nat) ({ cls := "EdgeWalk$Parser", name := "clause", desc := "(LEdgeWalk$Sheet;)V" } : Jvm.MethodName)) ∈ lw_all := lw_g (lw_at lw_m2 121 rfl) rfl
theorem q490 : (Jvm.Cond.privateMethod ({ cls := "EdgeWalk$Parser", name := "clause", desc := "(LEdgeWalk$Sheet;)V" } : Jvm.MethodName)) ∈ lw_tbl := lw_at lw_m2 122 rfl
theorem q491 : (Jvm.Cond.instanceMethod ({ cls := "EdgeWalk$Parser", name := "clause", desc := "(LEdgeWalk$Sheet;)V" } : Jvm.MethodName)) ∈ lw_all := lw_g (lw_at lw_m2 123 rfl) rfl
theorem q492 : (Jvm.Cond.code ({ cls := "EdgeWalk$Parser", name := "clause", desc := "(LEdgeWalk$Sheet;)V" } : Jvm.MethodName) prog_10_method_19_code (3 : Nat) (Option.none : Option Jvm.ClassFile.FieldType)) ∈ lw_all := lw_g (lw_at lw_m2 124 rfl) rfl
theorem q493 : (Jvm.Cond.stringRef "EdgeWalk$Parser" (180 : Nat) "sheet") ∈ lw_tbl := lw_at lw_m2 125 rfl
theorem q494 : (Jvm.Cond.methodLink "EdgeWalk$Parser" (182 : Nat) ({ cls := "EdgeWalk$Parser", name := "begins", desc := "(Ljava/lang/String;Z)Z" } : Jvm.MethodName)) ∈ lw_all := lw_g (lw_at lw_m2 126 rfl) rfl
theorem q495 : (Jvm.Cond.privateMethod ({ cls := "EdgeWalk$Parser", name := "begins", desc := "(Ljava/lang/String;Z)Z" } : Jvm.MethodName)) ∈ lw_tbl := lw_at lw_m2 127 rfl
theorem q496 : (Jvm.Cond.instanceMethod ({ cls := "EdgeWalk$Parser", name := "begins", desc := "(Ljava/lang/String;Z)Z" } : Jvm.MethodName)) ∈ lw_all := lw_g (lw_at lw_m2 128 rfl) rfl
theorem q497 : (Jvm.Cond.code ({ cls := "EdgeWalk$Parser", name := "begins", desc := "(Ljava/lang/String;Z)Z" } : Jvm.MethodName) prog_10_method_16_code (3 : Nat) (Option.some Jvm.ClassFile.FieldType.boolean)) ∈ lw_all := lw_g (lw_at lw_m2 129 rfl) rfl
theorem q498 : (Jvm.Cond.methodLink "EdgeWalk$Parser" (61 : Nat) ({ cls := "EdgeWalk$Parser", name := "isWord", desc := "(Ljava/lang/String;)Z" } : Jvm.MethodName)) ∈ lw_all := lw_g (lw_at lw_m2 130 rfl) rfl
theorem q499 : (Jvm.Cond.privateMethod ({ cls := "EdgeWalk$Parser", name := "isWord", desc := "(Ljava/lang/String;)Z" } : Jvm.MethodName)) ∈ lw_tbl := lw_at lw_m2 131 rfl
theorem q500 : (Jvm.Cond.instanceMethod ({ cls := "EdgeWalk$Parser", name := "isWord", desc := "(Ljava/lang/String;)Z" } : Jvm.MethodName)) ∈ lw_all := lw_g (lw_at lw_m2 132 rfl) rfl
theorem q501 : (Jvm.Cond.code ({ cls := "EdgeWalk$Parser", name := "isWord", desc := "(Ljava/lang/String;)Z" } : Jvm.MethodName) prog_10_method_5_code (5 : Nat) (Option.some Jvm.ClassFile.FieldType.boolean)) ∈ lw_all := lw_g (lw_at lw_m2 133 rfl) rfl
theorem q502 : (Jvm.Cond.methodLink "EdgeWalk$Parser" (45 : Nat) ({ cls := "EdgeWalk$Parser", name := "next", desc := "()I" } : Jvm.MethodName)) ∈ lw_all := lw_g (lw_at lw_m2 134 rfl) rfl
theorem q503 : (Jvm.Cond.privateMethod ({ cls := "EdgeWalk$Parser", name := "next", desc := "()I" } : Jvm.MethodName)) ∈ lw_tbl := lw_at lw_m2 135 rfl
theorem q504 : (Jvm.Cond.instanceMethod ({ cls := "EdgeWalk$Parser", name := "next", desc := "()I" } : Jvm.MethodName)) ∈ lw_all := lw_g (lw_at lw_m2 136 rfl) rfl
theorem q505 : (Jvm.Cond.code ({ cls := "EdgeWalk$Parser", name := "next", desc := "()I" } : Jvm.MethodName) prog_10_method_3_code (1 : Nat) (Option.some Jvm.ClassFile.FieldType.int)) ∈ lw_all := lw_g (lw_at lw_m2 137 rfl) rfl
theorem q506 : (Jvm.Cond.methodLink "EdgeWalk$Parser" (33 : Nat) ({ cls := "EdgeWalk$Parser", name := "sign", desc := "()I" } : Jvm.MethodName)) ∈ lw_all := lw_g (lw_at lw_m2 138 rfl) rfl
theorem q507 : (Jvm.Cond.privateMethod ({ cls := "EdgeWalk$Parser", name := "sign", desc := "()I" } : Jvm.MethodName)) ∈ lw_tbl := lw_at lw_m2 139 rfl
theorem q508 : (Jvm.Cond.instanceMethod ({ cls := "EdgeWalk$Parser", name := "sign", desc := "()I" } : Jvm.MethodName)) ∈ lw_all := lw_g (lw_at lw_m2 140 rfl) rfl
theorem q509 : (Jvm.Cond.code ({ cls := "EdgeWalk$Parser", name := "sign", desc := "()I" } : Jvm.MethodName) prog_10_method_2_code (1 : Nat) (Option.some Jvm.ClassFile.FieldType.int)) ∈ lw_all := lw_g (lw_at lw_m2 141 rfl) rfl
theorem q510 : (Jvm.Cond.constantLong "EdgeWalk$Parser" (48 : Nat) (97 : Int64)) ∈ lw_all := lw_g (lw_at lw_m2 142 rfl) rfl
theorem q511 : (Jvm.Cond.constantLong "EdgeWalk$Parser" (50 : Nat) (122 : Int64)) ∈ lw_all := lw_g (lw_at lw_m2 143 rfl) rfl
theorem q512 : (Jvm.Cond.methodLinkNest "EdgeWalk$Parser" (41 : Nat) ({ cls := "EdgeWalk", name := "in", desc := "(JJJ)Z" } : Jvm.MethodName) "EdgeWalk") ∈ lw_tbl := lw_at lw_m2 144 rfl
theorem q515 : (Jvm.Cond.methodLink "EdgeWalk$Parser" (52 : Nat) ({ cls := "java/lang/String", name := "length", desc := "()I" } : Jvm.MethodName)) ∈ lw_all := lw_g (lw_at lw_m2 147 rfl) rfl
theorem q525 : (Jvm.Cond.methodLink "EdgeWalk$Parser" (57 : Nat) ({ cls := "java/lang/String", name := "charAt", desc := "(I)C" } : Jvm.MethodName)) ∈ lw_all := lw_g (lw_at lw_m2 157 rfl) rfl
theorem q563 : (Jvm.Cond.methodLinkNest "EdgeWalk$Parser" (69 : Nat) ({ cls := "EdgeWalk", name := "fails", desc := "(II)LEdgeWalk$Wrong;" } : Jvm.MethodName) "EdgeWalk") ∈ lw_tbl := lw_at lw_m2 195 rfl
theorem q567 : (Jvm.Cond.methodLink "EdgeWalk$Parser" (82 : Nat) ({ cls := "EdgeWalk$Parser", name := "number", desc := "(II)I" } : Jvm.MethodName)) ∈ lw_all := lw_g (lw_at lw_m2 199 rfl) rfl
theorem q568 : (Jvm.Cond.privateMethod ({ cls := "EdgeWalk$Parser", name := "number", desc := "(II)I" } : Jvm.MethodName)) ∈ lw_tbl := lw_at lw_m2 200 rfl
theorem q569 : (Jvm.Cond.instanceMethod ({ cls := "EdgeWalk$Parser", name := "number", desc := "(II)I" } : Jvm.MethodName)) ∈ lw_all := lw_g (lw_at lw_m2 201 rfl) rfl
theorem q570 : (Jvm.Cond.code ({ cls := "EdgeWalk$Parser", name := "number", desc := "(II)I" } : Jvm.MethodName) prog_10_method_7_code (5 : Nat) (Option.some Jvm.ClassFile.FieldType.int)) ∈ lw_all := lw_g (lw_at lw_m2 202 rfl) rfl
theorem q571 : (Jvm.Cond.methodLink "EdgeWalk$Parser" (65 : Nat) ({ cls := "EdgeWalk$Parser", name := "isDigit", desc := "()Z" } : Jvm.MethodName)) ∈ lw_all := lw_g (lw_at lw_m2 203 rfl) rfl
theorem q572 : (Jvm.Cond.privateMethod ({ cls := "EdgeWalk$Parser", name := "isDigit", desc := "()Z" } : Jvm.MethodName)) ∈ lw_tbl := lw_at lw_m2 204 rfl
theorem q573 : (Jvm.Cond.instanceMethod ({ cls := "EdgeWalk$Parser", name := "isDigit", desc := "()Z" } : Jvm.MethodName)) ∈ lw_all := lw_g (lw_at lw_m2 205 rfl) rfl
theorem q574 : (Jvm.Cond.code ({ cls := "EdgeWalk$Parser", name := "isDigit", desc := "()Z" } : Jvm.MethodName) prog_10_method_4_code (1 : Nat) (Option.some Jvm.ClassFile.FieldType.boolean)) ∈ lw_all := lw_g (lw_at lw_m2 206 rfl) rfl
theorem q575 : (Jvm.Cond.constantLong "EdgeWalk$Parser" (37 : Nat) (48 : Int64)) ∈ lw_all := lw_g (lw_at lw_m2 207 rfl) rfl
theorem q576 : (Jvm.Cond.constantLong "EdgeWalk$Parser" (39 : Nat) (57 : Int64)) ∈ lw_all := lw_g (lw_at lw_m2 208 rfl) rfl
theorem q577 : (Jvm.Cond.stringRef "EdgeWalk$Parser" (186 : Nat) "goer") ∈ lw_tbl := lw_at lw_m2 209 rfl
theorem q578 : (Jvm.Cond.methodLink "EdgeWalk$Parser" (188 : Nat) ({ cls := "EdgeWalk$Sheet", name := "goers", desc := "()I" } : Jvm.MethodName)) ∈ lw_all := lw_g (lw_at lw_m2 210 rfl) rfl
theorem q586 : (Jvm.Cond.methodLink "EdgeWalk$Parser" (190 : Nat) ({ cls := "EdgeWalk$Parser", name := "goer", desc := "(LEdgeWalk$Sheet;)V" } : Jvm.MethodName)) ∈ lw_all := lw_g (lw_at lw_m2 218 rfl) rfl
theorem q587 : (Jvm.Cond.privateMethod ({ cls := "EdgeWalk$Parser", name := "goer", desc := "(LEdgeWalk$Sheet;)V" } : Jvm.MethodName)) ∈ lw_tbl := lw_at lw_m2 219 rfl
theorem q588 : (Jvm.Cond.instanceMethod ({ cls := "EdgeWalk$Parser", name := "goer", desc := "(LEdgeWalk$Sheet;)V" } : Jvm.MethodName)) ∈ lw_all := lw_g (lw_at lw_m2 220 rfl) rfl
theorem q589 : (Jvm.Cond.code ({ cls := "EdgeWalk$Parser", name := "goer", desc := "(LEdgeWalk$Sheet;)V" } : Jvm.MethodName) prog_10_method_17_code (4 : Nat) (Option.none : Option Jvm.ClassFile.FieldType)) ∈ lw_all := lw_g (lw_at lw_m2 221 rfl) rfl
theorem q590 : (Jvm.Cond.methodLink "EdgeWalk$Parser" (150 : Nat) ({ cls := "EdgeWalk$Sheet", name := "cells", desc := "()I" } : Jvm.MethodName)) ∈ lw_all := lw_g (lw_at lw_m2 222 rfl) rfl
theorem q594 : (Jvm.Cond.classLink "EdgeWalk$Parser" (159 : Nat) "EdgeWalk$Goer") ∈ lw_all := lw_g (lw_at lw_m2 226 rfl) rfl
theorem q596 : (Jvm.Cond.methodLinkNest "EdgeWalk$Parser" (161 : Nat) ({ cls := "EdgeWalk$Goer", name := "<init>", desc := "(III)V" } : Jvm.MethodName) "EdgeWalk") ∈ lw_tbl := lw_at lw_m2 228 rfl
theorem q616 : (Jvm.Cond.methodLink "EdgeWalk$Parser" (164 : Nat) ({ cls := "java/util/ArrayList", name := "add", desc := "(Ljava/lang/Object;)Z" } : Jvm.MethodName)) ∈ lw_all := lw_g (lw_at lw_m3 8 rfl) rfl
theorem q658 : (Jvm.Cond.selects "EdgeWalk$Parser" ({ cls := "java/lang/Object", name := "getClass", desc := "()Ljava/lang/Class;" } : Jvm.MethodName) ({ cls := "java/lang/Object", name := "getClass", desc := "()Ljava/lang/Class;" } : Jvm.MethodName)) ∈ lw_all := lw_g (lw_at lw_m3 50 rfl) rfl
theorem q680 : (Jvm.Cond.stringRef "EdgeWalk$Parser" (193 : Nat) "join") ∈ lw_tbl := lw_at lw_m3 72 rfl
theorem q681 : (Jvm.Cond.methodLink "EdgeWalk$Parser" (195 : Nat) ({ cls := "EdgeWalk$Parser", name := "join", desc := "(LEdgeWalk$Sheet;)V" } : Jvm.MethodName)) ∈ lw_all := lw_g (lw_at lw_m3 73 rfl) rfl
theorem q682 : (Jvm.Cond.privateMethod ({ cls := "EdgeWalk$Parser", name := "join", desc := "(LEdgeWalk$Sheet;)V" } : Jvm.MethodName)) ∈ lw_tbl := lw_at lw_m3 74 rfl
theorem q683 : (Jvm.Cond.instanceMethod ({ cls := "EdgeWalk$Parser", name := "join", desc := "(LEdgeWalk$Sheet;)V" } : Jvm.MethodName)) ∈ lw_all := lw_g (lw_at lw_m3 75 rfl) rfl
theorem q684 : (Jvm.Cond.code ({ cls := "EdgeWalk$Parser", name := "join", desc := "(LEdgeWalk$Sheet;)V" } : Jvm.MethodName) prog_10_method_18_code (4 : Nat) (Option.none : Option Jvm.ClassFile.FieldType)) ∈ lw_all := lw_g (lw_at lw_m3 76 rfl) rfl
theorem q685 : (Jvm.Cond.stringRef "EdgeWalk$Parser" (197 : Nat) "stone") ∈ lw_tbl := lw_at lw_m3 77 rfl
theorem q686 : (Jvm.Cond.methodLink "EdgeWalk$Parser" (221 : Nat) ({ cls := "EdgeWalk$Parser", name := "goesOn", desc := "()Z" } : Jvm.MethodName)) ∈ lw_all := lw_g (lw_at lw_m3 78 rfl) rfl
theorem q687 : (Jvm.Cond.privateMethod ({ cls := "EdgeWalk$Parser", name := "goesOn", desc := "()Z" } : Jvm.MethodName)) ∈ lw_tbl := lw_at lw_m3 79 rfl
theorem q688 : (Jvm.Cond.instanceMethod ({ cls := "EdgeWalk$Parser", name := "goesOn", desc := "()Z" } : Jvm.MethodName)) ∈ lw_all := lw_g (lw_at lw_m3 80 rfl) rfl
theorem q689 : (Jvm.Cond.code ({ cls := "EdgeWalk$Parser", name := "goesOn", desc := "()Z" } : Jvm.MethodName) prog_10_method_21_code (2 : Nat) (Option.some Jvm.ClassFile.FieldType.boolean)) ∈ lw_all := lw_g (lw_at lw_m3 81 rfl) rfl
theorem q715 : (Jvm.Cond.instanceMethod ({ cls := "EdgeWalk$Parser", name := "rule", desc := "()I" } : Jvm.MethodName)) ∈ lw_all := lw_g (lw_at lw_m3 107 rfl) rfl
theorem q716 : (Jvm.Cond.selects "EdgeWalk$Parser" ({ cls := "EdgeWalk$Parser", name := "rule", desc := "()I" } : Jvm.MethodName) ({ cls := "EdgeWalk$Parser", name := "rule", desc := "()I" } : Jvm.MethodName)) ∈ lw_all := lw_g (lw_at lw_m3 108 rfl) rfl
theorem q717 : (Jvm.Cond.code ({ cls := "EdgeWalk$Parser", name := "rule", desc := "()I" } : Jvm.MethodName) prog_10_method_23_code (2 : Nat) (Option.some Jvm.ClassFile.FieldType.int)) ∈ lw_all := lw_g (lw_at lw_m3 109 rfl) rfl
theorem q718 : (Jvm.Cond.classLink "EdgeWalk$Parser" (206 : Nat) "EdgeWalk$Rule") ∈ lw_all := lw_g (lw_at lw_m3 110 rfl) rfl
theorem q720 : (Jvm.Cond.methodLinkNest "EdgeWalk$Parser" (224 : Nat) ({ cls := "EdgeWalk$Rule", name := "<init>", desc := "()V" } : Jvm.MethodName) "EdgeWalk") ∈ lw_tbl := lw_at lw_m3 112 rfl
theorem q727 : (Jvm.Cond.fieldLinkNest "EdgeWalk$Parser" (205 : Nat) "EdgeWalk$Rule" "all" "Ljava/util/ArrayList;" "EdgeWalk") ∈ lw_tbl := lw_at lw_m3 119 rfl
theorem q731 : (Jvm.Cond.methodLink "EdgeWalk$Parser" (225 : Nat) ({ cls := "EdgeWalk$Parser", name := "clause", desc := "(LEdgeWalk$Rule;)V" } : Jvm.MethodName)) ∈ lw_all := lw_g (lw_at lw_m3 123 rfl) rfl
theorem q732 : (Jvm.Cond.privateMethod ({ cls := "EdgeWalk$Parser", name := "clause", desc := "(LEdgeWalk$Rule;)V" } : Jvm.MethodName)) ∈ lw_tbl := lw_at lw_m3 124 rfl
theorem q733 : (Jvm.Cond.instanceMethod ({ cls := "EdgeWalk$Parser", name := "clause", desc := "(LEdgeWalk$Rule;)V" } : Jvm.MethodName)) ∈ lw_all := lw_g (lw_at lw_m3 125 rfl) rfl
theorem q734 : (Jvm.Cond.code ({ cls := "EdgeWalk$Parser", name := "clause", desc := "(LEdgeWalk$Rule;)V" } : Jvm.MethodName) prog_10_method_20_code (3 : Nat) (Option.none : Option Jvm.ClassFile.FieldType)) ∈ lw_all := lw_g (lw_at lw_m3 126 rfl) rfl
theorem q735 : (Jvm.Cond.stringRef "EdgeWalk$Parser" (203 : Nat) "turn") ∈ lw_tbl := lw_at lw_m3 127 rfl
theorem q736 : (Jvm.Cond.methodLink "EdgeWalk$Parser" (124 : Nat) ({ cls := "EdgeWalk$Parser", name := "sum", desc := "()LEdgeWalk$Value;" } : Jvm.MethodName)) ∈ lw_all := lw_g (lw_at lw_m3 128 rfl) rfl
theorem q737 : (Jvm.Cond.privateMethod ({ cls := "EdgeWalk$Parser", name := "sum", desc := "()LEdgeWalk$Value;" } : Jvm.MethodName)) ∈ lw_tbl := lw_at lw_m3 129 rfl
theorem q738 : (Jvm.Cond.instanceMethod ({ cls := "EdgeWalk$Parser", name := "sum", desc := "()LEdgeWalk$Value;" } : Jvm.MethodName)) ∈ lw_all := lw_g (lw_at lw_m3 130 rfl) rfl
theorem q739 : (Jvm.Cond.code ({ cls := "EdgeWalk$Parser", name := "sum", desc := "()LEdgeWalk$Value;" } : Jvm.MethodName) prog_10_method_12_code (3 : Nat) (Option.some (Jvm.ClassFile.FieldType.object "EdgeWalk$Value"))) ∈ lw_all := lw_g (lw_at lw_m3 131 rfl) rfl
theorem q740 : (Jvm.Cond.methodLink "EdgeWalk$Parser" (104 : Nat) ({ cls := "EdgeWalk$Parser", name := "term", desc := "()LEdgeWalk$Value;" } : Jvm.MethodName)) ∈ lw_all := lw_g (lw_at lw_m3 132 rfl) rfl
theorem q741 : (Jvm.Cond.privateMethod ({ cls := "EdgeWalk$Parser", name := "term", desc := "()LEdgeWalk$Value;" } : Jvm.MethodName)) ∈ lw_tbl := lw_at lw_m3 133 rfl
theorem q742 : (Jvm.Cond.instanceMethod ({ cls := "EdgeWalk$Parser", name := "term", desc := "()LEdgeWalk$Value;" } : Jvm.MethodName)) ∈ lw_all := lw_g (lw_at lw_m3 134 rfl) rfl
theorem q743 : (Jvm.Cond.code ({ cls := "EdgeWalk$Parser", name := "term", desc := "()LEdgeWalk$Value;" } : Jvm.MethodName) prog_10_method_11_code (3 : Nat) (Option.some (Jvm.ClassFile.FieldType.object "EdgeWalk$Value"))) ∈ lw_all := lw_g (lw_at lw_m3 135 rfl) rfl
theorem q744 : (Jvm.Cond.methodLink "EdgeWalk$Parser" (95 : Nat) ({ cls := "EdgeWalk$Parser", name := "value", desc := "()LEdgeWalk$Value;" } : Jvm.MethodName)) ∈ lw_all := lw_g (lw_at lw_m3 136 rfl) rfl
theorem q745 : (Jvm.Cond.privateMethod ({ cls := "EdgeWalk$Parser", name := "value", desc := "()LEdgeWalk$Value;" } : Jvm.MethodName)) ∈ lw_tbl := lw_at lw_m3 137 rfl
theorem q746 : (Jvm.Cond.instanceMethod ({ cls := "EdgeWalk$Parser", name := "value", desc := "()LEdgeWalk$Value;" } : Jvm.MethodName)) ∈ lw_all := lw_g (lw_at lw_m3 138 rfl) rfl
theorem q747 : (Jvm.Cond.code ({ cls := "EdgeWalk$Parser", name := "value", desc := "()LEdgeWalk$Value;" } : Jvm.MethodName) prog_10_method_10_code (3 : Nat) (Option.some (Jvm.ClassFile.FieldType.object "EdgeWalk$Value"))) ∈ lw_all := lw_g (lw_at lw_m3 139 rfl) rfl
theorem q748 : (Jvm.Cond.classLink "EdgeWalk$Parser" (79 : Nat) "EdgeWalk$Plain") ∈ lw_all := lw_g (lw_at lw_m3 140 rfl) rfl
theorem q750 : (Jvm.Cond.constant "EdgeWalk$Parser" (81 : Nat) (99999 : Int32)) ∈ lw_all := lw_g (lw_at lw_m3 142 rfl) rfl
theorem q751 : (Jvm.Cond.methodLink "EdgeWalk$Parser" (86 : Nat) ({ cls := "EdgeWalk$Plain", name := "<init>", desc := "(I)V" } : Jvm.MethodName)) ∈ lw_all := lw_g (lw_at lw_m3 143 rfl) rfl
theorem q762 : (Jvm.Cond.methodLink "EdgeWalk$Parser" (89 : Nat) ({ cls := "EdgeWalk$Parser", name := "counts", desc := "(I)V" } : Jvm.MethodName)) ∈ lw_all := lw_g (lw_at lw_m3 154 rfl) rfl
theorem q763 : (Jvm.Cond.privateMethod ({ cls := "EdgeWalk$Parser", name := "counts", desc := "(I)V" } : Jvm.MethodName)) ∈ lw_tbl := lw_at lw_m3 155 rfl
theorem q764 : (Jvm.Cond.instanceMethod ({ cls := "EdgeWalk$Parser", name := "counts", desc := "(I)V" } : Jvm.MethodName)) ∈ lw_all := lw_g (lw_at lw_m3 156 rfl) rfl
theorem q765 : (Jvm.Cond.code ({ cls := "EdgeWalk$Parser", name := "counts", desc := "(I)V" } : Jvm.MethodName) prog_10_method_8_code (2 : Nat) (Option.none : Option Jvm.ClassFile.FieldType)) ∈ lw_all := lw_g (lw_at lw_m3 157 rfl) rfl
theorem q766 : (Jvm.Cond.classLink "EdgeWalk$Parser" (92 : Nat) "EdgeWalk$Asked") ∈ lw_all := lw_g (lw_at lw_m3 158 rfl) rfl
theorem q768 : (Jvm.Cond.methodLink "EdgeWalk$Parser" (94 : Nat) ({ cls := "EdgeWalk$Asked", name := "<init>", desc := "(I)V" } : Jvm.MethodName)) ∈ lw_all := lw_g (lw_at lw_m3 160 rfl) rfl
theorem q776 : (Jvm.Cond.classLink "EdgeWalk$Parser" (99 : Nat) "EdgeWalk$Joined") ∈ lw_all := lw_g (lw_at lw_m3 168 rfl) rfl
theorem q778 : (Jvm.Cond.methodLink "EdgeWalk$Parser" (101 : Nat) ({ cls := "EdgeWalk$Joined", name := "<init>", desc := "(LEdgeWalk$Value;LEdgeWalk$Value;I)V" } : Jvm.MethodName)) ∈ lw_all := lw_g (lw_at lw_m3 170 rfl) rfl
theorem q792 : (Jvm.Cond.classLink "EdgeWalk$Parser" (210 : Nat) "EdgeWalk$Told") ∈ lw_all := lw_g (lw_at lw_m3 184 rfl) rfl
theorem q794 : (Jvm.Cond.stringRef "EdgeWalk$Parser" (212 : Nat) "if") ∈ lw_tbl := lw_at lw_m3 186 rfl
theorem q795 : (Jvm.Cond.methodLink "EdgeWalk$Parser" (134 : Nat) ({ cls := "EdgeWalk$Parser", name := "takes", desc := "(Ljava/lang/String;)Z" } : Jvm.MethodName)) ∈ lw_all := lw_g (lw_at lw_m3 187 rfl) rfl
theorem q796 : (Jvm.Cond.privateMethod ({ cls := "EdgeWalk$Parser", name := "takes", desc := "(Ljava/lang/String;)Z" } : Jvm.MethodName)) ∈ lw_tbl := lw_at lw_m3 188 rfl
theorem q797 : (Jvm.Cond.instanceMethod ({ cls := "EdgeWalk$Parser", name := "takes", desc := "(Ljava/lang/String;)Z" } : Jvm.MethodName)) ∈ lw_all := lw_g (lw_at lw_m3 189 rfl) rfl
theorem q798 : (Jvm.Cond.code ({ cls := "EdgeWalk$Parser", name := "takes", desc := "(Ljava/lang/String;)Z" } : Jvm.MethodName) prog_10_method_6_code (3 : Nat) (Option.some Jvm.ClassFile.FieldType.boolean)) ∈ lw_all := lw_g (lw_at lw_m3 190 rfl) rfl
theorem q799 : (Jvm.Cond.methodLink "EdgeWalk$Parser" (121 : Nat) ({ cls := "EdgeWalk$Parser", name := "test", desc := "()LEdgeWalk$Condition;" } : Jvm.MethodName)) ∈ lw_all := lw_g (lw_at lw_m3 191 rfl) rfl
theorem q800 : (Jvm.Cond.privateMethod ({ cls := "EdgeWalk$Parser", name := "test", desc := "()LEdgeWalk$Condition;" } : Jvm.MethodName)) ∈ lw_tbl := lw_at lw_m3 192 rfl
theorem q801 : (Jvm.Cond.instanceMethod ({ cls := "EdgeWalk$Parser", name := "test", desc := "()LEdgeWalk$Condition;" } : Jvm.MethodName)) ∈ lw_all := lw_g (lw_at lw_m3 193 rfl) rfl
theorem q802 : (Jvm.Cond.code ({ cls := "EdgeWalk$Parser", name := "test", desc := "()LEdgeWalk$Condition;" } : Jvm.MethodName) prog_10_method_15_code (2 : Nat) (Option.some (Jvm.ClassFile.FieldType.object "EdgeWalk$Condition"))) ∈ lw_all := lw_g (lw_at lw_m3 194 rfl) rfl
theorem q803 : (Jvm.Cond.methodLink "EdgeWalk$Parser" (142 : Nat) ({ cls := "EdgeWalk$Parser", name := "part", desc := "()LEdgeWalk$Condition;" } : Jvm.MethodName)) ∈ lw_all := lw_g (lw_at lw_m3 195 rfl) rfl
theorem q804 : (Jvm.Cond.privateMethod ({ cls := "EdgeWalk$Parser", name := "part", desc := "()LEdgeWalk$Condition;" } : Jvm.MethodName)) ∈ lw_tbl := lw_at lw_m3 196 rfl
theorem q805 : (Jvm.Cond.instanceMethod ({ cls := "EdgeWalk$Parser", name := "part", desc := "()LEdgeWalk$Condition;" } : Jvm.MethodName)) ∈ lw_all := lw_g (lw_at lw_m3 197 rfl) rfl
theorem q806 : (Jvm.Cond.code ({ cls := "EdgeWalk$Parser", name := "part", desc := "()LEdgeWalk$Condition;" } : Jvm.MethodName) prog_10_method_14_code (2 : Nat) (Option.some (Jvm.ClassFile.FieldType.object "EdgeWalk$Condition"))) ∈ lw_all := lw_g (lw_at lw_m3 198 rfl) rfl
theorem q807 : (Jvm.Cond.methodLink "EdgeWalk$Parser" (114 : Nat) ({ cls := "EdgeWalk$Parser", name := "fact", desc := "()LEdgeWalk$Condition;" } : Jvm.MethodName)) ∈ lw_all := lw_g (lw_at lw_m3 199 rfl) rfl
theorem q808 : (Jvm.Cond.privateMethod ({ cls := "EdgeWalk$Parser", name := "fact", desc := "()LEdgeWalk$Condition;" } : Jvm.MethodName)) ∈ lw_tbl := lw_at lw_m3 200 rfl
theorem q809 : (Jvm.Cond.instanceMethod ({ cls := "EdgeWalk$Parser", name := "fact", desc := "()LEdgeWalk$Condition;" } : Jvm.MethodName)) ∈ lw_all := lw_g (lw_at lw_m3 201 rfl) rfl
theorem q810 : (Jvm.Cond.code ({ cls := "EdgeWalk$Parser", name := "fact", desc := "()LEdgeWalk$Condition;" } : Jvm.MethodName) prog_10_method_13_code (5 : Nat) (Option.some (Jvm.ClassFile.FieldType.object "EdgeWalk$Condition"))) ∈ lw_all := lw_g (lw_at lw_m3 202 rfl) rfl
theorem q811 : (Jvm.Cond.stringRef "EdgeWalk$Parser" (107 : Nat) "not") ∈ lw_tbl := lw_at lw_m3 203 rfl
theorem q812 : (Jvm.Cond.methodLink "EdgeWalk$Parser" (109 : Nat) ({ cls := "EdgeWalk$Parser", name := "goesDeeper", desc := "(I)V" } : Jvm.MethodName)) ∈ lw_all := lw_g (lw_at lw_m3 204 rfl) rfl
theorem q813 : (Jvm.Cond.privateMethod ({ cls := "EdgeWalk$Parser", name := "goesDeeper", desc := "(I)V" } : Jvm.MethodName)) ∈ lw_tbl := lw_at lw_m3 205 rfl
theorem q814 : (Jvm.Cond.instanceMethod ({ cls := "EdgeWalk$Parser", name := "goesDeeper", desc := "(I)V" } : Jvm.MethodName)) ∈ lw_all := lw_g (lw_at lw_m3 206 rfl) rfl
theorem q815 : (Jvm.Cond.code ({ cls := "EdgeWalk$Parser", name := "goesDeeper", desc := "(I)V" } : Jvm.MethodName) prog_10_method_9_code (2 : Nat) (Option.none : Option Jvm.ClassFile.FieldType)) ∈ lw_all := lw_g (lw_at lw_m3 207 rfl) rfl
theorem q816 : (Jvm.Cond.classLink "EdgeWalk$Parser" (112 : Nat) "EdgeWalk$Not") ∈ lw_all := lw_g (lw_at lw_m3 208 rfl) rfl
theorem q818 : (Jvm.Cond.methodLink "EdgeWalk$Parser" (118 : Nat) ({ cls := "EdgeWalk$Not", name := "<init>", desc := "(LEdgeWalk$Condition;)V" } : Jvm.MethodName)) ∈ lw_all := lw_g (lw_at lw_m3 210 rfl) rfl
theorem q829 : (Jvm.Cond.classLink "EdgeWalk$Parser" (127 : Nat) "EdgeWalk$Compared") ∈ lw_all := lw_g (lw_at lw_m3 221 rfl) rfl
theorem q831 : (Jvm.Cond.methodLink "EdgeWalk$Parser" (129 : Nat) ({ cls := "EdgeWalk$Compared", name := "<init>", desc := "(LEdgeWalk$Value;LEdgeWalk$Value;IZ)V" } : Jvm.MethodName)) ∈ lw_all := lw_g (lw_at lw_m3 223 rfl) rfl
theorem q848 : (Jvm.Cond.stringRef "EdgeWalk$Parser" (132 : Nat) "and") ∈ lw_tbl := lw_at lw_m4 0 rfl
theorem q849 : (Jvm.Cond.classLink "EdgeWalk$Parser" (137 : Nat) "EdgeWalk$Both") ∈ lw_all := lw_g (lw_at lw_m4 1 rfl) rfl
theorem q851 : (Jvm.Cond.methodLink "EdgeWalk$Parser" (139 : Nat) ({ cls := "EdgeWalk$Both", name := "<init>", desc := "(LEdgeWalk$Condition;LEdgeWalk$Condition;Z)V" } : Jvm.MethodName)) ∈ lw_all := lw_g (lw_at lw_m4 3 rfl) rfl
theorem q865 : (Jvm.Cond.stringRef "EdgeWalk$Parser" (145 : Nat) "or") ∈ lw_tbl := lw_at lw_m4 17 rfl
theorem q866 : (Jvm.Cond.methodLinkNest "EdgeWalk$Parser" (214 : Nat) ({ cls := "EdgeWalk$Told", name := "<init>", desc := "(LEdgeWalk$Value;LEdgeWalk$Condition;)V" } : Jvm.MethodName) "EdgeWalk") ∈ lw_tbl := lw_at lw_m4 18 rfl
theorem q878 : (Jvm.Cond.methodLink "EdgeWalk$Parser" (231 : Nat) ({ cls := "java/util/ArrayList", name := "size", desc := "()I" } : Jvm.MethodName)) ∈ lw_all := lw_g (lw_at lw_m4 30 rfl) rfl
theorem q1919 : (Jvm.Cond.castable "EdgeWalk$Parser" "java/lang/Object") ∈ lw_tbl := lw_at lw_m8 111 rfl
theorem in_X5 : ∀ w ∈ wsX50, w ∈ lw_all := lw_in wsX50 [468, 470, 472, 474, 476, 478, 480] (by decide +kernel) (by decide +kernel)
/-! EdgeWalk$Goer -/
set_option maxRecDepth 100000
def RX6 : String := "EdgeWalk$Goer"
def TX6 : u_T := fun k => match k with
  | 0 => ("EdgeWalk$Goer", "cell", "I", true)
  | 1 => ("EdgeWalk$Goer", "faces", "I", true)
  | _ => ("EdgeWalk$Goer", "food", "I", true)
def tyX6 : Nat → FieldType := fun k => match k with
  | 0 => .int
  | 1 => .int
  | _ => .int
abbrev wsX60 : List Cond := u_ws RX6 TX6 3
theorem nmX6 : ∀ a, a < 3 → ∀ b, b < 3 → a ≠ b → (TX6 a).2.1 ≠ (TX6 b).2.1 := by decide +kernel
theorem tyX6_ok : ∀ k, k < 3 → parseFieldDescriptor (TX6 k).2.2.1 = some (tyX6 k) := by decide +kernel
abbrev cX6_init : ByteArray := prog_6_method_1_code
def yX6_init : MethodName := ⟨RX6, "<init>", "(III)V"⟩
def dkwX6_init_0 : List UInt8 := [42, 183, 0, 1, 42, 27, 181, 0, 7, 42, 28, 181, 0, 13, 42, 29, 181, 0, 16, 177]
abbrev dktX6_init_0 : List UInt8 := dkwX6_init_0 ++ []
theorem dksX6_init_0 : cX6_init.data.toList.drop 0 = dktX6_init_0 := by decide +kernel
theorem dX6_init_0 : decode cX6_init 0 = .ok (.aload_n 0, 1) := dk_42 (dk_at dksX6_init_0 0 rfl rfl)
theorem dX6_init_1 : decode cX6_init 1 = .ok (.invokespecial 1, 3) := dk_183 0 1 (dk_at dksX6_init_0 1 rfl rfl)
theorem dX6_init_4 : decode cX6_init 4 = .ok (.aload_n 0, 1) := dk_42 (dk_at dksX6_init_0 4 rfl rfl)
theorem dX6_init_5 : decode cX6_init 5 = .ok (.iload_n 1, 1) := dk_27 (dk_at dksX6_init_0 5 rfl rfl)
theorem dX6_init_6 : decode cX6_init 6 = .ok (.putfield 7, 3) := dk_181 0 7 (dk_at dksX6_init_0 6 rfl rfl)
theorem dX6_init_9 : decode cX6_init 9 = .ok (.aload_n 0, 1) := dk_42 (dk_at dksX6_init_0 9 rfl rfl)
theorem dX6_init_10 : decode cX6_init 10 = .ok (.iload_n 2, 1) := dk_28 (dk_at dksX6_init_0 10 rfl rfl)
theorem dX6_init_11 : decode cX6_init 11 = .ok (.putfield 13, 3) := dk_181 0 13 (dk_at dksX6_init_0 11 rfl rfl)
theorem dX6_init_14 : decode cX6_init 14 = .ok (.aload_n 0, 1) := dk_42 (dk_at dksX6_init_0 14 rfl rfl)
theorem dX6_init_15 : decode cX6_init 15 = .ok (.iload_n 3, 1) := dk_29 (dk_at dksX6_init_0 15 rfl rfl)
theorem dX6_init_16 : decode cX6_init 16 = .ok (.putfield 16, 3) := dk_181 0 16 (dk_at dksX6_init_0 16 rfl rfl)
theorem dX6_init_19 : decode cX6_init 19 = .ok (.return_, 1) := dk_177 (dk_at dksX6_init_0 19 rfl rfl)
theorem q145 : (Jvm.Cond.initialized "EdgeWalk$Goer") ∈ lw_all := lw_g (lw_at lw_m1 17 rfl) rfl
theorem q595 : (Jvm.Cond.instantiable "EdgeWalk$Goer" (3 : Nat)) ∈ lw_all := lw_g (lw_at lw_m2 227 rfl) rfl
theorem q597 : (Jvm.Cond.instanceMethod ({ cls := "EdgeWalk$Goer", name := "<init>", desc := "(III)V" } : Jvm.MethodName)) ∈ lw_all := lw_g (lw_at lw_m2 229 rfl) rfl
theorem q598 : (Jvm.Cond.code ({ cls := "EdgeWalk$Goer", name := "<init>", desc := "(III)V" } : Jvm.MethodName) prog_6_method_1_code (4 : Nat) (Option.none : Option Jvm.ClassFile.FieldType)) ∈ lw_all := lw_g (lw_at lw_m2 230 rfl) rfl
theorem q599 : (Jvm.Cond.methodLink "EdgeWalk$Goer" (1 : Nat) ({ cls := "java/lang/Record", name := "<init>", desc := "()V" } : Jvm.MethodName)) ∈ lw_all := lw_g (lw_at lw_m2 231 rfl) rfl
theorem q603 : (Jvm.Cond.fieldLink "EdgeWalk$Goer" (7 : Nat) "EdgeWalk$Goer" "cell" "I") ∈ lw_all := lw_g (lw_at lw_m2 235 rfl) rfl
theorem q605 : (Jvm.Cond.fieldLink "EdgeWalk$Goer" (13 : Nat) "EdgeWalk$Goer" "faces" "I") ∈ lw_all := lw_g (lw_at lw_m2 237 rfl) rfl
theorem q607 : (Jvm.Cond.fieldLink "EdgeWalk$Goer" (16 : Nat) "EdgeWalk$Goer" "food" "I") ∈ lw_all := lw_g (lw_at lw_m2 239 rfl) rfl
theorem q609 : (Jvm.Cond.laysFinal "EdgeWalk$Goer" "EdgeWalk$Goer" "cell" "I") ∈ lw_all := lw_g (lw_at lw_m3 1 rfl) rfl
theorem q610 : (Jvm.Cond.soleField "EdgeWalk$Goer" "cell") ∈ lw_all := lw_g (lw_at lw_m3 2 rfl) rfl
theorem q611 : (Jvm.Cond.laysFinal "EdgeWalk$Goer" "EdgeWalk$Goer" "faces" "I") ∈ lw_all := lw_g (lw_at lw_m3 3 rfl) rfl
theorem q612 : (Jvm.Cond.soleField "EdgeWalk$Goer" "faces") ∈ lw_all := lw_g (lw_at lw_m3 4 rfl) rfl
theorem q613 : (Jvm.Cond.laysFinal "EdgeWalk$Goer" "EdgeWalk$Goer" "food" "I") ∈ lw_all := lw_g (lw_at lw_m3 5 rfl) rfl
theorem q614 : (Jvm.Cond.soleField "EdgeWalk$Goer" "food") ∈ lw_all := lw_g (lw_at lw_m3 6 rfl) rfl
theorem q615 : (Jvm.Cond.superclass "EdgeWalk$Goer" "java/lang/Record") ∈ lw_all := lw_g (lw_at lw_m3 7 rfl) rfl
theorem q654 : (Jvm.Cond.selects "EdgeWalk$Goer" ({ cls := "java/lang/Object", name := "getClass", desc := "()Ljava/lang/Class;" } : Jvm.MethodName) ({ cls := "java/lang/Object", name := "getClass", desc := "()Ljava/lang/Class;" } : Jvm.MethodName)) ∈ lw_all := lw_g (lw_at lw_m3 46 rfl) rfl
theorem q1920 : (Jvm.Cond.castable "EdgeWalk$Goer" "java/lang/Object") ∈ lw_tbl := lw_at lw_m8 112 rfl
theorem in_X6 : ∀ w ∈ wsX60, w ∈ lw_all := lw_in wsX60 [609, 611, 613] (by decide +kernel) (by decide +kernel)
/-! EdgeWalk$Rule -/
set_option maxRecDepth 100000
def RX7 : String := "EdgeWalk$Rule"
def TX7 : u_T := fun k => match k with
  | _ => ("EdgeWalk$Rule", "all", "Ljava/util/ArrayList;", true)
def tyX7 : Nat → FieldType := fun k => match k with
  | _ => .object "java/util/ArrayList"
abbrev wsX70 : List Cond := u_ws RX7 TX7 1
theorem nmX7 : ∀ a, a < 1 → ∀ b, b < 1 → a ≠ b → (TX7 a).2.1 ≠ (TX7 b).2.1 := by decide +kernel
theorem tyX7_ok : ∀ k, k < 1 → parseFieldDescriptor (TX7 k).2.2.1 = some (tyX7 k) := by decide +kernel
abbrev cX7_init : ByteArray := prog_12_method_1_code
def yX7_init : MethodName := ⟨RX7, "<init>", "()V"⟩
def dkwX7_init_0 : List UInt8 := [42, 183, 0, 1, 42, 187, 0, 7, 89, 5, 183, 0, 9, 181, 0, 12, 177]
abbrev dktX7_init_0 : List UInt8 := dkwX7_init_0 ++ []
theorem dksX7_init_0 : cX7_init.data.toList.drop 0 = dktX7_init_0 := by decide +kernel
theorem dX7_init_0 : decode cX7_init 0 = .ok (.aload_n 0, 1) := dk_42 (dk_at dksX7_init_0 0 rfl rfl)
theorem dX7_init_1 : decode cX7_init 1 = .ok (.invokespecial 1, 3) := dk_183 0 1 (dk_at dksX7_init_0 1 rfl rfl)
theorem dX7_init_4 : decode cX7_init 4 = .ok (.aload_n 0, 1) := dk_42 (dk_at dksX7_init_0 4 rfl rfl)
theorem dX7_init_5 : decode cX7_init 5 = .ok (.new 7, 3) := dk_187 0 7 (dk_at dksX7_init_0 5 rfl rfl)
theorem dX7_init_8 : decode cX7_init 8 = .ok (.dup, 1) := dk_89 (dk_at dksX7_init_0 8 rfl rfl)
theorem dX7_init_9 : decode cX7_init 9 = .ok (.iconst 2, 1) := dk_5 (dk_at dksX7_init_0 9 rfl rfl)
theorem dX7_init_10 : decode cX7_init 10 = .ok (.invokespecial 9, 3) := dk_183 0 9 (dk_at dksX7_init_0 10 rfl rfl)
theorem dX7_init_13 : decode cX7_init 13 = .ok (.putfield 12, 3) := dk_181 0 12 (dk_at dksX7_init_0 13 rfl rfl)
theorem dX7_init_16 : decode cX7_init 16 = .ok (.return_, 1) := dk_177 (dk_at dksX7_init_0 16 rfl rfl)
abbrev cX7_turns : ByteArray := prog_12_method_2_code
def yX7_turns : MethodName := ⟨RX7, "turns", "([J)I"⟩
def dkwX7_turns_2 : List UInt8 := [182, 0, 36, 20, 0, 42, 184, 0, 44, 136, 172, 132, 2, 1, 167, 255, 198, 3, 172]
abbrev dktX7_turns_2 : List UInt8 := dkwX7_turns_2 ++ []
def dkwX7_turns_1 : List UInt8 := [43, 182, 0, 28, 153, 0, 29, 42, 180, 0, 12, 28, 182, 0, 22, 192, 0, 26, 180, 0, 32, 43]
abbrev dktX7_turns_1 : List UInt8 := dkwX7_turns_1 ++ dktX7_turns_2
def dkwX7_turns_0 : List UInt8 := [3, 61, 28, 42, 180, 0, 12, 182, 0, 18, 162, 0, 53, 42, 180, 0, 12, 28, 182, 0, 22, 192, 0, 26]
abbrev dktX7_turns_0 : List UInt8 := dkwX7_turns_0 ++ dktX7_turns_1
theorem dksX7_turns_0 : cX7_turns.data.toList.drop 0 = dktX7_turns_0 := by decide +kernel
theorem dksX7_turns_1 : cX7_turns.data.toList.drop 24 = dktX7_turns_1 := dk_seg dksX7_turns_0 24 rfl rfl
theorem dksX7_turns_2 : cX7_turns.data.toList.drop 46 = dktX7_turns_2 := dk_seg dksX7_turns_1 22 rfl rfl
theorem dX7_turns_0 : decode cX7_turns 0 = .ok (.iconst 0, 1) := dk_3 (dk_at dksX7_turns_0 0 rfl rfl)
theorem dX7_turns_1 : decode cX7_turns 1 = .ok (.istore_n 2, 1) := dk_61 (dk_at dksX7_turns_0 1 rfl rfl)
theorem dX7_turns_2 : decode cX7_turns 2 = .ok (.iload_n 2, 1) := dk_28 (dk_at dksX7_turns_0 2 rfl rfl)
theorem dX7_turns_3 : decode cX7_turns 3 = .ok (.aload_n 0, 1) := dk_42 (dk_at dksX7_turns_0 3 rfl rfl)
theorem dX7_turns_4 : decode cX7_turns 4 = .ok (.getfield 12, 3) := dk_180 0 12 (dk_at dksX7_turns_0 4 rfl rfl)
theorem dX7_turns_7 : decode cX7_turns 7 = .ok (.invokevirtual 18, 3) := dk_182 0 18 (dk_at dksX7_turns_0 7 rfl rfl)
theorem dX7_turns_10 : decode cX7_turns 10 = .ok (.if_icmp .ge 53, 3) := dk_162 0 53 (dk_at dksX7_turns_0 10 rfl rfl)
theorem dX7_turns_13 : decode cX7_turns 13 = .ok (.aload_n 0, 1) := dk_42 (dk_at dksX7_turns_0 13 rfl rfl)
theorem dX7_turns_14 : decode cX7_turns 14 = .ok (.getfield 12, 3) := dk_180 0 12 (dk_at dksX7_turns_0 14 rfl rfl)
theorem dX7_turns_17 : decode cX7_turns 17 = .ok (.iload_n 2, 1) := dk_28 (dk_at dksX7_turns_0 17 rfl rfl)
theorem dX7_turns_18 : decode cX7_turns 18 = .ok (.invokevirtual 22, 3) := dk_182 0 22 (dk_at dksX7_turns_0 18 rfl rfl)
theorem dX7_turns_21 : decode cX7_turns 21 = .ok (.checkcast 26, 3) := dk_192 0 26 (dk_at dksX7_turns_0 21 rfl rfl)
theorem dX7_turns_24 : decode cX7_turns 24 = .ok (.aload_n 1, 1) := dk_43 (dk_at dksX7_turns_1 0 rfl rfl)
theorem dX7_turns_25 : decode cX7_turns 25 = .ok (.invokevirtual 28, 3) := dk_182 0 28 (dk_at dksX7_turns_1 1 rfl rfl)
theorem dX7_turns_28 : decode cX7_turns 28 = .ok (.ifCond .eq 29, 3) := dk_153 0 29 (dk_at dksX7_turns_1 4 rfl rfl)
theorem dX7_turns_31 : decode cX7_turns 31 = .ok (.aload_n 0, 1) := dk_42 (dk_at dksX7_turns_1 7 rfl rfl)
theorem dX7_turns_32 : decode cX7_turns 32 = .ok (.getfield 12, 3) := dk_180 0 12 (dk_at dksX7_turns_1 8 rfl rfl)
theorem dX7_turns_35 : decode cX7_turns 35 = .ok (.iload_n 2, 1) := dk_28 (dk_at dksX7_turns_1 11 rfl rfl)
theorem dX7_turns_36 : decode cX7_turns 36 = .ok (.invokevirtual 22, 3) := dk_182 0 22 (dk_at dksX7_turns_1 12 rfl rfl)
theorem dX7_turns_39 : decode cX7_turns 39 = .ok (.checkcast 26, 3) := dk_192 0 26 (dk_at dksX7_turns_1 15 rfl rfl)
theorem dX7_turns_42 : decode cX7_turns 42 = .ok (.getfield 32, 3) := dk_180 0 32 (dk_at dksX7_turns_1 18 rfl rfl)
theorem dX7_turns_45 : decode cX7_turns 45 = .ok (.aload_n 1, 1) := dk_43 (dk_at dksX7_turns_1 21 rfl rfl)
theorem dX7_turns_46 : decode cX7_turns 46 = .ok (.invokevirtual 36, 3) := dk_182 0 36 (dk_at dksX7_turns_2 0 rfl rfl)
theorem dX7_turns_49 : decode cX7_turns 49 = .ok (.ldc2_w 42, 3) := dk_20 0 42 (dk_at dksX7_turns_2 3 rfl rfl)
theorem dX7_turns_52 : decode cX7_turns 52 = .ok (.invokestatic 44, 3) := dk_184 0 44 (dk_at dksX7_turns_2 6 rfl rfl)
theorem dX7_turns_55 : decode cX7_turns 55 = .ok (.l2i, 1) := dk_136 (dk_at dksX7_turns_2 9 rfl rfl)
theorem dX7_turns_56 : decode cX7_turns 56 = .ok (.ireturn, 1) := dk_172 (dk_at dksX7_turns_2 10 rfl rfl)
theorem dX7_turns_57 : decode cX7_turns 57 = .ok (.iinc 2 1, 3) := dk_132 2 1 (dk_at dksX7_turns_2 11 rfl rfl)
theorem dX7_turns_60 : decode cX7_turns 60 = .ok (.goto (-58), 3) := dk_167 255 198 (dk_at dksX7_turns_2 14 rfl rfl)
theorem dX7_turns_63 : decode cX7_turns 63 = .ok (.iconst 0, 1) := dk_3 (dk_at dksX7_turns_2 17 rfl rfl)
theorem dX7_turns_64 : decode cX7_turns 64 = .ok (.ireturn, 1) := dk_172 (dk_at dksX7_turns_2 18 rfl rfl)
theorem q151 : (Jvm.Cond.initialized "EdgeWalk$Rule") ∈ lw_all := lw_g (lw_at lw_m1 23 rfl) rfl
theorem q660 : (Jvm.Cond.selects "EdgeWalk$Rule" ({ cls := "java/lang/Object", name := "getClass", desc := "()Ljava/lang/Class;" } : Jvm.MethodName) ({ cls := "java/lang/Object", name := "getClass", desc := "()Ljava/lang/Class;" } : Jvm.MethodName)) ∈ lw_all := lw_g (lw_at lw_m3 52 rfl) rfl
theorem q719 : (Jvm.Cond.instantiable "EdgeWalk$Rule" (1 : Nat)) ∈ lw_all := lw_g (lw_at lw_m3 111 rfl) rfl
theorem q721 : (Jvm.Cond.instanceMethod ({ cls := "EdgeWalk$Rule", name := "<init>", desc := "()V" } : Jvm.MethodName)) ∈ lw_all := lw_g (lw_at lw_m3 113 rfl) rfl
theorem q722 : (Jvm.Cond.code ({ cls := "EdgeWalk$Rule", name := "<init>", desc := "()V" } : Jvm.MethodName) prog_12_method_1_code (1 : Nat) (Option.none : Option Jvm.ClassFile.FieldType)) ∈ lw_all := lw_g (lw_at lw_m3 114 rfl) rfl
theorem q723 : (Jvm.Cond.methodLink "EdgeWalk$Rule" (1 : Nat) ({ cls := "java/lang/Object", name := "<init>", desc := "()V" } : Jvm.MethodName)) ∈ lw_all := lw_g (lw_at lw_m3 115 rfl) rfl
theorem q724 : (Jvm.Cond.classLink "EdgeWalk$Rule" (7 : Nat) "java/util/ArrayList") ∈ lw_all := lw_g (lw_at lw_m3 116 rfl) rfl
theorem q725 : (Jvm.Cond.methodLink "EdgeWalk$Rule" (9 : Nat) ({ cls := "java/util/ArrayList", name := "<init>", desc := "(I)V" } : Jvm.MethodName)) ∈ lw_all := lw_g (lw_at lw_m3 117 rfl) rfl
theorem q726 : (Jvm.Cond.fieldLink "EdgeWalk$Rule" (12 : Nat) "EdgeWalk$Rule" "all" "Ljava/util/ArrayList;") ∈ lw_all := lw_g (lw_at lw_m3 118 rfl) rfl
theorem q728 : (Jvm.Cond.laysFinal "EdgeWalk$Rule" "EdgeWalk$Rule" "all" "Ljava/util/ArrayList;") ∈ lw_all := lw_g (lw_at lw_m3 120 rfl) rfl
theorem q729 : (Jvm.Cond.soleField "EdgeWalk$Rule" "all") ∈ lw_all := lw_g (lw_at lw_m3 121 rfl) rfl
theorem q730 : (Jvm.Cond.superclass "EdgeWalk$Rule" "java/lang/Object") ∈ lw_all := lw_g (lw_at lw_m3 122 rfl) rfl
theorem q871 : (Jvm.Cond.fieldLinkNest "EdgeWalk$Rule" (32 : Nat) "EdgeWalk$Told" "sum" "LEdgeWalk$Value;" "EdgeWalk") ∈ lw_tbl := lw_at lw_m4 23 rfl
theorem q968 : (Jvm.Cond.instanceMethod ({ cls := "EdgeWalk$Rule", name := "turns", desc := "([J)I" } : Jvm.MethodName)) ∈ lw_all := lw_g (lw_at lw_m4 120 rfl) rfl
theorem q969 : (Jvm.Cond.selects "EdgeWalk$Rule" ({ cls := "EdgeWalk$Rule", name := "turns", desc := "([J)I" } : Jvm.MethodName) ({ cls := "EdgeWalk$Rule", name := "turns", desc := "([J)I" } : Jvm.MethodName)) ∈ lw_all := lw_g (lw_at lw_m4 121 rfl) rfl
theorem q970 : (Jvm.Cond.code ({ cls := "EdgeWalk$Rule", name := "turns", desc := "([J)I" } : Jvm.MethodName) prog_12_method_2_code (3 : Nat) (Option.some Jvm.ClassFile.FieldType.int)) ∈ lw_all := lw_g (lw_at lw_m4 122 rfl) rfl
theorem q971 : (Jvm.Cond.methodLink "EdgeWalk$Rule" (18 : Nat) ({ cls := "java/util/ArrayList", name := "size", desc := "()I" } : Jvm.MethodName)) ∈ lw_all := lw_g (lw_at lw_m4 123 rfl) rfl
theorem q972 : (Jvm.Cond.methodLink "EdgeWalk$Rule" (22 : Nat) ({ cls := "java/util/ArrayList", name := "get", desc := "(I)Ljava/lang/Object;" } : Jvm.MethodName)) ∈ lw_all := lw_g (lw_at lw_m4 124 rfl) rfl
theorem q973 : (Jvm.Cond.classLink "EdgeWalk$Rule" (26 : Nat) "EdgeWalk$Told") ∈ lw_all := lw_g (lw_at lw_m4 125 rfl) rfl
theorem q974 : (Jvm.Cond.methodLink "EdgeWalk$Rule" (28 : Nat) ({ cls := "EdgeWalk$Told", name := "holds", desc := "([J)Z" } : Jvm.MethodName)) ∈ lw_all := lw_g (lw_at lw_m4 126 rfl) rfl
theorem q1005 : (Jvm.Cond.methodLink "EdgeWalk$Rule" (36 : Nat) ({ cls := "EdgeWalk$Value", name := "of", desc := "([J)J" } : Jvm.MethodName)) ∈ lw_all := lw_g (lw_at lw_m4 157 rfl) rfl
theorem q1006 : (Jvm.Cond.constantLong "EdgeWalk$Rule" (42 : Nat) (4 : Int64)) ∈ lw_all := lw_g (lw_at lw_m4 158 rfl) rfl
theorem q1007 : (Jvm.Cond.methodLink "EdgeWalk$Rule" (44 : Nat) ({ cls := "java/lang/Math", name := "floorMod", desc := "(JJ)J" } : Jvm.MethodName)) ∈ lw_all := lw_g (lw_at lw_m4 159 rfl) rfl
theorem q1921 : (Jvm.Cond.castable "EdgeWalk$Rule" "java/lang/Object") ∈ lw_tbl := lw_at lw_m8 113 rfl
theorem in_X7 : ∀ w ∈ wsX70, w ∈ lw_all := lw_in wsX70 [728] (by decide +kernel) (by decide +kernel)
/-! EdgeWalk$Value -/
set_option maxRecDepth 100000
def RX8 : String := "EdgeWalk$Value"
abbrev cX8_init : ByteArray := prog_16_method_1_code
def yX8_init : MethodName := ⟨RX8, "<init>", "()V"⟩
theorem dX8_init_0 : decode cX8_init 0 = .ok (.aload_n 0, 1) := by decide +kernel
theorem dX8_init_1 : decode cX8_init 1 = .ok (.invokespecial 1, 3) := by decide +kernel
theorem dX8_init_4 : decode cX8_init 4 = .ok (.return_, 1) := by decide +kernel
theorem q152 : (Jvm.Cond.initialized "EdgeWalk$Value") ∈ lw_all := lw_g (lw_at lw_m1 24 rfl) rfl
theorem q755 : (Jvm.Cond.instanceMethod ({ cls := "EdgeWalk$Value", name := "<init>", desc := "()V" } : Jvm.MethodName)) ∈ lw_all := lw_g (lw_at lw_m3 147 rfl) rfl
theorem q756 : (Jvm.Cond.code ({ cls := "EdgeWalk$Value", name := "<init>", desc := "()V" } : Jvm.MethodName) prog_16_method_1_code (1 : Nat) (Option.none : Option Jvm.ClassFile.FieldType)) ∈ lw_all := lw_g (lw_at lw_m3 148 rfl) rfl
theorem q757 : (Jvm.Cond.methodLink "EdgeWalk$Value" (1 : Nat) ({ cls := "java/lang/Object", name := "<init>", desc := "()V" } : Jvm.MethodName)) ∈ lw_all := lw_g (lw_at lw_m3 149 rfl) rfl
theorem q988 : (Jvm.Cond.declares ({ cls := "EdgeWalk$Value", name := "of", desc := "([J)J" } : Jvm.MethodName)) ∈ lw_tbl := lw_at lw_m4 140 rfl
theorem q989 : (Jvm.Cond.sameMethod "EdgeWalk$Value" "EdgeWalk$Value" "of" "([J)J") ∈ lw_all := lw_g (lw_at lw_m4 141 rfl) rfl
/-! EdgeWalk$Plain -/
set_option maxRecDepth 100000
def RX9 : String := "EdgeWalk$Plain"
def TX9 : u_T := fun k => match k with
  | _ => ("EdgeWalk$Plain", "number", "I", true)
def tyX9 : Nat → FieldType := fun k => match k with
  | _ => .int
abbrev wsX90 : List Cond := u_ws RX9 TX9 1
theorem nmX9 : ∀ a, a < 1 → ∀ b, b < 1 → a ≠ b → (TX9 a).2.1 ≠ (TX9 b).2.1 := by decide +kernel
theorem tyX9_ok : ∀ k, k < 1 → parseFieldDescriptor (TX9 k).2.2.1 = some (tyX9 k) := by decide +kernel
abbrev cX9_init : ByteArray := prog_11_method_1_code
def yX9_init : MethodName := ⟨RX9, "<init>", "(I)V"⟩
def dkwX9_init_0 : List UInt8 := [42, 183, 0, 1, 42, 27, 181, 0, 7, 177]
abbrev dktX9_init_0 : List UInt8 := dkwX9_init_0 ++ []
theorem dksX9_init_0 : cX9_init.data.toList.drop 0 = dktX9_init_0 := by decide +kernel
theorem dX9_init_0 : decode cX9_init 0 = .ok (.aload_n 0, 1) := dk_42 (dk_at dksX9_init_0 0 rfl rfl)
theorem dX9_init_1 : decode cX9_init 1 = .ok (.invokespecial 1, 3) := dk_183 0 1 (dk_at dksX9_init_0 1 rfl rfl)
theorem dX9_init_4 : decode cX9_init 4 = .ok (.aload_n 0, 1) := dk_42 (dk_at dksX9_init_0 4 rfl rfl)
theorem dX9_init_5 : decode cX9_init 5 = .ok (.iload_n 1, 1) := dk_27 (dk_at dksX9_init_0 5 rfl rfl)
theorem dX9_init_6 : decode cX9_init 6 = .ok (.putfield 7, 3) := dk_181 0 7 (dk_at dksX9_init_0 6 rfl rfl)
theorem dX9_init_9 : decode cX9_init 9 = .ok (.return_, 1) := dk_177 (dk_at dksX9_init_0 9 rfl rfl)
abbrev cX9_of : ByteArray := prog_11_method_2_code
def yX9_of : MethodName := ⟨RX9, "of", "([J)J"⟩
def dkwX9_of_0 : List UInt8 := [42, 180, 0, 7, 133, 173]
abbrev dktX9_of_0 : List UInt8 := dkwX9_of_0 ++ []
theorem dksX9_of_0 : cX9_of.data.toList.drop 0 = dktX9_of_0 := by decide +kernel
theorem dX9_of_0 : decode cX9_of 0 = .ok (.aload_n 0, 1) := dk_42 (dk_at dksX9_of_0 0 rfl rfl)
theorem dX9_of_1 : decode cX9_of 1 = .ok (.getfield 7, 3) := dk_180 0 7 (dk_at dksX9_of_0 1 rfl rfl)
theorem dX9_of_4 : decode cX9_of 4 = .ok (.i2l, 1) := dk_133 (dk_at dksX9_of_0 4 rfl rfl)
theorem dX9_of_5 : decode cX9_of 5 = .ok (.lreturn, 1) := dk_173 (dk_at dksX9_of_0 5 rfl rfl)
theorem q153 : (Jvm.Cond.initialized "EdgeWalk$Plain") ∈ lw_all := lw_g (lw_at lw_m1 25 rfl) rfl
theorem q659 : (Jvm.Cond.selects "EdgeWalk$Plain" ({ cls := "java/lang/Object", name := "getClass", desc := "()Ljava/lang/Class;" } : Jvm.MethodName) ({ cls := "java/lang/Object", name := "getClass", desc := "()Ljava/lang/Class;" } : Jvm.MethodName)) ∈ lw_all := lw_g (lw_at lw_m3 51 rfl) rfl
theorem q749 : (Jvm.Cond.instantiable "EdgeWalk$Plain" (1 : Nat)) ∈ lw_all := lw_g (lw_at lw_m3 141 rfl) rfl
theorem q752 : (Jvm.Cond.instanceMethod ({ cls := "EdgeWalk$Plain", name := "<init>", desc := "(I)V" } : Jvm.MethodName)) ∈ lw_all := lw_g (lw_at lw_m3 144 rfl) rfl
theorem q753 : (Jvm.Cond.code ({ cls := "EdgeWalk$Plain", name := "<init>", desc := "(I)V" } : Jvm.MethodName) prog_11_method_1_code (2 : Nat) (Option.none : Option Jvm.ClassFile.FieldType)) ∈ lw_all := lw_g (lw_at lw_m3 145 rfl) rfl
theorem q754 : (Jvm.Cond.methodLinkNest "EdgeWalk$Plain" (1 : Nat) ({ cls := "EdgeWalk$Value", name := "<init>", desc := "()V" } : Jvm.MethodName) "EdgeWalk") ∈ lw_tbl := lw_at lw_m3 146 rfl
theorem q758 : (Jvm.Cond.fieldLink "EdgeWalk$Plain" (7 : Nat) "EdgeWalk$Plain" "number" "I") ∈ lw_all := lw_g (lw_at lw_m3 150 rfl) rfl
theorem q759 : (Jvm.Cond.laysFinal "EdgeWalk$Plain" "EdgeWalk$Plain" "number" "I") ∈ lw_all := lw_g (lw_at lw_m3 151 rfl) rfl
theorem q760 : (Jvm.Cond.soleField "EdgeWalk$Plain" "number") ∈ lw_all := lw_g (lw_at lw_m3 152 rfl) rfl
theorem q761 : (Jvm.Cond.superclass "EdgeWalk$Plain" "EdgeWalk$Value") ∈ lw_all := lw_g (lw_at lw_m3 153 rfl) rfl
theorem q997 : (Jvm.Cond.instanceMethod ({ cls := "EdgeWalk$Plain", name := "of", desc := "([J)J" } : Jvm.MethodName)) ∈ lw_all := lw_g (lw_at lw_m4 149 rfl) rfl
theorem q998 : (Jvm.Cond.code ({ cls := "EdgeWalk$Plain", name := "of", desc := "([J)J" } : Jvm.MethodName) prog_11_method_2_code (2 : Nat) (Option.some Jvm.ClassFile.FieldType.long)) ∈ lw_all := lw_g (lw_at lw_m4 150 rfl) rfl
theorem q999 : (Jvm.Cond.selects "EdgeWalk$Plain" ({ cls := "EdgeWalk$Value", name := "of", desc := "([J)J" } : Jvm.MethodName) ({ cls := "EdgeWalk$Plain", name := "of", desc := "([J)J" } : Jvm.MethodName)) ∈ lw_all := lw_g (lw_at lw_m4 151 rfl) rfl
theorem q1922 : (Jvm.Cond.castable "EdgeWalk$Plain" "java/lang/Object") ∈ lw_tbl := lw_at lw_m8 114 rfl
theorem in_X9 : ∀ w ∈ wsX90, w ∈ lw_all := lw_in wsX90 [759] (by decide +kernel) (by decide +kernel)
