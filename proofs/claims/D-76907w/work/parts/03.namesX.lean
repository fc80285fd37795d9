/-! CellReducer -/
set_option maxRecDepth 100000
def RX0 : String := "CellReducer"
def TX0 : u_T := fun k => match k with
  | 0 => ("CellReducer", "cells", "[LCellReducer$Cell;", true)
  | 1 => ("CellReducer", "many", "I", false)
  | 2 => ("CellReducer", "normal", "LCellReducer$Cell;", true)
  | 3 => ("CellReducer", "otherNormal", "LCellReducer$Cell;", true)
  | 4 => ("CellReducer", "tried", "LCellReducer$Cell;", true)
  | 5 => ("CellReducer", "stepsDone", "I", false)
  | 6 => ("CellReducer", "was", "[LCellReducer$Cell;", true)
  | 7 => ("CellReducer", "changed", "[I", true)
  | 8 => ("CellReducer", "changes", "I", false)
  | 9 => ("CellReducer", "log", "Ljava/util/LinkedList;", true)
  | 10 => ("CellReducer", "figures", "[[J", true)
  | 11 => ("CellReducer", "squares", "[J", true)
  | 12 => ("CellReducer", "met", "Ljava/util/BitSet;", true)
  | 13 => ("CellReducer", "subs", "[LCellReducer$Cell;", true)
  | 14 => ("CellReducer", "subMany", "I", false)
  | 15 => ("CellReducer", "by", "[J", true)
  | 16 => ("CellReducer", "line", "Ljava/util/ArrayDeque;", true)
  | 17 => ("CellReducer", "tape", "[B", true)
  | 18 => ("CellReducer", "length", "I", false)
  | 19 => ("CellReducer", "paper", "Ljava/lang/String;", false)
  | 20 => ("CellReducer", "rows", "[[J", true)
  | 21 => ("CellReducer", "keptCells", "[LCellReducer$Cell;", true)
  | 22 => ("CellReducer", "keptLog", "Ljava/util/LinkedList;", true)
  | 23 => ("CellReducer", "keptLine", "Ljava/util/ArrayDeque;", true)
  | _ => ("CellReducer", "keptMany", "I", false)
def tyX0 : Nat → FieldType := fun k => match k with
  | 0 => .array (.object "CellReducer$Cell")
  | 1 => .int
  | 2 => .object "CellReducer$Cell"
  | 3 => .object "CellReducer$Cell"
  | 4 => .object "CellReducer$Cell"
  | 5 => .int
  | 6 => .array (.object "CellReducer$Cell")
  | 7 => .array .int
  | 8 => .int
  | 9 => .object "java/util/LinkedList"
  | 10 => .array (.array .long)
  | 11 => .array .long
  | 12 => .object "java/util/BitSet"
  | 13 => .array (.object "CellReducer$Cell")
  | 14 => .int
  | 15 => .array .long
  | 16 => .object "java/util/ArrayDeque"
  | 17 => .array .byte
  | 18 => .int
  | 19 => .object "java/lang/String"
  | 20 => .array (.array .long)
  | 21 => .array (.object "CellReducer$Cell")
  | 22 => .object "java/util/LinkedList"
  | 23 => .object "java/util/ArrayDeque"
  | _ => .int
abbrev wsX00 : List Cond := u_ws RX0 TX0 25
set_option maxRecDepth 100000 in
theorem nmX0 : ∀ a, a < 25 → ∀ b, b < 25 → a ≠ b → (TX0 a).2.1 ≠ (TX0 b).2.1 := by decide +kernel
set_option maxRecDepth 100000 in
theorem tyX0_ok : ∀ k, k < 25 → parseFieldDescriptor (TX0 k).2.2.1 = some (tyX0 k) := by decide +kernel
abbrev cX0_init : ByteArray := prog_1_method_2_code
def yX0_init : MethodName := ⟨RX0, "<init>", "()V"⟩
def dkwX0_init_12 : List UInt8 := [167, 255, 234, 177]
abbrev dktX0_init_12 : List UInt8 := dkwX0_init_12 ++ []
def dkwX0_init_11 : List UInt8 := [27, 16, 91, 162, 0, 22, 42, 180, 0, 58, 27, 187, 0, 11, 89, 183, 0, 17, 83, 132, 1, 1]
abbrev dktX0_init_11 : List UInt8 := dkwX0_init_11 ++ dktX0_init_12
def dkwX0_init_10 : List UInt8 := [162, 0, 22, 42, 180, 0, 28, 27, 187, 0, 11, 89, 183, 0, 17, 83, 132, 1, 1, 167, 255, 234, 3, 60]
abbrev dktX0_init_10 : List UInt8 := dkwX0_init_10 ++ dktX0_init_11
def dkwX0_init_9 : List UInt8 := [42, 180, 0, 85, 27, 187, 0, 11, 89, 183, 0, 17, 83, 132, 1, 1, 167, 255, 221, 3, 60, 27, 16, 12]
abbrev dktX0_init_9 : List UInt8 := dkwX0_init_9 ++ dktX0_init_10
def dkwX0_init_8 : List UInt8 := [181, 0, 94, 3, 60, 27, 16, 6, 162, 0, 35, 42, 180, 0, 13, 27, 187, 0, 11, 89, 183, 0, 17, 83]
abbrev dktX0_init_8 : List UInt8 := dkwX0_init_8 ++ dktX0_init_9
def dkwX0_init_7 : List UInt8 := [187, 0, 35, 89, 183, 0, 37, 181, 0, 88, 42, 187, 0, 64, 89, 183, 0, 66, 181, 0, 91, 42, 2]
abbrev dktX0_init_7 : List UInt8 := dkwX0_init_7 ++ dktX0_init_8
def dkwX0_init_6 : List UInt8 := [18, 75, 181, 0, 77, 42, 7, 189, 0, 81, 181, 0, 82, 42, 16, 6, 189, 0, 11, 181, 0, 85, 42]
abbrev dktX0_init_6 : List UInt8 := dkwX0_init_6 ++ dktX0_init_7
def dkwX0_init_5 : List UInt8 := [181, 0, 61, 42, 187, 0, 64, 89, 183, 0, 66, 181, 0, 67, 42, 17, 0, 160, 188, 8, 181, 0, 71, 42]
abbrev dktX0_init_5 : List UInt8 := dkwX0_init_5 ++ dktX0_init_6
def dkwX0_init_4 : List UInt8 := [187, 0, 51, 89, 183, 0, 53, 181, 0, 54, 42, 16, 91, 189, 0, 11, 181, 0, 58, 42, 16, 6, 188, 11]
abbrev dktX0_init_4 : List UInt8 := dkwX0_init_4 ++ dktX0_init_5
def dkwX0_init_3 : List UInt8 := [181, 0, 38, 42, 6, 6, 197, 0, 42, 2, 181, 0, 44, 42, 17, 1, 108, 188, 11, 181, 0, 47, 42]
abbrev dktX0_init_3 : List UInt8 := dkwX0_init_3 ++ dktX0_init_4
def dkwX0_init_2 : List UInt8 := [16, 12, 189, 0, 11, 181, 0, 28, 42, 16, 12, 188, 10, 181, 0, 31, 42, 187, 0, 35, 89, 183, 0, 37]
abbrev dktX0_init_2 : List UInt8 := dkwX0_init_2 ++ dktX0_init_3
def dkwX0_init_1 : List UInt8 := [42, 187, 0, 11, 89, 183, 0, 17, 181, 0, 22, 42, 187, 0, 11, 89, 183, 0, 17, 181, 0, 25, 42]
abbrev dktX0_init_1 : List UInt8 := dkwX0_init_1 ++ dktX0_init_2
def dkwX0_init_0 : List UInt8 := [42, 183, 0, 3, 42, 16, 6, 189, 0, 11, 181, 0, 13, 42, 187, 0, 11, 89, 183, 0, 17, 181, 0, 18]
abbrev dktX0_init_0 : List UInt8 := dkwX0_init_0 ++ dktX0_init_1
theorem dksX0_init_0 : cX0_init.data.toList.drop 0 = dktX0_init_0 := by decide +kernel
theorem dksX0_init_1 : cX0_init.data.toList.drop 24 = dktX0_init_1 := dk_seg dksX0_init_0 24 rfl rfl
theorem dksX0_init_2 : cX0_init.data.toList.drop 47 = dktX0_init_2 := dk_seg dksX0_init_1 23 rfl rfl
theorem dksX0_init_3 : cX0_init.data.toList.drop 71 = dktX0_init_3 := dk_seg dksX0_init_2 24 rfl rfl
theorem dksX0_init_4 : cX0_init.data.toList.drop 94 = dktX0_init_4 := dk_seg dksX0_init_3 23 rfl rfl
theorem dksX0_init_5 : cX0_init.data.toList.drop 118 = dktX0_init_5 := dk_seg dksX0_init_4 24 rfl rfl
theorem dksX0_init_6 : cX0_init.data.toList.drop 142 = dktX0_init_6 := dk_seg dksX0_init_5 24 rfl rfl
theorem dksX0_init_7 : cX0_init.data.toList.drop 165 = dktX0_init_7 := dk_seg dksX0_init_6 23 rfl rfl
theorem dksX0_init_8 : cX0_init.data.toList.drop 188 = dktX0_init_8 := dk_seg dksX0_init_7 23 rfl rfl
theorem dksX0_init_9 : cX0_init.data.toList.drop 212 = dktX0_init_9 := dk_seg dksX0_init_8 24 rfl rfl
theorem dksX0_init_10 : cX0_init.data.toList.drop 236 = dktX0_init_10 := dk_seg dksX0_init_9 24 rfl rfl
theorem dksX0_init_11 : cX0_init.data.toList.drop 260 = dktX0_init_11 := dk_seg dksX0_init_10 24 rfl rfl
theorem dksX0_init_12 : cX0_init.data.toList.drop 282 = dktX0_init_12 := dk_seg dksX0_init_11 22 rfl rfl
theorem dX0_init_0 : decode cX0_init 0 = .ok (.aload_n 0, 1) := dk_42 (dk_at dksX0_init_0 0 rfl rfl)
theorem dX0_init_1 : decode cX0_init 1 = .ok (.invokespecial 3, 3) := dk_183 0 3 (dk_at dksX0_init_0 1 rfl rfl)
theorem dX0_init_4 : decode cX0_init 4 = .ok (.aload_n 0, 1) := dk_42 (dk_at dksX0_init_0 4 rfl rfl)
theorem dX0_init_5 : decode cX0_init 5 = .ok (.bipush 6, 2) := dk_16 6 (dk_at dksX0_init_0 5 rfl rfl)
theorem dX0_init_7 : decode cX0_init 7 = .ok (.anewarray 11, 3) := dk_189 0 11 (dk_at dksX0_init_0 7 rfl rfl)
theorem dX0_init_10 : decode cX0_init 10 = .ok (.putfield 13, 3) := dk_181 0 13 (dk_at dksX0_init_0 10 rfl rfl)
theorem dX0_init_13 : decode cX0_init 13 = .ok (.aload_n 0, 1) := dk_42 (dk_at dksX0_init_0 13 rfl rfl)
theorem dX0_init_14 : decode cX0_init 14 = .ok (.new 11, 3) := dk_187 0 11 (dk_at dksX0_init_0 14 rfl rfl)
theorem dX0_init_17 : decode cX0_init 17 = .ok (.dup, 1) := dk_89 (dk_at dksX0_init_0 17 rfl rfl)
theorem dX0_init_18 : decode cX0_init 18 = .ok (.invokespecial 17, 3) := dk_183 0 17 (dk_at dksX0_init_0 18 rfl rfl)
theorem dX0_init_21 : decode cX0_init 21 = .ok (.putfield 18, 3) := dk_181 0 18 (dk_at dksX0_init_0 21 rfl rfl)
theorem dX0_init_24 : decode cX0_init 24 = .ok (.aload_n 0, 1) := dk_42 (dk_at dksX0_init_1 0 rfl rfl)
theorem dX0_init_25 : decode cX0_init 25 = .ok (.new 11, 3) := dk_187 0 11 (dk_at dksX0_init_1 1 rfl rfl)
theorem dX0_init_28 : decode cX0_init 28 = .ok (.dup, 1) := dk_89 (dk_at dksX0_init_1 4 rfl rfl)
theorem dX0_init_29 : decode cX0_init 29 = .ok (.invokespecial 17, 3) := dk_183 0 17 (dk_at dksX0_init_1 5 rfl rfl)
theorem dX0_init_32 : decode cX0_init 32 = .ok (.putfield 22, 3) := dk_181 0 22 (dk_at dksX0_init_1 8 rfl rfl)
theorem dX0_init_35 : decode cX0_init 35 = .ok (.aload_n 0, 1) := dk_42 (dk_at dksX0_init_1 11 rfl rfl)
theorem dX0_init_36 : decode cX0_init 36 = .ok (.new 11, 3) := dk_187 0 11 (dk_at dksX0_init_1 12 rfl rfl)
theorem dX0_init_39 : decode cX0_init 39 = .ok (.dup, 1) := dk_89 (dk_at dksX0_init_1 15 rfl rfl)
theorem dX0_init_40 : decode cX0_init 40 = .ok (.invokespecial 17, 3) := dk_183 0 17 (dk_at dksX0_init_1 16 rfl rfl)
theorem dX0_init_43 : decode cX0_init 43 = .ok (.putfield 25, 3) := dk_181 0 25 (dk_at dksX0_init_1 19 rfl rfl)
theorem dX0_init_46 : decode cX0_init 46 = .ok (.aload_n 0, 1) := dk_42 (dk_at dksX0_init_1 22 rfl rfl)
theorem dX0_init_47 : decode cX0_init 47 = .ok (.bipush 12, 2) := dk_16 12 (dk_at dksX0_init_2 0 rfl rfl)
theorem dX0_init_49 : decode cX0_init 49 = .ok (.anewarray 11, 3) := dk_189 0 11 (dk_at dksX0_init_2 2 rfl rfl)
theorem dX0_init_52 : decode cX0_init 52 = .ok (.putfield 28, 3) := dk_181 0 28 (dk_at dksX0_init_2 5 rfl rfl)
theorem dX0_init_55 : decode cX0_init 55 = .ok (.aload_n 0, 1) := dk_42 (dk_at dksX0_init_2 8 rfl rfl)
theorem dX0_init_56 : decode cX0_init 56 = .ok (.bipush 12, 2) := dk_16 12 (dk_at dksX0_init_2 9 rfl rfl)
theorem dX0_init_58 : decode cX0_init 58 = .ok (.newarray .int, 2) := dk_188_10 (dk_at dksX0_init_2 11 rfl rfl)
theorem dX0_init_60 : decode cX0_init 60 = .ok (.putfield 31, 3) := dk_181 0 31 (dk_at dksX0_init_2 13 rfl rfl)
theorem dX0_init_63 : decode cX0_init 63 = .ok (.aload_n 0, 1) := dk_42 (dk_at dksX0_init_2 16 rfl rfl)
theorem dX0_init_64 : decode cX0_init 64 = .ok (.new 35, 3) := dk_187 0 35 (dk_at dksX0_init_2 17 rfl rfl)
theorem dX0_init_67 : decode cX0_init 67 = .ok (.dup, 1) := dk_89 (dk_at dksX0_init_2 20 rfl rfl)
theorem dX0_init_68 : decode cX0_init 68 = .ok (.invokespecial 37, 3) := dk_183 0 37 (dk_at dksX0_init_2 21 rfl rfl)
theorem dX0_init_71 : decode cX0_init 71 = .ok (.putfield 38, 3) := dk_181 0 38 (dk_at dksX0_init_3 0 rfl rfl)
theorem dX0_init_74 : decode cX0_init 74 = .ok (.aload_n 0, 1) := dk_42 (dk_at dksX0_init_3 3 rfl rfl)
theorem dX0_init_75 : decode cX0_init 75 = .ok (.iconst 3, 1) := dk_6 (dk_at dksX0_init_3 4 rfl rfl)
theorem dX0_init_76 : decode cX0_init 76 = .ok (.iconst 3, 1) := dk_6 (dk_at dksX0_init_3 5 rfl rfl)
theorem dX0_init_77 : decode cX0_init 77 = .ok (.multianewarray 42 2, 4) := by decide +kernel
theorem dX0_init_81 : decode cX0_init 81 = .ok (.putfield 44, 3) := dk_181 0 44 (dk_at dksX0_init_3 10 rfl rfl)
theorem dX0_init_84 : decode cX0_init 84 = .ok (.aload_n 0, 1) := dk_42 (dk_at dksX0_init_3 13 rfl rfl)
theorem dX0_init_85 : decode cX0_init 85 = .ok (.sipush 364, 3) := dk_17 1 108 (dk_at dksX0_init_3 14 rfl rfl)
theorem dX0_init_88 : decode cX0_init 88 = .ok (.newarray .long, 2) := dk_188_11 (dk_at dksX0_init_3 17 rfl rfl)
theorem dX0_init_90 : decode cX0_init 90 = .ok (.putfield 47, 3) := dk_181 0 47 (dk_at dksX0_init_3 19 rfl rfl)
theorem dX0_init_93 : decode cX0_init 93 = .ok (.aload_n 0, 1) := dk_42 (dk_at dksX0_init_3 22 rfl rfl)
theorem dX0_init_94 : decode cX0_init 94 = .ok (.new 51, 3) := dk_187 0 51 (dk_at dksX0_init_4 0 rfl rfl)
theorem dX0_init_97 : decode cX0_init 97 = .ok (.dup, 1) := dk_89 (dk_at dksX0_init_4 3 rfl rfl)
theorem dX0_init_98 : decode cX0_init 98 = .ok (.invokespecial 53, 3) := dk_183 0 53 (dk_at dksX0_init_4 4 rfl rfl)
theorem dX0_init_101 : decode cX0_init 101 = .ok (.putfield 54, 3) := dk_181 0 54 (dk_at dksX0_init_4 7 rfl rfl)
theorem dX0_init_104 : decode cX0_init 104 = .ok (.aload_n 0, 1) := dk_42 (dk_at dksX0_init_4 10 rfl rfl)
theorem dX0_init_105 : decode cX0_init 105 = .ok (.bipush 91, 2) := dk_16 91 (dk_at dksX0_init_4 11 rfl rfl)
theorem dX0_init_107 : decode cX0_init 107 = .ok (.anewarray 11, 3) := dk_189 0 11 (dk_at dksX0_init_4 13 rfl rfl)
theorem dX0_init_110 : decode cX0_init 110 = .ok (.putfield 58, 3) := dk_181 0 58 (dk_at dksX0_init_4 16 rfl rfl)
theorem dX0_init_113 : decode cX0_init 113 = .ok (.aload_n 0, 1) := dk_42 (dk_at dksX0_init_4 19 rfl rfl)
theorem dX0_init_114 : decode cX0_init 114 = .ok (.bipush 6, 2) := dk_16 6 (dk_at dksX0_init_4 20 rfl rfl)
theorem dX0_init_116 : decode cX0_init 116 = .ok (.newarray .long, 2) := dk_188_11 (dk_at dksX0_init_4 22 rfl rfl)
theorem dX0_init_118 : decode cX0_init 118 = .ok (.putfield 61, 3) := dk_181 0 61 (dk_at dksX0_init_5 0 rfl rfl)
theorem dX0_init_121 : decode cX0_init 121 = .ok (.aload_n 0, 1) := dk_42 (dk_at dksX0_init_5 3 rfl rfl)
theorem dX0_init_122 : decode cX0_init 122 = .ok (.new 64, 3) := dk_187 0 64 (dk_at dksX0_init_5 4 rfl rfl)
theorem dX0_init_125 : decode cX0_init 125 = .ok (.dup, 1) := dk_89 (dk_at dksX0_init_5 7 rfl rfl)
theorem dX0_init_126 : decode cX0_init 126 = .ok (.invokespecial 66, 3) := dk_183 0 66 (dk_at dksX0_init_5 8 rfl rfl)
theorem dX0_init_129 : decode cX0_init 129 = .ok (.putfield 67, 3) := dk_181 0 67 (dk_at dksX0_init_5 11 rfl rfl)
theorem dX0_init_132 : decode cX0_init 132 = .ok (.aload_n 0, 1) := dk_42 (dk_at dksX0_init_5 14 rfl rfl)
theorem dX0_init_133 : decode cX0_init 133 = .ok (.sipush 160, 3) := dk_17 0 160 (dk_at dksX0_init_5 15 rfl rfl)
theorem dX0_init_136 : decode cX0_init 136 = .ok (.newarray .byte, 2) := dk_188_8 (dk_at dksX0_init_5 18 rfl rfl)
theorem dX0_init_138 : decode cX0_init 138 = .ok (.putfield 71, 3) := dk_181 0 71 (dk_at dksX0_init_5 20 rfl rfl)
theorem dX0_init_141 : decode cX0_init 141 = .ok (.aload_n 0, 1) := dk_42 (dk_at dksX0_init_5 23 rfl rfl)
theorem dX0_init_142 : decode cX0_init 142 = .ok (.ldc 75, 2) := dk_18 75 (dk_at dksX0_init_6 0 rfl rfl)
theorem dX0_init_144 : decode cX0_init 144 = .ok (.putfield 77, 3) := dk_181 0 77 (dk_at dksX0_init_6 2 rfl rfl)
theorem dX0_init_147 : decode cX0_init 147 = .ok (.aload_n 0, 1) := dk_42 (dk_at dksX0_init_6 5 rfl rfl)
theorem dX0_init_148 : decode cX0_init 148 = .ok (.iconst 4, 1) := dk_7 (dk_at dksX0_init_6 6 rfl rfl)
theorem dX0_init_149 : decode cX0_init 149 = .ok (.anewarray 81, 3) := dk_189 0 81 (dk_at dksX0_init_6 7 rfl rfl)
theorem dX0_init_152 : decode cX0_init 152 = .ok (.putfield 82, 3) := dk_181 0 82 (dk_at dksX0_init_6 10 rfl rfl)
theorem dX0_init_155 : decode cX0_init 155 = .ok (.aload_n 0, 1) := dk_42 (dk_at dksX0_init_6 13 rfl rfl)
theorem dX0_init_156 : decode cX0_init 156 = .ok (.bipush 6, 2) := dk_16 6 (dk_at dksX0_init_6 14 rfl rfl)
theorem dX0_init_158 : decode cX0_init 158 = .ok (.anewarray 11, 3) := dk_189 0 11 (dk_at dksX0_init_6 16 rfl rfl)
theorem dX0_init_161 : decode cX0_init 161 = .ok (.putfield 85, 3) := dk_181 0 85 (dk_at dksX0_init_6 19 rfl rfl)
theorem dX0_init_164 : decode cX0_init 164 = .ok (.aload_n 0, 1) := dk_42 (dk_at dksX0_init_6 22 rfl rfl)
theorem dX0_init_165 : decode cX0_init 165 = .ok (.new 35, 3) := dk_187 0 35 (dk_at dksX0_init_7 0 rfl rfl)
theorem dX0_init_168 : decode cX0_init 168 = .ok (.dup, 1) := dk_89 (dk_at dksX0_init_7 3 rfl rfl)
theorem dX0_init_169 : decode cX0_init 169 = .ok (.invokespecial 37, 3) := dk_183 0 37 (dk_at dksX0_init_7 4 rfl rfl)
theorem dX0_init_172 : decode cX0_init 172 = .ok (.putfield 88, 3) := dk_181 0 88 (dk_at dksX0_init_7 7 rfl rfl)
theorem dX0_init_175 : decode cX0_init 175 = .ok (.aload_n 0, 1) := dk_42 (dk_at dksX0_init_7 10 rfl rfl)
theorem dX0_init_176 : decode cX0_init 176 = .ok (.new 64, 3) := dk_187 0 64 (dk_at dksX0_init_7 11 rfl rfl)
theorem dX0_init_179 : decode cX0_init 179 = .ok (.dup, 1) := dk_89 (dk_at dksX0_init_7 14 rfl rfl)
theorem dX0_init_180 : decode cX0_init 180 = .ok (.invokespecial 66, 3) := dk_183 0 66 (dk_at dksX0_init_7 15 rfl rfl)
theorem dX0_init_183 : decode cX0_init 183 = .ok (.putfield 91, 3) := dk_181 0 91 (dk_at dksX0_init_7 18 rfl rfl)
theorem dX0_init_186 : decode cX0_init 186 = .ok (.aload_n 0, 1) := dk_42 (dk_at dksX0_init_7 21 rfl rfl)
theorem dX0_init_187 : decode cX0_init 187 = .ok (.iconst (-1), 1) := dk_2 (dk_at dksX0_init_7 22 rfl rfl)
theorem dX0_init_188 : decode cX0_init 188 = .ok (.putfield 94, 3) := dk_181 0 94 (dk_at dksX0_init_8 0 rfl rfl)
theorem dX0_init_191 : decode cX0_init 191 = .ok (.iconst 0, 1) := dk_3 (dk_at dksX0_init_8 3 rfl rfl)
theorem dX0_init_192 : decode cX0_init 192 = .ok (.istore_n 1, 1) := dk_60 (dk_at dksX0_init_8 4 rfl rfl)
theorem dX0_init_193 : decode cX0_init 193 = .ok (.iload_n 1, 1) := dk_27 (dk_at dksX0_init_8 5 rfl rfl)
theorem dX0_init_194 : decode cX0_init 194 = .ok (.bipush 6, 2) := dk_16 6 (dk_at dksX0_init_8 6 rfl rfl)
theorem dX0_init_196 : decode cX0_init 196 = .ok (.if_icmp .ge 35, 3) := dk_162 0 35 (dk_at dksX0_init_8 8 rfl rfl)
theorem dX0_init_199 : decode cX0_init 199 = .ok (.aload_n 0, 1) := dk_42 (dk_at dksX0_init_8 11 rfl rfl)
theorem dX0_init_200 : decode cX0_init 200 = .ok (.getfield 13, 3) := dk_180 0 13 (dk_at dksX0_init_8 12 rfl rfl)
theorem dX0_init_203 : decode cX0_init 203 = .ok (.iload_n 1, 1) := dk_27 (dk_at dksX0_init_8 15 rfl rfl)
theorem dX0_init_204 : decode cX0_init 204 = .ok (.new 11, 3) := dk_187 0 11 (dk_at dksX0_init_8 16 rfl rfl)
theorem dX0_init_207 : decode cX0_init 207 = .ok (.dup, 1) := dk_89 (dk_at dksX0_init_8 19 rfl rfl)
theorem dX0_init_208 : decode cX0_init 208 = .ok (.invokespecial 17, 3) := dk_183 0 17 (dk_at dksX0_init_8 20 rfl rfl)
theorem dX0_init_211 : decode cX0_init 211 = .ok (.aastore, 1) := dk_83 (dk_at dksX0_init_8 23 rfl rfl)
theorem dX0_init_212 : decode cX0_init 212 = .ok (.aload_n 0, 1) := dk_42 (dk_at dksX0_init_9 0 rfl rfl)
theorem dX0_init_213 : decode cX0_init 213 = .ok (.getfield 85, 3) := dk_180 0 85 (dk_at dksX0_init_9 1 rfl rfl)
theorem dX0_init_216 : decode cX0_init 216 = .ok (.iload_n 1, 1) := dk_27 (dk_at dksX0_init_9 4 rfl rfl)
theorem dX0_init_217 : decode cX0_init 217 = .ok (.new 11, 3) := dk_187 0 11 (dk_at dksX0_init_9 5 rfl rfl)
theorem dX0_init_220 : decode cX0_init 220 = .ok (.dup, 1) := dk_89 (dk_at dksX0_init_9 8 rfl rfl)
theorem dX0_init_221 : decode cX0_init 221 = .ok (.invokespecial 17, 3) := dk_183 0 17 (dk_at dksX0_init_9 9 rfl rfl)
theorem dX0_init_224 : decode cX0_init 224 = .ok (.aastore, 1) := dk_83 (dk_at dksX0_init_9 12 rfl rfl)
theorem dX0_init_225 : decode cX0_init 225 = .ok (.iinc 1 1, 3) := dk_132 1 1 (dk_at dksX0_init_9 13 rfl rfl)
theorem dX0_init_228 : decode cX0_init 228 = .ok (.goto (-35), 3) := dk_167 255 221 (dk_at dksX0_init_9 16 rfl rfl)
theorem dX0_init_231 : decode cX0_init 231 = .ok (.iconst 0, 1) := dk_3 (dk_at dksX0_init_9 19 rfl rfl)
theorem dX0_init_232 : decode cX0_init 232 = .ok (.istore_n 1, 1) := dk_60 (dk_at dksX0_init_9 20 rfl rfl)
theorem dX0_init_233 : decode cX0_init 233 = .ok (.iload_n 1, 1) := dk_27 (dk_at dksX0_init_9 21 rfl rfl)
theorem dX0_init_234 : decode cX0_init 234 = .ok (.bipush 12, 2) := dk_16 12 (dk_at dksX0_init_9 22 rfl rfl)
theorem dX0_init_236 : decode cX0_init 236 = .ok (.if_icmp .ge 22, 3) := dk_162 0 22 (dk_at dksX0_init_10 0 rfl rfl)
theorem dX0_init_239 : decode cX0_init 239 = .ok (.aload_n 0, 1) := dk_42 (dk_at dksX0_init_10 3 rfl rfl)
theorem dX0_init_240 : decode cX0_init 240 = .ok (.getfield 28, 3) := dk_180 0 28 (dk_at dksX0_init_10 4 rfl rfl)
theorem dX0_init_243 : decode cX0_init 243 = .ok (.iload_n 1, 1) := dk_27 (dk_at dksX0_init_10 7 rfl rfl)
theorem dX0_init_244 : decode cX0_init 244 = .ok (.new 11, 3) := dk_187 0 11 (dk_at dksX0_init_10 8 rfl rfl)
theorem dX0_init_247 : decode cX0_init 247 = .ok (.dup, 1) := dk_89 (dk_at dksX0_init_10 11 rfl rfl)
theorem dX0_init_248 : decode cX0_init 248 = .ok (.invokespecial 17, 3) := dk_183 0 17 (dk_at dksX0_init_10 12 rfl rfl)
theorem dX0_init_251 : decode cX0_init 251 = .ok (.aastore, 1) := dk_83 (dk_at dksX0_init_10 15 rfl rfl)
theorem dX0_init_252 : decode cX0_init 252 = .ok (.iinc 1 1, 3) := dk_132 1 1 (dk_at dksX0_init_10 16 rfl rfl)
theorem dX0_init_255 : decode cX0_init 255 = .ok (.goto (-22), 3) := dk_167 255 234 (dk_at dksX0_init_10 19 rfl rfl)
theorem dX0_init_258 : decode cX0_init 258 = .ok (.iconst 0, 1) := dk_3 (dk_at dksX0_init_10 22 rfl rfl)
theorem dX0_init_259 : decode cX0_init 259 = .ok (.istore_n 1, 1) := dk_60 (dk_at dksX0_init_10 23 rfl rfl)
theorem dX0_init_260 : decode cX0_init 260 = .ok (.iload_n 1, 1) := dk_27 (dk_at dksX0_init_11 0 rfl rfl)
theorem dX0_init_261 : decode cX0_init 261 = .ok (.bipush 91, 2) := dk_16 91 (dk_at dksX0_init_11 1 rfl rfl)
theorem dX0_init_263 : decode cX0_init 263 = .ok (.if_icmp .ge 22, 3) := dk_162 0 22 (dk_at dksX0_init_11 3 rfl rfl)
theorem dX0_init_266 : decode cX0_init 266 = .ok (.aload_n 0, 1) := dk_42 (dk_at dksX0_init_11 6 rfl rfl)
theorem dX0_init_267 : decode cX0_init 267 = .ok (.getfield 58, 3) := dk_180 0 58 (dk_at dksX0_init_11 7 rfl rfl)
theorem dX0_init_270 : decode cX0_init 270 = .ok (.iload_n 1, 1) := dk_27 (dk_at dksX0_init_11 10 rfl rfl)
theorem dX0_init_271 : decode cX0_init 271 = .ok (.new 11, 3) := dk_187 0 11 (dk_at dksX0_init_11 11 rfl rfl)
theorem dX0_init_274 : decode cX0_init 274 = .ok (.dup, 1) := dk_89 (dk_at dksX0_init_11 14 rfl rfl)
theorem dX0_init_275 : decode cX0_init 275 = .ok (.invokespecial 17, 3) := dk_183 0 17 (dk_at dksX0_init_11 15 rfl rfl)
theorem dX0_init_278 : decode cX0_init 278 = .ok (.aastore, 1) := dk_83 (dk_at dksX0_init_11 18 rfl rfl)
theorem dX0_init_279 : decode cX0_init 279 = .ok (.iinc 1 1, 3) := dk_132 1 1 (dk_at dksX0_init_11 19 rfl rfl)
theorem dX0_init_282 : decode cX0_init 282 = .ok (.goto (-22), 3) := dk_167 255 234 (dk_at dksX0_init_12 0 rfl rfl)
theorem dX0_init_285 : decode cX0_init 285 = .ok (.return_, 1) := dk_177 (dk_at dksX0_init_12 3 rfl rfl)
abbrev cX0_cell : ByteArray := prog_1_method_6_code
def yX0_cell : MethodName := ⟨RX0, "cell", "(IIIIII)I"⟩
def dkwX0_cell_1 : List UInt8 := [182, 0, 119, 172]
abbrev dktX0_cell_1 : List UInt8 := dkwX0_cell_1 ++ []
def dkwX0_cell_0 : List UInt8 := [42, 180, 0, 25, 27, 133, 28, 133, 29, 133, 21, 4, 133, 21, 5, 133, 21, 6, 133, 182, 0, 115, 87, 42]
abbrev dktX0_cell_0 : List UInt8 := dkwX0_cell_0 ++ dktX0_cell_1
theorem dksX0_cell_0 : cX0_cell.data.toList.drop 0 = dktX0_cell_0 := by decide +kernel
theorem dksX0_cell_1 : cX0_cell.data.toList.drop 24 = dktX0_cell_1 := dk_seg dksX0_cell_0 24 rfl rfl
theorem dX0_cell_0 : decode cX0_cell 0 = .ok (.aload_n 0, 1) := dk_42 (dk_at dksX0_cell_0 0 rfl rfl)
theorem dX0_cell_1 : decode cX0_cell 1 = .ok (.getfield 25, 3) := dk_180 0 25 (dk_at dksX0_cell_0 1 rfl rfl)
theorem dX0_cell_4 : decode cX0_cell 4 = .ok (.iload_n 1, 1) := dk_27 (dk_at dksX0_cell_0 4 rfl rfl)
theorem dX0_cell_5 : decode cX0_cell 5 = .ok (.i2l, 1) := dk_133 (dk_at dksX0_cell_0 5 rfl rfl)
theorem dX0_cell_6 : decode cX0_cell 6 = .ok (.iload_n 2, 1) := dk_28 (dk_at dksX0_cell_0 6 rfl rfl)
theorem dX0_cell_7 : decode cX0_cell 7 = .ok (.i2l, 1) := dk_133 (dk_at dksX0_cell_0 7 rfl rfl)
theorem dX0_cell_8 : decode cX0_cell 8 = .ok (.iload_n 3, 1) := dk_29 (dk_at dksX0_cell_0 8 rfl rfl)
theorem dX0_cell_9 : decode cX0_cell 9 = .ok (.i2l, 1) := dk_133 (dk_at dksX0_cell_0 9 rfl rfl)
theorem dX0_cell_10 : decode cX0_cell 10 = .ok (.iload 4, 2) := dk_21 4 (dk_at dksX0_cell_0 10 rfl rfl)
theorem dX0_cell_12 : decode cX0_cell 12 = .ok (.i2l, 1) := dk_133 (dk_at dksX0_cell_0 12 rfl rfl)
theorem dX0_cell_13 : decode cX0_cell 13 = .ok (.iload 5, 2) := dk_21 5 (dk_at dksX0_cell_0 13 rfl rfl)
theorem dX0_cell_15 : decode cX0_cell 15 = .ok (.i2l, 1) := dk_133 (dk_at dksX0_cell_0 15 rfl rfl)
theorem dX0_cell_16 : decode cX0_cell 16 = .ok (.iload 6, 2) := dk_21 6 (dk_at dksX0_cell_0 16 rfl rfl)
theorem dX0_cell_18 : decode cX0_cell 18 = .ok (.i2l, 1) := dk_133 (dk_at dksX0_cell_0 18 rfl rfl)
theorem dX0_cell_19 : decode cX0_cell 19 = .ok (.invokevirtual 115, 3) := dk_182 0 115 (dk_at dksX0_cell_0 19 rfl rfl)
theorem dX0_cell_22 : decode cX0_cell 22 = .ok (.pop, 1) := dk_87 (dk_at dksX0_cell_0 22 rfl rfl)
theorem dX0_cell_23 : decode cX0_cell 23 = .ok (.aload_n 0, 1) := dk_42 (dk_at dksX0_cell_0 23 rfl rfl)
theorem dX0_cell_24 : decode cX0_cell 24 = .ok (.invokevirtual 119, 3) := dk_182 0 119 (dk_at dksX0_cell_1 0 rfl rfl)
theorem dX0_cell_27 : decode cX0_cell 27 = .ok (.ireturn, 1) := dk_172 (dk_at dksX0_cell_1 3 rfl rfl)
abbrev cX0_comes : ByteArray := prog_1_method_5_code
def yX0_comes : MethodName := ⟨RX0, "comes", "()I"⟩
def dkwX0_comes_2 : List UInt8 := [181, 0, 98, 42, 180, 0, 98, 4, 100, 172]
abbrev dktX0_comes_2 : List UInt8 := dkwX0_comes_2 ++ []
def dkwX0_comes_1 : List UInt8 := [42, 180, 0, 13, 42, 180, 0, 98, 50, 42, 180, 0, 25, 182, 0, 111, 87, 42, 89, 180, 0, 98, 4, 96]
abbrev dktX0_comes_1 : List UInt8 := dkwX0_comes_1 ++ dktX0_comes_2
def dkwX0_comes_0 : List UInt8 := [42, 180, 0, 25, 182, 0, 107, 154, 0, 5, 2, 172, 42, 180, 0, 98, 16, 6, 160, 0, 6, 16, 253, 172]
abbrev dktX0_comes_0 : List UInt8 := dkwX0_comes_0 ++ dktX0_comes_1
theorem dksX0_comes_0 : cX0_comes.data.toList.drop 0 = dktX0_comes_0 := by decide +kernel
theorem dksX0_comes_1 : cX0_comes.data.toList.drop 24 = dktX0_comes_1 := dk_seg dksX0_comes_0 24 rfl rfl
theorem dksX0_comes_2 : cX0_comes.data.toList.drop 48 = dktX0_comes_2 := dk_seg dksX0_comes_1 24 rfl rfl
theorem dX0_comes_0 : decode cX0_comes 0 = .ok (.aload_n 0, 1) := dk_42 (dk_at dksX0_comes_0 0 rfl rfl)
theorem dX0_comes_1 : decode cX0_comes 1 = .ok (.getfield 25, 3) := dk_180 0 25 (dk_at dksX0_comes_0 1 rfl rfl)
theorem dX0_comes_4 : decode cX0_comes 4 = .ok (.invokevirtual 107, 3) := dk_182 0 107 (dk_at dksX0_comes_0 4 rfl rfl)
theorem dX0_comes_7 : decode cX0_comes 7 = .ok (.ifCond .ne 5, 3) := dk_154 0 5 (dk_at dksX0_comes_0 7 rfl rfl)
theorem dX0_comes_10 : decode cX0_comes 10 = .ok (.iconst (-1), 1) := dk_2 (dk_at dksX0_comes_0 10 rfl rfl)
theorem dX0_comes_11 : decode cX0_comes 11 = .ok (.ireturn, 1) := dk_172 (dk_at dksX0_comes_0 11 rfl rfl)
theorem dX0_comes_12 : decode cX0_comes 12 = .ok (.aload_n 0, 1) := dk_42 (dk_at dksX0_comes_0 12 rfl rfl)
theorem dX0_comes_13 : decode cX0_comes 13 = .ok (.getfield 98, 3) := dk_180 0 98 (dk_at dksX0_comes_0 13 rfl rfl)
theorem dX0_comes_16 : decode cX0_comes 16 = .ok (.bipush 6, 2) := dk_16 6 (dk_at dksX0_comes_0 16 rfl rfl)
theorem dX0_comes_18 : decode cX0_comes 18 = .ok (.if_icmp .ne 6, 3) := dk_160 0 6 (dk_at dksX0_comes_0 18 rfl rfl)
theorem dX0_comes_21 : decode cX0_comes 21 = .ok (.bipush (-3), 2) := dk_16 253 (dk_at dksX0_comes_0 21 rfl rfl)
theorem dX0_comes_23 : decode cX0_comes 23 = .ok (.ireturn, 1) := dk_172 (dk_at dksX0_comes_0 23 rfl rfl)
theorem dX0_comes_24 : decode cX0_comes 24 = .ok (.aload_n 0, 1) := dk_42 (dk_at dksX0_comes_1 0 rfl rfl)
theorem dX0_comes_25 : decode cX0_comes 25 = .ok (.getfield 13, 3) := dk_180 0 13 (dk_at dksX0_comes_1 1 rfl rfl)
theorem dX0_comes_28 : decode cX0_comes 28 = .ok (.aload_n 0, 1) := dk_42 (dk_at dksX0_comes_1 4 rfl rfl)
theorem dX0_comes_29 : decode cX0_comes 29 = .ok (.getfield 98, 3) := dk_180 0 98 (dk_at dksX0_comes_1 5 rfl rfl)
theorem dX0_comes_32 : decode cX0_comes 32 = .ok (.aaload, 1) := dk_50 (dk_at dksX0_comes_1 8 rfl rfl)
theorem dX0_comes_33 : decode cX0_comes 33 = .ok (.aload_n 0, 1) := dk_42 (dk_at dksX0_comes_1 9 rfl rfl)
theorem dX0_comes_34 : decode cX0_comes 34 = .ok (.getfield 25, 3) := dk_180 0 25 (dk_at dksX0_comes_1 10 rfl rfl)
theorem dX0_comes_37 : decode cX0_comes 37 = .ok (.invokevirtual 111, 3) := dk_182 0 111 (dk_at dksX0_comes_1 13 rfl rfl)
theorem dX0_comes_40 : decode cX0_comes 40 = .ok (.pop, 1) := dk_87 (dk_at dksX0_comes_1 16 rfl rfl)
theorem dX0_comes_41 : decode cX0_comes 41 = .ok (.aload_n 0, 1) := dk_42 (dk_at dksX0_comes_1 17 rfl rfl)
theorem dX0_comes_42 : decode cX0_comes 42 = .ok (.dup, 1) := dk_89 (dk_at dksX0_comes_1 18 rfl rfl)
theorem dX0_comes_43 : decode cX0_comes 43 = .ok (.getfield 98, 3) := dk_180 0 98 (dk_at dksX0_comes_1 19 rfl rfl)
theorem dX0_comes_46 : decode cX0_comes 46 = .ok (.iconst 1, 1) := dk_4 (dk_at dksX0_comes_1 22 rfl rfl)
theorem dX0_comes_47 : decode cX0_comes 47 = .ok (.iadd, 1) := dk_96 (dk_at dksX0_comes_1 23 rfl rfl)
theorem dX0_comes_48 : decode cX0_comes 48 = .ok (.putfield 98, 3) := dk_181 0 98 (dk_at dksX0_comes_2 0 rfl rfl)
theorem dX0_comes_51 : decode cX0_comes 51 = .ok (.aload_n 0, 1) := dk_42 (dk_at dksX0_comes_2 3 rfl rfl)
theorem dX0_comes_52 : decode cX0_comes 52 = .ok (.getfield 98, 3) := dk_180 0 98 (dk_at dksX0_comes_2 4 rfl rfl)
theorem dX0_comes_55 : decode cX0_comes 55 = .ok (.iconst 1, 1) := dk_4 (dk_at dksX0_comes_2 7 rfl rfl)
theorem dX0_comes_56 : decode cX0_comes 56 = .ok (.isub, 1) := dk_100 (dk_at dksX0_comes_2 8 rfl rfl)
theorem dX0_comes_57 : decode cX0_comes 57 = .ok (.ireturn, 1) := dk_172 (dk_at dksX0_comes_2 9 rfl rfl)
abbrev cX0_isIn : ByteArray := prog_1_method_1_code
def yX0_isIn : MethodName := ⟨RX0, "isIn", "(JJJ)Z"⟩
def dkwX0_isIn_0 : List UInt8 := [30, 32, 148, 155, 0, 14, 30, 22, 4, 148, 157, 0, 7, 4, 167, 0, 4, 3, 172]
abbrev dktX0_isIn_0 : List UInt8 := dkwX0_isIn_0 ++ []
theorem dksX0_isIn_0 : cX0_isIn.data.toList.drop 0 = dktX0_isIn_0 := by decide +kernel
theorem dX0_isIn_0 : decode cX0_isIn 0 = .ok (.lload_n 0, 1) := dk_30 (dk_at dksX0_isIn_0 0 rfl rfl)
theorem dX0_isIn_1 : decode cX0_isIn 1 = .ok (.lload_n 2, 1) := dk_32 (dk_at dksX0_isIn_0 1 rfl rfl)
theorem dX0_isIn_2 : decode cX0_isIn 2 = .ok (.lcmp, 1) := dk_148 (dk_at dksX0_isIn_0 2 rfl rfl)
theorem dX0_isIn_3 : decode cX0_isIn 3 = .ok (.ifCond .lt 14, 3) := dk_155 0 14 (dk_at dksX0_isIn_0 3 rfl rfl)
theorem dX0_isIn_6 : decode cX0_isIn 6 = .ok (.lload_n 0, 1) := dk_30 (dk_at dksX0_isIn_0 6 rfl rfl)
theorem dX0_isIn_7 : decode cX0_isIn 7 = .ok (.lload 4, 2) := dk_22 4 (dk_at dksX0_isIn_0 7 rfl rfl)
theorem dX0_isIn_9 : decode cX0_isIn 9 = .ok (.lcmp, 1) := dk_148 (dk_at dksX0_isIn_0 9 rfl rfl)
theorem dX0_isIn_10 : decode cX0_isIn 10 = .ok (.ifCond .gt 7, 3) := dk_157 0 7 (dk_at dksX0_isIn_0 10 rfl rfl)
theorem dX0_isIn_13 : decode cX0_isIn 13 = .ok (.iconst 1, 1) := dk_4 (dk_at dksX0_isIn_0 13 rfl rfl)
theorem dX0_isIn_14 : decode cX0_isIn 14 = .ok (.goto 4, 3) := dk_167 0 4 (dk_at dksX0_isIn_0 14 rfl rfl)
theorem dX0_isIn_17 : decode cX0_isIn 17 = .ok (.iconst 0, 1) := dk_3 (dk_at dksX0_isIn_0 17 rfl rfl)
theorem dX0_isIn_18 : decode cX0_isIn 18 = .ok (.ireturn, 1) := dk_172 (dk_at dksX0_isIn_0 18 rfl rfl)
abbrev cX0_number : ByteArray := prog_1_method_7_code
def yX0_number : MethodName := ⟨RX0, "number", "(II)J"⟩
def dkwX0_number_3 : List UInt8 := [180, 0, 139, 5, 47, 97, 173]
abbrev dktX0_number_3 : List UInt8 := dkwX0_number_3 ++ []
def dkwX0_number_2 : List UInt8 := [160, 0, 10, 45, 182, 0, 135, 167, 0, 23, 45, 180, 0, 139, 3, 47, 45, 180, 0, 139, 4, 47, 97, 45]
abbrev dktX0_number_2 : List UInt8 := dkwX0_number_2 ++ dktX0_number_3
def dkwX0_number_1 : List UInt8 := [42, 180, 0, 13, 27, 50, 78, 28, 16, 6, 162, 0, 11, 45, 28, 182, 0, 131, 167, 0, 36, 28, 16, 6]
abbrev dktX0_number_1 : List UInt8 := dkwX0_number_1 ++ dktX0_number_2
def dkwX0_number_0 : List UInt8 := [42, 27, 182, 0, 123, 153, 0, 15, 28, 133, 9, 20, 0, 127, 184, 0, 101, 154, 0, 7, 20, 0, 129, 173]
abbrev dktX0_number_0 : List UInt8 := dkwX0_number_0 ++ dktX0_number_1
theorem dksX0_number_0 : cX0_number.data.toList.drop 0 = dktX0_number_0 := by decide +kernel
theorem dksX0_number_1 : cX0_number.data.toList.drop 24 = dktX0_number_1 := dk_seg dksX0_number_0 24 rfl rfl
theorem dksX0_number_2 : cX0_number.data.toList.drop 48 = dktX0_number_2 := dk_seg dksX0_number_1 24 rfl rfl
theorem dksX0_number_3 : cX0_number.data.toList.drop 72 = dktX0_number_3 := dk_seg dksX0_number_2 24 rfl rfl
theorem dX0_number_0 : decode cX0_number 0 = .ok (.aload_n 0, 1) := dk_42 (dk_at dksX0_number_0 0 rfl rfl)
theorem dX0_number_1 : decode cX0_number 1 = .ok (.iload_n 1, 1) := dk_27 (dk_at dksX0_number_0 1 rfl rfl)
theorem dX0_number_2 : decode cX0_number 2 = .ok (.invokevirtual 123, 3) := dk_182 0 123 (dk_at dksX0_number_0 2 rfl rfl)
theorem dX0_number_5 : decode cX0_number 5 = .ok (.ifCond .eq 15, 3) := dk_153 0 15 (dk_at dksX0_number_0 5 rfl rfl)
theorem dX0_number_8 : decode cX0_number 8 = .ok (.iload_n 2, 1) := dk_28 (dk_at dksX0_number_0 8 rfl rfl)
theorem dX0_number_9 : decode cX0_number 9 = .ok (.i2l, 1) := dk_133 (dk_at dksX0_number_0 9 rfl rfl)
theorem dX0_number_10 : decode cX0_number 10 = .ok (.lconst 0, 1) := dk_9 (dk_at dksX0_number_0 10 rfl rfl)
theorem dX0_number_11 : decode cX0_number 11 = .ok (.ldc2_w 127, 3) := dk_20 0 127 (dk_at dksX0_number_0 11 rfl rfl)
theorem dX0_number_14 : decode cX0_number 14 = .ok (.invokestatic 101, 3) := dk_184 0 101 (dk_at dksX0_number_0 14 rfl rfl)
theorem dX0_number_17 : decode cX0_number 17 = .ok (.ifCond .ne 7, 3) := dk_154 0 7 (dk_at dksX0_number_0 17 rfl rfl)
theorem dX0_number_20 : decode cX0_number 20 = .ok (.ldc2_w 129, 3) := dk_20 0 129 (dk_at dksX0_number_0 20 rfl rfl)
theorem dX0_number_23 : decode cX0_number 23 = .ok (.lreturn, 1) := dk_173 (dk_at dksX0_number_0 23 rfl rfl)
theorem dX0_number_24 : decode cX0_number 24 = .ok (.aload_n 0, 1) := dk_42 (dk_at dksX0_number_1 0 rfl rfl)
theorem dX0_number_25 : decode cX0_number 25 = .ok (.getfield 13, 3) := dk_180 0 13 (dk_at dksX0_number_1 1 rfl rfl)
theorem dX0_number_28 : decode cX0_number 28 = .ok (.iload_n 1, 1) := dk_27 (dk_at dksX0_number_1 4 rfl rfl)
theorem dX0_number_29 : decode cX0_number 29 = .ok (.aaload, 1) := dk_50 (dk_at dksX0_number_1 5 rfl rfl)
theorem dX0_number_30 : decode cX0_number 30 = .ok (.astore_n 3, 1) := dk_78 (dk_at dksX0_number_1 6 rfl rfl)
theorem dX0_number_31 : decode cX0_number 31 = .ok (.iload_n 2, 1) := dk_28 (dk_at dksX0_number_1 7 rfl rfl)
theorem dX0_number_32 : decode cX0_number 32 = .ok (.bipush 6, 2) := dk_16 6 (dk_at dksX0_number_1 8 rfl rfl)
theorem dX0_number_34 : decode cX0_number 34 = .ok (.if_icmp .ge 11, 3) := dk_162 0 11 (dk_at dksX0_number_1 10 rfl rfl)
theorem dX0_number_37 : decode cX0_number 37 = .ok (.aload_n 3, 1) := dk_45 (dk_at dksX0_number_1 13 rfl rfl)
theorem dX0_number_38 : decode cX0_number 38 = .ok (.iload_n 2, 1) := dk_28 (dk_at dksX0_number_1 14 rfl rfl)
theorem dX0_number_39 : decode cX0_number 39 = .ok (.invokevirtual 131, 3) := dk_182 0 131 (dk_at dksX0_number_1 15 rfl rfl)
theorem dX0_number_42 : decode cX0_number 42 = .ok (.goto 36, 3) := dk_167 0 36 (dk_at dksX0_number_1 18 rfl rfl)
theorem dX0_number_45 : decode cX0_number 45 = .ok (.iload_n 2, 1) := dk_28 (dk_at dksX0_number_1 21 rfl rfl)
theorem dX0_number_46 : decode cX0_number 46 = .ok (.bipush 6, 2) := dk_16 6 (dk_at dksX0_number_1 22 rfl rfl)
theorem dX0_number_48 : decode cX0_number 48 = .ok (.if_icmp .ne 10, 3) := dk_160 0 10 (dk_at dksX0_number_2 0 rfl rfl)
theorem dX0_number_51 : decode cX0_number 51 = .ok (.aload_n 3, 1) := dk_45 (dk_at dksX0_number_2 3 rfl rfl)
theorem dX0_number_52 : decode cX0_number 52 = .ok (.invokevirtual 135, 3) := dk_182 0 135 (dk_at dksX0_number_2 4 rfl rfl)
theorem dX0_number_55 : decode cX0_number 55 = .ok (.goto 23, 3) := dk_167 0 23 (dk_at dksX0_number_2 7 rfl rfl)
theorem dX0_number_58 : decode cX0_number 58 = .ok (.aload_n 3, 1) := dk_45 (dk_at dksX0_number_2 10 rfl rfl)
theorem dX0_number_59 : decode cX0_number 59 = .ok (.getfield 139, 3) := dk_180 0 139 (dk_at dksX0_number_2 11 rfl rfl)
theorem dX0_number_62 : decode cX0_number 62 = .ok (.iconst 0, 1) := dk_3 (dk_at dksX0_number_2 14 rfl rfl)
theorem dX0_number_63 : decode cX0_number 63 = .ok (.laload, 1) := dk_47 (dk_at dksX0_number_2 15 rfl rfl)
theorem dX0_number_64 : decode cX0_number 64 = .ok (.aload_n 3, 1) := dk_45 (dk_at dksX0_number_2 16 rfl rfl)
theorem dX0_number_65 : decode cX0_number 65 = .ok (.getfield 139, 3) := dk_180 0 139 (dk_at dksX0_number_2 17 rfl rfl)
theorem dX0_number_68 : decode cX0_number 68 = .ok (.iconst 1, 1) := dk_4 (dk_at dksX0_number_2 20 rfl rfl)
theorem dX0_number_69 : decode cX0_number 69 = .ok (.laload, 1) := dk_47 (dk_at dksX0_number_2 21 rfl rfl)
theorem dX0_number_70 : decode cX0_number 70 = .ok (.ladd, 1) := dk_97 (dk_at dksX0_number_2 22 rfl rfl)
theorem dX0_number_71 : decode cX0_number 71 = .ok (.aload_n 3, 1) := dk_45 (dk_at dksX0_number_2 23 rfl rfl)
theorem dX0_number_72 : decode cX0_number 72 = .ok (.getfield 139, 3) := dk_180 0 139 (dk_at dksX0_number_3 0 rfl rfl)
theorem dX0_number_75 : decode cX0_number 75 = .ok (.iconst 2, 1) := dk_5 (dk_at dksX0_number_3 3 rfl rfl)
theorem dX0_number_76 : decode cX0_number 76 = .ok (.laload, 1) := dk_47 (dk_at dksX0_number_3 4 rfl rfl)
theorem dX0_number_77 : decode cX0_number 77 = .ok (.ladd, 1) := dk_97 (dk_at dksX0_number_3 5 rfl rfl)
theorem dX0_number_78 : decode cX0_number 78 = .ok (.lreturn, 1) := dk_173 (dk_at dksX0_number_3 6 rfl rfl)
abbrev cX0_isCell : ByteArray := prog_1_method_3_code
def yX0_isCell : MethodName := ⟨RX0, "isCell", "(I)Z"⟩
def dkwX0_isCell_0 : List UInt8 := [27, 133, 9, 42, 180, 0, 98, 4, 100, 133, 184, 0, 101, 172]
abbrev dktX0_isCell_0 : List UInt8 := dkwX0_isCell_0 ++ []
theorem dksX0_isCell_0 : cX0_isCell.data.toList.drop 0 = dktX0_isCell_0 := by decide +kernel
theorem dX0_isCell_0 : decode cX0_isCell 0 = .ok (.iload_n 1, 1) := dk_27 (dk_at dksX0_isCell_0 0 rfl rfl)
theorem dX0_isCell_1 : decode cX0_isCell 1 = .ok (.i2l, 1) := dk_133 (dk_at dksX0_isCell_0 1 rfl rfl)
theorem dX0_isCell_2 : decode cX0_isCell 2 = .ok (.lconst 0, 1) := dk_9 (dk_at dksX0_isCell_0 2 rfl rfl)
theorem dX0_isCell_3 : decode cX0_isCell 3 = .ok (.aload_n 0, 1) := dk_42 (dk_at dksX0_isCell_0 3 rfl rfl)
theorem dX0_isCell_4 : decode cX0_isCell 4 = .ok (.getfield 98, 3) := dk_180 0 98 (dk_at dksX0_isCell_0 4 rfl rfl)
theorem dX0_isCell_7 : decode cX0_isCell 7 = .ok (.iconst 1, 1) := dk_4 (dk_at dksX0_isCell_0 7 rfl rfl)
theorem dX0_isCell_8 : decode cX0_isCell 8 = .ok (.isub, 1) := dk_100 (dk_at dksX0_isCell_0 8 rfl rfl)
theorem dX0_isCell_9 : decode cX0_isCell 9 = .ok (.i2l, 1) := dk_133 (dk_at dksX0_isCell_0 9 rfl rfl)
theorem dX0_isCell_10 : decode cX0_isCell 10 = .ok (.invokestatic 101, 3) := dk_184 0 101 (dk_at dksX0_isCell_0 10 rfl rfl)
theorem dX0_isCell_13 : decode cX0_isCell 13 = .ok (.ireturn, 1) := dk_172 (dk_at dksX0_isCell_0 13 rfl rfl)
abbrev cX0_change : ByteArray := prog_1_method_8_code
def yX0_change : MethodName := ⟨RX0, "change", "(III)J"⟩
def dkwX0_change_1 : List UInt8 := [180, 0, 13, 27, 50, 180, 0, 145, 29, 50, 28, 47, 167, 0, 6, 20, 0, 129, 173]
abbrev dktX0_change_1 : List UInt8 := dkwX0_change_1 ++ []
def dkwX0_change_0 : List UInt8 := [42, 27, 182, 0, 123, 153, 0, 33, 28, 184, 0, 142, 153, 0, 26, 29, 184, 0, 142, 153, 0, 19, 42]
abbrev dktX0_change_0 : List UInt8 := dkwX0_change_0 ++ dktX0_change_1
theorem dksX0_change_0 : cX0_change.data.toList.drop 0 = dktX0_change_0 := by decide +kernel
theorem dksX0_change_1 : cX0_change.data.toList.drop 23 = dktX0_change_1 := dk_seg dksX0_change_0 23 rfl rfl
theorem dX0_change_0 : decode cX0_change 0 = .ok (.aload_n 0, 1) := dk_42 (dk_at dksX0_change_0 0 rfl rfl)
theorem dX0_change_1 : decode cX0_change 1 = .ok (.iload_n 1, 1) := dk_27 (dk_at dksX0_change_0 1 rfl rfl)
theorem dX0_change_2 : decode cX0_change 2 = .ok (.invokevirtual 123, 3) := dk_182 0 123 (dk_at dksX0_change_0 2 rfl rfl)
theorem dX0_change_5 : decode cX0_change 5 = .ok (.ifCond .eq 33, 3) := dk_153 0 33 (dk_at dksX0_change_0 5 rfl rfl)
theorem dX0_change_8 : decode cX0_change 8 = .ok (.iload_n 2, 1) := dk_28 (dk_at dksX0_change_0 8 rfl rfl)
theorem dX0_change_9 : decode cX0_change 9 = .ok (.invokestatic 142, 3) := dk_184 0 142 (dk_at dksX0_change_0 9 rfl rfl)
theorem dX0_change_12 : decode cX0_change 12 = .ok (.ifCond .eq 26, 3) := dk_153 0 26 (dk_at dksX0_change_0 12 rfl rfl)
theorem dX0_change_15 : decode cX0_change 15 = .ok (.iload_n 3, 1) := dk_29 (dk_at dksX0_change_0 15 rfl rfl)
theorem dX0_change_16 : decode cX0_change 16 = .ok (.invokestatic 142, 3) := dk_184 0 142 (dk_at dksX0_change_0 16 rfl rfl)
theorem dX0_change_19 : decode cX0_change 19 = .ok (.ifCond .eq 19, 3) := dk_153 0 19 (dk_at dksX0_change_0 19 rfl rfl)
theorem dX0_change_22 : decode cX0_change 22 = .ok (.aload_n 0, 1) := dk_42 (dk_at dksX0_change_0 22 rfl rfl)
theorem dX0_change_23 : decode cX0_change 23 = .ok (.getfield 13, 3) := dk_180 0 13 (dk_at dksX0_change_1 0 rfl rfl)
theorem dX0_change_26 : decode cX0_change 26 = .ok (.iload_n 1, 1) := dk_27 (dk_at dksX0_change_1 3 rfl rfl)
theorem dX0_change_27 : decode cX0_change 27 = .ok (.aaload, 1) := dk_50 (dk_at dksX0_change_1 4 rfl rfl)
theorem dX0_change_28 : decode cX0_change 28 = .ok (.getfield 145, 3) := dk_180 0 145 (dk_at dksX0_change_1 5 rfl rfl)
theorem dX0_change_31 : decode cX0_change 31 = .ok (.iload_n 3, 1) := dk_29 (dk_at dksX0_change_1 8 rfl rfl)
theorem dX0_change_32 : decode cX0_change 32 = .ok (.aaload, 1) := dk_50 (dk_at dksX0_change_1 9 rfl rfl)
theorem dX0_change_33 : decode cX0_change 33 = .ok (.iload_n 2, 1) := dk_28 (dk_at dksX0_change_1 10 rfl rfl)
theorem dX0_change_34 : decode cX0_change 34 = .ok (.laload, 1) := dk_47 (dk_at dksX0_change_1 11 rfl rfl)
theorem dX0_change_35 : decode cX0_change 35 = .ok (.goto 6, 3) := dk_167 0 6 (dk_at dksX0_change_1 12 rfl rfl)
theorem dX0_change_38 : decode cX0_change 38 = .ok (.ldc2_w 129, 3) := dk_20 0 129 (dk_at dksX0_change_1 15 rfl rfl)
theorem dX0_change_41 : decode cX0_change 41 = .ok (.lreturn, 1) := dk_173 (dk_at dksX0_change_1 18 rfl rfl)
abbrev cX0_isVector : ByteArray := prog_1_method_4_code
def yX0_isVector : MethodName := ⟨RX0, "isVector", "(I)Z"⟩
def dkwX0_isVector_0 : List UInt8 := [26, 133, 9, 20, 0, 105, 184, 0, 101, 172]
abbrev dktX0_isVector_0 : List UInt8 := dkwX0_isVector_0 ++ []
theorem dksX0_isVector_0 : cX0_isVector.data.toList.drop 0 = dktX0_isVector_0 := by decide +kernel
theorem dX0_isVector_0 : decode cX0_isVector 0 = .ok (.iload_n 0, 1) := dk_26 (dk_at dksX0_isVector_0 0 rfl rfl)
theorem dX0_isVector_1 : decode cX0_isVector 1 = .ok (.i2l, 1) := dk_133 (dk_at dksX0_isVector_0 1 rfl rfl)
theorem dX0_isVector_2 : decode cX0_isVector 2 = .ok (.lconst 0, 1) := dk_9 (dk_at dksX0_isVector_0 2 rfl rfl)
theorem dX0_isVector_3 : decode cX0_isVector 3 = .ok (.ldc2_w 105, 3) := dk_20 0 105 (dk_at dksX0_isVector_0 3 rfl rfl)
theorem dX0_isVector_6 : decode cX0_isVector 6 = .ok (.invokestatic 101, 3) := dk_184 0 101 (dk_at dksX0_isVector_0 6 rfl rfl)
theorem dX0_isVector_9 : decode cX0_isVector 9 = .ok (.ireturn, 1) := dk_172 (dk_at dksX0_isVector_0 9 rfl rfl)
abbrev cX0_undo : ByteArray := prog_1_method_10_code
def yX0_undo : MethodName := ⟨RX0, "undo", "()I"⟩
def dkwX0_undo_2 : List UInt8 := [180, 0, 31, 42, 180, 0, 148, 46, 172]
abbrev dktX0_undo_2 : List UInt8 := dkwX0_undo_2 ++ []
def dkwX0_undo_1 : List UInt8 := [42, 180, 0, 31, 42, 180, 0, 148, 46, 50, 42, 180, 0, 28, 42, 180, 0, 148, 50, 182, 0, 111, 87, 42]
abbrev dktX0_undo_1 : List UInt8 := dkwX0_undo_1 ++ dktX0_undo_2
def dkwX0_undo_0 : List UInt8 := [42, 180, 0, 148, 154, 0, 6, 16, 251, 172, 42, 89, 180, 0, 148, 4, 100, 181, 0, 148, 42, 180, 0, 13]
abbrev dktX0_undo_0 : List UInt8 := dkwX0_undo_0 ++ dktX0_undo_1
theorem dksX0_undo_0 : cX0_undo.data.toList.drop 0 = dktX0_undo_0 := by decide +kernel
theorem dksX0_undo_1 : cX0_undo.data.toList.drop 24 = dktX0_undo_1 := dk_seg dksX0_undo_0 24 rfl rfl
theorem dksX0_undo_2 : cX0_undo.data.toList.drop 48 = dktX0_undo_2 := dk_seg dksX0_undo_1 24 rfl rfl
theorem dX0_undo_0 : decode cX0_undo 0 = .ok (.aload_n 0, 1) := dk_42 (dk_at dksX0_undo_0 0 rfl rfl)
theorem dX0_undo_1 : decode cX0_undo 1 = .ok (.getfield 148, 3) := dk_180 0 148 (dk_at dksX0_undo_0 1 rfl rfl)
theorem dX0_undo_4 : decode cX0_undo 4 = .ok (.ifCond .ne 6, 3) := dk_154 0 6 (dk_at dksX0_undo_0 4 rfl rfl)
theorem dX0_undo_7 : decode cX0_undo 7 = .ok (.bipush (-5), 2) := dk_16 251 (dk_at dksX0_undo_0 7 rfl rfl)
theorem dX0_undo_9 : decode cX0_undo 9 = .ok (.ireturn, 1) := dk_172 (dk_at dksX0_undo_0 9 rfl rfl)
theorem dX0_undo_10 : decode cX0_undo 10 = .ok (.aload_n 0, 1) := dk_42 (dk_at dksX0_undo_0 10 rfl rfl)
theorem dX0_undo_11 : decode cX0_undo 11 = .ok (.dup, 1) := dk_89 (dk_at dksX0_undo_0 11 rfl rfl)
theorem dX0_undo_12 : decode cX0_undo 12 = .ok (.getfield 148, 3) := dk_180 0 148 (dk_at dksX0_undo_0 12 rfl rfl)
theorem dX0_undo_15 : decode cX0_undo 15 = .ok (.iconst 1, 1) := dk_4 (dk_at dksX0_undo_0 15 rfl rfl)
theorem dX0_undo_16 : decode cX0_undo 16 = .ok (.isub, 1) := dk_100 (dk_at dksX0_undo_0 16 rfl rfl)
theorem dX0_undo_17 : decode cX0_undo 17 = .ok (.putfield 148, 3) := dk_181 0 148 (dk_at dksX0_undo_0 17 rfl rfl)
theorem dX0_undo_20 : decode cX0_undo 20 = .ok (.aload_n 0, 1) := dk_42 (dk_at dksX0_undo_0 20 rfl rfl)
theorem dX0_undo_21 : decode cX0_undo 21 = .ok (.getfield 13, 3) := dk_180 0 13 (dk_at dksX0_undo_0 21 rfl rfl)
theorem dX0_undo_24 : decode cX0_undo 24 = .ok (.aload_n 0, 1) := dk_42 (dk_at dksX0_undo_1 0 rfl rfl)
theorem dX0_undo_25 : decode cX0_undo 25 = .ok (.getfield 31, 3) := dk_180 0 31 (dk_at dksX0_undo_1 1 rfl rfl)
theorem dX0_undo_28 : decode cX0_undo 28 = .ok (.aload_n 0, 1) := dk_42 (dk_at dksX0_undo_1 4 rfl rfl)
theorem dX0_undo_29 : decode cX0_undo 29 = .ok (.getfield 148, 3) := dk_180 0 148 (dk_at dksX0_undo_1 5 rfl rfl)
theorem dX0_undo_32 : decode cX0_undo 32 = .ok (.iaload, 1) := dk_46 (dk_at dksX0_undo_1 8 rfl rfl)
theorem dX0_undo_33 : decode cX0_undo 33 = .ok (.aaload, 1) := dk_50 (dk_at dksX0_undo_1 9 rfl rfl)
theorem dX0_undo_34 : decode cX0_undo 34 = .ok (.aload_n 0, 1) := dk_42 (dk_at dksX0_undo_1 10 rfl rfl)
theorem dX0_undo_35 : decode cX0_undo 35 = .ok (.getfield 28, 3) := dk_180 0 28 (dk_at dksX0_undo_1 11 rfl rfl)
theorem dX0_undo_38 : decode cX0_undo 38 = .ok (.aload_n 0, 1) := dk_42 (dk_at dksX0_undo_1 14 rfl rfl)
theorem dX0_undo_39 : decode cX0_undo 39 = .ok (.getfield 148, 3) := dk_180 0 148 (dk_at dksX0_undo_1 15 rfl rfl)
theorem dX0_undo_42 : decode cX0_undo 42 = .ok (.aaload, 1) := dk_50 (dk_at dksX0_undo_1 18 rfl rfl)
theorem dX0_undo_43 : decode cX0_undo 43 = .ok (.invokevirtual 111, 3) := dk_182 0 111 (dk_at dksX0_undo_1 19 rfl rfl)
theorem dX0_undo_46 : decode cX0_undo 46 = .ok (.pop, 1) := dk_87 (dk_at dksX0_undo_1 22 rfl rfl)
theorem dX0_undo_47 : decode cX0_undo 47 = .ok (.aload_n 0, 1) := dk_42 (dk_at dksX0_undo_1 23 rfl rfl)
theorem dX0_undo_48 : decode cX0_undo 48 = .ok (.getfield 31, 3) := dk_180 0 31 (dk_at dksX0_undo_2 0 rfl rfl)
theorem dX0_undo_51 : decode cX0_undo 51 = .ok (.aload_n 0, 1) := dk_42 (dk_at dksX0_undo_2 3 rfl rfl)
theorem dX0_undo_52 : decode cX0_undo 52 = .ok (.getfield 148, 3) := dk_180 0 148 (dk_at dksX0_undo_2 4 rfl rfl)
theorem dX0_undo_55 : decode cX0_undo 55 = .ok (.iaload, 1) := dk_46 (dk_at dksX0_undo_2 7 rfl rfl)
theorem dX0_undo_56 : decode cX0_undo 56 = .ok (.ireturn, 1) := dk_172 (dk_at dksX0_undo_2 8 rfl rfl)
abbrev cX0_add : ByteArray := prog_1_method_11_code
def yX0_add : MethodName := ⟨RX0, "add", "(IIII)I"⟩
def dkwX0_add_3 : List UInt8 := [42, 27, 182, 0, 161, 42, 180, 0, 13, 27, 50, 28, 29, 21, 4, 133, 182, 0, 165, 22, 5, 136, 172]
abbrev dktX0_add_3 : List UInt8 := dkwX0_add_3 ++ []
def dkwX0_add_2 : List UInt8 := [27, 50, 28, 29, 21, 4, 133, 182, 0, 155, 55, 5, 22, 5, 20, 0, 159, 148, 158, 0, 6, 16, 253, 172]
abbrev dktX0_add_2 : List UInt8 := dkwX0_add_2 ++ dktX0_add_3
def dkwX0_add_1 : List UInt8 := [159, 0, 18, 21, 4, 133, 20, 0, 151, 20, 0, 153, 184, 0, 101, 154, 0, 5, 2, 172, 42, 180, 0, 13]
abbrev dktX0_add_1 : List UInt8 := dkwX0_add_1 ++ dktX0_add_2
def dkwX0_add_0 : List UInt8 := [42, 27, 182, 0, 123, 153, 0, 37, 28, 184, 0, 142, 153, 0, 30, 29, 184, 0, 142, 153, 0, 23, 28, 29]
abbrev dktX0_add_0 : List UInt8 := dkwX0_add_0 ++ dktX0_add_1
theorem dksX0_add_0 : cX0_add.data.toList.drop 0 = dktX0_add_0 := by decide +kernel
theorem dksX0_add_1 : cX0_add.data.toList.drop 24 = dktX0_add_1 := dk_seg dksX0_add_0 24 rfl rfl
theorem dksX0_add_2 : cX0_add.data.toList.drop 48 = dktX0_add_2 := dk_seg dksX0_add_1 24 rfl rfl
theorem dksX0_add_3 : cX0_add.data.toList.drop 72 = dktX0_add_3 := dk_seg dksX0_add_2 24 rfl rfl
theorem dX0_add_0 : decode cX0_add 0 = .ok (.aload_n 0, 1) := dk_42 (dk_at dksX0_add_0 0 rfl rfl)
theorem dX0_add_1 : decode cX0_add 1 = .ok (.iload_n 1, 1) := dk_27 (dk_at dksX0_add_0 1 rfl rfl)
theorem dX0_add_2 : decode cX0_add 2 = .ok (.invokevirtual 123, 3) := dk_182 0 123 (dk_at dksX0_add_0 2 rfl rfl)
theorem dX0_add_5 : decode cX0_add 5 = .ok (.ifCond .eq 37, 3) := dk_153 0 37 (dk_at dksX0_add_0 5 rfl rfl)
theorem dX0_add_8 : decode cX0_add 8 = .ok (.iload_n 2, 1) := dk_28 (dk_at dksX0_add_0 8 rfl rfl)
theorem dX0_add_9 : decode cX0_add 9 = .ok (.invokestatic 142, 3) := dk_184 0 142 (dk_at dksX0_add_0 9 rfl rfl)
theorem dX0_add_12 : decode cX0_add 12 = .ok (.ifCond .eq 30, 3) := dk_153 0 30 (dk_at dksX0_add_0 12 rfl rfl)
theorem dX0_add_15 : decode cX0_add 15 = .ok (.iload_n 3, 1) := dk_29 (dk_at dksX0_add_0 15 rfl rfl)
theorem dX0_add_16 : decode cX0_add 16 = .ok (.invokestatic 142, 3) := dk_184 0 142 (dk_at dksX0_add_0 16 rfl rfl)
theorem dX0_add_19 : decode cX0_add 19 = .ok (.ifCond .eq 23, 3) := dk_153 0 23 (dk_at dksX0_add_0 19 rfl rfl)
theorem dX0_add_22 : decode cX0_add 22 = .ok (.iload_n 2, 1) := dk_28 (dk_at dksX0_add_0 22 rfl rfl)
theorem dX0_add_23 : decode cX0_add 23 = .ok (.iload_n 3, 1) := dk_29 (dk_at dksX0_add_0 23 rfl rfl)
theorem dX0_add_24 : decode cX0_add 24 = .ok (.if_icmp .eq 18, 3) := dk_159 0 18 (dk_at dksX0_add_1 0 rfl rfl)
theorem dX0_add_27 : decode cX0_add 27 = .ok (.iload 4, 2) := dk_21 4 (dk_at dksX0_add_1 3 rfl rfl)
theorem dX0_add_29 : decode cX0_add 29 = .ok (.i2l, 1) := dk_133 (dk_at dksX0_add_1 5 rfl rfl)
theorem dX0_add_30 : decode cX0_add 30 = .ok (.ldc2_w 151, 3) := dk_20 0 151 (dk_at dksX0_add_1 6 rfl rfl)
theorem dX0_add_33 : decode cX0_add 33 = .ok (.ldc2_w 153, 3) := dk_20 0 153 (dk_at dksX0_add_1 9 rfl rfl)
theorem dX0_add_36 : decode cX0_add 36 = .ok (.invokestatic 101, 3) := dk_184 0 101 (dk_at dksX0_add_1 12 rfl rfl)
theorem dX0_add_39 : decode cX0_add 39 = .ok (.ifCond .ne 5, 3) := dk_154 0 5 (dk_at dksX0_add_1 15 rfl rfl)
theorem dX0_add_42 : decode cX0_add 42 = .ok (.iconst (-1), 1) := dk_2 (dk_at dksX0_add_1 18 rfl rfl)
theorem dX0_add_43 : decode cX0_add 43 = .ok (.ireturn, 1) := dk_172 (dk_at dksX0_add_1 19 rfl rfl)
theorem dX0_add_44 : decode cX0_add 44 = .ok (.aload_n 0, 1) := dk_42 (dk_at dksX0_add_1 20 rfl rfl)
theorem dX0_add_45 : decode cX0_add 45 = .ok (.getfield 13, 3) := dk_180 0 13 (dk_at dksX0_add_1 21 rfl rfl)
theorem dX0_add_48 : decode cX0_add 48 = .ok (.iload_n 1, 1) := dk_27 (dk_at dksX0_add_2 0 rfl rfl)
theorem dX0_add_49 : decode cX0_add 49 = .ok (.aaload, 1) := dk_50 (dk_at dksX0_add_2 1 rfl rfl)
theorem dX0_add_50 : decode cX0_add 50 = .ok (.iload_n 2, 1) := dk_28 (dk_at dksX0_add_2 2 rfl rfl)
theorem dX0_add_51 : decode cX0_add 51 = .ok (.iload_n 3, 1) := dk_29 (dk_at dksX0_add_2 3 rfl rfl)
theorem dX0_add_52 : decode cX0_add 52 = .ok (.iload 4, 2) := dk_21 4 (dk_at dksX0_add_2 4 rfl rfl)
theorem dX0_add_54 : decode cX0_add 54 = .ok (.i2l, 1) := dk_133 (dk_at dksX0_add_2 6 rfl rfl)
theorem dX0_add_55 : decode cX0_add 55 = .ok (.invokevirtual 155, 3) := dk_182 0 155 (dk_at dksX0_add_2 7 rfl rfl)
theorem dX0_add_58 : decode cX0_add 58 = .ok (.lstore 5, 2) := dk_55 5 (dk_at dksX0_add_2 10 rfl rfl)
theorem dX0_add_60 : decode cX0_add 60 = .ok (.lload 5, 2) := dk_22 5 (dk_at dksX0_add_2 12 rfl rfl)
theorem dX0_add_62 : decode cX0_add 62 = .ok (.ldc2_w 159, 3) := dk_20 0 159 (dk_at dksX0_add_2 14 rfl rfl)
theorem dX0_add_65 : decode cX0_add 65 = .ok (.lcmp, 1) := dk_148 (dk_at dksX0_add_2 17 rfl rfl)
theorem dX0_add_66 : decode cX0_add 66 = .ok (.ifCond .le 6, 3) := dk_158 0 6 (dk_at dksX0_add_2 18 rfl rfl)
theorem dX0_add_69 : decode cX0_add 69 = .ok (.bipush (-3), 2) := dk_16 253 (dk_at dksX0_add_2 21 rfl rfl)
theorem dX0_add_71 : decode cX0_add 71 = .ok (.ireturn, 1) := dk_172 (dk_at dksX0_add_2 23 rfl rfl)
theorem dX0_add_72 : decode cX0_add 72 = .ok (.aload_n 0, 1) := dk_42 (dk_at dksX0_add_3 0 rfl rfl)
theorem dX0_add_73 : decode cX0_add 73 = .ok (.iload_n 1, 1) := dk_27 (dk_at dksX0_add_3 1 rfl rfl)
theorem dX0_add_74 : decode cX0_add 74 = .ok (.invokevirtual 161, 3) := dk_182 0 161 (dk_at dksX0_add_3 2 rfl rfl)
theorem dX0_add_77 : decode cX0_add 77 = .ok (.aload_n 0, 1) := dk_42 (dk_at dksX0_add_3 5 rfl rfl)
theorem dX0_add_78 : decode cX0_add 78 = .ok (.getfield 13, 3) := dk_180 0 13 (dk_at dksX0_add_3 6 rfl rfl)
theorem dX0_add_81 : decode cX0_add 81 = .ok (.iload_n 1, 1) := dk_27 (dk_at dksX0_add_3 9 rfl rfl)
theorem dX0_add_82 : decode cX0_add 82 = .ok (.aaload, 1) := dk_50 (dk_at dksX0_add_3 10 rfl rfl)
theorem dX0_add_83 : decode cX0_add 83 = .ok (.iload_n 2, 1) := dk_28 (dk_at dksX0_add_3 11 rfl rfl)
theorem dX0_add_84 : decode cX0_add 84 = .ok (.iload_n 3, 1) := dk_29 (dk_at dksX0_add_3 12 rfl rfl)
theorem dX0_add_85 : decode cX0_add 85 = .ok (.iload 4, 2) := dk_21 4 (dk_at dksX0_add_3 13 rfl rfl)
theorem dX0_add_87 : decode cX0_add 87 = .ok (.i2l, 1) := dk_133 (dk_at dksX0_add_3 15 rfl rfl)
theorem dX0_add_88 : decode cX0_add 88 = .ok (.invokevirtual 165, 3) := dk_182 0 165 (dk_at dksX0_add_3 16 rfl rfl)
theorem dX0_add_91 : decode cX0_add 91 = .ok (.lload 5, 2) := dk_22 5 (dk_at dksX0_add_3 19 rfl rfl)
theorem dX0_add_93 : decode cX0_add 93 = .ok (.l2i, 1) := dk_136 (dk_at dksX0_add_3 21 rfl rfl)
theorem dX0_add_94 : decode cX0_add 94 = .ok (.ireturn, 1) := dk_172 (dk_at dksX0_add_3 22 rfl rfl)
abbrev cX0_keeps : ByteArray := prog_1_method_9_code
def yX0_keeps : MethodName := ⟨RX0, "keeps", "(I)V"⟩
def dkwX0_keeps_5 : List UInt8 := [177]
abbrev dktX0_keeps_5 : List UInt8 := dkwX0_keeps_5 ++ []
def dkwX0_keeps_4 : List UInt8 := [182, 0, 111, 87, 42, 180, 0, 31, 42, 180, 0, 148, 27, 79, 42, 89, 180, 0, 148, 4, 96, 181, 0, 148]
abbrev dktX0_keeps_4 : List UInt8 := dkwX0_keeps_4 ++ dktX0_keeps_5
def dkwX0_keeps_3 : List UInt8 := [180, 0, 148, 4, 100, 181, 0, 148, 42, 180, 0, 28, 42, 180, 0, 148, 50, 42, 180, 0, 13, 27, 50]
abbrev dktX0_keeps_3 : List UInt8 := dkwX0_keeps_3 ++ dktX0_keeps_4
def dkwX0_keeps_2 : List UInt8 := [180, 0, 31, 29, 46, 79, 132, 3, 1, 167, 255, 219, 42, 180, 0, 28, 16, 11, 44, 83, 42, 89]
abbrev dktX0_keeps_2 : List UInt8 := dkwX0_keeps_2 ++ dktX0_keeps_3
def dkwX0_keeps_1 : List UInt8 := [42, 180, 0, 28, 29, 4, 100, 42, 180, 0, 28, 29, 50, 83, 42, 180, 0, 31, 29, 4, 100, 42]
abbrev dktX0_keeps_1 : List UInt8 := dkwX0_keeps_1 ++ dktX0_keeps_2
def dkwX0_keeps_0 : List UInt8 := [42, 180, 0, 148, 16, 12, 160, 0, 70, 42, 180, 0, 28, 3, 50, 77, 4, 62, 29, 16, 12, 162, 0, 37]
abbrev dktX0_keeps_0 : List UInt8 := dkwX0_keeps_0 ++ dktX0_keeps_1
theorem dksX0_keeps_0 : cX0_keeps.data.toList.drop 0 = dktX0_keeps_0 := by decide +kernel
theorem dksX0_keeps_1 : cX0_keeps.data.toList.drop 24 = dktX0_keeps_1 := dk_seg dksX0_keeps_0 24 rfl rfl
theorem dksX0_keeps_2 : cX0_keeps.data.toList.drop 46 = dktX0_keeps_2 := dk_seg dksX0_keeps_1 22 rfl rfl
theorem dksX0_keeps_3 : cX0_keeps.data.toList.drop 68 = dktX0_keeps_3 := dk_seg dksX0_keeps_2 22 rfl rfl
theorem dksX0_keeps_4 : cX0_keeps.data.toList.drop 91 = dktX0_keeps_4 := dk_seg dksX0_keeps_3 23 rfl rfl
theorem dksX0_keeps_5 : cX0_keeps.data.toList.drop 115 = dktX0_keeps_5 := dk_seg dksX0_keeps_4 24 rfl rfl
theorem dX0_keeps_0 : decode cX0_keeps 0 = .ok (.aload_n 0, 1) := dk_42 (dk_at dksX0_keeps_0 0 rfl rfl)
theorem dX0_keeps_1 : decode cX0_keeps 1 = .ok (.getfield 148, 3) := dk_180 0 148 (dk_at dksX0_keeps_0 1 rfl rfl)
theorem dX0_keeps_4 : decode cX0_keeps 4 = .ok (.bipush 12, 2) := dk_16 12 (dk_at dksX0_keeps_0 4 rfl rfl)
theorem dX0_keeps_6 : decode cX0_keeps 6 = .ok (.if_icmp .ne 70, 3) := dk_160 0 70 (dk_at dksX0_keeps_0 6 rfl rfl)
theorem dX0_keeps_9 : decode cX0_keeps 9 = .ok (.aload_n 0, 1) := dk_42 (dk_at dksX0_keeps_0 9 rfl rfl)
theorem dX0_keeps_10 : decode cX0_keeps 10 = .ok (.getfield 28, 3) := dk_180 0 28 (dk_at dksX0_keeps_0 10 rfl rfl)
theorem dX0_keeps_13 : decode cX0_keeps 13 = .ok (.iconst 0, 1) := dk_3 (dk_at dksX0_keeps_0 13 rfl rfl)
theorem dX0_keeps_14 : decode cX0_keeps 14 = .ok (.aaload, 1) := dk_50 (dk_at dksX0_keeps_0 14 rfl rfl)
theorem dX0_keeps_15 : decode cX0_keeps 15 = .ok (.astore_n 2, 1) := dk_77 (dk_at dksX0_keeps_0 15 rfl rfl)
theorem dX0_keeps_16 : decode cX0_keeps 16 = .ok (.iconst 1, 1) := dk_4 (dk_at dksX0_keeps_0 16 rfl rfl)
theorem dX0_keeps_17 : decode cX0_keeps 17 = .ok (.istore_n 3, 1) := dk_62 (dk_at dksX0_keeps_0 17 rfl rfl)
theorem dX0_keeps_18 : decode cX0_keeps 18 = .ok (.iload_n 3, 1) := dk_29 (dk_at dksX0_keeps_0 18 rfl rfl)
theorem dX0_keeps_19 : decode cX0_keeps 19 = .ok (.bipush 12, 2) := dk_16 12 (dk_at dksX0_keeps_0 19 rfl rfl)
theorem dX0_keeps_21 : decode cX0_keeps 21 = .ok (.if_icmp .ge 37, 3) := dk_162 0 37 (dk_at dksX0_keeps_0 21 rfl rfl)
theorem dX0_keeps_24 : decode cX0_keeps 24 = .ok (.aload_n 0, 1) := dk_42 (dk_at dksX0_keeps_1 0 rfl rfl)
theorem dX0_keeps_25 : decode cX0_keeps 25 = .ok (.getfield 28, 3) := dk_180 0 28 (dk_at dksX0_keeps_1 1 rfl rfl)
theorem dX0_keeps_28 : decode cX0_keeps 28 = .ok (.iload_n 3, 1) := dk_29 (dk_at dksX0_keeps_1 4 rfl rfl)
theorem dX0_keeps_29 : decode cX0_keeps 29 = .ok (.iconst 1, 1) := dk_4 (dk_at dksX0_keeps_1 5 rfl rfl)
theorem dX0_keeps_30 : decode cX0_keeps 30 = .ok (.isub, 1) := dk_100 (dk_at dksX0_keeps_1 6 rfl rfl)
theorem dX0_keeps_31 : decode cX0_keeps 31 = .ok (.aload_n 0, 1) := dk_42 (dk_at dksX0_keeps_1 7 rfl rfl)
theorem dX0_keeps_32 : decode cX0_keeps 32 = .ok (.getfield 28, 3) := dk_180 0 28 (dk_at dksX0_keeps_1 8 rfl rfl)
theorem dX0_keeps_35 : decode cX0_keeps 35 = .ok (.iload_n 3, 1) := dk_29 (dk_at dksX0_keeps_1 11 rfl rfl)
theorem dX0_keeps_36 : decode cX0_keeps 36 = .ok (.aaload, 1) := dk_50 (dk_at dksX0_keeps_1 12 rfl rfl)
theorem dX0_keeps_37 : decode cX0_keeps 37 = .ok (.aastore, 1) := dk_83 (dk_at dksX0_keeps_1 13 rfl rfl)
theorem dX0_keeps_38 : decode cX0_keeps 38 = .ok (.aload_n 0, 1) := dk_42 (dk_at dksX0_keeps_1 14 rfl rfl)
theorem dX0_keeps_39 : decode cX0_keeps 39 = .ok (.getfield 31, 3) := dk_180 0 31 (dk_at dksX0_keeps_1 15 rfl rfl)
theorem dX0_keeps_42 : decode cX0_keeps 42 = .ok (.iload_n 3, 1) := dk_29 (dk_at dksX0_keeps_1 18 rfl rfl)
theorem dX0_keeps_43 : decode cX0_keeps 43 = .ok (.iconst 1, 1) := dk_4 (dk_at dksX0_keeps_1 19 rfl rfl)
theorem dX0_keeps_44 : decode cX0_keeps 44 = .ok (.isub, 1) := dk_100 (dk_at dksX0_keeps_1 20 rfl rfl)
theorem dX0_keeps_45 : decode cX0_keeps 45 = .ok (.aload_n 0, 1) := dk_42 (dk_at dksX0_keeps_1 21 rfl rfl)
theorem dX0_keeps_46 : decode cX0_keeps 46 = .ok (.getfield 31, 3) := dk_180 0 31 (dk_at dksX0_keeps_2 0 rfl rfl)
theorem dX0_keeps_49 : decode cX0_keeps 49 = .ok (.iload_n 3, 1) := dk_29 (dk_at dksX0_keeps_2 3 rfl rfl)
theorem dX0_keeps_50 : decode cX0_keeps 50 = .ok (.iaload, 1) := dk_46 (dk_at dksX0_keeps_2 4 rfl rfl)
theorem dX0_keeps_51 : decode cX0_keeps 51 = .ok (.iastore, 1) := dk_79 (dk_at dksX0_keeps_2 5 rfl rfl)
theorem dX0_keeps_52 : decode cX0_keeps 52 = .ok (.iinc 3 1, 3) := dk_132 3 1 (dk_at dksX0_keeps_2 6 rfl rfl)
theorem dX0_keeps_55 : decode cX0_keeps 55 = .ok (.goto (-37), 3) := dk_167 255 219 (dk_at dksX0_keeps_2 9 rfl rfl)
theorem dX0_keeps_58 : decode cX0_keeps 58 = .ok (.aload_n 0, 1) := dk_42 (dk_at dksX0_keeps_2 12 rfl rfl)
theorem dX0_keeps_59 : decode cX0_keeps 59 = .ok (.getfield 28, 3) := dk_180 0 28 (dk_at dksX0_keeps_2 13 rfl rfl)
theorem dX0_keeps_62 : decode cX0_keeps 62 = .ok (.bipush 11, 2) := dk_16 11 (dk_at dksX0_keeps_2 16 rfl rfl)
theorem dX0_keeps_64 : decode cX0_keeps 64 = .ok (.aload_n 2, 1) := dk_44 (dk_at dksX0_keeps_2 18 rfl rfl)
theorem dX0_keeps_65 : decode cX0_keeps 65 = .ok (.aastore, 1) := dk_83 (dk_at dksX0_keeps_2 19 rfl rfl)
theorem dX0_keeps_66 : decode cX0_keeps 66 = .ok (.aload_n 0, 1) := dk_42 (dk_at dksX0_keeps_2 20 rfl rfl)
theorem dX0_keeps_67 : decode cX0_keeps 67 = .ok (.dup, 1) := dk_89 (dk_at dksX0_keeps_2 21 rfl rfl)
theorem dX0_keeps_68 : decode cX0_keeps 68 = .ok (.getfield 148, 3) := dk_180 0 148 (dk_at dksX0_keeps_3 0 rfl rfl)
theorem dX0_keeps_71 : decode cX0_keeps 71 = .ok (.iconst 1, 1) := dk_4 (dk_at dksX0_keeps_3 3 rfl rfl)
theorem dX0_keeps_72 : decode cX0_keeps 72 = .ok (.isub, 1) := dk_100 (dk_at dksX0_keeps_3 4 rfl rfl)
theorem dX0_keeps_73 : decode cX0_keeps 73 = .ok (.putfield 148, 3) := dk_181 0 148 (dk_at dksX0_keeps_3 5 rfl rfl)
theorem dX0_keeps_76 : decode cX0_keeps 76 = .ok (.aload_n 0, 1) := dk_42 (dk_at dksX0_keeps_3 8 rfl rfl)
theorem dX0_keeps_77 : decode cX0_keeps 77 = .ok (.getfield 28, 3) := dk_180 0 28 (dk_at dksX0_keeps_3 9 rfl rfl)
theorem dX0_keeps_80 : decode cX0_keeps 80 = .ok (.aload_n 0, 1) := dk_42 (dk_at dksX0_keeps_3 12 rfl rfl)
theorem dX0_keeps_81 : decode cX0_keeps 81 = .ok (.getfield 148, 3) := dk_180 0 148 (dk_at dksX0_keeps_3 13 rfl rfl)
theorem dX0_keeps_84 : decode cX0_keeps 84 = .ok (.aaload, 1) := dk_50 (dk_at dksX0_keeps_3 16 rfl rfl)
theorem dX0_keeps_85 : decode cX0_keeps 85 = .ok (.aload_n 0, 1) := dk_42 (dk_at dksX0_keeps_3 17 rfl rfl)
theorem dX0_keeps_86 : decode cX0_keeps 86 = .ok (.getfield 13, 3) := dk_180 0 13 (dk_at dksX0_keeps_3 18 rfl rfl)
theorem dX0_keeps_89 : decode cX0_keeps 89 = .ok (.iload_n 1, 1) := dk_27 (dk_at dksX0_keeps_3 21 rfl rfl)
theorem dX0_keeps_90 : decode cX0_keeps 90 = .ok (.aaload, 1) := dk_50 (dk_at dksX0_keeps_3 22 rfl rfl)
theorem dX0_keeps_91 : decode cX0_keeps 91 = .ok (.invokevirtual 111, 3) := dk_182 0 111 (dk_at dksX0_keeps_4 0 rfl rfl)
theorem dX0_keeps_94 : decode cX0_keeps 94 = .ok (.pop, 1) := dk_87 (dk_at dksX0_keeps_4 3 rfl rfl)
theorem dX0_keeps_95 : decode cX0_keeps 95 = .ok (.aload_n 0, 1) := dk_42 (dk_at dksX0_keeps_4 4 rfl rfl)
theorem dX0_keeps_96 : decode cX0_keeps 96 = .ok (.getfield 31, 3) := dk_180 0 31 (dk_at dksX0_keeps_4 5 rfl rfl)
theorem dX0_keeps_99 : decode cX0_keeps 99 = .ok (.aload_n 0, 1) := dk_42 (dk_at dksX0_keeps_4 8 rfl rfl)
theorem dX0_keeps_100 : decode cX0_keeps 100 = .ok (.getfield 148, 3) := dk_180 0 148 (dk_at dksX0_keeps_4 9 rfl rfl)
theorem dX0_keeps_103 : decode cX0_keeps 103 = .ok (.iload_n 1, 1) := dk_27 (dk_at dksX0_keeps_4 12 rfl rfl)
theorem dX0_keeps_104 : decode cX0_keeps 104 = .ok (.iastore, 1) := dk_79 (dk_at dksX0_keeps_4 13 rfl rfl)
theorem dX0_keeps_105 : decode cX0_keeps 105 = .ok (.aload_n 0, 1) := dk_42 (dk_at dksX0_keeps_4 14 rfl rfl)
theorem dX0_keeps_106 : decode cX0_keeps 106 = .ok (.dup, 1) := dk_89 (dk_at dksX0_keeps_4 15 rfl rfl)
theorem dX0_keeps_107 : decode cX0_keeps 107 = .ok (.getfield 148, 3) := dk_180 0 148 (dk_at dksX0_keeps_4 16 rfl rfl)
theorem dX0_keeps_110 : decode cX0_keeps 110 = .ok (.iconst 1, 1) := dk_4 (dk_at dksX0_keeps_4 19 rfl rfl)
theorem dX0_keeps_111 : decode cX0_keeps 111 = .ok (.iadd, 1) := dk_96 (dk_at dksX0_keeps_4 20 rfl rfl)
theorem dX0_keeps_112 : decode cX0_keeps 112 = .ok (.putfield 148, 3) := dk_181 0 148 (dk_at dksX0_keeps_4 21 rfl rfl)
theorem dX0_keeps_115 : decode cX0_keeps 115 = .ok (.return_, 1) := dk_177 (dk_at dksX0_keeps_5 0 rfl rfl)
abbrev cX0_swap : ByteArray := prog_1_method_12_code
def yX0_swap : MethodName := ⟨RX0, "swap", "(III)I"⟩
def dkwX0_swap_2 : List UInt8 := [180, 0, 13, 27, 50, 6, 28, 100, 29, 100, 182, 0, 173, 4, 172]
abbrev dktX0_swap_2 : List UInt8 := dkwX0_swap_2 ++ []
def dkwX0_swap_1 : List UInt8 := [160, 0, 5, 2, 172, 42, 27, 182, 0, 161, 42, 180, 0, 13, 27, 50, 28, 29, 182, 0, 169, 42]
abbrev dktX0_swap_1 : List UInt8 := dkwX0_swap_1 ++ dktX0_swap_2
def dkwX0_swap_0 : List UInt8 := [42, 27, 182, 0, 123, 153, 0, 22, 28, 184, 0, 142, 153, 0, 15, 29, 184, 0, 142, 153, 0, 8, 28, 29]
abbrev dktX0_swap_0 : List UInt8 := dkwX0_swap_0 ++ dktX0_swap_1
theorem dksX0_swap_0 : cX0_swap.data.toList.drop 0 = dktX0_swap_0 := by decide +kernel
theorem dksX0_swap_1 : cX0_swap.data.toList.drop 24 = dktX0_swap_1 := dk_seg dksX0_swap_0 24 rfl rfl
theorem dksX0_swap_2 : cX0_swap.data.toList.drop 46 = dktX0_swap_2 := dk_seg dksX0_swap_1 22 rfl rfl
theorem dX0_swap_0 : decode cX0_swap 0 = .ok (.aload_n 0, 1) := dk_42 (dk_at dksX0_swap_0 0 rfl rfl)
theorem dX0_swap_1 : decode cX0_swap 1 = .ok (.iload_n 1, 1) := dk_27 (dk_at dksX0_swap_0 1 rfl rfl)
theorem dX0_swap_2 : decode cX0_swap 2 = .ok (.invokevirtual 123, 3) := dk_182 0 123 (dk_at dksX0_swap_0 2 rfl rfl)
theorem dX0_swap_5 : decode cX0_swap 5 = .ok (.ifCond .eq 22, 3) := dk_153 0 22 (dk_at dksX0_swap_0 5 rfl rfl)
theorem dX0_swap_8 : decode cX0_swap 8 = .ok (.iload_n 2, 1) := dk_28 (dk_at dksX0_swap_0 8 rfl rfl)
theorem dX0_swap_9 : decode cX0_swap 9 = .ok (.invokestatic 142, 3) := dk_184 0 142 (dk_at dksX0_swap_0 9 rfl rfl)
theorem dX0_swap_12 : decode cX0_swap 12 = .ok (.ifCond .eq 15, 3) := dk_153 0 15 (dk_at dksX0_swap_0 12 rfl rfl)
theorem dX0_swap_15 : decode cX0_swap 15 = .ok (.iload_n 3, 1) := dk_29 (dk_at dksX0_swap_0 15 rfl rfl)
theorem dX0_swap_16 : decode cX0_swap 16 = .ok (.invokestatic 142, 3) := dk_184 0 142 (dk_at dksX0_swap_0 16 rfl rfl)
theorem dX0_swap_19 : decode cX0_swap 19 = .ok (.ifCond .eq 8, 3) := dk_153 0 8 (dk_at dksX0_swap_0 19 rfl rfl)
theorem dX0_swap_22 : decode cX0_swap 22 = .ok (.iload_n 2, 1) := dk_28 (dk_at dksX0_swap_0 22 rfl rfl)
theorem dX0_swap_23 : decode cX0_swap 23 = .ok (.iload_n 3, 1) := dk_29 (dk_at dksX0_swap_0 23 rfl rfl)
theorem dX0_swap_24 : decode cX0_swap 24 = .ok (.if_icmp .ne 5, 3) := dk_160 0 5 (dk_at dksX0_swap_1 0 rfl rfl)
theorem dX0_swap_27 : decode cX0_swap 27 = .ok (.iconst (-1), 1) := dk_2 (dk_at dksX0_swap_1 3 rfl rfl)
theorem dX0_swap_28 : decode cX0_swap 28 = .ok (.ireturn, 1) := dk_172 (dk_at dksX0_swap_1 4 rfl rfl)
theorem dX0_swap_29 : decode cX0_swap 29 = .ok (.aload_n 0, 1) := dk_42 (dk_at dksX0_swap_1 5 rfl rfl)
theorem dX0_swap_30 : decode cX0_swap 30 = .ok (.iload_n 1, 1) := dk_27 (dk_at dksX0_swap_1 6 rfl rfl)
theorem dX0_swap_31 : decode cX0_swap 31 = .ok (.invokevirtual 161, 3) := dk_182 0 161 (dk_at dksX0_swap_1 7 rfl rfl)
theorem dX0_swap_34 : decode cX0_swap 34 = .ok (.aload_n 0, 1) := dk_42 (dk_at dksX0_swap_1 10 rfl rfl)
theorem dX0_swap_35 : decode cX0_swap 35 = .ok (.getfield 13, 3) := dk_180 0 13 (dk_at dksX0_swap_1 11 rfl rfl)
theorem dX0_swap_38 : decode cX0_swap 38 = .ok (.iload_n 1, 1) := dk_27 (dk_at dksX0_swap_1 14 rfl rfl)
theorem dX0_swap_39 : decode cX0_swap 39 = .ok (.aaload, 1) := dk_50 (dk_at dksX0_swap_1 15 rfl rfl)
theorem dX0_swap_40 : decode cX0_swap 40 = .ok (.iload_n 2, 1) := dk_28 (dk_at dksX0_swap_1 16 rfl rfl)
theorem dX0_swap_41 : decode cX0_swap 41 = .ok (.iload_n 3, 1) := dk_29 (dk_at dksX0_swap_1 17 rfl rfl)
theorem dX0_swap_42 : decode cX0_swap 42 = .ok (.invokevirtual 169, 3) := dk_182 0 169 (dk_at dksX0_swap_1 18 rfl rfl)
theorem dX0_swap_45 : decode cX0_swap 45 = .ok (.aload_n 0, 1) := dk_42 (dk_at dksX0_swap_1 21 rfl rfl)
theorem dX0_swap_46 : decode cX0_swap 46 = .ok (.getfield 13, 3) := dk_180 0 13 (dk_at dksX0_swap_2 0 rfl rfl)
theorem dX0_swap_49 : decode cX0_swap 49 = .ok (.iload_n 1, 1) := dk_27 (dk_at dksX0_swap_2 3 rfl rfl)
theorem dX0_swap_50 : decode cX0_swap 50 = .ok (.aaload, 1) := dk_50 (dk_at dksX0_swap_2 4 rfl rfl)
theorem dX0_swap_51 : decode cX0_swap 51 = .ok (.iconst 3, 1) := dk_6 (dk_at dksX0_swap_2 5 rfl rfl)
theorem dX0_swap_52 : decode cX0_swap 52 = .ok (.iload_n 2, 1) := dk_28 (dk_at dksX0_swap_2 6 rfl rfl)
theorem dX0_swap_53 : decode cX0_swap 53 = .ok (.isub, 1) := dk_100 (dk_at dksX0_swap_2 7 rfl rfl)
theorem dX0_swap_54 : decode cX0_swap 54 = .ok (.iload_n 3, 1) := dk_29 (dk_at dksX0_swap_2 8 rfl rfl)
theorem dX0_swap_55 : decode cX0_swap 55 = .ok (.isub, 1) := dk_100 (dk_at dksX0_swap_2 9 rfl rfl)
theorem dX0_swap_56 : decode cX0_swap 56 = .ok (.invokevirtual 173, 3) := dk_182 0 173 (dk_at dksX0_swap_2 10 rfl rfl)
theorem dX0_swap_59 : decode cX0_swap 59 = .ok (.iconst 1, 1) := dk_4 (dk_at dksX0_swap_2 13 rfl rfl)
theorem dX0_swap_60 : decode cX0_swap 60 = .ok (.ireturn, 1) := dk_172 (dk_at dksX0_swap_2 14 rfl rfl)
abbrev cX0_fails : ByteArray := prog_1_method_14_code
def yX0_fails : MethodName := ⟨RX0, "fails", "(I)I"⟩
def dkwX0_fails_2 : List UInt8 := [167, 255, 224, 28, 172]
abbrev dktX0_fails_2 : List UInt8 := dkwX0_fails_2 ++ []
def dkwX0_fails_1 : List UInt8 := [180, 0, 13, 27, 50, 29, 182, 0, 196, 153, 0, 9, 4, 29, 120, 167, 0, 4, 3, 128, 61, 132, 3, 1]
abbrev dktX0_fails_1 : List UInt8 := dkwX0_fails_1 ++ dktX0_fails_2
def dkwX0_fails_0 : List UInt8 := [42, 27, 182, 0, 123, 154, 0, 5, 2, 172, 3, 61, 4, 62, 29, 16, 8, 163, 0, 32, 28, 42]
abbrev dktX0_fails_0 : List UInt8 := dkwX0_fails_0 ++ dktX0_fails_1
theorem dksX0_fails_0 : cX0_fails.data.toList.drop 0 = dktX0_fails_0 := by decide +kernel
theorem dksX0_fails_1 : cX0_fails.data.toList.drop 22 = dktX0_fails_1 := dk_seg dksX0_fails_0 22 rfl rfl
theorem dksX0_fails_2 : cX0_fails.data.toList.drop 46 = dktX0_fails_2 := dk_seg dksX0_fails_1 24 rfl rfl
theorem dX0_fails_0 : decode cX0_fails 0 = .ok (.aload_n 0, 1) := dk_42 (dk_at dksX0_fails_0 0 rfl rfl)
theorem dX0_fails_1 : decode cX0_fails 1 = .ok (.iload_n 1, 1) := dk_27 (dk_at dksX0_fails_0 1 rfl rfl)
theorem dX0_fails_2 : decode cX0_fails 2 = .ok (.invokevirtual 123, 3) := dk_182 0 123 (dk_at dksX0_fails_0 2 rfl rfl)
theorem dX0_fails_5 : decode cX0_fails 5 = .ok (.ifCond .ne 5, 3) := dk_154 0 5 (dk_at dksX0_fails_0 5 rfl rfl)
theorem dX0_fails_8 : decode cX0_fails 8 = .ok (.iconst (-1), 1) := dk_2 (dk_at dksX0_fails_0 8 rfl rfl)
theorem dX0_fails_9 : decode cX0_fails 9 = .ok (.ireturn, 1) := dk_172 (dk_at dksX0_fails_0 9 rfl rfl)
theorem dX0_fails_10 : decode cX0_fails 10 = .ok (.iconst 0, 1) := dk_3 (dk_at dksX0_fails_0 10 rfl rfl)
theorem dX0_fails_11 : decode cX0_fails 11 = .ok (.istore_n 2, 1) := dk_61 (dk_at dksX0_fails_0 11 rfl rfl)
theorem dX0_fails_12 : decode cX0_fails 12 = .ok (.iconst 1, 1) := dk_4 (dk_at dksX0_fails_0 12 rfl rfl)
theorem dX0_fails_13 : decode cX0_fails 13 = .ok (.istore_n 3, 1) := dk_62 (dk_at dksX0_fails_0 13 rfl rfl)
theorem dX0_fails_14 : decode cX0_fails 14 = .ok (.iload_n 3, 1) := dk_29 (dk_at dksX0_fails_0 14 rfl rfl)
theorem dX0_fails_15 : decode cX0_fails 15 = .ok (.bipush 8, 2) := dk_16 8 (dk_at dksX0_fails_0 15 rfl rfl)
theorem dX0_fails_17 : decode cX0_fails 17 = .ok (.if_icmp .gt 32, 3) := dk_163 0 32 (dk_at dksX0_fails_0 17 rfl rfl)
theorem dX0_fails_20 : decode cX0_fails 20 = .ok (.iload_n 2, 1) := dk_28 (dk_at dksX0_fails_0 20 rfl rfl)
theorem dX0_fails_21 : decode cX0_fails 21 = .ok (.aload_n 0, 1) := dk_42 (dk_at dksX0_fails_0 21 rfl rfl)
theorem dX0_fails_22 : decode cX0_fails 22 = .ok (.getfield 13, 3) := dk_180 0 13 (dk_at dksX0_fails_1 0 rfl rfl)
theorem dX0_fails_25 : decode cX0_fails 25 = .ok (.iload_n 1, 1) := dk_27 (dk_at dksX0_fails_1 3 rfl rfl)
theorem dX0_fails_26 : decode cX0_fails 26 = .ok (.aaload, 1) := dk_50 (dk_at dksX0_fails_1 4 rfl rfl)
theorem dX0_fails_27 : decode cX0_fails 27 = .ok (.iload_n 3, 1) := dk_29 (dk_at dksX0_fails_1 5 rfl rfl)
theorem dX0_fails_28 : decode cX0_fails 28 = .ok (.invokevirtual 196, 3) := dk_182 0 196 (dk_at dksX0_fails_1 6 rfl rfl)
theorem dX0_fails_31 : decode cX0_fails 31 = .ok (.ifCond .eq 9, 3) := dk_153 0 9 (dk_at dksX0_fails_1 9 rfl rfl)
theorem dX0_fails_34 : decode cX0_fails 34 = .ok (.iconst 1, 1) := dk_4 (dk_at dksX0_fails_1 12 rfl rfl)
theorem dX0_fails_35 : decode cX0_fails 35 = .ok (.iload_n 3, 1) := dk_29 (dk_at dksX0_fails_1 13 rfl rfl)
theorem dX0_fails_36 : decode cX0_fails 36 = .ok (.ishl, 1) := dk_120 (dk_at dksX0_fails_1 14 rfl rfl)
theorem dX0_fails_37 : decode cX0_fails 37 = .ok (.goto 4, 3) := dk_167 0 4 (dk_at dksX0_fails_1 15 rfl rfl)
theorem dX0_fails_40 : decode cX0_fails 40 = .ok (.iconst 0, 1) := dk_3 (dk_at dksX0_fails_1 18 rfl rfl)
theorem dX0_fails_41 : decode cX0_fails 41 = .ok (.ior, 1) := dk_128 (dk_at dksX0_fails_1 19 rfl rfl)
theorem dX0_fails_42 : decode cX0_fails 42 = .ok (.istore_n 2, 1) := dk_61 (dk_at dksX0_fails_1 20 rfl rfl)
theorem dX0_fails_43 : decode cX0_fails 43 = .ok (.iinc 3 1, 3) := dk_132 3 1 (dk_at dksX0_fails_1 21 rfl rfl)
theorem dX0_fails_46 : decode cX0_fails 46 = .ok (.goto (-32), 3) := dk_167 255 224 (dk_at dksX0_fails_2 0 rfl rfl)
theorem dX0_fails_49 : decode cX0_fails 49 = .ok (.iload_n 2, 1) := dk_28 (dk_at dksX0_fails_2 3 rfl rfl)
theorem dX0_fails_50 : decode cX0_fails 50 = .ok (.ireturn, 1) := dk_172 (dk_at dksX0_fails_2 4 rfl rfl)
abbrev cX0_step : ByteArray := prog_1_method_15_code
def yX0_step : MethodName := ⟨RX0, "step", "(I)I"⟩
def dkwX0_step_2 : List UInt8 := [180, 0, 25, 182, 0, 111, 87, 42, 27, 28, 182, 0, 202, 28, 172]
abbrev dktX0_step_2 : List UInt8 := dkwX0_step_2 ++ []
def dkwX0_step_1 : List UInt8 := [42, 180, 0, 25, 182, 0, 199, 61, 28, 158, 0, 28, 42, 27, 182, 0, 161, 42, 180, 0, 13, 27, 50, 42]
abbrev dktX0_step_1 : List UInt8 := dkwX0_step_1 ++ dktX0_step_2
def dkwX0_step_0 : List UInt8 := [42, 27, 182, 0, 123, 154, 0, 5, 2, 172, 42, 180, 0, 25, 42, 180, 0, 13, 27, 50, 182, 0, 111, 87]
abbrev dktX0_step_0 : List UInt8 := dkwX0_step_0 ++ dktX0_step_1
theorem dksX0_step_0 : cX0_step.data.toList.drop 0 = dktX0_step_0 := by decide +kernel
theorem dksX0_step_1 : cX0_step.data.toList.drop 24 = dktX0_step_1 := dk_seg dksX0_step_0 24 rfl rfl
theorem dksX0_step_2 : cX0_step.data.toList.drop 48 = dktX0_step_2 := dk_seg dksX0_step_1 24 rfl rfl
theorem dX0_step_0 : decode cX0_step 0 = .ok (.aload_n 0, 1) := dk_42 (dk_at dksX0_step_0 0 rfl rfl)
theorem dX0_step_1 : decode cX0_step 1 = .ok (.iload_n 1, 1) := dk_27 (dk_at dksX0_step_0 1 rfl rfl)
theorem dX0_step_2 : decode cX0_step 2 = .ok (.invokevirtual 123, 3) := dk_182 0 123 (dk_at dksX0_step_0 2 rfl rfl)
theorem dX0_step_5 : decode cX0_step 5 = .ok (.ifCond .ne 5, 3) := dk_154 0 5 (dk_at dksX0_step_0 5 rfl rfl)
theorem dX0_step_8 : decode cX0_step 8 = .ok (.iconst (-1), 1) := dk_2 (dk_at dksX0_step_0 8 rfl rfl)
theorem dX0_step_9 : decode cX0_step 9 = .ok (.ireturn, 1) := dk_172 (dk_at dksX0_step_0 9 rfl rfl)
theorem dX0_step_10 : decode cX0_step 10 = .ok (.aload_n 0, 1) := dk_42 (dk_at dksX0_step_0 10 rfl rfl)
theorem dX0_step_11 : decode cX0_step 11 = .ok (.getfield 25, 3) := dk_180 0 25 (dk_at dksX0_step_0 11 rfl rfl)
theorem dX0_step_14 : decode cX0_step 14 = .ok (.aload_n 0, 1) := dk_42 (dk_at dksX0_step_0 14 rfl rfl)
theorem dX0_step_15 : decode cX0_step 15 = .ok (.getfield 13, 3) := dk_180 0 13 (dk_at dksX0_step_0 15 rfl rfl)
theorem dX0_step_18 : decode cX0_step 18 = .ok (.iload_n 1, 1) := dk_27 (dk_at dksX0_step_0 18 rfl rfl)
theorem dX0_step_19 : decode cX0_step 19 = .ok (.aaload, 1) := dk_50 (dk_at dksX0_step_0 19 rfl rfl)
theorem dX0_step_20 : decode cX0_step 20 = .ok (.invokevirtual 111, 3) := dk_182 0 111 (dk_at dksX0_step_0 20 rfl rfl)
theorem dX0_step_23 : decode cX0_step 23 = .ok (.pop, 1) := dk_87 (dk_at dksX0_step_0 23 rfl rfl)
theorem dX0_step_24 : decode cX0_step 24 = .ok (.aload_n 0, 1) := dk_42 (dk_at dksX0_step_1 0 rfl rfl)
theorem dX0_step_25 : decode cX0_step 25 = .ok (.getfield 25, 3) := dk_180 0 25 (dk_at dksX0_step_1 1 rfl rfl)
theorem dX0_step_28 : decode cX0_step 28 = .ok (.invokevirtual 199, 3) := dk_182 0 199 (dk_at dksX0_step_1 4 rfl rfl)
theorem dX0_step_31 : decode cX0_step 31 = .ok (.istore_n 2, 1) := dk_61 (dk_at dksX0_step_1 7 rfl rfl)
theorem dX0_step_32 : decode cX0_step 32 = .ok (.iload_n 2, 1) := dk_28 (dk_at dksX0_step_1 8 rfl rfl)
theorem dX0_step_33 : decode cX0_step 33 = .ok (.ifCond .le 28, 3) := dk_158 0 28 (dk_at dksX0_step_1 9 rfl rfl)
theorem dX0_step_36 : decode cX0_step 36 = .ok (.aload_n 0, 1) := dk_42 (dk_at dksX0_step_1 12 rfl rfl)
theorem dX0_step_37 : decode cX0_step 37 = .ok (.iload_n 1, 1) := dk_27 (dk_at dksX0_step_1 13 rfl rfl)
theorem dX0_step_38 : decode cX0_step 38 = .ok (.invokevirtual 161, 3) := dk_182 0 161 (dk_at dksX0_step_1 14 rfl rfl)
theorem dX0_step_41 : decode cX0_step 41 = .ok (.aload_n 0, 1) := dk_42 (dk_at dksX0_step_1 17 rfl rfl)
theorem dX0_step_42 : decode cX0_step 42 = .ok (.getfield 13, 3) := dk_180 0 13 (dk_at dksX0_step_1 18 rfl rfl)
theorem dX0_step_45 : decode cX0_step 45 = .ok (.iload_n 1, 1) := dk_27 (dk_at dksX0_step_1 21 rfl rfl)
theorem dX0_step_46 : decode cX0_step 46 = .ok (.aaload, 1) := dk_50 (dk_at dksX0_step_1 22 rfl rfl)
theorem dX0_step_47 : decode cX0_step 47 = .ok (.aload_n 0, 1) := dk_42 (dk_at dksX0_step_1 23 rfl rfl)
theorem dX0_step_48 : decode cX0_step 48 = .ok (.getfield 25, 3) := dk_180 0 25 (dk_at dksX0_step_2 0 rfl rfl)
theorem dX0_step_51 : decode cX0_step 51 = .ok (.invokevirtual 111, 3) := dk_182 0 111 (dk_at dksX0_step_2 3 rfl rfl)
theorem dX0_step_54 : decode cX0_step 54 = .ok (.pop, 1) := dk_87 (dk_at dksX0_step_2 6 rfl rfl)
theorem dX0_step_55 : decode cX0_step 55 = .ok (.aload_n 0, 1) := dk_42 (dk_at dksX0_step_2 7 rfl rfl)
theorem dX0_step_56 : decode cX0_step 56 = .ok (.iload_n 1, 1) := dk_27 (dk_at dksX0_step_2 8 rfl rfl)
theorem dX0_step_57 : decode cX0_step 57 = .ok (.iload_n 2, 1) := dk_28 (dk_at dksX0_step_2 9 rfl rfl)
theorem dX0_step_58 : decode cX0_step 58 = .ok (.invokevirtual 202, 3) := dk_182 0 202 (dk_at dksX0_step_2 10 rfl rfl)
theorem dX0_step_61 : decode cX0_step 61 = .ok (.iload_n 2, 1) := dk_28 (dk_at dksX0_step_2 13 rfl rfl)
theorem dX0_step_62 : decode cX0_step 62 = .ok (.ireturn, 1) := dk_172 (dk_at dksX0_step_2 14 rfl rfl)
abbrev cX0_logs : ByteArray := prog_1_method_13_code
def yX0_logs : MethodName := ⟨RX0, "logs", "(II)V"⟩
def dkwX0_logs_1 : List UInt8 := [16, 10, 27, 104, 28, 96, 184, 0, 183, 182, 0, 189, 87, 42, 89, 180, 0, 193, 4, 96, 181, 0, 193, 177]
abbrev dktX0_logs_1 : List UInt8 := dkwX0_logs_1 ++ []
def dkwX0_logs_0 : List UInt8 := [42, 180, 0, 38, 182, 0, 176, 16, 30, 160, 0, 11, 42, 180, 0, 38, 182, 0, 179, 87, 42, 180, 0, 38]
abbrev dktX0_logs_0 : List UInt8 := dkwX0_logs_0 ++ dktX0_logs_1
theorem dksX0_logs_0 : cX0_logs.data.toList.drop 0 = dktX0_logs_0 := by decide +kernel
theorem dksX0_logs_1 : cX0_logs.data.toList.drop 24 = dktX0_logs_1 := dk_seg dksX0_logs_0 24 rfl rfl
theorem dX0_logs_0 : decode cX0_logs 0 = .ok (.aload_n 0, 1) := dk_42 (dk_at dksX0_logs_0 0 rfl rfl)
theorem dX0_logs_1 : decode cX0_logs 1 = .ok (.getfield 38, 3) := dk_180 0 38 (dk_at dksX0_logs_0 1 rfl rfl)
theorem dX0_logs_4 : decode cX0_logs 4 = .ok (.invokevirtual 176, 3) := dk_182 0 176 (dk_at dksX0_logs_0 4 rfl rfl)
theorem dX0_logs_7 : decode cX0_logs 7 = .ok (.bipush 30, 2) := dk_16 30 (dk_at dksX0_logs_0 7 rfl rfl)
theorem dX0_logs_9 : decode cX0_logs 9 = .ok (.if_icmp .ne 11, 3) := dk_160 0 11 (dk_at dksX0_logs_0 9 rfl rfl)
theorem dX0_logs_12 : decode cX0_logs 12 = .ok (.aload_n 0, 1) := dk_42 (dk_at dksX0_logs_0 12 rfl rfl)
theorem dX0_logs_13 : decode cX0_logs 13 = .ok (.getfield 38, 3) := dk_180 0 38 (dk_at dksX0_logs_0 13 rfl rfl)
theorem dX0_logs_16 : decode cX0_logs 16 = .ok (.invokevirtual 179, 3) := dk_182 0 179 (dk_at dksX0_logs_0 16 rfl rfl)
theorem dX0_logs_19 : decode cX0_logs 19 = .ok (.pop, 1) := dk_87 (dk_at dksX0_logs_0 19 rfl rfl)
theorem dX0_logs_20 : decode cX0_logs 20 = .ok (.aload_n 0, 1) := dk_42 (dk_at dksX0_logs_0 20 rfl rfl)
theorem dX0_logs_21 : decode cX0_logs 21 = .ok (.getfield 38, 3) := dk_180 0 38 (dk_at dksX0_logs_0 21 rfl rfl)
theorem dX0_logs_24 : decode cX0_logs 24 = .ok (.bipush 10, 2) := dk_16 10 (dk_at dksX0_logs_1 0 rfl rfl)
theorem dX0_logs_26 : decode cX0_logs 26 = .ok (.iload_n 1, 1) := dk_27 (dk_at dksX0_logs_1 2 rfl rfl)
theorem dX0_logs_27 : decode cX0_logs 27 = .ok (.imul, 1) := dk_104 (dk_at dksX0_logs_1 3 rfl rfl)
theorem dX0_logs_28 : decode cX0_logs 28 = .ok (.iload_n 2, 1) := dk_28 (dk_at dksX0_logs_1 4 rfl rfl)
theorem dX0_logs_29 : decode cX0_logs 29 = .ok (.iadd, 1) := dk_96 (dk_at dksX0_logs_1 5 rfl rfl)
theorem dX0_logs_30 : decode cX0_logs 30 = .ok (.invokestatic 183, 3) := dk_184 0 183 (dk_at dksX0_logs_1 6 rfl rfl)
theorem dX0_logs_33 : decode cX0_logs 33 = .ok (.invokevirtual 189, 3) := dk_182 0 189 (dk_at dksX0_logs_1 9 rfl rfl)
theorem dX0_logs_36 : decode cX0_logs 36 = .ok (.pop, 1) := dk_87 (dk_at dksX0_logs_1 12 rfl rfl)
theorem dX0_logs_37 : decode cX0_logs 37 = .ok (.aload_n 0, 1) := dk_42 (dk_at dksX0_logs_1 13 rfl rfl)
theorem dX0_logs_38 : decode cX0_logs 38 = .ok (.dup, 1) := dk_89 (dk_at dksX0_logs_1 14 rfl rfl)
theorem dX0_logs_39 : decode cX0_logs 39 = .ok (.getfield 193, 3) := dk_180 0 193 (dk_at dksX0_logs_1 15 rfl rfl)
theorem dX0_logs_42 : decode cX0_logs 42 = .ok (.iconst 1, 1) := dk_4 (dk_at dksX0_logs_1 18 rfl rfl)
theorem dX0_logs_43 : decode cX0_logs 43 = .ok (.iadd, 1) := dk_96 (dk_at dksX0_logs_1 19 rfl rfl)
theorem dX0_logs_44 : decode cX0_logs 44 = .ok (.putfield 193, 3) := dk_181 0 193 (dk_at dksX0_logs_1 20 rfl rfl)
theorem dX0_logs_47 : decode cX0_logs 47 = .ok (.return_, 1) := dk_177 (dk_at dksX0_logs_1 23 rfl rfl)
abbrev cX0_reduce : ByteArray := prog_1_method_16_code
def yX0_reduce : MethodName := ⟨RX0, "reduce", "(I)I"⟩
def dkwX0_reduce_3 : List UInt8 := [50, 42, 180, 0, 25, 182, 0, 111, 87, 28, 172]
abbrev dktX0_reduce_3 : List UInt8 := dkwX0_reduce_3 ++ []
def dkwX0_reduce_2 : List UInt8 := [180, 0, 25, 182, 0, 199, 62, 167, 255, 235, 28, 158, 0, 22, 42, 27, 182, 0, 161, 42, 180, 0, 13, 27]
abbrev dktX0_reduce_2 : List UInt8 := dkwX0_reduce_2 ++ dktX0_reduce_3
def dkwX0_reduce_1 : List UInt8 := [3, 61, 42, 180, 0, 25, 182, 0, 199, 62, 29, 158, 0, 23, 42, 27, 29, 182, 0, 202, 132, 2, 1, 42]
abbrev dktX0_reduce_1 : List UInt8 := dkwX0_reduce_1 ++ dktX0_reduce_2
def dkwX0_reduce_0 : List UInt8 := [42, 27, 182, 0, 123, 154, 0, 5, 2, 172, 42, 180, 0, 25, 42, 180, 0, 13, 27, 50, 182, 0, 111, 87]
abbrev dktX0_reduce_0 : List UInt8 := dkwX0_reduce_0 ++ dktX0_reduce_1
theorem dksX0_reduce_0 : cX0_reduce.data.toList.drop 0 = dktX0_reduce_0 := by decide +kernel
theorem dksX0_reduce_1 : cX0_reduce.data.toList.drop 24 = dktX0_reduce_1 := dk_seg dksX0_reduce_0 24 rfl rfl
theorem dksX0_reduce_2 : cX0_reduce.data.toList.drop 48 = dktX0_reduce_2 := dk_seg dksX0_reduce_1 24 rfl rfl
theorem dksX0_reduce_3 : cX0_reduce.data.toList.drop 72 = dktX0_reduce_3 := dk_seg dksX0_reduce_2 24 rfl rfl
theorem dX0_reduce_0 : decode cX0_reduce 0 = .ok (.aload_n 0, 1) := dk_42 (dk_at dksX0_reduce_0 0 rfl rfl)
theorem dX0_reduce_1 : decode cX0_reduce 1 = .ok (.iload_n 1, 1) := dk_27 (dk_at dksX0_reduce_0 1 rfl rfl)
theorem dX0_reduce_2 : decode cX0_reduce 2 = .ok (.invokevirtual 123, 3) := dk_182 0 123 (dk_at dksX0_reduce_0 2 rfl rfl)
theorem dX0_reduce_5 : decode cX0_reduce 5 = .ok (.ifCond .ne 5, 3) := dk_154 0 5 (dk_at dksX0_reduce_0 5 rfl rfl)
theorem dX0_reduce_8 : decode cX0_reduce 8 = .ok (.iconst (-1), 1) := dk_2 (dk_at dksX0_reduce_0 8 rfl rfl)
theorem dX0_reduce_9 : decode cX0_reduce 9 = .ok (.ireturn, 1) := dk_172 (dk_at dksX0_reduce_0 9 rfl rfl)
theorem dX0_reduce_10 : decode cX0_reduce 10 = .ok (.aload_n 0, 1) := dk_42 (dk_at dksX0_reduce_0 10 rfl rfl)
theorem dX0_reduce_11 : decode cX0_reduce 11 = .ok (.getfield 25, 3) := dk_180 0 25 (dk_at dksX0_reduce_0 11 rfl rfl)
theorem dX0_reduce_14 : decode cX0_reduce 14 = .ok (.aload_n 0, 1) := dk_42 (dk_at dksX0_reduce_0 14 rfl rfl)
theorem dX0_reduce_15 : decode cX0_reduce 15 = .ok (.getfield 13, 3) := dk_180 0 13 (dk_at dksX0_reduce_0 15 rfl rfl)
theorem dX0_reduce_18 : decode cX0_reduce 18 = .ok (.iload_n 1, 1) := dk_27 (dk_at dksX0_reduce_0 18 rfl rfl)
theorem dX0_reduce_19 : decode cX0_reduce 19 = .ok (.aaload, 1) := dk_50 (dk_at dksX0_reduce_0 19 rfl rfl)
theorem dX0_reduce_20 : decode cX0_reduce 20 = .ok (.invokevirtual 111, 3) := dk_182 0 111 (dk_at dksX0_reduce_0 20 rfl rfl)
theorem dX0_reduce_23 : decode cX0_reduce 23 = .ok (.pop, 1) := dk_87 (dk_at dksX0_reduce_0 23 rfl rfl)
theorem dX0_reduce_24 : decode cX0_reduce 24 = .ok (.iconst 0, 1) := dk_3 (dk_at dksX0_reduce_1 0 rfl rfl)
theorem dX0_reduce_25 : decode cX0_reduce 25 = .ok (.istore_n 2, 1) := dk_61 (dk_at dksX0_reduce_1 1 rfl rfl)
theorem dX0_reduce_26 : decode cX0_reduce 26 = .ok (.aload_n 0, 1) := dk_42 (dk_at dksX0_reduce_1 2 rfl rfl)
theorem dX0_reduce_27 : decode cX0_reduce 27 = .ok (.getfield 25, 3) := dk_180 0 25 (dk_at dksX0_reduce_1 3 rfl rfl)
theorem dX0_reduce_30 : decode cX0_reduce 30 = .ok (.invokevirtual 199, 3) := dk_182 0 199 (dk_at dksX0_reduce_1 6 rfl rfl)
theorem dX0_reduce_33 : decode cX0_reduce 33 = .ok (.istore_n 3, 1) := dk_62 (dk_at dksX0_reduce_1 9 rfl rfl)
theorem dX0_reduce_34 : decode cX0_reduce 34 = .ok (.iload_n 3, 1) := dk_29 (dk_at dksX0_reduce_1 10 rfl rfl)
theorem dX0_reduce_35 : decode cX0_reduce 35 = .ok (.ifCond .le 23, 3) := dk_158 0 23 (dk_at dksX0_reduce_1 11 rfl rfl)
theorem dX0_reduce_38 : decode cX0_reduce 38 = .ok (.aload_n 0, 1) := dk_42 (dk_at dksX0_reduce_1 14 rfl rfl)
theorem dX0_reduce_39 : decode cX0_reduce 39 = .ok (.iload_n 1, 1) := dk_27 (dk_at dksX0_reduce_1 15 rfl rfl)
theorem dX0_reduce_40 : decode cX0_reduce 40 = .ok (.iload_n 3, 1) := dk_29 (dk_at dksX0_reduce_1 16 rfl rfl)
theorem dX0_reduce_41 : decode cX0_reduce 41 = .ok (.invokevirtual 202, 3) := dk_182 0 202 (dk_at dksX0_reduce_1 17 rfl rfl)
theorem dX0_reduce_44 : decode cX0_reduce 44 = .ok (.iinc 2 1, 3) := dk_132 2 1 (dk_at dksX0_reduce_1 20 rfl rfl)
theorem dX0_reduce_47 : decode cX0_reduce 47 = .ok (.aload_n 0, 1) := dk_42 (dk_at dksX0_reduce_1 23 rfl rfl)
theorem dX0_reduce_48 : decode cX0_reduce 48 = .ok (.getfield 25, 3) := dk_180 0 25 (dk_at dksX0_reduce_2 0 rfl rfl)
theorem dX0_reduce_51 : decode cX0_reduce 51 = .ok (.invokevirtual 199, 3) := dk_182 0 199 (dk_at dksX0_reduce_2 3 rfl rfl)
theorem dX0_reduce_54 : decode cX0_reduce 54 = .ok (.istore_n 3, 1) := dk_62 (dk_at dksX0_reduce_2 6 rfl rfl)
theorem dX0_reduce_55 : decode cX0_reduce 55 = .ok (.goto (-21), 3) := dk_167 255 235 (dk_at dksX0_reduce_2 7 rfl rfl)
theorem dX0_reduce_58 : decode cX0_reduce 58 = .ok (.iload_n 2, 1) := dk_28 (dk_at dksX0_reduce_2 10 rfl rfl)
theorem dX0_reduce_59 : decode cX0_reduce 59 = .ok (.ifCond .le 22, 3) := dk_158 0 22 (dk_at dksX0_reduce_2 11 rfl rfl)
theorem dX0_reduce_62 : decode cX0_reduce 62 = .ok (.aload_n 0, 1) := dk_42 (dk_at dksX0_reduce_2 14 rfl rfl)
theorem dX0_reduce_63 : decode cX0_reduce 63 = .ok (.iload_n 1, 1) := dk_27 (dk_at dksX0_reduce_2 15 rfl rfl)
theorem dX0_reduce_64 : decode cX0_reduce 64 = .ok (.invokevirtual 161, 3) := dk_182 0 161 (dk_at dksX0_reduce_2 16 rfl rfl)
theorem dX0_reduce_67 : decode cX0_reduce 67 = .ok (.aload_n 0, 1) := dk_42 (dk_at dksX0_reduce_2 19 rfl rfl)
theorem dX0_reduce_68 : decode cX0_reduce 68 = .ok (.getfield 13, 3) := dk_180 0 13 (dk_at dksX0_reduce_2 20 rfl rfl)
theorem dX0_reduce_71 : decode cX0_reduce 71 = .ok (.iload_n 1, 1) := dk_27 (dk_at dksX0_reduce_2 23 rfl rfl)
theorem dX0_reduce_72 : decode cX0_reduce 72 = .ok (.aaload, 1) := dk_50 (dk_at dksX0_reduce_3 0 rfl rfl)
theorem dX0_reduce_73 : decode cX0_reduce 73 = .ok (.aload_n 0, 1) := dk_42 (dk_at dksX0_reduce_3 1 rfl rfl)
theorem dX0_reduce_74 : decode cX0_reduce 74 = .ok (.getfield 25, 3) := dk_180 0 25 (dk_at dksX0_reduce_3 2 rfl rfl)
theorem dX0_reduce_77 : decode cX0_reduce 77 = .ok (.invokevirtual 111, 3) := dk_182 0 111 (dk_at dksX0_reduce_3 5 rfl rfl)
theorem dX0_reduce_80 : decode cX0_reduce 80 = .ok (.pop, 1) := dk_87 (dk_at dksX0_reduce_3 8 rfl rfl)
theorem dX0_reduce_81 : decode cX0_reduce 81 = .ok (.iload_n 2, 1) := dk_28 (dk_at dksX0_reduce_3 9 rfl rfl)
theorem dX0_reduce_82 : decode cX0_reduce 82 = .ok (.ireturn, 1) := dk_172 (dk_at dksX0_reduce_3 10 rfl rfl)
abbrev cX0_normal : ByteArray := prog_1_method_17_code
def yX0_normal : MethodName := ⟨RX0, "normal", "(II)J"⟩
def dkwX0_normal_3 : List UInt8 := [182, 0, 209, 153, 0, 7, 10, 167, 0, 4, 9, 173]
abbrev dktX0_normal_3 : List UInt8 := dkwX0_normal_3 ++ []
def dkwX0_normal_2 : List UInt8 := [28, 182, 0, 131, 167, 0, 30, 28, 16, 6, 160, 0, 8, 29, 133, 167, 0, 19, 42, 180, 0, 18, 6]
abbrev dktX0_normal_2 : List UInt8 := dkwX0_normal_2 ++ dktX0_normal_3
def dkwX0_normal_1 : List UInt8 := [42, 180, 0, 18, 42, 180, 0, 13, 27, 50, 182, 0, 205, 62, 28, 16, 6, 162, 0, 14, 42, 180, 0, 18]
abbrev dktX0_normal_1 : List UInt8 := dkwX0_normal_1 ++ dktX0_normal_2
def dkwX0_normal_0 : List UInt8 := [42, 27, 182, 0, 123, 153, 0, 15, 28, 133, 9, 20, 0, 127, 184, 0, 101, 154, 0, 7, 20, 0, 129, 173]
abbrev dktX0_normal_0 : List UInt8 := dkwX0_normal_0 ++ dktX0_normal_1
theorem dksX0_normal_0 : cX0_normal.data.toList.drop 0 = dktX0_normal_0 := by decide +kernel
theorem dksX0_normal_1 : cX0_normal.data.toList.drop 24 = dktX0_normal_1 := dk_seg dksX0_normal_0 24 rfl rfl
theorem dksX0_normal_2 : cX0_normal.data.toList.drop 48 = dktX0_normal_2 := dk_seg dksX0_normal_1 24 rfl rfl
theorem dksX0_normal_3 : cX0_normal.data.toList.drop 71 = dktX0_normal_3 := dk_seg dksX0_normal_2 23 rfl rfl
theorem dX0_normal_0 : decode cX0_normal 0 = .ok (.aload_n 0, 1) := dk_42 (dk_at dksX0_normal_0 0 rfl rfl)
theorem dX0_normal_1 : decode cX0_normal 1 = .ok (.iload_n 1, 1) := dk_27 (dk_at dksX0_normal_0 1 rfl rfl)
theorem dX0_normal_2 : decode cX0_normal 2 = .ok (.invokevirtual 123, 3) := dk_182 0 123 (dk_at dksX0_normal_0 2 rfl rfl)
theorem dX0_normal_5 : decode cX0_normal 5 = .ok (.ifCond .eq 15, 3) := dk_153 0 15 (dk_at dksX0_normal_0 5 rfl rfl)
theorem dX0_normal_8 : decode cX0_normal 8 = .ok (.iload_n 2, 1) := dk_28 (dk_at dksX0_normal_0 8 rfl rfl)
theorem dX0_normal_9 : decode cX0_normal 9 = .ok (.i2l, 1) := dk_133 (dk_at dksX0_normal_0 9 rfl rfl)
theorem dX0_normal_10 : decode cX0_normal 10 = .ok (.lconst 0, 1) := dk_9 (dk_at dksX0_normal_0 10 rfl rfl)
theorem dX0_normal_11 : decode cX0_normal 11 = .ok (.ldc2_w 127, 3) := dk_20 0 127 (dk_at dksX0_normal_0 11 rfl rfl)
theorem dX0_normal_14 : decode cX0_normal 14 = .ok (.invokestatic 101, 3) := dk_184 0 101 (dk_at dksX0_normal_0 14 rfl rfl)
theorem dX0_normal_17 : decode cX0_normal 17 = .ok (.ifCond .ne 7, 3) := dk_154 0 7 (dk_at dksX0_normal_0 17 rfl rfl)
theorem dX0_normal_20 : decode cX0_normal 20 = .ok (.ldc2_w 129, 3) := dk_20 0 129 (dk_at dksX0_normal_0 20 rfl rfl)
theorem dX0_normal_23 : decode cX0_normal 23 = .ok (.lreturn, 1) := dk_173 (dk_at dksX0_normal_0 23 rfl rfl)
theorem dX0_normal_24 : decode cX0_normal 24 = .ok (.aload_n 0, 1) := dk_42 (dk_at dksX0_normal_1 0 rfl rfl)
theorem dX0_normal_25 : decode cX0_normal 25 = .ok (.getfield 18, 3) := dk_180 0 18 (dk_at dksX0_normal_1 1 rfl rfl)
theorem dX0_normal_28 : decode cX0_normal 28 = .ok (.aload_n 0, 1) := dk_42 (dk_at dksX0_normal_1 4 rfl rfl)
theorem dX0_normal_29 : decode cX0_normal 29 = .ok (.getfield 13, 3) := dk_180 0 13 (dk_at dksX0_normal_1 5 rfl rfl)
theorem dX0_normal_32 : decode cX0_normal 32 = .ok (.iload_n 1, 1) := dk_27 (dk_at dksX0_normal_1 8 rfl rfl)
theorem dX0_normal_33 : decode cX0_normal 33 = .ok (.aaload, 1) := dk_50 (dk_at dksX0_normal_1 9 rfl rfl)
theorem dX0_normal_34 : decode cX0_normal 34 = .ok (.invokevirtual 205, 3) := dk_182 0 205 (dk_at dksX0_normal_1 10 rfl rfl)
theorem dX0_normal_37 : decode cX0_normal 37 = .ok (.istore_n 3, 1) := dk_62 (dk_at dksX0_normal_1 13 rfl rfl)
theorem dX0_normal_38 : decode cX0_normal 38 = .ok (.iload_n 2, 1) := dk_28 (dk_at dksX0_normal_1 14 rfl rfl)
theorem dX0_normal_39 : decode cX0_normal 39 = .ok (.bipush 6, 2) := dk_16 6 (dk_at dksX0_normal_1 15 rfl rfl)
theorem dX0_normal_41 : decode cX0_normal 41 = .ok (.if_icmp .ge 14, 3) := dk_162 0 14 (dk_at dksX0_normal_1 17 rfl rfl)
theorem dX0_normal_44 : decode cX0_normal 44 = .ok (.aload_n 0, 1) := dk_42 (dk_at dksX0_normal_1 20 rfl rfl)
theorem dX0_normal_45 : decode cX0_normal 45 = .ok (.getfield 18, 3) := dk_180 0 18 (dk_at dksX0_normal_1 21 rfl rfl)
theorem dX0_normal_48 : decode cX0_normal 48 = .ok (.iload_n 2, 1) := dk_28 (dk_at dksX0_normal_2 0 rfl rfl)
theorem dX0_normal_49 : decode cX0_normal 49 = .ok (.invokevirtual 131, 3) := dk_182 0 131 (dk_at dksX0_normal_2 1 rfl rfl)
theorem dX0_normal_52 : decode cX0_normal 52 = .ok (.goto 30, 3) := dk_167 0 30 (dk_at dksX0_normal_2 4 rfl rfl)
theorem dX0_normal_55 : decode cX0_normal 55 = .ok (.iload_n 2, 1) := dk_28 (dk_at dksX0_normal_2 7 rfl rfl)
theorem dX0_normal_56 : decode cX0_normal 56 = .ok (.bipush 6, 2) := dk_16 6 (dk_at dksX0_normal_2 8 rfl rfl)
theorem dX0_normal_58 : decode cX0_normal 58 = .ok (.if_icmp .ne 8, 3) := dk_160 0 8 (dk_at dksX0_normal_2 10 rfl rfl)
theorem dX0_normal_61 : decode cX0_normal 61 = .ok (.iload_n 3, 1) := dk_29 (dk_at dksX0_normal_2 13 rfl rfl)
theorem dX0_normal_62 : decode cX0_normal 62 = .ok (.i2l, 1) := dk_133 (dk_at dksX0_normal_2 14 rfl rfl)
theorem dX0_normal_63 : decode cX0_normal 63 = .ok (.goto 19, 3) := dk_167 0 19 (dk_at dksX0_normal_2 15 rfl rfl)
theorem dX0_normal_66 : decode cX0_normal 66 = .ok (.aload_n 0, 1) := dk_42 (dk_at dksX0_normal_2 18 rfl rfl)
theorem dX0_normal_67 : decode cX0_normal 67 = .ok (.getfield 18, 3) := dk_180 0 18 (dk_at dksX0_normal_2 19 rfl rfl)
theorem dX0_normal_70 : decode cX0_normal 70 = .ok (.iconst 3, 1) := dk_6 (dk_at dksX0_normal_2 22 rfl rfl)
theorem dX0_normal_71 : decode cX0_normal 71 = .ok (.invokevirtual 209, 3) := dk_182 0 209 (dk_at dksX0_normal_3 0 rfl rfl)
theorem dX0_normal_74 : decode cX0_normal 74 = .ok (.ifCond .eq 7, 3) := dk_153 0 7 (dk_at dksX0_normal_3 3 rfl rfl)
theorem dX0_normal_77 : decode cX0_normal 77 = .ok (.lconst 1, 1) := dk_10 (dk_at dksX0_normal_3 6 rfl rfl)
theorem dX0_normal_78 : decode cX0_normal 78 = .ok (.goto 4, 3) := dk_167 0 4 (dk_at dksX0_normal_3 7 rfl rfl)
theorem dX0_normal_81 : decode cX0_normal 81 = .ok (.lconst 0, 1) := dk_9 (dk_at dksX0_normal_3 10 rfl rfl)
theorem dX0_normal_82 : decode cX0_normal 82 = .ok (.lreturn, 1) := dk_173 (dk_at dksX0_normal_3 11 rfl rfl)
abbrev cX0_log : ByteArray := prog_1_method_18_code
def yX0_log : MethodName := ⟨RX0, "log", "(I)I"⟩
def dkwX0_log_2 : List UInt8 := [167, 0, 5, 16, 254, 172]
abbrev dktX0_log_2 : List UInt8 := dkwX0_log_2 ++ []
def dkwX0_log_1 : List UInt8 := [180, 0, 38, 182, 0, 176, 162, 0, 20, 42, 180, 0, 38, 27, 182, 0, 212, 192, 0, 184, 182, 0, 216]
abbrev dktX0_log_1 : List UInt8 := dkwX0_log_1 ++ dktX0_log_2
def dkwX0_log_0 : List UInt8 := [27, 2, 162, 0, 5, 2, 172, 27, 2, 160, 0, 13, 42, 180, 0, 38, 182, 0, 176, 167, 0, 33, 27, 42]
abbrev dktX0_log_0 : List UInt8 := dkwX0_log_0 ++ dktX0_log_1
theorem dksX0_log_0 : cX0_log.data.toList.drop 0 = dktX0_log_0 := by decide +kernel
theorem dksX0_log_1 : cX0_log.data.toList.drop 24 = dktX0_log_1 := dk_seg dksX0_log_0 24 rfl rfl
theorem dksX0_log_2 : cX0_log.data.toList.drop 47 = dktX0_log_2 := dk_seg dksX0_log_1 23 rfl rfl
theorem dX0_log_0 : decode cX0_log 0 = .ok (.iload_n 1, 1) := dk_27 (dk_at dksX0_log_0 0 rfl rfl)
theorem dX0_log_1 : decode cX0_log 1 = .ok (.iconst (-1), 1) := dk_2 (dk_at dksX0_log_0 1 rfl rfl)
theorem dX0_log_2 : decode cX0_log 2 = .ok (.if_icmp .ge 5, 3) := dk_162 0 5 (dk_at dksX0_log_0 2 rfl rfl)
theorem dX0_log_5 : decode cX0_log 5 = .ok (.iconst (-1), 1) := dk_2 (dk_at dksX0_log_0 5 rfl rfl)
theorem dX0_log_6 : decode cX0_log 6 = .ok (.ireturn, 1) := dk_172 (dk_at dksX0_log_0 6 rfl rfl)
theorem dX0_log_7 : decode cX0_log 7 = .ok (.iload_n 1, 1) := dk_27 (dk_at dksX0_log_0 7 rfl rfl)
theorem dX0_log_8 : decode cX0_log 8 = .ok (.iconst (-1), 1) := dk_2 (dk_at dksX0_log_0 8 rfl rfl)
theorem dX0_log_9 : decode cX0_log 9 = .ok (.if_icmp .ne 13, 3) := dk_160 0 13 (dk_at dksX0_log_0 9 rfl rfl)
theorem dX0_log_12 : decode cX0_log 12 = .ok (.aload_n 0, 1) := dk_42 (dk_at dksX0_log_0 12 rfl rfl)
theorem dX0_log_13 : decode cX0_log 13 = .ok (.getfield 38, 3) := dk_180 0 38 (dk_at dksX0_log_0 13 rfl rfl)
theorem dX0_log_16 : decode cX0_log 16 = .ok (.invokevirtual 176, 3) := dk_182 0 176 (dk_at dksX0_log_0 16 rfl rfl)
theorem dX0_log_19 : decode cX0_log 19 = .ok (.goto 33, 3) := dk_167 0 33 (dk_at dksX0_log_0 19 rfl rfl)
theorem dX0_log_22 : decode cX0_log 22 = .ok (.iload_n 1, 1) := dk_27 (dk_at dksX0_log_0 22 rfl rfl)
theorem dX0_log_23 : decode cX0_log 23 = .ok (.aload_n 0, 1) := dk_42 (dk_at dksX0_log_0 23 rfl rfl)
theorem dX0_log_24 : decode cX0_log 24 = .ok (.getfield 38, 3) := dk_180 0 38 (dk_at dksX0_log_1 0 rfl rfl)
theorem dX0_log_27 : decode cX0_log 27 = .ok (.invokevirtual 176, 3) := dk_182 0 176 (dk_at dksX0_log_1 3 rfl rfl)
theorem dX0_log_30 : decode cX0_log 30 = .ok (.if_icmp .ge 20, 3) := dk_162 0 20 (dk_at dksX0_log_1 6 rfl rfl)
theorem dX0_log_33 : decode cX0_log 33 = .ok (.aload_n 0, 1) := dk_42 (dk_at dksX0_log_1 9 rfl rfl)
theorem dX0_log_34 : decode cX0_log 34 = .ok (.getfield 38, 3) := dk_180 0 38 (dk_at dksX0_log_1 10 rfl rfl)
theorem dX0_log_37 : decode cX0_log 37 = .ok (.iload_n 1, 1) := dk_27 (dk_at dksX0_log_1 13 rfl rfl)
theorem dX0_log_38 : decode cX0_log 38 = .ok (.invokevirtual 212, 3) := dk_182 0 212 (dk_at dksX0_log_1 14 rfl rfl)
theorem dX0_log_41 : decode cX0_log 41 = .ok (.checkcast 184, 3) := dk_192 0 184 (dk_at dksX0_log_1 17 rfl rfl)
theorem dX0_log_44 : decode cX0_log 44 = .ok (.invokevirtual 216, 3) := dk_182 0 216 (dk_at dksX0_log_1 20 rfl rfl)
theorem dX0_log_47 : decode cX0_log 47 = .ok (.goto 5, 3) := dk_167 0 5 (dk_at dksX0_log_2 0 rfl rfl)
theorem dX0_log_50 : decode cX0_log 50 = .ok (.bipush (-2), 2) := dk_16 254 (dk_at dksX0_log_2 3 rfl rfl)
theorem dX0_log_52 : decode cX0_log 52 = .ok (.ireturn, 1) := dk_172 (dk_at dksX0_log_2 5 rfl rfl)
abbrev cX0_forget : ByteArray := prog_1_method_20_code
def yX0_forget : MethodName := ⟨RX0, "forget", "(I)I"⟩
def dkwX0_forget_0 : List UInt8 := [27, 133, 9, 20, 0, 234, 184, 0, 101, 153, 0, 12, 42, 2, 27, 182, 0, 236, 167, 0, 4, 2, 172]
abbrev dktX0_forget_0 : List UInt8 := dkwX0_forget_0 ++ []
theorem dksX0_forget_0 : cX0_forget.data.toList.drop 0 = dktX0_forget_0 := by decide +kernel
theorem dX0_forget_0 : decode cX0_forget 0 = .ok (.iload_n 1, 1) := dk_27 (dk_at dksX0_forget_0 0 rfl rfl)
theorem dX0_forget_1 : decode cX0_forget 1 = .ok (.i2l, 1) := dk_133 (dk_at dksX0_forget_0 1 rfl rfl)
theorem dX0_forget_2 : decode cX0_forget 2 = .ok (.lconst 0, 1) := dk_9 (dk_at dksX0_forget_0 2 rfl rfl)
theorem dX0_forget_3 : decode cX0_forget 3 = .ok (.ldc2_w 234, 3) := dk_20 0 234 (dk_at dksX0_forget_0 3 rfl rfl)
theorem dX0_forget_6 : decode cX0_forget 6 = .ok (.invokestatic 101, 3) := dk_184 0 101 (dk_at dksX0_forget_0 6 rfl rfl)
theorem dX0_forget_9 : decode cX0_forget 9 = .ok (.ifCond .eq 12, 3) := dk_153 0 12 (dk_at dksX0_forget_0 9 rfl rfl)
theorem dX0_forget_12 : decode cX0_forget 12 = .ok (.aload_n 0, 1) := dk_42 (dk_at dksX0_forget_0 12 rfl rfl)
theorem dX0_forget_13 : decode cX0_forget 13 = .ok (.iconst (-1), 1) := dk_2 (dk_at dksX0_forget_0 13 rfl rfl)
theorem dX0_forget_14 : decode cX0_forget 14 = .ok (.iload_n 1, 1) := dk_27 (dk_at dksX0_forget_0 14 rfl rfl)
theorem dX0_forget_15 : decode cX0_forget 15 = .ok (.invokevirtual 236, 3) := dk_182 0 236 (dk_at dksX0_forget_0 15 rfl rfl)
theorem dX0_forget_18 : decode cX0_forget 18 = .ok (.goto 4, 3) := dk_167 0 4 (dk_at dksX0_forget_0 18 rfl rfl)
theorem dX0_forget_21 : decode cX0_forget 21 = .ok (.iconst (-1), 1) := dk_2 (dk_at dksX0_forget_0 21 rfl rfl)
theorem dX0_forget_22 : decode cX0_forget 22 = .ok (.ireturn, 1) := dk_172 (dk_at dksX0_forget_0 22 rfl rfl)
abbrev cX0_forgets : ByteArray := prog_1_method_19_code
def yX0_forgets : MethodName := ⟨RX0, "forgets", "(II)I"⟩
def dkwX0_forgets_3 : List UInt8 := [132, 3, 1, 167, 255, 195, 29, 172]
abbrev dktX0_forgets_3 : List UInt8 := dkwX0_forgets_3 ++ []
def dkwX0_forgets_2 : List UInt8 := [160, 0, 26, 28, 153, 0, 12, 21, 5, 16, 10, 112, 28, 160, 0, 13, 25, 4, 185, 0, 231, 1, 0]
abbrev dktX0_forgets_2 : List UInt8 := dkwX0_forgets_2 ++ dktX0_forgets_3
def dkwX0_forgets_1 : List UInt8 := [185, 0, 228, 1, 0, 192, 0, 184, 182, 0, 216, 54, 5, 27, 155, 0, 12, 21, 5, 16, 10, 108, 27]
abbrev dktX0_forgets_1 : List UInt8 := dkwX0_forgets_1 ++ dktX0_forgets_2
def dkwX0_forgets_0 : List UInt8 := [3, 62, 42, 180, 0, 38, 182, 0, 219, 58, 4, 25, 4, 185, 0, 223, 1, 0, 153, 0, 57, 25, 4]
abbrev dktX0_forgets_0 : List UInt8 := dkwX0_forgets_0 ++ dktX0_forgets_1
theorem dksX0_forgets_0 : cX0_forgets.data.toList.drop 0 = dktX0_forgets_0 := by decide +kernel
theorem dksX0_forgets_1 : cX0_forgets.data.toList.drop 23 = dktX0_forgets_1 := dk_seg dksX0_forgets_0 23 rfl rfl
theorem dksX0_forgets_2 : cX0_forgets.data.toList.drop 46 = dktX0_forgets_2 := dk_seg dksX0_forgets_1 23 rfl rfl
theorem dksX0_forgets_3 : cX0_forgets.data.toList.drop 69 = dktX0_forgets_3 := dk_seg dksX0_forgets_2 23 rfl rfl
theorem dX0_forgets_0 : decode cX0_forgets 0 = .ok (.iconst 0, 1) := dk_3 (dk_at dksX0_forgets_0 0 rfl rfl)
theorem dX0_forgets_1 : decode cX0_forgets 1 = .ok (.istore_n 3, 1) := dk_62 (dk_at dksX0_forgets_0 1 rfl rfl)
theorem dX0_forgets_2 : decode cX0_forgets 2 = .ok (.aload_n 0, 1) := dk_42 (dk_at dksX0_forgets_0 2 rfl rfl)
theorem dX0_forgets_3 : decode cX0_forgets 3 = .ok (.getfield 38, 3) := dk_180 0 38 (dk_at dksX0_forgets_0 3 rfl rfl)
theorem dX0_forgets_6 : decode cX0_forgets 6 = .ok (.invokevirtual 219, 3) := dk_182 0 219 (dk_at dksX0_forgets_0 6 rfl rfl)
theorem dX0_forgets_9 : decode cX0_forgets 9 = .ok (.astore 4, 2) := dk_58 4 (dk_at dksX0_forgets_0 9 rfl rfl)
theorem dX0_forgets_11 : decode cX0_forgets 11 = .ok (.aload 4, 2) := dk_25 4 (dk_at dksX0_forgets_0 11 rfl rfl)
theorem dX0_forgets_13 : decode cX0_forgets 13 = .ok (.invokeinterface 223 1, 5) := by decide +kernel
theorem dX0_forgets_18 : decode cX0_forgets 18 = .ok (.ifCond .eq 57, 3) := dk_153 0 57 (dk_at dksX0_forgets_0 18 rfl rfl)
theorem dX0_forgets_21 : decode cX0_forgets 21 = .ok (.aload 4, 2) := dk_25 4 (dk_at dksX0_forgets_0 21 rfl rfl)
theorem dX0_forgets_23 : decode cX0_forgets 23 = .ok (.invokeinterface 228 1, 5) := by decide +kernel
theorem dX0_forgets_28 : decode cX0_forgets 28 = .ok (.checkcast 184, 3) := dk_192 0 184 (dk_at dksX0_forgets_1 5 rfl rfl)
theorem dX0_forgets_31 : decode cX0_forgets 31 = .ok (.invokevirtual 216, 3) := dk_182 0 216 (dk_at dksX0_forgets_1 8 rfl rfl)
theorem dX0_forgets_34 : decode cX0_forgets 34 = .ok (.istore 5, 2) := dk_54 5 (dk_at dksX0_forgets_1 11 rfl rfl)
theorem dX0_forgets_36 : decode cX0_forgets 36 = .ok (.iload_n 1, 1) := dk_27 (dk_at dksX0_forgets_1 13 rfl rfl)
theorem dX0_forgets_37 : decode cX0_forgets 37 = .ok (.ifCond .lt 12, 3) := dk_155 0 12 (dk_at dksX0_forgets_1 14 rfl rfl)
theorem dX0_forgets_40 : decode cX0_forgets 40 = .ok (.iload 5, 2) := dk_21 5 (dk_at dksX0_forgets_1 17 rfl rfl)
theorem dX0_forgets_42 : decode cX0_forgets 42 = .ok (.bipush 10, 2) := dk_16 10 (dk_at dksX0_forgets_1 19 rfl rfl)
theorem dX0_forgets_44 : decode cX0_forgets 44 = .ok (.idiv, 1) := dk_108 (dk_at dksX0_forgets_1 21 rfl rfl)
theorem dX0_forgets_45 : decode cX0_forgets 45 = .ok (.iload_n 1, 1) := dk_27 (dk_at dksX0_forgets_1 22 rfl rfl)
theorem dX0_forgets_46 : decode cX0_forgets 46 = .ok (.if_icmp .ne 26, 3) := dk_160 0 26 (dk_at dksX0_forgets_2 0 rfl rfl)
theorem dX0_forgets_49 : decode cX0_forgets 49 = .ok (.iload_n 2, 1) := dk_28 (dk_at dksX0_forgets_2 3 rfl rfl)
theorem dX0_forgets_50 : decode cX0_forgets 50 = .ok (.ifCond .eq 12, 3) := dk_153 0 12 (dk_at dksX0_forgets_2 4 rfl rfl)
theorem dX0_forgets_53 : decode cX0_forgets 53 = .ok (.iload 5, 2) := dk_21 5 (dk_at dksX0_forgets_2 7 rfl rfl)
theorem dX0_forgets_55 : decode cX0_forgets 55 = .ok (.bipush 10, 2) := dk_16 10 (dk_at dksX0_forgets_2 9 rfl rfl)
theorem dX0_forgets_57 : decode cX0_forgets 57 = .ok (.irem, 1) := dk_112 (dk_at dksX0_forgets_2 11 rfl rfl)
theorem dX0_forgets_58 : decode cX0_forgets 58 = .ok (.iload_n 2, 1) := dk_28 (dk_at dksX0_forgets_2 12 rfl rfl)
theorem dX0_forgets_59 : decode cX0_forgets 59 = .ok (.if_icmp .ne 13, 3) := dk_160 0 13 (dk_at dksX0_forgets_2 13 rfl rfl)
theorem dX0_forgets_62 : decode cX0_forgets 62 = .ok (.aload 4, 2) := dk_25 4 (dk_at dksX0_forgets_2 16 rfl rfl)
theorem dX0_forgets_64 : decode cX0_forgets 64 = .ok (.invokeinterface 231 1, 5) := by decide +kernel
theorem dX0_forgets_69 : decode cX0_forgets 69 = .ok (.iinc 3 1, 3) := dk_132 3 1 (dk_at dksX0_forgets_3 0 rfl rfl)
theorem dX0_forgets_72 : decode cX0_forgets 72 = .ok (.goto (-61), 3) := dk_167 255 195 (dk_at dksX0_forgets_3 3 rfl rfl)
theorem dX0_forgets_75 : decode cX0_forgets 75 = .ok (.iload_n 3, 1) := dk_29 (dk_at dksX0_forgets_3 6 rfl rfl)
theorem dX0_forgets_76 : decode cX0_forgets 76 = .ok (.ireturn, 1) := dk_172 (dk_at dksX0_forgets_3 7 rfl rfl)
abbrev cX0_same : ByteArray := prog_1_method_22_code
def yX0_same : MethodName := ⟨RX0, "same", "(II)I"⟩
def dkwX0_same_1 : List UInt8 := [153, 0, 7, 4, 167, 0, 4, 3, 172]
abbrev dktX0_same_1 : List UInt8 := dkwX0_same_1 ++ []
def dkwX0_same_0 : List UInt8 := [42, 27, 182, 0, 123, 153, 0, 11, 42, 28, 182, 0, 123, 154, 0, 5, 2, 172, 42, 27, 28, 182, 0, 244]
abbrev dktX0_same_0 : List UInt8 := dkwX0_same_0 ++ dktX0_same_1
theorem dksX0_same_0 : cX0_same.data.toList.drop 0 = dktX0_same_0 := by decide +kernel
theorem dksX0_same_1 : cX0_same.data.toList.drop 24 = dktX0_same_1 := dk_seg dksX0_same_0 24 rfl rfl
theorem dX0_same_0 : decode cX0_same 0 = .ok (.aload_n 0, 1) := dk_42 (dk_at dksX0_same_0 0 rfl rfl)
theorem dX0_same_1 : decode cX0_same 1 = .ok (.iload_n 1, 1) := dk_27 (dk_at dksX0_same_0 1 rfl rfl)
theorem dX0_same_2 : decode cX0_same 2 = .ok (.invokevirtual 123, 3) := dk_182 0 123 (dk_at dksX0_same_0 2 rfl rfl)
theorem dX0_same_5 : decode cX0_same 5 = .ok (.ifCond .eq 11, 3) := dk_153 0 11 (dk_at dksX0_same_0 5 rfl rfl)
theorem dX0_same_8 : decode cX0_same 8 = .ok (.aload_n 0, 1) := dk_42 (dk_at dksX0_same_0 8 rfl rfl)
theorem dX0_same_9 : decode cX0_same 9 = .ok (.iload_n 2, 1) := dk_28 (dk_at dksX0_same_0 9 rfl rfl)
theorem dX0_same_10 : decode cX0_same 10 = .ok (.invokevirtual 123, 3) := dk_182 0 123 (dk_at dksX0_same_0 10 rfl rfl)
theorem dX0_same_13 : decode cX0_same 13 = .ok (.ifCond .ne 5, 3) := dk_154 0 5 (dk_at dksX0_same_0 13 rfl rfl)
theorem dX0_same_16 : decode cX0_same 16 = .ok (.iconst (-1), 1) := dk_2 (dk_at dksX0_same_0 16 rfl rfl)
theorem dX0_same_17 : decode cX0_same 17 = .ok (.ireturn, 1) := dk_172 (dk_at dksX0_same_0 17 rfl rfl)
theorem dX0_same_18 : decode cX0_same 18 = .ok (.aload_n 0, 1) := dk_42 (dk_at dksX0_same_0 18 rfl rfl)
theorem dX0_same_19 : decode cX0_same 19 = .ok (.iload_n 1, 1) := dk_27 (dk_at dksX0_same_0 19 rfl rfl)
theorem dX0_same_20 : decode cX0_same 20 = .ok (.iload_n 2, 1) := dk_28 (dk_at dksX0_same_0 20 rfl rfl)
theorem dX0_same_21 : decode cX0_same 21 = .ok (.invokevirtual 244, 3) := dk_182 0 244 (dk_at dksX0_same_0 21 rfl rfl)
theorem dX0_same_24 : decode cX0_same 24 = .ok (.ifCond .eq 7, 3) := dk_153 0 7 (dk_at dksX0_same_1 0 rfl rfl)
theorem dX0_same_27 : decode cX0_same 27 = .ok (.iconst 1, 1) := dk_4 (dk_at dksX0_same_1 3 rfl rfl)
theorem dX0_same_28 : decode cX0_same 28 = .ok (.goto 4, 3) := dk_167 0 4 (dk_at dksX0_same_1 4 rfl rfl)
theorem dX0_same_31 : decode cX0_same 31 = .ok (.iconst 0, 1) := dk_3 (dk_at dksX0_same_1 7 rfl rfl)
theorem dX0_same_32 : decode cX0_same 32 = .ok (.ireturn, 1) := dk_172 (dk_at dksX0_same_1 8 rfl rfl)
abbrev cX0_areSame : ByteArray := prog_1_method_21_code
def yX0_areSame : MethodName := ⟨RX0, "areSame", "(II)Z"⟩
def dkwX0_areSame_1 : List UInt8 := [182, 0, 205, 87, 42, 180, 0, 18, 42, 180, 0, 22, 182, 0, 240, 172]
abbrev dktX0_areSame_1 : List UInt8 := dkwX0_areSame_1 ++ []
def dkwX0_areSame_0 : List UInt8 := [42, 180, 0, 18, 42, 180, 0, 13, 27, 50, 182, 0, 205, 87, 42, 180, 0, 22, 42, 180, 0, 13, 28, 50]
abbrev dktX0_areSame_0 : List UInt8 := dkwX0_areSame_0 ++ dktX0_areSame_1
theorem dksX0_areSame_0 : cX0_areSame.data.toList.drop 0 = dktX0_areSame_0 := by decide +kernel
theorem dksX0_areSame_1 : cX0_areSame.data.toList.drop 24 = dktX0_areSame_1 := dk_seg dksX0_areSame_0 24 rfl rfl
theorem dX0_areSame_0 : decode cX0_areSame 0 = .ok (.aload_n 0, 1) := dk_42 (dk_at dksX0_areSame_0 0 rfl rfl)
theorem dX0_areSame_1 : decode cX0_areSame 1 = .ok (.getfield 18, 3) := dk_180 0 18 (dk_at dksX0_areSame_0 1 rfl rfl)
theorem dX0_areSame_4 : decode cX0_areSame 4 = .ok (.aload_n 0, 1) := dk_42 (dk_at dksX0_areSame_0 4 rfl rfl)
theorem dX0_areSame_5 : decode cX0_areSame 5 = .ok (.getfield 13, 3) := dk_180 0 13 (dk_at dksX0_areSame_0 5 rfl rfl)
theorem dX0_areSame_8 : decode cX0_areSame 8 = .ok (.iload_n 1, 1) := dk_27 (dk_at dksX0_areSame_0 8 rfl rfl)
theorem dX0_areSame_9 : decode cX0_areSame 9 = .ok (.aaload, 1) := dk_50 (dk_at dksX0_areSame_0 9 rfl rfl)
theorem dX0_areSame_10 : decode cX0_areSame 10 = .ok (.invokevirtual 205, 3) := dk_182 0 205 (dk_at dksX0_areSame_0 10 rfl rfl)
theorem dX0_areSame_13 : decode cX0_areSame 13 = .ok (.pop, 1) := dk_87 (dk_at dksX0_areSame_0 13 rfl rfl)
theorem dX0_areSame_14 : decode cX0_areSame 14 = .ok (.aload_n 0, 1) := dk_42 (dk_at dksX0_areSame_0 14 rfl rfl)
theorem dX0_areSame_15 : decode cX0_areSame 15 = .ok (.getfield 22, 3) := dk_180 0 22 (dk_at dksX0_areSame_0 15 rfl rfl)
theorem dX0_areSame_18 : decode cX0_areSame 18 = .ok (.aload_n 0, 1) := dk_42 (dk_at dksX0_areSame_0 18 rfl rfl)
theorem dX0_areSame_19 : decode cX0_areSame 19 = .ok (.getfield 13, 3) := dk_180 0 13 (dk_at dksX0_areSame_0 19 rfl rfl)
theorem dX0_areSame_22 : decode cX0_areSame 22 = .ok (.iload_n 2, 1) := dk_28 (dk_at dksX0_areSame_0 22 rfl rfl)
theorem dX0_areSame_23 : decode cX0_areSame 23 = .ok (.aaload, 1) := dk_50 (dk_at dksX0_areSame_0 23 rfl rfl)
theorem dX0_areSame_24 : decode cX0_areSame 24 = .ok (.invokevirtual 205, 3) := dk_182 0 205 (dk_at dksX0_areSame_1 0 rfl rfl)
theorem dX0_areSame_27 : decode cX0_areSame 27 = .ok (.pop, 1) := dk_87 (dk_at dksX0_areSame_1 3 rfl rfl)
theorem dX0_areSame_28 : decode cX0_areSame 28 = .ok (.aload_n 0, 1) := dk_42 (dk_at dksX0_areSame_1 4 rfl rfl)
theorem dX0_areSame_29 : decode cX0_areSame 29 = .ok (.getfield 18, 3) := dk_180 0 18 (dk_at dksX0_areSame_1 5 rfl rfl)
theorem dX0_areSame_32 : decode cX0_areSame 32 = .ok (.aload_n 0, 1) := dk_42 (dk_at dksX0_areSame_1 8 rfl rfl)
theorem dX0_areSame_33 : decode cX0_areSame 33 = .ok (.getfield 22, 3) := dk_180 0 22 (dk_at dksX0_areSame_1 9 rfl rfl)
theorem dX0_areSame_36 : decode cX0_areSame 36 = .ok (.invokevirtual 240, 3) := dk_182 0 240 (dk_at dksX0_areSame_1 12 rfl rfl)
theorem dX0_areSame_39 : decode cX0_areSame 39 = .ok (.ireturn, 1) := dk_172 (dk_at dksX0_areSame_1 15 rfl rfl)
abbrev cX0_bridge : ByteArray := prog_1_method_24_code
def yX0_bridge : MethodName := ⟨RX0, "bridge", "(IIII)J"⟩
def dkwX0_bridge_4 : List UInt8 := [22, 5, 173]
abbrev dktX0_bridge_4 : List UInt8 := dkwX0_bridge_4 ++ []
def dkwX0_bridge_3 : List UInt8 := [180, 0, 22, 180, 0, 145, 21, 7, 21, 4, 184, 0, 248, 105, 97, 55, 5, 132, 7, 1, 167, 255, 215]
abbrev dktX0_bridge_3 : List UInt8 := dkwX0_bridge_3 ++ dktX0_bridge_4
def dkwX0_bridge_2 : List UInt8 := [3, 54, 7, 21, 7, 6, 162, 0, 41, 22, 5, 42, 180, 0, 18, 180, 0, 145, 21, 7, 50, 29, 47, 42]
abbrev dktX0_bridge_2 : List UInt8 := dkwX0_bridge_2 ++ dktX0_bridge_3
def dkwX0_bridge_1 : List UInt8 := [21, 4, 184, 0, 142, 153, 0, 12, 42, 27, 28, 182, 0, 244, 154, 0, 7, 20, 0, 129, 173, 9, 55, 5]
abbrev dktX0_bridge_1 : List UInt8 := dkwX0_bridge_1 ++ dktX0_bridge_2
def dkwX0_bridge_0 : List UInt8 := [42, 27, 182, 0, 123, 153, 0, 35, 42, 28, 182, 0, 123, 153, 0, 27, 29, 184, 0, 142, 153, 0, 20]
abbrev dktX0_bridge_0 : List UInt8 := dkwX0_bridge_0 ++ dktX0_bridge_1
theorem dksX0_bridge_0 : cX0_bridge.data.toList.drop 0 = dktX0_bridge_0 := by decide +kernel
theorem dksX0_bridge_1 : cX0_bridge.data.toList.drop 23 = dktX0_bridge_1 := dk_seg dksX0_bridge_0 23 rfl rfl
theorem dksX0_bridge_2 : cX0_bridge.data.toList.drop 47 = dktX0_bridge_2 := dk_seg dksX0_bridge_1 24 rfl rfl
theorem dksX0_bridge_3 : cX0_bridge.data.toList.drop 71 = dktX0_bridge_3 := dk_seg dksX0_bridge_2 24 rfl rfl
theorem dksX0_bridge_4 : cX0_bridge.data.toList.drop 94 = dktX0_bridge_4 := dk_seg dksX0_bridge_3 23 rfl rfl
theorem dX0_bridge_0 : decode cX0_bridge 0 = .ok (.aload_n 0, 1) := dk_42 (dk_at dksX0_bridge_0 0 rfl rfl)
theorem dX0_bridge_1 : decode cX0_bridge 1 = .ok (.iload_n 1, 1) := dk_27 (dk_at dksX0_bridge_0 1 rfl rfl)
theorem dX0_bridge_2 : decode cX0_bridge 2 = .ok (.invokevirtual 123, 3) := dk_182 0 123 (dk_at dksX0_bridge_0 2 rfl rfl)
theorem dX0_bridge_5 : decode cX0_bridge 5 = .ok (.ifCond .eq 35, 3) := dk_153 0 35 (dk_at dksX0_bridge_0 5 rfl rfl)
theorem dX0_bridge_8 : decode cX0_bridge 8 = .ok (.aload_n 0, 1) := dk_42 (dk_at dksX0_bridge_0 8 rfl rfl)
theorem dX0_bridge_9 : decode cX0_bridge 9 = .ok (.iload_n 2, 1) := dk_28 (dk_at dksX0_bridge_0 9 rfl rfl)
theorem dX0_bridge_10 : decode cX0_bridge 10 = .ok (.invokevirtual 123, 3) := dk_182 0 123 (dk_at dksX0_bridge_0 10 rfl rfl)
theorem dX0_bridge_13 : decode cX0_bridge 13 = .ok (.ifCond .eq 27, 3) := dk_153 0 27 (dk_at dksX0_bridge_0 13 rfl rfl)
theorem dX0_bridge_16 : decode cX0_bridge 16 = .ok (.iload_n 3, 1) := dk_29 (dk_at dksX0_bridge_0 16 rfl rfl)
theorem dX0_bridge_17 : decode cX0_bridge 17 = .ok (.invokestatic 142, 3) := dk_184 0 142 (dk_at dksX0_bridge_0 17 rfl rfl)
theorem dX0_bridge_20 : decode cX0_bridge 20 = .ok (.ifCond .eq 20, 3) := dk_153 0 20 (dk_at dksX0_bridge_0 20 rfl rfl)
theorem dX0_bridge_23 : decode cX0_bridge 23 = .ok (.iload 4, 2) := dk_21 4 (dk_at dksX0_bridge_1 0 rfl rfl)
theorem dX0_bridge_25 : decode cX0_bridge 25 = .ok (.invokestatic 142, 3) := dk_184 0 142 (dk_at dksX0_bridge_1 2 rfl rfl)
theorem dX0_bridge_28 : decode cX0_bridge 28 = .ok (.ifCond .eq 12, 3) := dk_153 0 12 (dk_at dksX0_bridge_1 5 rfl rfl)
theorem dX0_bridge_31 : decode cX0_bridge 31 = .ok (.aload_n 0, 1) := dk_42 (dk_at dksX0_bridge_1 8 rfl rfl)
theorem dX0_bridge_32 : decode cX0_bridge 32 = .ok (.iload_n 1, 1) := dk_27 (dk_at dksX0_bridge_1 9 rfl rfl)
theorem dX0_bridge_33 : decode cX0_bridge 33 = .ok (.iload_n 2, 1) := dk_28 (dk_at dksX0_bridge_1 10 rfl rfl)
theorem dX0_bridge_34 : decode cX0_bridge 34 = .ok (.invokevirtual 244, 3) := dk_182 0 244 (dk_at dksX0_bridge_1 11 rfl rfl)
theorem dX0_bridge_37 : decode cX0_bridge 37 = .ok (.ifCond .ne 7, 3) := dk_154 0 7 (dk_at dksX0_bridge_1 14 rfl rfl)
theorem dX0_bridge_40 : decode cX0_bridge 40 = .ok (.ldc2_w 129, 3) := dk_20 0 129 (dk_at dksX0_bridge_1 17 rfl rfl)
theorem dX0_bridge_43 : decode cX0_bridge 43 = .ok (.lreturn, 1) := dk_173 (dk_at dksX0_bridge_1 20 rfl rfl)
theorem dX0_bridge_44 : decode cX0_bridge 44 = .ok (.lconst 0, 1) := dk_9 (dk_at dksX0_bridge_1 21 rfl rfl)
theorem dX0_bridge_45 : decode cX0_bridge 45 = .ok (.lstore 5, 2) := dk_55 5 (dk_at dksX0_bridge_1 22 rfl rfl)
theorem dX0_bridge_47 : decode cX0_bridge 47 = .ok (.iconst 0, 1) := dk_3 (dk_at dksX0_bridge_2 0 rfl rfl)
theorem dX0_bridge_48 : decode cX0_bridge 48 = .ok (.istore 7, 2) := dk_54 7 (dk_at dksX0_bridge_2 1 rfl rfl)
theorem dX0_bridge_50 : decode cX0_bridge 50 = .ok (.iload 7, 2) := dk_21 7 (dk_at dksX0_bridge_2 3 rfl rfl)
theorem dX0_bridge_52 : decode cX0_bridge 52 = .ok (.iconst 3, 1) := dk_6 (dk_at dksX0_bridge_2 5 rfl rfl)
theorem dX0_bridge_53 : decode cX0_bridge 53 = .ok (.if_icmp .ge 41, 3) := dk_162 0 41 (dk_at dksX0_bridge_2 6 rfl rfl)
theorem dX0_bridge_56 : decode cX0_bridge 56 = .ok (.lload 5, 2) := dk_22 5 (dk_at dksX0_bridge_2 9 rfl rfl)
theorem dX0_bridge_58 : decode cX0_bridge 58 = .ok (.aload_n 0, 1) := dk_42 (dk_at dksX0_bridge_2 11 rfl rfl)
theorem dX0_bridge_59 : decode cX0_bridge 59 = .ok (.getfield 18, 3) := dk_180 0 18 (dk_at dksX0_bridge_2 12 rfl rfl)
theorem dX0_bridge_62 : decode cX0_bridge 62 = .ok (.getfield 145, 3) := dk_180 0 145 (dk_at dksX0_bridge_2 15 rfl rfl)
theorem dX0_bridge_65 : decode cX0_bridge 65 = .ok (.iload 7, 2) := dk_21 7 (dk_at dksX0_bridge_2 18 rfl rfl)
theorem dX0_bridge_67 : decode cX0_bridge 67 = .ok (.aaload, 1) := dk_50 (dk_at dksX0_bridge_2 20 rfl rfl)
theorem dX0_bridge_68 : decode cX0_bridge 68 = .ok (.iload_n 3, 1) := dk_29 (dk_at dksX0_bridge_2 21 rfl rfl)
theorem dX0_bridge_69 : decode cX0_bridge 69 = .ok (.laload, 1) := dk_47 (dk_at dksX0_bridge_2 22 rfl rfl)
theorem dX0_bridge_70 : decode cX0_bridge 70 = .ok (.aload_n 0, 1) := dk_42 (dk_at dksX0_bridge_2 23 rfl rfl)
theorem dX0_bridge_71 : decode cX0_bridge 71 = .ok (.getfield 22, 3) := dk_180 0 22 (dk_at dksX0_bridge_3 0 rfl rfl)
theorem dX0_bridge_74 : decode cX0_bridge 74 = .ok (.getfield 145, 3) := dk_180 0 145 (dk_at dksX0_bridge_3 3 rfl rfl)
theorem dX0_bridge_77 : decode cX0_bridge 77 = .ok (.iload 7, 2) := dk_21 7 (dk_at dksX0_bridge_3 6 rfl rfl)
theorem dX0_bridge_79 : decode cX0_bridge 79 = .ok (.iload 4, 2) := dk_21 4 (dk_at dksX0_bridge_3 8 rfl rfl)
theorem dX0_bridge_81 : decode cX0_bridge 81 = .ok (.invokestatic 248, 3) := dk_184 0 248 (dk_at dksX0_bridge_3 10 rfl rfl)
theorem dX0_bridge_84 : decode cX0_bridge 84 = .ok (.lmul, 1) := dk_105 (dk_at dksX0_bridge_3 13 rfl rfl)
theorem dX0_bridge_85 : decode cX0_bridge 85 = .ok (.ladd, 1) := dk_97 (dk_at dksX0_bridge_3 14 rfl rfl)
theorem dX0_bridge_86 : decode cX0_bridge 86 = .ok (.lstore 5, 2) := dk_55 5 (dk_at dksX0_bridge_3 15 rfl rfl)
theorem dX0_bridge_88 : decode cX0_bridge 88 = .ok (.iinc 7 1, 3) := dk_132 7 1 (dk_at dksX0_bridge_3 17 rfl rfl)
theorem dX0_bridge_91 : decode cX0_bridge 91 = .ok (.goto (-41), 3) := dk_167 255 215 (dk_at dksX0_bridge_3 20 rfl rfl)
theorem dX0_bridge_94 : decode cX0_bridge 94 = .ok (.lload 5, 2) := dk_22 5 (dk_at dksX0_bridge_4 0 rfl rfl)
theorem dX0_bridge_96 : decode cX0_bridge 96 = .ok (.lreturn, 1) := dk_173 (dk_at dksX0_bridge_4 2 rfl rfl)
abbrev cX0_backAt : ByteArray := prog_1_method_23_code
def yX0_backAt : MethodName := ⟨RX0, "backAt", "([[JII)J"⟩
def dkwX0_backAt_2 : List UInt8 := [21, 4, 50, 21, 5, 47, 105, 101, 173]
abbrev dktX0_backAt_2 : List UInt8 := dkwX0_backAt_2 ++ []
def dkwX0_backAt_1 : List UInt8 := [112, 54, 6, 42, 29, 50, 21, 5, 47, 42, 21, 4, 50, 21, 6, 47, 105, 42, 29, 50, 21, 6, 47, 42]
abbrev dktX0_backAt_1 : List UInt8 := dkwX0_backAt_1 ++ dktX0_backAt_2
def dkwX0_backAt_0 : List UInt8 := [27, 4, 96, 6, 112, 62, 27, 5, 96, 6, 112, 54, 4, 28, 4, 96, 6, 112, 54, 5, 28, 5, 96, 6]
abbrev dktX0_backAt_0 : List UInt8 := dkwX0_backAt_0 ++ dktX0_backAt_1
theorem dksX0_backAt_0 : cX0_backAt.data.toList.drop 0 = dktX0_backAt_0 := by decide +kernel
theorem dksX0_backAt_1 : cX0_backAt.data.toList.drop 24 = dktX0_backAt_1 := dk_seg dksX0_backAt_0 24 rfl rfl
theorem dksX0_backAt_2 : cX0_backAt.data.toList.drop 48 = dktX0_backAt_2 := dk_seg dksX0_backAt_1 24 rfl rfl
theorem dX0_backAt_0 : decode cX0_backAt 0 = .ok (.iload_n 1, 1) := dk_27 (dk_at dksX0_backAt_0 0 rfl rfl)
theorem dX0_backAt_1 : decode cX0_backAt 1 = .ok (.iconst 1, 1) := dk_4 (dk_at dksX0_backAt_0 1 rfl rfl)
theorem dX0_backAt_2 : decode cX0_backAt 2 = .ok (.iadd, 1) := dk_96 (dk_at dksX0_backAt_0 2 rfl rfl)
theorem dX0_backAt_3 : decode cX0_backAt 3 = .ok (.iconst 3, 1) := dk_6 (dk_at dksX0_backAt_0 3 rfl rfl)
theorem dX0_backAt_4 : decode cX0_backAt 4 = .ok (.irem, 1) := dk_112 (dk_at dksX0_backAt_0 4 rfl rfl)
theorem dX0_backAt_5 : decode cX0_backAt 5 = .ok (.istore_n 3, 1) := dk_62 (dk_at dksX0_backAt_0 5 rfl rfl)
theorem dX0_backAt_6 : decode cX0_backAt 6 = .ok (.iload_n 1, 1) := dk_27 (dk_at dksX0_backAt_0 6 rfl rfl)
theorem dX0_backAt_7 : decode cX0_backAt 7 = .ok (.iconst 2, 1) := dk_5 (dk_at dksX0_backAt_0 7 rfl rfl)
theorem dX0_backAt_8 : decode cX0_backAt 8 = .ok (.iadd, 1) := dk_96 (dk_at dksX0_backAt_0 8 rfl rfl)
theorem dX0_backAt_9 : decode cX0_backAt 9 = .ok (.iconst 3, 1) := dk_6 (dk_at dksX0_backAt_0 9 rfl rfl)
theorem dX0_backAt_10 : decode cX0_backAt 10 = .ok (.irem, 1) := dk_112 (dk_at dksX0_backAt_0 10 rfl rfl)
theorem dX0_backAt_11 : decode cX0_backAt 11 = .ok (.istore 4, 2) := dk_54 4 (dk_at dksX0_backAt_0 11 rfl rfl)
theorem dX0_backAt_13 : decode cX0_backAt 13 = .ok (.iload_n 2, 1) := dk_28 (dk_at dksX0_backAt_0 13 rfl rfl)
theorem dX0_backAt_14 : decode cX0_backAt 14 = .ok (.iconst 1, 1) := dk_4 (dk_at dksX0_backAt_0 14 rfl rfl)
theorem dX0_backAt_15 : decode cX0_backAt 15 = .ok (.iadd, 1) := dk_96 (dk_at dksX0_backAt_0 15 rfl rfl)
theorem dX0_backAt_16 : decode cX0_backAt 16 = .ok (.iconst 3, 1) := dk_6 (dk_at dksX0_backAt_0 16 rfl rfl)
theorem dX0_backAt_17 : decode cX0_backAt 17 = .ok (.irem, 1) := dk_112 (dk_at dksX0_backAt_0 17 rfl rfl)
theorem dX0_backAt_18 : decode cX0_backAt 18 = .ok (.istore 5, 2) := dk_54 5 (dk_at dksX0_backAt_0 18 rfl rfl)
theorem dX0_backAt_20 : decode cX0_backAt 20 = .ok (.iload_n 2, 1) := dk_28 (dk_at dksX0_backAt_0 20 rfl rfl)
theorem dX0_backAt_21 : decode cX0_backAt 21 = .ok (.iconst 2, 1) := dk_5 (dk_at dksX0_backAt_0 21 rfl rfl)
theorem dX0_backAt_22 : decode cX0_backAt 22 = .ok (.iadd, 1) := dk_96 (dk_at dksX0_backAt_0 22 rfl rfl)
theorem dX0_backAt_23 : decode cX0_backAt 23 = .ok (.iconst 3, 1) := dk_6 (dk_at dksX0_backAt_0 23 rfl rfl)
theorem dX0_backAt_24 : decode cX0_backAt 24 = .ok (.irem, 1) := dk_112 (dk_at dksX0_backAt_1 0 rfl rfl)
theorem dX0_backAt_25 : decode cX0_backAt 25 = .ok (.istore 6, 2) := dk_54 6 (dk_at dksX0_backAt_1 1 rfl rfl)
theorem dX0_backAt_27 : decode cX0_backAt 27 = .ok (.aload_n 0, 1) := dk_42 (dk_at dksX0_backAt_1 3 rfl rfl)
theorem dX0_backAt_28 : decode cX0_backAt 28 = .ok (.iload_n 3, 1) := dk_29 (dk_at dksX0_backAt_1 4 rfl rfl)
theorem dX0_backAt_29 : decode cX0_backAt 29 = .ok (.aaload, 1) := dk_50 (dk_at dksX0_backAt_1 5 rfl rfl)
theorem dX0_backAt_30 : decode cX0_backAt 30 = .ok (.iload 5, 2) := dk_21 5 (dk_at dksX0_backAt_1 6 rfl rfl)
theorem dX0_backAt_32 : decode cX0_backAt 32 = .ok (.laload, 1) := dk_47 (dk_at dksX0_backAt_1 8 rfl rfl)
theorem dX0_backAt_33 : decode cX0_backAt 33 = .ok (.aload_n 0, 1) := dk_42 (dk_at dksX0_backAt_1 9 rfl rfl)
theorem dX0_backAt_34 : decode cX0_backAt 34 = .ok (.iload 4, 2) := dk_21 4 (dk_at dksX0_backAt_1 10 rfl rfl)
theorem dX0_backAt_36 : decode cX0_backAt 36 = .ok (.aaload, 1) := dk_50 (dk_at dksX0_backAt_1 12 rfl rfl)
theorem dX0_backAt_37 : decode cX0_backAt 37 = .ok (.iload 6, 2) := dk_21 6 (dk_at dksX0_backAt_1 13 rfl rfl)
theorem dX0_backAt_39 : decode cX0_backAt 39 = .ok (.laload, 1) := dk_47 (dk_at dksX0_backAt_1 15 rfl rfl)
theorem dX0_backAt_40 : decode cX0_backAt 40 = .ok (.lmul, 1) := dk_105 (dk_at dksX0_backAt_1 16 rfl rfl)
theorem dX0_backAt_41 : decode cX0_backAt 41 = .ok (.aload_n 0, 1) := dk_42 (dk_at dksX0_backAt_1 17 rfl rfl)
theorem dX0_backAt_42 : decode cX0_backAt 42 = .ok (.iload_n 3, 1) := dk_29 (dk_at dksX0_backAt_1 18 rfl rfl)
theorem dX0_backAt_43 : decode cX0_backAt 43 = .ok (.aaload, 1) := dk_50 (dk_at dksX0_backAt_1 19 rfl rfl)
theorem dX0_backAt_44 : decode cX0_backAt 44 = .ok (.iload 6, 2) := dk_21 6 (dk_at dksX0_backAt_1 20 rfl rfl)
theorem dX0_backAt_46 : decode cX0_backAt 46 = .ok (.laload, 1) := dk_47 (dk_at dksX0_backAt_1 22 rfl rfl)
theorem dX0_backAt_47 : decode cX0_backAt 47 = .ok (.aload_n 0, 1) := dk_42 (dk_at dksX0_backAt_1 23 rfl rfl)
theorem dX0_backAt_48 : decode cX0_backAt 48 = .ok (.iload 4, 2) := dk_21 4 (dk_at dksX0_backAt_2 0 rfl rfl)
theorem dX0_backAt_50 : decode cX0_backAt 50 = .ok (.aaload, 1) := dk_50 (dk_at dksX0_backAt_2 2 rfl rfl)
theorem dX0_backAt_51 : decode cX0_backAt 51 = .ok (.iload 5, 2) := dk_21 5 (dk_at dksX0_backAt_2 3 rfl rfl)
theorem dX0_backAt_53 : decode cX0_backAt 53 = .ok (.laload, 1) := dk_47 (dk_at dksX0_backAt_2 5 rfl rfl)
theorem dX0_backAt_54 : decode cX0_backAt 54 = .ok (.lmul, 1) := dk_105 (dk_at dksX0_backAt_2 6 rfl rfl)
theorem dX0_backAt_55 : decode cX0_backAt 55 = .ok (.lsub, 1) := dk_101 (dk_at dksX0_backAt_2 7 rfl rfl)
theorem dX0_backAt_56 : decode cX0_backAt 56 = .ok (.lreturn, 1) := dk_173 (dk_at dksX0_backAt_2 8 rfl rfl)
abbrev cX0_turns : ByteArray := prog_1_method_27_code
def yX0_turns : MethodName := ⟨RX0, "turns", "(II)I"⟩
def dkwX0_turns_0 : List UInt8 := [42, 27, 182, 0, 123, 153, 0, 17, 28, 2, 161, 0, 12, 42, 27, 28, 182, 1, 10, 167, 0, 4, 2, 172]
abbrev dktX0_turns_0 : List UInt8 := dkwX0_turns_0 ++ []
theorem dksX0_turns_0 : cX0_turns.data.toList.drop 0 = dktX0_turns_0 := by decide +kernel
theorem dX0_turns_0 : decode cX0_turns 0 = .ok (.aload_n 0, 1) := dk_42 (dk_at dksX0_turns_0 0 rfl rfl)
theorem dX0_turns_1 : decode cX0_turns 1 = .ok (.iload_n 1, 1) := dk_27 (dk_at dksX0_turns_0 1 rfl rfl)
theorem dX0_turns_2 : decode cX0_turns 2 = .ok (.invokevirtual 123, 3) := dk_182 0 123 (dk_at dksX0_turns_0 2 rfl rfl)
theorem dX0_turns_5 : decode cX0_turns 5 = .ok (.ifCond .eq 17, 3) := dk_153 0 17 (dk_at dksX0_turns_0 5 rfl rfl)
theorem dX0_turns_8 : decode cX0_turns 8 = .ok (.iload_n 2, 1) := dk_28 (dk_at dksX0_turns_0 8 rfl rfl)
theorem dX0_turns_9 : decode cX0_turns 9 = .ok (.iconst (-1), 1) := dk_2 (dk_at dksX0_turns_0 9 rfl rfl)
theorem dX0_turns_10 : decode cX0_turns 10 = .ok (.if_icmp .lt 12, 3) := dk_161 0 12 (dk_at dksX0_turns_0 10 rfl rfl)
theorem dX0_turns_13 : decode cX0_turns 13 = .ok (.aload_n 0, 1) := dk_42 (dk_at dksX0_turns_0 13 rfl rfl)
theorem dX0_turns_14 : decode cX0_turns 14 = .ok (.iload_n 1, 1) := dk_27 (dk_at dksX0_turns_0 14 rfl rfl)
theorem dX0_turns_15 : decode cX0_turns 15 = .ok (.iload_n 2, 1) := dk_28 (dk_at dksX0_turns_0 15 rfl rfl)
theorem dX0_turns_16 : decode cX0_turns 16 = .ok (.invokevirtual 266, 3) := dk_182 1 10 (dk_at dksX0_turns_0 16 rfl rfl)
theorem dX0_turns_19 : decode cX0_turns 19 = .ok (.goto 4, 3) := dk_167 0 4 (dk_at dksX0_turns_0 19 rfl rfl)
theorem dX0_turns_22 : decode cX0_turns 22 = .ok (.iconst (-1), 1) := dk_2 (dk_at dksX0_turns_0 22 rfl rfl)
theorem dX0_turns_23 : decode cX0_turns 23 = .ok (.ireturn, 1) := dk_172 (dk_at dksX0_turns_0 23 rfl rfl)
abbrev cX0_turnsOf : ByteArray := prog_1_method_26_code
def yX0_turnsOf : MethodName := ⟨RX0, "turnsOf", "(II)I"⟩
def dkwX0_turnsOf_12 : List UInt8 := [16, 254, 172]
abbrev dktX0_turnsOf_12 : List UInt8 := dkwX0_turnsOf_12 ++ []
def dkwX0_turnsOf_11 : List UInt8 := [167, 255, 172, 132, 5, 1, 167, 255, 74, 132, 4, 1, 167, 255, 8, 28, 2, 160, 0, 7, 29, 167, 0, 5]
abbrev dktX0_turnsOf_11 : List UInt8 := dkwX0_turnsOf_11 ++ dktX0_turnsOf_12
def dkwX0_turnsOf_10 : List UInt8 := [17, 39, 16, 21, 4, 104, 16, 100, 21, 5, 104, 96, 21, 6, 96, 172, 132, 3, 1, 132, 6, 1]
abbrev dktX0_turnsOf_10 : List UInt8 := dkwX0_turnsOf_10 ++ dktX0_turnsOf_11
def dkwX0_turnsOf_9 : List UInt8 := [180, 0, 44, 5, 50, 182, 1, 6, 42, 180, 0, 18, 182, 0, 240, 153, 0, 27, 29, 28, 160, 0, 19]
abbrev dktX0_turnsOf_9 : List UInt8 := dkwX0_turnsOf_9 ++ dktX0_turnsOf_10
def dkwX0_turnsOf_8 : List UInt8 := [184, 0, 252, 42, 180, 0, 25, 42, 180, 0, 18, 42, 180, 0, 44, 3, 50, 42, 180, 0, 44, 4, 50, 42]
abbrev dktX0_turnsOf_8 : List UInt8 := dkwX0_turnsOf_8 ++ dktX0_turnsOf_9
def dkwX0_turnsOf_7 : List UInt8 := [153, 0, 6, 167, 0, 93, 3, 54, 6, 21, 6, 16, 27, 162, 0, 83, 21, 6, 42, 180, 0, 44, 5, 50]
abbrev dktX0_turnsOf_7 : List UInt8 := dkwX0_turnsOf_7 ++ dktX0_turnsOf_8
def dkwX0_turnsOf_6 : List UInt8 := [180, 0, 44, 3, 50, 42, 180, 0, 44, 4, 50, 182, 0, 255, 42, 180, 0, 18, 180, 1, 3, 5, 47, 148]
abbrev dktX0_turnsOf_6 : List UInt8 := dkwX0_turnsOf_6 ++ dktX0_turnsOf_7
def dkwX0_turnsOf_5 : List UInt8 := [20, 0, 105, 42, 180, 0, 18, 180, 0, 139, 4, 47, 105, 148, 154, 0, 128, 42, 180, 0, 18, 42]
abbrev dktX0_turnsOf_5 : List UInt8 := dkwX0_turnsOf_5 ++ dktX0_turnsOf_6
def dkwX0_turnsOf_4 : List UInt8 := [184, 0, 252, 42, 180, 0, 18, 42, 180, 0, 44, 4, 50, 42, 180, 0, 44, 4, 50, 182, 0, 255]
abbrev dktX0_turnsOf_4 : List UInt8 := dkwX0_turnsOf_4 ++ dktX0_turnsOf_5
def dkwX0_turnsOf_3 : List UInt8 := [153, 0, 6, 167, 0, 191, 3, 54, 5, 21, 5, 16, 27, 162, 0, 181, 21, 5, 42, 180, 0, 44, 4, 50]
abbrev dktX0_turnsOf_3 : List UInt8 := dkwX0_turnsOf_3 ++ dktX0_turnsOf_4
def dkwX0_turnsOf_2 : List UInt8 := [42, 180, 0, 44, 3, 50, 182, 0, 255, 20, 0, 105, 42, 180, 0, 18, 180, 0, 139, 3, 47, 105, 148]
abbrev dktX0_turnsOf_2 : List UInt8 := dkwX0_turnsOf_2 ++ dktX0_turnsOf_3
def dkwX0_turnsOf_1 : List UInt8 := [162, 0, 247, 21, 4, 42, 180, 0, 44, 3, 50, 184, 0, 252, 42, 180, 0, 18, 42, 180, 0, 44, 3, 50]
abbrev dktX0_turnsOf_1 : List UInt8 := dkwX0_turnsOf_1 ++ dktX0_turnsOf_2
def dkwX0_turnsOf_0 : List UInt8 := [42, 180, 0, 18, 42, 180, 0, 13, 27, 50, 182, 0, 205, 87, 3, 62, 3, 54, 4, 21, 4, 16, 27]
abbrev dktX0_turnsOf_0 : List UInt8 := dkwX0_turnsOf_0 ++ dktX0_turnsOf_1
theorem dksX0_turnsOf_0 : cX0_turnsOf.data.toList.drop 0 = dktX0_turnsOf_0 := by decide +kernel
theorem dksX0_turnsOf_1 : cX0_turnsOf.data.toList.drop 23 = dktX0_turnsOf_1 := dk_seg dksX0_turnsOf_0 23 rfl rfl
theorem dksX0_turnsOf_2 : cX0_turnsOf.data.toList.drop 47 = dktX0_turnsOf_2 := dk_seg dksX0_turnsOf_1 24 rfl rfl
theorem dksX0_turnsOf_3 : cX0_turnsOf.data.toList.drop 70 = dktX0_turnsOf_3 := dk_seg dksX0_turnsOf_2 23 rfl rfl
theorem dksX0_turnsOf_4 : cX0_turnsOf.data.toList.drop 94 = dktX0_turnsOf_4 := dk_seg dksX0_turnsOf_3 24 rfl rfl
theorem dksX0_turnsOf_5 : cX0_turnsOf.data.toList.drop 116 = dktX0_turnsOf_5 := dk_seg dksX0_turnsOf_4 22 rfl rfl
theorem dksX0_turnsOf_6 : cX0_turnsOf.data.toList.drop 138 = dktX0_turnsOf_6 := dk_seg dksX0_turnsOf_5 22 rfl rfl
theorem dksX0_turnsOf_7 : cX0_turnsOf.data.toList.drop 162 = dktX0_turnsOf_7 := dk_seg dksX0_turnsOf_6 24 rfl rfl
theorem dksX0_turnsOf_8 : cX0_turnsOf.data.toList.drop 186 = dktX0_turnsOf_8 := dk_seg dksX0_turnsOf_7 24 rfl rfl
theorem dksX0_turnsOf_9 : cX0_turnsOf.data.toList.drop 210 = dktX0_turnsOf_9 := dk_seg dksX0_turnsOf_8 24 rfl rfl
theorem dksX0_turnsOf_10 : cX0_turnsOf.data.toList.drop 233 = dktX0_turnsOf_10 := dk_seg dksX0_turnsOf_9 23 rfl rfl
theorem dksX0_turnsOf_11 : cX0_turnsOf.data.toList.drop 255 = dktX0_turnsOf_11 := dk_seg dksX0_turnsOf_10 22 rfl rfl
theorem dksX0_turnsOf_12 : cX0_turnsOf.data.toList.drop 279 = dktX0_turnsOf_12 := dk_seg dksX0_turnsOf_11 24 rfl rfl
theorem dX0_turnsOf_0 : decode cX0_turnsOf 0 = .ok (.aload_n 0, 1) := dk_42 (dk_at dksX0_turnsOf_0 0 rfl rfl)
theorem dX0_turnsOf_1 : decode cX0_turnsOf 1 = .ok (.getfield 18, 3) := dk_180 0 18 (dk_at dksX0_turnsOf_0 1 rfl rfl)
theorem dX0_turnsOf_4 : decode cX0_turnsOf 4 = .ok (.aload_n 0, 1) := dk_42 (dk_at dksX0_turnsOf_0 4 rfl rfl)
theorem dX0_turnsOf_5 : decode cX0_turnsOf 5 = .ok (.getfield 13, 3) := dk_180 0 13 (dk_at dksX0_turnsOf_0 5 rfl rfl)
theorem dX0_turnsOf_8 : decode cX0_turnsOf 8 = .ok (.iload_n 1, 1) := dk_27 (dk_at dksX0_turnsOf_0 8 rfl rfl)
theorem dX0_turnsOf_9 : decode cX0_turnsOf 9 = .ok (.aaload, 1) := dk_50 (dk_at dksX0_turnsOf_0 9 rfl rfl)
theorem dX0_turnsOf_10 : decode cX0_turnsOf 10 = .ok (.invokevirtual 205, 3) := dk_182 0 205 (dk_at dksX0_turnsOf_0 10 rfl rfl)
theorem dX0_turnsOf_13 : decode cX0_turnsOf 13 = .ok (.pop, 1) := dk_87 (dk_at dksX0_turnsOf_0 13 rfl rfl)
theorem dX0_turnsOf_14 : decode cX0_turnsOf 14 = .ok (.iconst 0, 1) := dk_3 (dk_at dksX0_turnsOf_0 14 rfl rfl)
theorem dX0_turnsOf_15 : decode cX0_turnsOf 15 = .ok (.istore_n 3, 1) := dk_62 (dk_at dksX0_turnsOf_0 15 rfl rfl)
theorem dX0_turnsOf_16 : decode cX0_turnsOf 16 = .ok (.iconst 0, 1) := dk_3 (dk_at dksX0_turnsOf_0 16 rfl rfl)
theorem dX0_turnsOf_17 : decode cX0_turnsOf 17 = .ok (.istore 4, 2) := dk_54 4 (dk_at dksX0_turnsOf_0 17 rfl rfl)
theorem dX0_turnsOf_19 : decode cX0_turnsOf 19 = .ok (.iload 4, 2) := dk_21 4 (dk_at dksX0_turnsOf_0 19 rfl rfl)
theorem dX0_turnsOf_21 : decode cX0_turnsOf 21 = .ok (.bipush 27, 2) := dk_16 27 (dk_at dksX0_turnsOf_0 21 rfl rfl)
theorem dX0_turnsOf_23 : decode cX0_turnsOf 23 = .ok (.if_icmp .ge 247, 3) := dk_162 0 247 (dk_at dksX0_turnsOf_1 0 rfl rfl)
theorem dX0_turnsOf_26 : decode cX0_turnsOf 26 = .ok (.iload 4, 2) := dk_21 4 (dk_at dksX0_turnsOf_1 3 rfl rfl)
theorem dX0_turnsOf_28 : decode cX0_turnsOf 28 = .ok (.aload_n 0, 1) := dk_42 (dk_at dksX0_turnsOf_1 5 rfl rfl)
theorem dX0_turnsOf_29 : decode cX0_turnsOf 29 = .ok (.getfield 44, 3) := dk_180 0 44 (dk_at dksX0_turnsOf_1 6 rfl rfl)
theorem dX0_turnsOf_32 : decode cX0_turnsOf 32 = .ok (.iconst 0, 1) := dk_3 (dk_at dksX0_turnsOf_1 9 rfl rfl)
theorem dX0_turnsOf_33 : decode cX0_turnsOf 33 = .ok (.aaload, 1) := dk_50 (dk_at dksX0_turnsOf_1 10 rfl rfl)
theorem dX0_turnsOf_34 : decode cX0_turnsOf 34 = .ok (.invokestatic 252, 3) := dk_184 0 252 (dk_at dksX0_turnsOf_1 11 rfl rfl)
theorem dX0_turnsOf_37 : decode cX0_turnsOf 37 = .ok (.aload_n 0, 1) := dk_42 (dk_at dksX0_turnsOf_1 14 rfl rfl)
theorem dX0_turnsOf_38 : decode cX0_turnsOf 38 = .ok (.getfield 18, 3) := dk_180 0 18 (dk_at dksX0_turnsOf_1 15 rfl rfl)
theorem dX0_turnsOf_41 : decode cX0_turnsOf 41 = .ok (.aload_n 0, 1) := dk_42 (dk_at dksX0_turnsOf_1 18 rfl rfl)
theorem dX0_turnsOf_42 : decode cX0_turnsOf 42 = .ok (.getfield 44, 3) := dk_180 0 44 (dk_at dksX0_turnsOf_1 19 rfl rfl)
theorem dX0_turnsOf_45 : decode cX0_turnsOf 45 = .ok (.iconst 0, 1) := dk_3 (dk_at dksX0_turnsOf_1 22 rfl rfl)
theorem dX0_turnsOf_46 : decode cX0_turnsOf 46 = .ok (.aaload, 1) := dk_50 (dk_at dksX0_turnsOf_1 23 rfl rfl)
theorem dX0_turnsOf_47 : decode cX0_turnsOf 47 = .ok (.aload_n 0, 1) := dk_42 (dk_at dksX0_turnsOf_2 0 rfl rfl)
theorem dX0_turnsOf_48 : decode cX0_turnsOf 48 = .ok (.getfield 44, 3) := dk_180 0 44 (dk_at dksX0_turnsOf_2 1 rfl rfl)
theorem dX0_turnsOf_51 : decode cX0_turnsOf 51 = .ok (.iconst 0, 1) := dk_3 (dk_at dksX0_turnsOf_2 4 rfl rfl)
theorem dX0_turnsOf_52 : decode cX0_turnsOf 52 = .ok (.aaload, 1) := dk_50 (dk_at dksX0_turnsOf_2 5 rfl rfl)
theorem dX0_turnsOf_53 : decode cX0_turnsOf 53 = .ok (.invokevirtual 255, 3) := dk_182 0 255 (dk_at dksX0_turnsOf_2 6 rfl rfl)
theorem dX0_turnsOf_56 : decode cX0_turnsOf 56 = .ok (.ldc2_w 105, 3) := dk_20 0 105 (dk_at dksX0_turnsOf_2 9 rfl rfl)
theorem dX0_turnsOf_59 : decode cX0_turnsOf 59 = .ok (.aload_n 0, 1) := dk_42 (dk_at dksX0_turnsOf_2 12 rfl rfl)
theorem dX0_turnsOf_60 : decode cX0_turnsOf 60 = .ok (.getfield 18, 3) := dk_180 0 18 (dk_at dksX0_turnsOf_2 13 rfl rfl)
theorem dX0_turnsOf_63 : decode cX0_turnsOf 63 = .ok (.getfield 139, 3) := dk_180 0 139 (dk_at dksX0_turnsOf_2 16 rfl rfl)
theorem dX0_turnsOf_66 : decode cX0_turnsOf 66 = .ok (.iconst 0, 1) := dk_3 (dk_at dksX0_turnsOf_2 19 rfl rfl)
theorem dX0_turnsOf_67 : decode cX0_turnsOf 67 = .ok (.laload, 1) := dk_47 (dk_at dksX0_turnsOf_2 20 rfl rfl)
theorem dX0_turnsOf_68 : decode cX0_turnsOf 68 = .ok (.lmul, 1) := dk_105 (dk_at dksX0_turnsOf_2 21 rfl rfl)
theorem dX0_turnsOf_69 : decode cX0_turnsOf 69 = .ok (.lcmp, 1) := dk_148 (dk_at dksX0_turnsOf_2 22 rfl rfl)
theorem dX0_turnsOf_70 : decode cX0_turnsOf 70 = .ok (.ifCond .eq 6, 3) := dk_153 0 6 (dk_at dksX0_turnsOf_3 0 rfl rfl)
theorem dX0_turnsOf_73 : decode cX0_turnsOf 73 = .ok (.goto 191, 3) := dk_167 0 191 (dk_at dksX0_turnsOf_3 3 rfl rfl)
theorem dX0_turnsOf_76 : decode cX0_turnsOf 76 = .ok (.iconst 0, 1) := dk_3 (dk_at dksX0_turnsOf_3 6 rfl rfl)
theorem dX0_turnsOf_77 : decode cX0_turnsOf 77 = .ok (.istore 5, 2) := dk_54 5 (dk_at dksX0_turnsOf_3 7 rfl rfl)
theorem dX0_turnsOf_79 : decode cX0_turnsOf 79 = .ok (.iload 5, 2) := dk_21 5 (dk_at dksX0_turnsOf_3 9 rfl rfl)
theorem dX0_turnsOf_81 : decode cX0_turnsOf 81 = .ok (.bipush 27, 2) := dk_16 27 (dk_at dksX0_turnsOf_3 11 rfl rfl)
theorem dX0_turnsOf_83 : decode cX0_turnsOf 83 = .ok (.if_icmp .ge 181, 3) := dk_162 0 181 (dk_at dksX0_turnsOf_3 13 rfl rfl)
theorem dX0_turnsOf_86 : decode cX0_turnsOf 86 = .ok (.iload 5, 2) := dk_21 5 (dk_at dksX0_turnsOf_3 16 rfl rfl)
theorem dX0_turnsOf_88 : decode cX0_turnsOf 88 = .ok (.aload_n 0, 1) := dk_42 (dk_at dksX0_turnsOf_3 18 rfl rfl)
theorem dX0_turnsOf_89 : decode cX0_turnsOf 89 = .ok (.getfield 44, 3) := dk_180 0 44 (dk_at dksX0_turnsOf_3 19 rfl rfl)
theorem dX0_turnsOf_92 : decode cX0_turnsOf 92 = .ok (.iconst 1, 1) := dk_4 (dk_at dksX0_turnsOf_3 22 rfl rfl)
theorem dX0_turnsOf_93 : decode cX0_turnsOf 93 = .ok (.aaload, 1) := dk_50 (dk_at dksX0_turnsOf_3 23 rfl rfl)
theorem dX0_turnsOf_94 : decode cX0_turnsOf 94 = .ok (.invokestatic 252, 3) := dk_184 0 252 (dk_at dksX0_turnsOf_4 0 rfl rfl)
theorem dX0_turnsOf_97 : decode cX0_turnsOf 97 = .ok (.aload_n 0, 1) := dk_42 (dk_at dksX0_turnsOf_4 3 rfl rfl)
theorem dX0_turnsOf_98 : decode cX0_turnsOf 98 = .ok (.getfield 18, 3) := dk_180 0 18 (dk_at dksX0_turnsOf_4 4 rfl rfl)
theorem dX0_turnsOf_101 : decode cX0_turnsOf 101 = .ok (.aload_n 0, 1) := dk_42 (dk_at dksX0_turnsOf_4 7 rfl rfl)
theorem dX0_turnsOf_102 : decode cX0_turnsOf 102 = .ok (.getfield 44, 3) := dk_180 0 44 (dk_at dksX0_turnsOf_4 8 rfl rfl)
theorem dX0_turnsOf_105 : decode cX0_turnsOf 105 = .ok (.iconst 1, 1) := dk_4 (dk_at dksX0_turnsOf_4 11 rfl rfl)
theorem dX0_turnsOf_106 : decode cX0_turnsOf 106 = .ok (.aaload, 1) := dk_50 (dk_at dksX0_turnsOf_4 12 rfl rfl)
theorem dX0_turnsOf_107 : decode cX0_turnsOf 107 = .ok (.aload_n 0, 1) := dk_42 (dk_at dksX0_turnsOf_4 13 rfl rfl)
theorem dX0_turnsOf_108 : decode cX0_turnsOf 108 = .ok (.getfield 44, 3) := dk_180 0 44 (dk_at dksX0_turnsOf_4 14 rfl rfl)
theorem dX0_turnsOf_111 : decode cX0_turnsOf 111 = .ok (.iconst 1, 1) := dk_4 (dk_at dksX0_turnsOf_4 17 rfl rfl)
theorem dX0_turnsOf_112 : decode cX0_turnsOf 112 = .ok (.aaload, 1) := dk_50 (dk_at dksX0_turnsOf_4 18 rfl rfl)
theorem dX0_turnsOf_113 : decode cX0_turnsOf 113 = .ok (.invokevirtual 255, 3) := dk_182 0 255 (dk_at dksX0_turnsOf_4 19 rfl rfl)
theorem dX0_turnsOf_116 : decode cX0_turnsOf 116 = .ok (.ldc2_w 105, 3) := dk_20 0 105 (dk_at dksX0_turnsOf_5 0 rfl rfl)
theorem dX0_turnsOf_119 : decode cX0_turnsOf 119 = .ok (.aload_n 0, 1) := dk_42 (dk_at dksX0_turnsOf_5 3 rfl rfl)
theorem dX0_turnsOf_120 : decode cX0_turnsOf 120 = .ok (.getfield 18, 3) := dk_180 0 18 (dk_at dksX0_turnsOf_5 4 rfl rfl)
theorem dX0_turnsOf_123 : decode cX0_turnsOf 123 = .ok (.getfield 139, 3) := dk_180 0 139 (dk_at dksX0_turnsOf_5 7 rfl rfl)
theorem dX0_turnsOf_126 : decode cX0_turnsOf 126 = .ok (.iconst 1, 1) := dk_4 (dk_at dksX0_turnsOf_5 10 rfl rfl)
theorem dX0_turnsOf_127 : decode cX0_turnsOf 127 = .ok (.laload, 1) := dk_47 (dk_at dksX0_turnsOf_5 11 rfl rfl)
theorem dX0_turnsOf_128 : decode cX0_turnsOf 128 = .ok (.lmul, 1) := dk_105 (dk_at dksX0_turnsOf_5 12 rfl rfl)
theorem dX0_turnsOf_129 : decode cX0_turnsOf 129 = .ok (.lcmp, 1) := dk_148 (dk_at dksX0_turnsOf_5 13 rfl rfl)
theorem dX0_turnsOf_130 : decode cX0_turnsOf 130 = .ok (.ifCond .ne 128, 3) := dk_154 0 128 (dk_at dksX0_turnsOf_5 14 rfl rfl)
theorem dX0_turnsOf_133 : decode cX0_turnsOf 133 = .ok (.aload_n 0, 1) := dk_42 (dk_at dksX0_turnsOf_5 17 rfl rfl)
theorem dX0_turnsOf_134 : decode cX0_turnsOf 134 = .ok (.getfield 18, 3) := dk_180 0 18 (dk_at dksX0_turnsOf_5 18 rfl rfl)
theorem dX0_turnsOf_137 : decode cX0_turnsOf 137 = .ok (.aload_n 0, 1) := dk_42 (dk_at dksX0_turnsOf_5 21 rfl rfl)
theorem dX0_turnsOf_138 : decode cX0_turnsOf 138 = .ok (.getfield 44, 3) := dk_180 0 44 (dk_at dksX0_turnsOf_6 0 rfl rfl)
theorem dX0_turnsOf_141 : decode cX0_turnsOf 141 = .ok (.iconst 0, 1) := dk_3 (dk_at dksX0_turnsOf_6 3 rfl rfl)
theorem dX0_turnsOf_142 : decode cX0_turnsOf 142 = .ok (.aaload, 1) := dk_50 (dk_at dksX0_turnsOf_6 4 rfl rfl)
theorem dX0_turnsOf_143 : decode cX0_turnsOf 143 = .ok (.aload_n 0, 1) := dk_42 (dk_at dksX0_turnsOf_6 5 rfl rfl)
theorem dX0_turnsOf_144 : decode cX0_turnsOf 144 = .ok (.getfield 44, 3) := dk_180 0 44 (dk_at dksX0_turnsOf_6 6 rfl rfl)
theorem dX0_turnsOf_147 : decode cX0_turnsOf 147 = .ok (.iconst 1, 1) := dk_4 (dk_at dksX0_turnsOf_6 9 rfl rfl)
theorem dX0_turnsOf_148 : decode cX0_turnsOf 148 = .ok (.aaload, 1) := dk_50 (dk_at dksX0_turnsOf_6 10 rfl rfl)
theorem dX0_turnsOf_149 : decode cX0_turnsOf 149 = .ok (.invokevirtual 255, 3) := dk_182 0 255 (dk_at dksX0_turnsOf_6 11 rfl rfl)
theorem dX0_turnsOf_152 : decode cX0_turnsOf 152 = .ok (.aload_n 0, 1) := dk_42 (dk_at dksX0_turnsOf_6 14 rfl rfl)
theorem dX0_turnsOf_153 : decode cX0_turnsOf 153 = .ok (.getfield 18, 3) := dk_180 0 18 (dk_at dksX0_turnsOf_6 15 rfl rfl)
theorem dX0_turnsOf_156 : decode cX0_turnsOf 156 = .ok (.getfield 259, 3) := dk_180 1 3 (dk_at dksX0_turnsOf_6 18 rfl rfl)
theorem dX0_turnsOf_159 : decode cX0_turnsOf 159 = .ok (.iconst 2, 1) := dk_5 (dk_at dksX0_turnsOf_6 21 rfl rfl)
theorem dX0_turnsOf_160 : decode cX0_turnsOf 160 = .ok (.laload, 1) := dk_47 (dk_at dksX0_turnsOf_6 22 rfl rfl)
theorem dX0_turnsOf_161 : decode cX0_turnsOf 161 = .ok (.lcmp, 1) := dk_148 (dk_at dksX0_turnsOf_6 23 rfl rfl)
theorem dX0_turnsOf_162 : decode cX0_turnsOf 162 = .ok (.ifCond .eq 6, 3) := dk_153 0 6 (dk_at dksX0_turnsOf_7 0 rfl rfl)
theorem dX0_turnsOf_165 : decode cX0_turnsOf 165 = .ok (.goto 93, 3) := dk_167 0 93 (dk_at dksX0_turnsOf_7 3 rfl rfl)
theorem dX0_turnsOf_168 : decode cX0_turnsOf 168 = .ok (.iconst 0, 1) := dk_3 (dk_at dksX0_turnsOf_7 6 rfl rfl)
theorem dX0_turnsOf_169 : decode cX0_turnsOf 169 = .ok (.istore 6, 2) := dk_54 6 (dk_at dksX0_turnsOf_7 7 rfl rfl)
theorem dX0_turnsOf_171 : decode cX0_turnsOf 171 = .ok (.iload 6, 2) := dk_21 6 (dk_at dksX0_turnsOf_7 9 rfl rfl)
theorem dX0_turnsOf_173 : decode cX0_turnsOf 173 = .ok (.bipush 27, 2) := dk_16 27 (dk_at dksX0_turnsOf_7 11 rfl rfl)
theorem dX0_turnsOf_175 : decode cX0_turnsOf 175 = .ok (.if_icmp .ge 83, 3) := dk_162 0 83 (dk_at dksX0_turnsOf_7 13 rfl rfl)
theorem dX0_turnsOf_178 : decode cX0_turnsOf 178 = .ok (.iload 6, 2) := dk_21 6 (dk_at dksX0_turnsOf_7 16 rfl rfl)
theorem dX0_turnsOf_180 : decode cX0_turnsOf 180 = .ok (.aload_n 0, 1) := dk_42 (dk_at dksX0_turnsOf_7 18 rfl rfl)
theorem dX0_turnsOf_181 : decode cX0_turnsOf 181 = .ok (.getfield 44, 3) := dk_180 0 44 (dk_at dksX0_turnsOf_7 19 rfl rfl)
theorem dX0_turnsOf_184 : decode cX0_turnsOf 184 = .ok (.iconst 2, 1) := dk_5 (dk_at dksX0_turnsOf_7 22 rfl rfl)
theorem dX0_turnsOf_185 : decode cX0_turnsOf 185 = .ok (.aaload, 1) := dk_50 (dk_at dksX0_turnsOf_7 23 rfl rfl)
theorem dX0_turnsOf_186 : decode cX0_turnsOf 186 = .ok (.invokestatic 252, 3) := dk_184 0 252 (dk_at dksX0_turnsOf_8 0 rfl rfl)
theorem dX0_turnsOf_189 : decode cX0_turnsOf 189 = .ok (.aload_n 0, 1) := dk_42 (dk_at dksX0_turnsOf_8 3 rfl rfl)
theorem dX0_turnsOf_190 : decode cX0_turnsOf 190 = .ok (.getfield 25, 3) := dk_180 0 25 (dk_at dksX0_turnsOf_8 4 rfl rfl)
theorem dX0_turnsOf_193 : decode cX0_turnsOf 193 = .ok (.aload_n 0, 1) := dk_42 (dk_at dksX0_turnsOf_8 7 rfl rfl)
theorem dX0_turnsOf_194 : decode cX0_turnsOf 194 = .ok (.getfield 18, 3) := dk_180 0 18 (dk_at dksX0_turnsOf_8 8 rfl rfl)
theorem dX0_turnsOf_197 : decode cX0_turnsOf 197 = .ok (.aload_n 0, 1) := dk_42 (dk_at dksX0_turnsOf_8 11 rfl rfl)
theorem dX0_turnsOf_198 : decode cX0_turnsOf 198 = .ok (.getfield 44, 3) := dk_180 0 44 (dk_at dksX0_turnsOf_8 12 rfl rfl)
theorem dX0_turnsOf_201 : decode cX0_turnsOf 201 = .ok (.iconst 0, 1) := dk_3 (dk_at dksX0_turnsOf_8 15 rfl rfl)
theorem dX0_turnsOf_202 : decode cX0_turnsOf 202 = .ok (.aaload, 1) := dk_50 (dk_at dksX0_turnsOf_8 16 rfl rfl)
theorem dX0_turnsOf_203 : decode cX0_turnsOf 203 = .ok (.aload_n 0, 1) := dk_42 (dk_at dksX0_turnsOf_8 17 rfl rfl)
theorem dX0_turnsOf_204 : decode cX0_turnsOf 204 = .ok (.getfield 44, 3) := dk_180 0 44 (dk_at dksX0_turnsOf_8 18 rfl rfl)
theorem dX0_turnsOf_207 : decode cX0_turnsOf 207 = .ok (.iconst 1, 1) := dk_4 (dk_at dksX0_turnsOf_8 21 rfl rfl)
theorem dX0_turnsOf_208 : decode cX0_turnsOf 208 = .ok (.aaload, 1) := dk_50 (dk_at dksX0_turnsOf_8 22 rfl rfl)
theorem dX0_turnsOf_209 : decode cX0_turnsOf 209 = .ok (.aload_n 0, 1) := dk_42 (dk_at dksX0_turnsOf_8 23 rfl rfl)
theorem dX0_turnsOf_210 : decode cX0_turnsOf 210 = .ok (.getfield 44, 3) := dk_180 0 44 (dk_at dksX0_turnsOf_9 0 rfl rfl)
theorem dX0_turnsOf_213 : decode cX0_turnsOf 213 = .ok (.iconst 2, 1) := dk_5 (dk_at dksX0_turnsOf_9 3 rfl rfl)
theorem dX0_turnsOf_214 : decode cX0_turnsOf 214 = .ok (.aaload, 1) := dk_50 (dk_at dksX0_turnsOf_9 4 rfl rfl)
theorem dX0_turnsOf_215 : decode cX0_turnsOf 215 = .ok (.invokevirtual 262, 3) := dk_182 1 6 (dk_at dksX0_turnsOf_9 5 rfl rfl)
theorem dX0_turnsOf_218 : decode cX0_turnsOf 218 = .ok (.aload_n 0, 1) := dk_42 (dk_at dksX0_turnsOf_9 8 rfl rfl)
theorem dX0_turnsOf_219 : decode cX0_turnsOf 219 = .ok (.getfield 18, 3) := dk_180 0 18 (dk_at dksX0_turnsOf_9 9 rfl rfl)
theorem dX0_turnsOf_222 : decode cX0_turnsOf 222 = .ok (.invokevirtual 240, 3) := dk_182 0 240 (dk_at dksX0_turnsOf_9 12 rfl rfl)
theorem dX0_turnsOf_225 : decode cX0_turnsOf 225 = .ok (.ifCond .eq 27, 3) := dk_153 0 27 (dk_at dksX0_turnsOf_9 15 rfl rfl)
theorem dX0_turnsOf_228 : decode cX0_turnsOf 228 = .ok (.iload_n 3, 1) := dk_29 (dk_at dksX0_turnsOf_9 18 rfl rfl)
theorem dX0_turnsOf_229 : decode cX0_turnsOf 229 = .ok (.iload_n 2, 1) := dk_28 (dk_at dksX0_turnsOf_9 19 rfl rfl)
theorem dX0_turnsOf_230 : decode cX0_turnsOf 230 = .ok (.if_icmp .ne 19, 3) := dk_160 0 19 (dk_at dksX0_turnsOf_9 20 rfl rfl)
theorem dX0_turnsOf_233 : decode cX0_turnsOf 233 = .ok (.sipush 10000, 3) := dk_17 39 16 (dk_at dksX0_turnsOf_10 0 rfl rfl)
theorem dX0_turnsOf_236 : decode cX0_turnsOf 236 = .ok (.iload 4, 2) := dk_21 4 (dk_at dksX0_turnsOf_10 3 rfl rfl)
theorem dX0_turnsOf_238 : decode cX0_turnsOf 238 = .ok (.imul, 1) := dk_104 (dk_at dksX0_turnsOf_10 5 rfl rfl)
theorem dX0_turnsOf_239 : decode cX0_turnsOf 239 = .ok (.bipush 100, 2) := dk_16 100 (dk_at dksX0_turnsOf_10 6 rfl rfl)
theorem dX0_turnsOf_241 : decode cX0_turnsOf 241 = .ok (.iload 5, 2) := dk_21 5 (dk_at dksX0_turnsOf_10 8 rfl rfl)
theorem dX0_turnsOf_243 : decode cX0_turnsOf 243 = .ok (.imul, 1) := dk_104 (dk_at dksX0_turnsOf_10 10 rfl rfl)
theorem dX0_turnsOf_244 : decode cX0_turnsOf 244 = .ok (.iadd, 1) := dk_96 (dk_at dksX0_turnsOf_10 11 rfl rfl)
theorem dX0_turnsOf_245 : decode cX0_turnsOf 245 = .ok (.iload 6, 2) := dk_21 6 (dk_at dksX0_turnsOf_10 12 rfl rfl)
theorem dX0_turnsOf_247 : decode cX0_turnsOf 247 = .ok (.iadd, 1) := dk_96 (dk_at dksX0_turnsOf_10 14 rfl rfl)
theorem dX0_turnsOf_248 : decode cX0_turnsOf 248 = .ok (.ireturn, 1) := dk_172 (dk_at dksX0_turnsOf_10 15 rfl rfl)
theorem dX0_turnsOf_249 : decode cX0_turnsOf 249 = .ok (.iinc 3 1, 3) := dk_132 3 1 (dk_at dksX0_turnsOf_10 16 rfl rfl)
theorem dX0_turnsOf_252 : decode cX0_turnsOf 252 = .ok (.iinc 6 1, 3) := dk_132 6 1 (dk_at dksX0_turnsOf_10 19 rfl rfl)
theorem dX0_turnsOf_255 : decode cX0_turnsOf 255 = .ok (.goto (-84), 3) := dk_167 255 172 (dk_at dksX0_turnsOf_11 0 rfl rfl)
theorem dX0_turnsOf_258 : decode cX0_turnsOf 258 = .ok (.iinc 5 1, 3) := dk_132 5 1 (dk_at dksX0_turnsOf_11 3 rfl rfl)
theorem dX0_turnsOf_261 : decode cX0_turnsOf 261 = .ok (.goto (-182), 3) := dk_167 255 74 (dk_at dksX0_turnsOf_11 6 rfl rfl)
theorem dX0_turnsOf_264 : decode cX0_turnsOf 264 = .ok (.iinc 4 1, 3) := dk_132 4 1 (dk_at dksX0_turnsOf_11 9 rfl rfl)
theorem dX0_turnsOf_267 : decode cX0_turnsOf 267 = .ok (.goto (-248), 3) := dk_167 255 8 (dk_at dksX0_turnsOf_11 12 rfl rfl)
theorem dX0_turnsOf_270 : decode cX0_turnsOf 270 = .ok (.iload_n 2, 1) := dk_28 (dk_at dksX0_turnsOf_11 15 rfl rfl)
theorem dX0_turnsOf_271 : decode cX0_turnsOf 271 = .ok (.iconst (-1), 1) := dk_2 (dk_at dksX0_turnsOf_11 16 rfl rfl)
theorem dX0_turnsOf_272 : decode cX0_turnsOf 272 = .ok (.if_icmp .ne 7, 3) := dk_160 0 7 (dk_at dksX0_turnsOf_11 17 rfl rfl)
theorem dX0_turnsOf_275 : decode cX0_turnsOf 275 = .ok (.iload_n 3, 1) := dk_29 (dk_at dksX0_turnsOf_11 20 rfl rfl)
theorem dX0_turnsOf_276 : decode cX0_turnsOf 276 = .ok (.goto 5, 3) := dk_167 0 5 (dk_at dksX0_turnsOf_11 21 rfl rfl)
theorem dX0_turnsOf_279 : decode cX0_turnsOf 279 = .ok (.bipush (-2), 2) := dk_16 254 (dk_at dksX0_turnsOf_12 0 rfl rfl)
theorem dX0_turnsOf_281 : decode cX0_turnsOf 281 = .ok (.ireturn, 1) := dk_172 (dk_at dksX0_turnsOf_12 2 rfl rfl)
abbrev cX0_figures : ByteArray := prog_1_method_25_code
def yX0_figures : MethodName := ⟨RX0, "figures", "(I[J)V"⟩
def dkwX0_figures_1 : List UInt8 := [6, 112, 4, 100, 133, 80, 177]
abbrev dktX0_figures_1 : List UInt8 := dkwX0_figures_1 ++ []
def dkwX0_figures_0 : List UInt8 := [43, 3, 26, 16, 9, 108, 4, 100, 133, 80, 43, 4, 26, 6, 108, 6, 112, 4, 100, 133, 80, 43, 5, 26]
abbrev dktX0_figures_0 : List UInt8 := dkwX0_figures_0 ++ dktX0_figures_1
theorem dksX0_figures_0 : cX0_figures.data.toList.drop 0 = dktX0_figures_0 := by decide +kernel
theorem dksX0_figures_1 : cX0_figures.data.toList.drop 24 = dktX0_figures_1 := dk_seg dksX0_figures_0 24 rfl rfl
theorem dX0_figures_0 : decode cX0_figures 0 = .ok (.aload_n 1, 1) := dk_43 (dk_at dksX0_figures_0 0 rfl rfl)
theorem dX0_figures_1 : decode cX0_figures 1 = .ok (.iconst 0, 1) := dk_3 (dk_at dksX0_figures_0 1 rfl rfl)
theorem dX0_figures_2 : decode cX0_figures 2 = .ok (.iload_n 0, 1) := dk_26 (dk_at dksX0_figures_0 2 rfl rfl)
theorem dX0_figures_3 : decode cX0_figures 3 = .ok (.bipush 9, 2) := dk_16 9 (dk_at dksX0_figures_0 3 rfl rfl)
theorem dX0_figures_5 : decode cX0_figures 5 = .ok (.idiv, 1) := dk_108 (dk_at dksX0_figures_0 5 rfl rfl)
theorem dX0_figures_6 : decode cX0_figures 6 = .ok (.iconst 1, 1) := dk_4 (dk_at dksX0_figures_0 6 rfl rfl)
theorem dX0_figures_7 : decode cX0_figures 7 = .ok (.isub, 1) := dk_100 (dk_at dksX0_figures_0 7 rfl rfl)
theorem dX0_figures_8 : decode cX0_figures 8 = .ok (.i2l, 1) := dk_133 (dk_at dksX0_figures_0 8 rfl rfl)
theorem dX0_figures_9 : decode cX0_figures 9 = .ok (.lastore, 1) := dk_80 (dk_at dksX0_figures_0 9 rfl rfl)
theorem dX0_figures_10 : decode cX0_figures 10 = .ok (.aload_n 1, 1) := dk_43 (dk_at dksX0_figures_0 10 rfl rfl)
theorem dX0_figures_11 : decode cX0_figures 11 = .ok (.iconst 1, 1) := dk_4 (dk_at dksX0_figures_0 11 rfl rfl)
theorem dX0_figures_12 : decode cX0_figures 12 = .ok (.iload_n 0, 1) := dk_26 (dk_at dksX0_figures_0 12 rfl rfl)
theorem dX0_figures_13 : decode cX0_figures 13 = .ok (.iconst 3, 1) := dk_6 (dk_at dksX0_figures_0 13 rfl rfl)
theorem dX0_figures_14 : decode cX0_figures 14 = .ok (.idiv, 1) := dk_108 (dk_at dksX0_figures_0 14 rfl rfl)
theorem dX0_figures_15 : decode cX0_figures 15 = .ok (.iconst 3, 1) := dk_6 (dk_at dksX0_figures_0 15 rfl rfl)
theorem dX0_figures_16 : decode cX0_figures 16 = .ok (.irem, 1) := dk_112 (dk_at dksX0_figures_0 16 rfl rfl)
theorem dX0_figures_17 : decode cX0_figures 17 = .ok (.iconst 1, 1) := dk_4 (dk_at dksX0_figures_0 17 rfl rfl)
theorem dX0_figures_18 : decode cX0_figures 18 = .ok (.isub, 1) := dk_100 (dk_at dksX0_figures_0 18 rfl rfl)
theorem dX0_figures_19 : decode cX0_figures 19 = .ok (.i2l, 1) := dk_133 (dk_at dksX0_figures_0 19 rfl rfl)
theorem dX0_figures_20 : decode cX0_figures 20 = .ok (.lastore, 1) := dk_80 (dk_at dksX0_figures_0 20 rfl rfl)
theorem dX0_figures_21 : decode cX0_figures 21 = .ok (.aload_n 1, 1) := dk_43 (dk_at dksX0_figures_0 21 rfl rfl)
theorem dX0_figures_22 : decode cX0_figures 22 = .ok (.iconst 2, 1) := dk_5 (dk_at dksX0_figures_0 22 rfl rfl)
theorem dX0_figures_23 : decode cX0_figures 23 = .ok (.iload_n 0, 1) := dk_26 (dk_at dksX0_figures_0 23 rfl rfl)
theorem dX0_figures_24 : decode cX0_figures 24 = .ok (.iconst 3, 1) := dk_6 (dk_at dksX0_figures_1 0 rfl rfl)
theorem dX0_figures_25 : decode cX0_figures 25 = .ok (.irem, 1) := dk_112 (dk_at dksX0_figures_1 1 rfl rfl)
theorem dX0_figures_26 : decode cX0_figures 26 = .ok (.iconst 1, 1) := dk_4 (dk_at dksX0_figures_1 2 rfl rfl)
theorem dX0_figures_27 : decode cX0_figures 27 = .ok (.isub, 1) := dk_100 (dk_at dksX0_figures_1 3 rfl rfl)
theorem dX0_figures_28 : decode cX0_figures 28 = .ok (.i2l, 1) := dk_133 (dk_at dksX0_figures_1 4 rfl rfl)
theorem dX0_figures_29 : decode cX0_figures 29 = .ok (.lastore, 1) := dk_80 (dk_at dksX0_figures_1 5 rfl rfl)
theorem dX0_figures_30 : decode cX0_figures 30 = .ok (.return_, 1) := dk_177 (dk_at dksX0_figures_1 6 rfl rfl)
abbrev cX0_system : ByteArray := prog_1_method_28_code
def yX0_system : MethodName := ⟨RX0, "system", "(I)I"⟩
def dkwX0_system_3 : List UInt8 := [28, 172]
abbrev dktX0_system_3 : List UInt8 := dkwX0_system_3 ++ []
def dkwX0_system_2 : List UInt8 := [42, 27, 2, 182, 1, 10, 184, 0, 183, 185, 1, 19, 2, 0, 61, 28, 156, 0, 8, 16, 254, 167, 0, 4]
abbrev dktX0_system_2 : List UInt8 := dkwX0_system_2 ++ dktX0_system_3
def dkwX0_system_1 : List UInt8 := [184, 0, 183, 16, 12, 184, 0, 183, 16, 8, 184, 0, 183, 7, 184, 0, 183, 5, 184, 0, 183, 184, 1, 13]
abbrev dktX0_system_1 : List UInt8 := dkwX0_system_1 ++ dktX0_system_2
def dkwX0_system_0 : List UInt8 := [42, 27, 182, 0, 123, 154, 0, 5, 2, 172, 16, 48, 184, 0, 183, 16, 24, 184, 0, 183, 16, 16]
abbrev dktX0_system_0 : List UInt8 := dkwX0_system_0 ++ dktX0_system_1
theorem dksX0_system_0 : cX0_system.data.toList.drop 0 = dktX0_system_0 := by decide +kernel
theorem dksX0_system_1 : cX0_system.data.toList.drop 22 = dktX0_system_1 := dk_seg dksX0_system_0 22 rfl rfl
theorem dksX0_system_2 : cX0_system.data.toList.drop 46 = dktX0_system_2 := dk_seg dksX0_system_1 24 rfl rfl
theorem dksX0_system_3 : cX0_system.data.toList.drop 70 = dktX0_system_3 := dk_seg dksX0_system_2 24 rfl rfl
theorem dX0_system_0 : decode cX0_system 0 = .ok (.aload_n 0, 1) := dk_42 (dk_at dksX0_system_0 0 rfl rfl)
theorem dX0_system_1 : decode cX0_system 1 = .ok (.iload_n 1, 1) := dk_27 (dk_at dksX0_system_0 1 rfl rfl)
theorem dX0_system_2 : decode cX0_system 2 = .ok (.invokevirtual 123, 3) := dk_182 0 123 (dk_at dksX0_system_0 2 rfl rfl)
theorem dX0_system_5 : decode cX0_system 5 = .ok (.ifCond .ne 5, 3) := dk_154 0 5 (dk_at dksX0_system_0 5 rfl rfl)
theorem dX0_system_8 : decode cX0_system 8 = .ok (.iconst (-1), 1) := dk_2 (dk_at dksX0_system_0 8 rfl rfl)
theorem dX0_system_9 : decode cX0_system 9 = .ok (.ireturn, 1) := dk_172 (dk_at dksX0_system_0 9 rfl rfl)
theorem dX0_system_10 : decode cX0_system 10 = .ok (.bipush 48, 2) := dk_16 48 (dk_at dksX0_system_0 10 rfl rfl)
theorem dX0_system_12 : decode cX0_system 12 = .ok (.invokestatic 183, 3) := dk_184 0 183 (dk_at dksX0_system_0 12 rfl rfl)
theorem dX0_system_15 : decode cX0_system 15 = .ok (.bipush 24, 2) := dk_16 24 (dk_at dksX0_system_0 15 rfl rfl)
theorem dX0_system_17 : decode cX0_system 17 = .ok (.invokestatic 183, 3) := dk_184 0 183 (dk_at dksX0_system_0 17 rfl rfl)
theorem dX0_system_20 : decode cX0_system 20 = .ok (.bipush 16, 2) := dk_16 16 (dk_at dksX0_system_0 20 rfl rfl)
theorem dX0_system_22 : decode cX0_system 22 = .ok (.invokestatic 183, 3) := dk_184 0 183 (dk_at dksX0_system_1 0 rfl rfl)
theorem dX0_system_25 : decode cX0_system 25 = .ok (.bipush 12, 2) := dk_16 12 (dk_at dksX0_system_1 3 rfl rfl)
theorem dX0_system_27 : decode cX0_system 27 = .ok (.invokestatic 183, 3) := dk_184 0 183 (dk_at dksX0_system_1 5 rfl rfl)
theorem dX0_system_30 : decode cX0_system 30 = .ok (.bipush 8, 2) := dk_16 8 (dk_at dksX0_system_1 8 rfl rfl)
theorem dX0_system_32 : decode cX0_system 32 = .ok (.invokestatic 183, 3) := dk_184 0 183 (dk_at dksX0_system_1 10 rfl rfl)
theorem dX0_system_35 : decode cX0_system 35 = .ok (.iconst 4, 1) := dk_7 (dk_at dksX0_system_1 13 rfl rfl)
theorem dX0_system_36 : decode cX0_system 36 = .ok (.invokestatic 183, 3) := dk_184 0 183 (dk_at dksX0_system_1 14 rfl rfl)
theorem dX0_system_39 : decode cX0_system 39 = .ok (.iconst 2, 1) := dk_5 (dk_at dksX0_system_1 17 rfl rfl)
theorem dX0_system_40 : decode cX0_system 40 = .ok (.invokestatic 183, 3) := dk_184 0 183 (dk_at dksX0_system_1 18 rfl rfl)
theorem dX0_system_43 : decode cX0_system 43 = .ok (.invokestatic 269, 3) := dk_184 1 13 (dk_at dksX0_system_1 21 rfl rfl)
theorem dX0_system_46 : decode cX0_system 46 = .ok (.aload_n 0, 1) := dk_42 (dk_at dksX0_system_2 0 rfl rfl)
theorem dX0_system_47 : decode cX0_system 47 = .ok (.iload_n 1, 1) := dk_27 (dk_at dksX0_system_2 1 rfl rfl)
theorem dX0_system_48 : decode cX0_system 48 = .ok (.iconst (-1), 1) := dk_2 (dk_at dksX0_system_2 2 rfl rfl)
theorem dX0_system_49 : decode cX0_system 49 = .ok (.invokevirtual 266, 3) := dk_182 1 10 (dk_at dksX0_system_2 3 rfl rfl)
theorem dX0_system_52 : decode cX0_system 52 = .ok (.invokestatic 183, 3) := dk_184 0 183 (dk_at dksX0_system_2 6 rfl rfl)
theorem dX0_system_55 : decode cX0_system 55 = .ok (.invokeinterface 275 2, 5) := by decide +kernel
theorem dX0_system_60 : decode cX0_system 60 = .ok (.istore_n 2, 1) := dk_61 (dk_at dksX0_system_2 14 rfl rfl)
theorem dX0_system_61 : decode cX0_system 61 = .ok (.iload_n 2, 1) := dk_28 (dk_at dksX0_system_2 15 rfl rfl)
theorem dX0_system_62 : decode cX0_system 62 = .ok (.ifCond .ge 8, 3) := dk_156 0 8 (dk_at dksX0_system_2 16 rfl rfl)
theorem dX0_system_65 : decode cX0_system 65 = .ok (.bipush (-2), 2) := dk_16 254 (dk_at dksX0_system_2 19 rfl rfl)
theorem dX0_system_67 : decode cX0_system 67 = .ok (.goto 4, 3) := dk_167 0 4 (dk_at dksX0_system_2 21 rfl rfl)
theorem dX0_system_70 : decode cX0_system 70 = .ok (.iload_n 2, 1) := dk_28 (dk_at dksX0_system_3 0 rfl rfl)
theorem dX0_system_71 : decode cX0_system 71 = .ok (.ireturn, 1) := dk_172 (dk_at dksX0_system_3 1 rfl rfl)
abbrev cX0_shell : ByteArray := prog_1_method_30_code
def yX0_shell : MethodName := ⟨RX0, "shell", "(III)I"⟩
def dkwX0_shell_4 : List UInt8 := [21, 4, 100, 104, 172]
abbrev dktX0_shell_4 : List UInt8 := dkwX0_shell_4 ++ []
def dkwX0_shell_3 : List UInt8 := [172, 29, 154, 0, 14, 42, 180, 0, 47, 21, 4, 47, 136, 167, 0, 14, 5, 42, 21, 4, 182, 1, 30]
abbrev dktX0_shell_3 : List UInt8 := dkwX0_shell_3 ++ dktX0_shell_4
def dkwX0_shell_2 : List UInt8 := [42, 21, 4, 182, 1, 30, 54, 4, 132, 5, 255, 167, 255, 232, 21, 4, 17, 1, 108, 160, 0, 6, 16, 254]
abbrev dktX0_shell_2 : List UInt8 := dkwX0_shell_2 ++ dktX0_shell_3
def dkwX0_shell_1 : List UInt8 := [42, 27, 182, 1, 27, 3, 54, 4, 28, 54, 5, 21, 5, 158, 0, 25, 21, 4, 17, 1, 108, 162, 0, 17]
abbrev dktX0_shell_1 : List UInt8 := dkwX0_shell_1 ++ dktX0_shell_2
def dkwX0_shell_0 : List UInt8 := [42, 27, 182, 0, 123, 153, 0, 17, 28, 155, 0, 13, 29, 133, 9, 10, 184, 0, 101, 154, 0, 5, 2, 172]
abbrev dktX0_shell_0 : List UInt8 := dkwX0_shell_0 ++ dktX0_shell_1
theorem dksX0_shell_0 : cX0_shell.data.toList.drop 0 = dktX0_shell_0 := by decide +kernel
theorem dksX0_shell_1 : cX0_shell.data.toList.drop 24 = dktX0_shell_1 := dk_seg dksX0_shell_0 24 rfl rfl
theorem dksX0_shell_2 : cX0_shell.data.toList.drop 48 = dktX0_shell_2 := dk_seg dksX0_shell_1 24 rfl rfl
theorem dksX0_shell_3 : cX0_shell.data.toList.drop 72 = dktX0_shell_3 := dk_seg dksX0_shell_2 24 rfl rfl
theorem dksX0_shell_4 : cX0_shell.data.toList.drop 95 = dktX0_shell_4 := dk_seg dksX0_shell_3 23 rfl rfl
theorem dX0_shell_0 : decode cX0_shell 0 = .ok (.aload_n 0, 1) := dk_42 (dk_at dksX0_shell_0 0 rfl rfl)
theorem dX0_shell_1 : decode cX0_shell 1 = .ok (.iload_n 1, 1) := dk_27 (dk_at dksX0_shell_0 1 rfl rfl)
theorem dX0_shell_2 : decode cX0_shell 2 = .ok (.invokevirtual 123, 3) := dk_182 0 123 (dk_at dksX0_shell_0 2 rfl rfl)
theorem dX0_shell_5 : decode cX0_shell 5 = .ok (.ifCond .eq 17, 3) := dk_153 0 17 (dk_at dksX0_shell_0 5 rfl rfl)
theorem dX0_shell_8 : decode cX0_shell 8 = .ok (.iload_n 2, 1) := dk_28 (dk_at dksX0_shell_0 8 rfl rfl)
theorem dX0_shell_9 : decode cX0_shell 9 = .ok (.ifCond .lt 13, 3) := dk_155 0 13 (dk_at dksX0_shell_0 9 rfl rfl)
theorem dX0_shell_12 : decode cX0_shell 12 = .ok (.iload_n 3, 1) := dk_29 (dk_at dksX0_shell_0 12 rfl rfl)
theorem dX0_shell_13 : decode cX0_shell 13 = .ok (.i2l, 1) := dk_133 (dk_at dksX0_shell_0 13 rfl rfl)
theorem dX0_shell_14 : decode cX0_shell 14 = .ok (.lconst 0, 1) := dk_9 (dk_at dksX0_shell_0 14 rfl rfl)
theorem dX0_shell_15 : decode cX0_shell 15 = .ok (.lconst 1, 1) := dk_10 (dk_at dksX0_shell_0 15 rfl rfl)
theorem dX0_shell_16 : decode cX0_shell 16 = .ok (.invokestatic 101, 3) := dk_184 0 101 (dk_at dksX0_shell_0 16 rfl rfl)
theorem dX0_shell_19 : decode cX0_shell 19 = .ok (.ifCond .ne 5, 3) := dk_154 0 5 (dk_at dksX0_shell_0 19 rfl rfl)
theorem dX0_shell_22 : decode cX0_shell 22 = .ok (.iconst (-1), 1) := dk_2 (dk_at dksX0_shell_0 22 rfl rfl)
theorem dX0_shell_23 : decode cX0_shell 23 = .ok (.ireturn, 1) := dk_172 (dk_at dksX0_shell_0 23 rfl rfl)
theorem dX0_shell_24 : decode cX0_shell 24 = .ok (.aload_n 0, 1) := dk_42 (dk_at dksX0_shell_1 0 rfl rfl)
theorem dX0_shell_25 : decode cX0_shell 25 = .ok (.iload_n 1, 1) := dk_27 (dk_at dksX0_shell_1 1 rfl rfl)
theorem dX0_shell_26 : decode cX0_shell 26 = .ok (.invokevirtual 283, 3) := dk_182 1 27 (dk_at dksX0_shell_1 2 rfl rfl)
theorem dX0_shell_29 : decode cX0_shell 29 = .ok (.iconst 0, 1) := dk_3 (dk_at dksX0_shell_1 5 rfl rfl)
theorem dX0_shell_30 : decode cX0_shell 30 = .ok (.istore 4, 2) := dk_54 4 (dk_at dksX0_shell_1 6 rfl rfl)
theorem dX0_shell_32 : decode cX0_shell 32 = .ok (.iload_n 2, 1) := dk_28 (dk_at dksX0_shell_1 8 rfl rfl)
theorem dX0_shell_33 : decode cX0_shell 33 = .ok (.istore 5, 2) := dk_54 5 (dk_at dksX0_shell_1 9 rfl rfl)
theorem dX0_shell_35 : decode cX0_shell 35 = .ok (.iload 5, 2) := dk_21 5 (dk_at dksX0_shell_1 11 rfl rfl)
theorem dX0_shell_37 : decode cX0_shell 37 = .ok (.ifCond .le 25, 3) := dk_158 0 25 (dk_at dksX0_shell_1 13 rfl rfl)
theorem dX0_shell_40 : decode cX0_shell 40 = .ok (.iload 4, 2) := dk_21 4 (dk_at dksX0_shell_1 16 rfl rfl)
theorem dX0_shell_42 : decode cX0_shell 42 = .ok (.sipush 364, 3) := dk_17 1 108 (dk_at dksX0_shell_1 18 rfl rfl)
theorem dX0_shell_45 : decode cX0_shell 45 = .ok (.if_icmp .ge 17, 3) := dk_162 0 17 (dk_at dksX0_shell_1 21 rfl rfl)
theorem dX0_shell_48 : decode cX0_shell 48 = .ok (.aload_n 0, 1) := dk_42 (dk_at dksX0_shell_2 0 rfl rfl)
theorem dX0_shell_49 : decode cX0_shell 49 = .ok (.iload 4, 2) := dk_21 4 (dk_at dksX0_shell_2 1 rfl rfl)
theorem dX0_shell_51 : decode cX0_shell 51 = .ok (.invokevirtual 286, 3) := dk_182 1 30 (dk_at dksX0_shell_2 3 rfl rfl)
theorem dX0_shell_54 : decode cX0_shell 54 = .ok (.istore 4, 2) := dk_54 4 (dk_at dksX0_shell_2 6 rfl rfl)
theorem dX0_shell_56 : decode cX0_shell 56 = .ok (.iinc 5 (-1), 3) := dk_132 5 255 (dk_at dksX0_shell_2 8 rfl rfl)
theorem dX0_shell_59 : decode cX0_shell 59 = .ok (.goto (-24), 3) := dk_167 255 232 (dk_at dksX0_shell_2 11 rfl rfl)
theorem dX0_shell_62 : decode cX0_shell 62 = .ok (.iload 4, 2) := dk_21 4 (dk_at dksX0_shell_2 14 rfl rfl)
theorem dX0_shell_64 : decode cX0_shell 64 = .ok (.sipush 364, 3) := dk_17 1 108 (dk_at dksX0_shell_2 16 rfl rfl)
theorem dX0_shell_67 : decode cX0_shell 67 = .ok (.if_icmp .ne 6, 3) := dk_160 0 6 (dk_at dksX0_shell_2 19 rfl rfl)
theorem dX0_shell_70 : decode cX0_shell 70 = .ok (.bipush (-2), 2) := dk_16 254 (dk_at dksX0_shell_2 22 rfl rfl)
theorem dX0_shell_72 : decode cX0_shell 72 = .ok (.ireturn, 1) := dk_172 (dk_at dksX0_shell_3 0 rfl rfl)
theorem dX0_shell_73 : decode cX0_shell 73 = .ok (.iload_n 3, 1) := dk_29 (dk_at dksX0_shell_3 1 rfl rfl)
theorem dX0_shell_74 : decode cX0_shell 74 = .ok (.ifCond .ne 14, 3) := dk_154 0 14 (dk_at dksX0_shell_3 2 rfl rfl)
theorem dX0_shell_77 : decode cX0_shell 77 = .ok (.aload_n 0, 1) := dk_42 (dk_at dksX0_shell_3 5 rfl rfl)
theorem dX0_shell_78 : decode cX0_shell 78 = .ok (.getfield 47, 3) := dk_180 0 47 (dk_at dksX0_shell_3 6 rfl rfl)
theorem dX0_shell_81 : decode cX0_shell 81 = .ok (.iload 4, 2) := dk_21 4 (dk_at dksX0_shell_3 9 rfl rfl)
theorem dX0_shell_83 : decode cX0_shell 83 = .ok (.laload, 1) := dk_47 (dk_at dksX0_shell_3 11 rfl rfl)
theorem dX0_shell_84 : decode cX0_shell 84 = .ok (.l2i, 1) := dk_136 (dk_at dksX0_shell_3 12 rfl rfl)
theorem dX0_shell_85 : decode cX0_shell 85 = .ok (.goto 14, 3) := dk_167 0 14 (dk_at dksX0_shell_3 13 rfl rfl)
theorem dX0_shell_88 : decode cX0_shell 88 = .ok (.iconst 2, 1) := dk_5 (dk_at dksX0_shell_3 16 rfl rfl)
theorem dX0_shell_89 : decode cX0_shell 89 = .ok (.aload_n 0, 1) := dk_42 (dk_at dksX0_shell_3 17 rfl rfl)
theorem dX0_shell_90 : decode cX0_shell 90 = .ok (.iload 4, 2) := dk_21 4 (dk_at dksX0_shell_3 18 rfl rfl)
theorem dX0_shell_92 : decode cX0_shell 92 = .ok (.invokevirtual 286, 3) := dk_182 1 30 (dk_at dksX0_shell_3 20 rfl rfl)
theorem dX0_shell_95 : decode cX0_shell 95 = .ok (.iload 4, 2) := dk_21 4 (dk_at dksX0_shell_4 0 rfl rfl)
theorem dX0_shell_97 : decode cX0_shell 97 = .ok (.isub, 1) := dk_100 (dk_at dksX0_shell_4 2 rfl rfl)
theorem dX0_shell_98 : decode cX0_shell 98 = .ok (.imul, 1) := dk_104 (dk_at dksX0_shell_4 3 rfl rfl)
theorem dX0_shell_99 : decode cX0_shell 99 = .ok (.ireturn, 1) := dk_172 (dk_at dksX0_shell_4 4 rfl rfl)
abbrev cX0_findSquares : ByteArray := prog_1_method_29_code
def yX0_findSquares : MethodName := ⟨RX0, "findSquares", "(I)V"⟩
def dkwX0_findSquares_9 : List UInt8 := [167, 255, 73, 177]
abbrev dktX0_findSquares_9 : List UInt8 := dkwX0_findSquares_9 ++ []
def dkwX0_findSquares_8 : List UInt8 := [97, 80, 167, 255, 123, 45, 4, 92, 47, 10, 97, 80, 167, 255, 97, 45, 3, 92, 47, 10, 97, 80]
abbrev dktX0_findSquares_8 : List UInt8 := dkwX0_findSquares_8 ++ dktX0_findSquares_9
def dkwX0_findSquares_7 : List UInt8 := [80, 132, 7, 255, 167, 255, 217, 42, 180, 0, 47, 21, 7, 22, 5, 80, 132, 2, 1, 45, 5, 92, 47, 10]
abbrev dktX0_findSquares_7 : List UInt8 := dkwX0_findSquares_7 ++ dktX0_findSquares_8
def dkwX0_findSquares_6 : List UInt8 := [4, 100, 47, 22, 5, 148, 158, 0, 25, 42, 180, 0, 47, 21, 7, 42, 180, 0, 47, 21, 7, 4, 100, 47]
abbrev dktX0_findSquares_6 : List UInt8 := dkwX0_findSquares_6 ++ dktX0_findSquares_7
def dkwX0_findSquares_5 : List UInt8 := [45, 182, 0, 255, 20, 0, 105, 109, 55, 5, 28, 54, 7, 21, 7, 158, 0, 40, 42, 180, 0, 47, 21, 7]
abbrev dktX0_findSquares_5 : List UInt8 := dkwX0_findSquares_5 ++ dktX0_findSquares_6
def dkwX0_findSquares_4 : List UInt8 := [5, 47, 9, 148, 156, 0, 7, 4, 167, 0, 4, 3, 54, 4, 21, 4, 153, 0, 75, 42, 180, 0, 18, 45]
abbrev dktX0_findSquares_4 : List UInt8 := dkwX0_findSquares_4 ++ dktX0_findSquares_5
def dkwX0_findSquares_3 : List UInt8 := [3, 47, 9, 148, 155, 0, 27, 45, 4, 47, 9, 148, 155, 0, 19, 45, 4, 47, 9, 148, 154, 0, 15, 45]
abbrev dktX0_findSquares_3 : List UInt8 := dkwX0_findSquares_3 ++ dktX0_findSquares_4
def dkwX0_findSquares_2 : List UInt8 := [20, 1, 25, 148, 157, 0, 155, 45, 5, 20, 1, 23, 80, 45, 5, 47, 20, 1, 25, 148, 157, 0, 129, 45]
abbrev dktX0_findSquares_2 : List UInt8 := dkwX0_findSquares_2 ++ dktX0_findSquares_3
def dkwX0_findSquares_1 : List UInt8 := [3, 20, 1, 23, 80, 45, 3, 47, 9, 148, 157, 0, 181, 45, 4, 20, 1, 23, 80, 45, 4, 47]
abbrev dktX0_findSquares_1 : List UInt8 := dkwX0_findSquares_1 ++ dktX0_findSquares_2
def dkwX0_findSquares_0 : List UInt8 := [42, 180, 0, 18, 42, 180, 0, 13, 27, 50, 182, 0, 205, 87, 3, 61, 42, 180, 0, 44, 3, 50, 78, 45]
abbrev dktX0_findSquares_0 : List UInt8 := dkwX0_findSquares_0 ++ dktX0_findSquares_1
theorem dksX0_findSquares_0 : cX0_findSquares.data.toList.drop 0 = dktX0_findSquares_0 := by decide +kernel
theorem dksX0_findSquares_1 : cX0_findSquares.data.toList.drop 24 = dktX0_findSquares_1 := dk_seg dksX0_findSquares_0 24 rfl rfl
theorem dksX0_findSquares_2 : cX0_findSquares.data.toList.drop 46 = dktX0_findSquares_2 := dk_seg dksX0_findSquares_1 22 rfl rfl
theorem dksX0_findSquares_3 : cX0_findSquares.data.toList.drop 70 = dktX0_findSquares_3 := dk_seg dksX0_findSquares_2 24 rfl rfl
theorem dksX0_findSquares_4 : cX0_findSquares.data.toList.drop 94 = dktX0_findSquares_4 := dk_seg dksX0_findSquares_3 24 rfl rfl
theorem dksX0_findSquares_5 : cX0_findSquares.data.toList.drop 118 = dktX0_findSquares_5 := dk_seg dksX0_findSquares_4 24 rfl rfl
theorem dksX0_findSquares_6 : cX0_findSquares.data.toList.drop 142 = dktX0_findSquares_6 := dk_seg dksX0_findSquares_5 24 rfl rfl
theorem dksX0_findSquares_7 : cX0_findSquares.data.toList.drop 166 = dktX0_findSquares_7 := dk_seg dksX0_findSquares_6 24 rfl rfl
theorem dksX0_findSquares_8 : cX0_findSquares.data.toList.drop 190 = dktX0_findSquares_8 := dk_seg dksX0_findSquares_7 24 rfl rfl
theorem dksX0_findSquares_9 : cX0_findSquares.data.toList.drop 212 = dktX0_findSquares_9 := dk_seg dksX0_findSquares_8 22 rfl rfl
theorem dX0_findSquares_0 : decode cX0_findSquares 0 = .ok (.aload_n 0, 1) := dk_42 (dk_at dksX0_findSquares_0 0 rfl rfl)
theorem dX0_findSquares_1 : decode cX0_findSquares 1 = .ok (.getfield 18, 3) := dk_180 0 18 (dk_at dksX0_findSquares_0 1 rfl rfl)
theorem dX0_findSquares_4 : decode cX0_findSquares 4 = .ok (.aload_n 0, 1) := dk_42 (dk_at dksX0_findSquares_0 4 rfl rfl)
theorem dX0_findSquares_5 : decode cX0_findSquares 5 = .ok (.getfield 13, 3) := dk_180 0 13 (dk_at dksX0_findSquares_0 5 rfl rfl)
theorem dX0_findSquares_8 : decode cX0_findSquares 8 = .ok (.iload_n 1, 1) := dk_27 (dk_at dksX0_findSquares_0 8 rfl rfl)
theorem dX0_findSquares_9 : decode cX0_findSquares 9 = .ok (.aaload, 1) := dk_50 (dk_at dksX0_findSquares_0 9 rfl rfl)
theorem dX0_findSquares_10 : decode cX0_findSquares 10 = .ok (.invokevirtual 205, 3) := dk_182 0 205 (dk_at dksX0_findSquares_0 10 rfl rfl)
theorem dX0_findSquares_13 : decode cX0_findSquares 13 = .ok (.pop, 1) := dk_87 (dk_at dksX0_findSquares_0 13 rfl rfl)
theorem dX0_findSquares_14 : decode cX0_findSquares 14 = .ok (.iconst 0, 1) := dk_3 (dk_at dksX0_findSquares_0 14 rfl rfl)
theorem dX0_findSquares_15 : decode cX0_findSquares 15 = .ok (.istore_n 2, 1) := dk_61 (dk_at dksX0_findSquares_0 15 rfl rfl)
theorem dX0_findSquares_16 : decode cX0_findSquares 16 = .ok (.aload_n 0, 1) := dk_42 (dk_at dksX0_findSquares_0 16 rfl rfl)
theorem dX0_findSquares_17 : decode cX0_findSquares 17 = .ok (.getfield 44, 3) := dk_180 0 44 (dk_at dksX0_findSquares_0 17 rfl rfl)
theorem dX0_findSquares_20 : decode cX0_findSquares 20 = .ok (.iconst 0, 1) := dk_3 (dk_at dksX0_findSquares_0 20 rfl rfl)
theorem dX0_findSquares_21 : decode cX0_findSquares 21 = .ok (.aaload, 1) := dk_50 (dk_at dksX0_findSquares_0 21 rfl rfl)
theorem dX0_findSquares_22 : decode cX0_findSquares 22 = .ok (.astore_n 3, 1) := dk_78 (dk_at dksX0_findSquares_0 22 rfl rfl)
theorem dX0_findSquares_23 : decode cX0_findSquares 23 = .ok (.aload_n 3, 1) := dk_45 (dk_at dksX0_findSquares_0 23 rfl rfl)
theorem dX0_findSquares_24 : decode cX0_findSquares 24 = .ok (.iconst 0, 1) := dk_3 (dk_at dksX0_findSquares_1 0 rfl rfl)
theorem dX0_findSquares_25 : decode cX0_findSquares 25 = .ok (.ldc2_w 279, 3) := dk_20 1 23 (dk_at dksX0_findSquares_1 1 rfl rfl)
theorem dX0_findSquares_28 : decode cX0_findSquares 28 = .ok (.lastore, 1) := dk_80 (dk_at dksX0_findSquares_1 4 rfl rfl)
theorem dX0_findSquares_29 : decode cX0_findSquares 29 = .ok (.aload_n 3, 1) := dk_45 (dk_at dksX0_findSquares_1 5 rfl rfl)
theorem dX0_findSquares_30 : decode cX0_findSquares 30 = .ok (.iconst 0, 1) := dk_3 (dk_at dksX0_findSquares_1 6 rfl rfl)
theorem dX0_findSquares_31 : decode cX0_findSquares 31 = .ok (.laload, 1) := dk_47 (dk_at dksX0_findSquares_1 7 rfl rfl)
theorem dX0_findSquares_32 : decode cX0_findSquares 32 = .ok (.lconst 0, 1) := dk_9 (dk_at dksX0_findSquares_1 8 rfl rfl)
theorem dX0_findSquares_33 : decode cX0_findSquares 33 = .ok (.lcmp, 1) := dk_148 (dk_at dksX0_findSquares_1 9 rfl rfl)
theorem dX0_findSquares_34 : decode cX0_findSquares 34 = .ok (.ifCond .gt 181, 3) := dk_157 0 181 (dk_at dksX0_findSquares_1 10 rfl rfl)
theorem dX0_findSquares_37 : decode cX0_findSquares 37 = .ok (.aload_n 3, 1) := dk_45 (dk_at dksX0_findSquares_1 13 rfl rfl)
theorem dX0_findSquares_38 : decode cX0_findSquares 38 = .ok (.iconst 1, 1) := dk_4 (dk_at dksX0_findSquares_1 14 rfl rfl)
theorem dX0_findSquares_39 : decode cX0_findSquares 39 = .ok (.ldc2_w 279, 3) := dk_20 1 23 (dk_at dksX0_findSquares_1 15 rfl rfl)
theorem dX0_findSquares_42 : decode cX0_findSquares 42 = .ok (.lastore, 1) := dk_80 (dk_at dksX0_findSquares_1 18 rfl rfl)
theorem dX0_findSquares_43 : decode cX0_findSquares 43 = .ok (.aload_n 3, 1) := dk_45 (dk_at dksX0_findSquares_1 19 rfl rfl)
theorem dX0_findSquares_44 : decode cX0_findSquares 44 = .ok (.iconst 1, 1) := dk_4 (dk_at dksX0_findSquares_1 20 rfl rfl)
theorem dX0_findSquares_45 : decode cX0_findSquares 45 = .ok (.laload, 1) := dk_47 (dk_at dksX0_findSquares_1 21 rfl rfl)
theorem dX0_findSquares_46 : decode cX0_findSquares 46 = .ok (.ldc2_w 281, 3) := dk_20 1 25 (dk_at dksX0_findSquares_2 0 rfl rfl)
theorem dX0_findSquares_49 : decode cX0_findSquares 49 = .ok (.lcmp, 1) := dk_148 (dk_at dksX0_findSquares_2 3 rfl rfl)
theorem dX0_findSquares_50 : decode cX0_findSquares 50 = .ok (.ifCond .gt 155, 3) := dk_157 0 155 (dk_at dksX0_findSquares_2 4 rfl rfl)
theorem dX0_findSquares_53 : decode cX0_findSquares 53 = .ok (.aload_n 3, 1) := dk_45 (dk_at dksX0_findSquares_2 7 rfl rfl)
theorem dX0_findSquares_54 : decode cX0_findSquares 54 = .ok (.iconst 2, 1) := dk_5 (dk_at dksX0_findSquares_2 8 rfl rfl)
theorem dX0_findSquares_55 : decode cX0_findSquares 55 = .ok (.ldc2_w 279, 3) := dk_20 1 23 (dk_at dksX0_findSquares_2 9 rfl rfl)
theorem dX0_findSquares_58 : decode cX0_findSquares 58 = .ok (.lastore, 1) := dk_80 (dk_at dksX0_findSquares_2 12 rfl rfl)
theorem dX0_findSquares_59 : decode cX0_findSquares 59 = .ok (.aload_n 3, 1) := dk_45 (dk_at dksX0_findSquares_2 13 rfl rfl)
theorem dX0_findSquares_60 : decode cX0_findSquares 60 = .ok (.iconst 2, 1) := dk_5 (dk_at dksX0_findSquares_2 14 rfl rfl)
theorem dX0_findSquares_61 : decode cX0_findSquares 61 = .ok (.laload, 1) := dk_47 (dk_at dksX0_findSquares_2 15 rfl rfl)
theorem dX0_findSquares_62 : decode cX0_findSquares 62 = .ok (.ldc2_w 281, 3) := dk_20 1 25 (dk_at dksX0_findSquares_2 16 rfl rfl)
theorem dX0_findSquares_65 : decode cX0_findSquares 65 = .ok (.lcmp, 1) := dk_148 (dk_at dksX0_findSquares_2 19 rfl rfl)
theorem dX0_findSquares_66 : decode cX0_findSquares 66 = .ok (.ifCond .gt 129, 3) := dk_157 0 129 (dk_at dksX0_findSquares_2 20 rfl rfl)
theorem dX0_findSquares_69 : decode cX0_findSquares 69 = .ok (.aload_n 3, 1) := dk_45 (dk_at dksX0_findSquares_2 23 rfl rfl)
theorem dX0_findSquares_70 : decode cX0_findSquares 70 = .ok (.iconst 0, 1) := dk_3 (dk_at dksX0_findSquares_3 0 rfl rfl)
theorem dX0_findSquares_71 : decode cX0_findSquares 71 = .ok (.laload, 1) := dk_47 (dk_at dksX0_findSquares_3 1 rfl rfl)
theorem dX0_findSquares_72 : decode cX0_findSquares 72 = .ok (.lconst 0, 1) := dk_9 (dk_at dksX0_findSquares_3 2 rfl rfl)
theorem dX0_findSquares_73 : decode cX0_findSquares 73 = .ok (.lcmp, 1) := dk_148 (dk_at dksX0_findSquares_3 3 rfl rfl)
theorem dX0_findSquares_74 : decode cX0_findSquares 74 = .ok (.ifCond .lt 27, 3) := dk_155 0 27 (dk_at dksX0_findSquares_3 4 rfl rfl)
theorem dX0_findSquares_77 : decode cX0_findSquares 77 = .ok (.aload_n 3, 1) := dk_45 (dk_at dksX0_findSquares_3 7 rfl rfl)
theorem dX0_findSquares_78 : decode cX0_findSquares 78 = .ok (.iconst 1, 1) := dk_4 (dk_at dksX0_findSquares_3 8 rfl rfl)
theorem dX0_findSquares_79 : decode cX0_findSquares 79 = .ok (.laload, 1) := dk_47 (dk_at dksX0_findSquares_3 9 rfl rfl)
theorem dX0_findSquares_80 : decode cX0_findSquares 80 = .ok (.lconst 0, 1) := dk_9 (dk_at dksX0_findSquares_3 10 rfl rfl)
theorem dX0_findSquares_81 : decode cX0_findSquares 81 = .ok (.lcmp, 1) := dk_148 (dk_at dksX0_findSquares_3 11 rfl rfl)
theorem dX0_findSquares_82 : decode cX0_findSquares 82 = .ok (.ifCond .lt 19, 3) := dk_155 0 19 (dk_at dksX0_findSquares_3 12 rfl rfl)
theorem dX0_findSquares_85 : decode cX0_findSquares 85 = .ok (.aload_n 3, 1) := dk_45 (dk_at dksX0_findSquares_3 15 rfl rfl)
theorem dX0_findSquares_86 : decode cX0_findSquares 86 = .ok (.iconst 1, 1) := dk_4 (dk_at dksX0_findSquares_3 16 rfl rfl)
theorem dX0_findSquares_87 : decode cX0_findSquares 87 = .ok (.laload, 1) := dk_47 (dk_at dksX0_findSquares_3 17 rfl rfl)
theorem dX0_findSquares_88 : decode cX0_findSquares 88 = .ok (.lconst 0, 1) := dk_9 (dk_at dksX0_findSquares_3 18 rfl rfl)
theorem dX0_findSquares_89 : decode cX0_findSquares 89 = .ok (.lcmp, 1) := dk_148 (dk_at dksX0_findSquares_3 19 rfl rfl)
theorem dX0_findSquares_90 : decode cX0_findSquares 90 = .ok (.ifCond .ne 15, 3) := dk_154 0 15 (dk_at dksX0_findSquares_3 20 rfl rfl)
theorem dX0_findSquares_93 : decode cX0_findSquares 93 = .ok (.aload_n 3, 1) := dk_45 (dk_at dksX0_findSquares_3 23 rfl rfl)
theorem dX0_findSquares_94 : decode cX0_findSquares 94 = .ok (.iconst 2, 1) := dk_5 (dk_at dksX0_findSquares_4 0 rfl rfl)
theorem dX0_findSquares_95 : decode cX0_findSquares 95 = .ok (.laload, 1) := dk_47 (dk_at dksX0_findSquares_4 1 rfl rfl)
theorem dX0_findSquares_96 : decode cX0_findSquares 96 = .ok (.lconst 0, 1) := dk_9 (dk_at dksX0_findSquares_4 2 rfl rfl)
theorem dX0_findSquares_97 : decode cX0_findSquares 97 = .ok (.lcmp, 1) := dk_148 (dk_at dksX0_findSquares_4 3 rfl rfl)
theorem dX0_findSquares_98 : decode cX0_findSquares 98 = .ok (.ifCond .ge 7, 3) := dk_156 0 7 (dk_at dksX0_findSquares_4 4 rfl rfl)
theorem dX0_findSquares_101 : decode cX0_findSquares 101 = .ok (.iconst 1, 1) := dk_4 (dk_at dksX0_findSquares_4 7 rfl rfl)
theorem dX0_findSquares_102 : decode cX0_findSquares 102 = .ok (.goto 4, 3) := dk_167 0 4 (dk_at dksX0_findSquares_4 8 rfl rfl)
theorem dX0_findSquares_105 : decode cX0_findSquares 105 = .ok (.iconst 0, 1) := dk_3 (dk_at dksX0_findSquares_4 11 rfl rfl)
theorem dX0_findSquares_106 : decode cX0_findSquares 106 = .ok (.istore 4, 2) := dk_54 4 (dk_at dksX0_findSquares_4 12 rfl rfl)
theorem dX0_findSquares_108 : decode cX0_findSquares 108 = .ok (.iload 4, 2) := dk_21 4 (dk_at dksX0_findSquares_4 14 rfl rfl)
theorem dX0_findSquares_110 : decode cX0_findSquares 110 = .ok (.ifCond .eq 75, 3) := dk_153 0 75 (dk_at dksX0_findSquares_4 16 rfl rfl)
theorem dX0_findSquares_113 : decode cX0_findSquares 113 = .ok (.aload_n 0, 1) := dk_42 (dk_at dksX0_findSquares_4 19 rfl rfl)
theorem dX0_findSquares_114 : decode cX0_findSquares 114 = .ok (.getfield 18, 3) := dk_180 0 18 (dk_at dksX0_findSquares_4 20 rfl rfl)
theorem dX0_findSquares_117 : decode cX0_findSquares 117 = .ok (.aload_n 3, 1) := dk_45 (dk_at dksX0_findSquares_4 23 rfl rfl)
theorem dX0_findSquares_118 : decode cX0_findSquares 118 = .ok (.aload_n 3, 1) := dk_45 (dk_at dksX0_findSquares_5 0 rfl rfl)
theorem dX0_findSquares_119 : decode cX0_findSquares 119 = .ok (.invokevirtual 255, 3) := dk_182 0 255 (dk_at dksX0_findSquares_5 1 rfl rfl)
theorem dX0_findSquares_122 : decode cX0_findSquares 122 = .ok (.ldc2_w 105, 3) := dk_20 0 105 (dk_at dksX0_findSquares_5 4 rfl rfl)
theorem dX0_findSquares_125 : decode cX0_findSquares 125 = .ok (.ldiv, 1) := dk_109 (dk_at dksX0_findSquares_5 7 rfl rfl)
theorem dX0_findSquares_126 : decode cX0_findSquares 126 = .ok (.lstore 5, 2) := dk_55 5 (dk_at dksX0_findSquares_5 8 rfl rfl)
theorem dX0_findSquares_128 : decode cX0_findSquares 128 = .ok (.iload_n 2, 1) := dk_28 (dk_at dksX0_findSquares_5 10 rfl rfl)
theorem dX0_findSquares_129 : decode cX0_findSquares 129 = .ok (.istore 7, 2) := dk_54 7 (dk_at dksX0_findSquares_5 11 rfl rfl)
theorem dX0_findSquares_131 : decode cX0_findSquares 131 = .ok (.iload 7, 2) := dk_21 7 (dk_at dksX0_findSquares_5 13 rfl rfl)
theorem dX0_findSquares_133 : decode cX0_findSquares 133 = .ok (.ifCond .le 40, 3) := dk_158 0 40 (dk_at dksX0_findSquares_5 15 rfl rfl)
theorem dX0_findSquares_136 : decode cX0_findSquares 136 = .ok (.aload_n 0, 1) := dk_42 (dk_at dksX0_findSquares_5 18 rfl rfl)
theorem dX0_findSquares_137 : decode cX0_findSquares 137 = .ok (.getfield 47, 3) := dk_180 0 47 (dk_at dksX0_findSquares_5 19 rfl rfl)
theorem dX0_findSquares_140 : decode cX0_findSquares 140 = .ok (.iload 7, 2) := dk_21 7 (dk_at dksX0_findSquares_5 22 rfl rfl)
theorem dX0_findSquares_142 : decode cX0_findSquares 142 = .ok (.iconst 1, 1) := dk_4 (dk_at dksX0_findSquares_6 0 rfl rfl)
theorem dX0_findSquares_143 : decode cX0_findSquares 143 = .ok (.isub, 1) := dk_100 (dk_at dksX0_findSquares_6 1 rfl rfl)
theorem dX0_findSquares_144 : decode cX0_findSquares 144 = .ok (.laload, 1) := dk_47 (dk_at dksX0_findSquares_6 2 rfl rfl)
theorem dX0_findSquares_145 : decode cX0_findSquares 145 = .ok (.lload 5, 2) := dk_22 5 (dk_at dksX0_findSquares_6 3 rfl rfl)
theorem dX0_findSquares_147 : decode cX0_findSquares 147 = .ok (.lcmp, 1) := dk_148 (dk_at dksX0_findSquares_6 5 rfl rfl)
theorem dX0_findSquares_148 : decode cX0_findSquares 148 = .ok (.ifCond .le 25, 3) := dk_158 0 25 (dk_at dksX0_findSquares_6 6 rfl rfl)
theorem dX0_findSquares_151 : decode cX0_findSquares 151 = .ok (.aload_n 0, 1) := dk_42 (dk_at dksX0_findSquares_6 9 rfl rfl)
theorem dX0_findSquares_152 : decode cX0_findSquares 152 = .ok (.getfield 47, 3) := dk_180 0 47 (dk_at dksX0_findSquares_6 10 rfl rfl)
theorem dX0_findSquares_155 : decode cX0_findSquares 155 = .ok (.iload 7, 2) := dk_21 7 (dk_at dksX0_findSquares_6 13 rfl rfl)
theorem dX0_findSquares_157 : decode cX0_findSquares 157 = .ok (.aload_n 0, 1) := dk_42 (dk_at dksX0_findSquares_6 15 rfl rfl)
theorem dX0_findSquares_158 : decode cX0_findSquares 158 = .ok (.getfield 47, 3) := dk_180 0 47 (dk_at dksX0_findSquares_6 16 rfl rfl)
theorem dX0_findSquares_161 : decode cX0_findSquares 161 = .ok (.iload 7, 2) := dk_21 7 (dk_at dksX0_findSquares_6 19 rfl rfl)
theorem dX0_findSquares_163 : decode cX0_findSquares 163 = .ok (.iconst 1, 1) := dk_4 (dk_at dksX0_findSquares_6 21 rfl rfl)
theorem dX0_findSquares_164 : decode cX0_findSquares 164 = .ok (.isub, 1) := dk_100 (dk_at dksX0_findSquares_6 22 rfl rfl)
theorem dX0_findSquares_165 : decode cX0_findSquares 165 = .ok (.laload, 1) := dk_47 (dk_at dksX0_findSquares_6 23 rfl rfl)
theorem dX0_findSquares_166 : decode cX0_findSquares 166 = .ok (.lastore, 1) := dk_80 (dk_at dksX0_findSquares_7 0 rfl rfl)
theorem dX0_findSquares_167 : decode cX0_findSquares 167 = .ok (.iinc 7 (-1), 3) := dk_132 7 255 (dk_at dksX0_findSquares_7 1 rfl rfl)
theorem dX0_findSquares_170 : decode cX0_findSquares 170 = .ok (.goto (-39), 3) := dk_167 255 217 (dk_at dksX0_findSquares_7 4 rfl rfl)
theorem dX0_findSquares_173 : decode cX0_findSquares 173 = .ok (.aload_n 0, 1) := dk_42 (dk_at dksX0_findSquares_7 7 rfl rfl)
theorem dX0_findSquares_174 : decode cX0_findSquares 174 = .ok (.getfield 47, 3) := dk_180 0 47 (dk_at dksX0_findSquares_7 8 rfl rfl)
theorem dX0_findSquares_177 : decode cX0_findSquares 177 = .ok (.iload 7, 2) := dk_21 7 (dk_at dksX0_findSquares_7 11 rfl rfl)
theorem dX0_findSquares_179 : decode cX0_findSquares 179 = .ok (.lload 5, 2) := dk_22 5 (dk_at dksX0_findSquares_7 13 rfl rfl)
theorem dX0_findSquares_181 : decode cX0_findSquares 181 = .ok (.lastore, 1) := dk_80 (dk_at dksX0_findSquares_7 15 rfl rfl)
theorem dX0_findSquares_182 : decode cX0_findSquares 182 = .ok (.iinc 2 1, 3) := dk_132 2 1 (dk_at dksX0_findSquares_7 16 rfl rfl)
theorem dX0_findSquares_185 : decode cX0_findSquares 185 = .ok (.aload_n 3, 1) := dk_45 (dk_at dksX0_findSquares_7 19 rfl rfl)
theorem dX0_findSquares_186 : decode cX0_findSquares 186 = .ok (.iconst 2, 1) := dk_5 (dk_at dksX0_findSquares_7 20 rfl rfl)
theorem dX0_findSquares_187 : decode cX0_findSquares 187 = .ok (.dup2, 1) := dk_92 (dk_at dksX0_findSquares_7 21 rfl rfl)
theorem dX0_findSquares_188 : decode cX0_findSquares 188 = .ok (.laload, 1) := dk_47 (dk_at dksX0_findSquares_7 22 rfl rfl)
theorem dX0_findSquares_189 : decode cX0_findSquares 189 = .ok (.lconst 1, 1) := dk_10 (dk_at dksX0_findSquares_7 23 rfl rfl)
theorem dX0_findSquares_190 : decode cX0_findSquares 190 = .ok (.ladd, 1) := dk_97 (dk_at dksX0_findSquares_8 0 rfl rfl)
theorem dX0_findSquares_191 : decode cX0_findSquares 191 = .ok (.lastore, 1) := dk_80 (dk_at dksX0_findSquares_8 1 rfl rfl)
theorem dX0_findSquares_192 : decode cX0_findSquares 192 = .ok (.goto (-133), 3) := dk_167 255 123 (dk_at dksX0_findSquares_8 2 rfl rfl)
theorem dX0_findSquares_195 : decode cX0_findSquares 195 = .ok (.aload_n 3, 1) := dk_45 (dk_at dksX0_findSquares_8 5 rfl rfl)
theorem dX0_findSquares_196 : decode cX0_findSquares 196 = .ok (.iconst 1, 1) := dk_4 (dk_at dksX0_findSquares_8 6 rfl rfl)
theorem dX0_findSquares_197 : decode cX0_findSquares 197 = .ok (.dup2, 1) := dk_92 (dk_at dksX0_findSquares_8 7 rfl rfl)
theorem dX0_findSquares_198 : decode cX0_findSquares 198 = .ok (.laload, 1) := dk_47 (dk_at dksX0_findSquares_8 8 rfl rfl)
theorem dX0_findSquares_199 : decode cX0_findSquares 199 = .ok (.lconst 1, 1) := dk_10 (dk_at dksX0_findSquares_8 9 rfl rfl)
theorem dX0_findSquares_200 : decode cX0_findSquares 200 = .ok (.ladd, 1) := dk_97 (dk_at dksX0_findSquares_8 10 rfl rfl)
theorem dX0_findSquares_201 : decode cX0_findSquares 201 = .ok (.lastore, 1) := dk_80 (dk_at dksX0_findSquares_8 11 rfl rfl)
theorem dX0_findSquares_202 : decode cX0_findSquares 202 = .ok (.goto (-159), 3) := dk_167 255 97 (dk_at dksX0_findSquares_8 12 rfl rfl)
theorem dX0_findSquares_205 : decode cX0_findSquares 205 = .ok (.aload_n 3, 1) := dk_45 (dk_at dksX0_findSquares_8 15 rfl rfl)
theorem dX0_findSquares_206 : decode cX0_findSquares 206 = .ok (.iconst 0, 1) := dk_3 (dk_at dksX0_findSquares_8 16 rfl rfl)
theorem dX0_findSquares_207 : decode cX0_findSquares 207 = .ok (.dup2, 1) := dk_92 (dk_at dksX0_findSquares_8 17 rfl rfl)
theorem dX0_findSquares_208 : decode cX0_findSquares 208 = .ok (.laload, 1) := dk_47 (dk_at dksX0_findSquares_8 18 rfl rfl)
theorem dX0_findSquares_209 : decode cX0_findSquares 209 = .ok (.lconst 1, 1) := dk_10 (dk_at dksX0_findSquares_8 19 rfl rfl)
theorem dX0_findSquares_210 : decode cX0_findSquares 210 = .ok (.ladd, 1) := dk_97 (dk_at dksX0_findSquares_8 20 rfl rfl)
theorem dX0_findSquares_211 : decode cX0_findSquares 211 = .ok (.lastore, 1) := dk_80 (dk_at dksX0_findSquares_8 21 rfl rfl)
theorem dX0_findSquares_212 : decode cX0_findSquares 212 = .ok (.goto (-183), 3) := dk_167 255 73 (dk_at dksX0_findSquares_9 0 rfl rfl)
theorem dX0_findSquares_215 : decode cX0_findSquares 215 = .ok (.return_, 1) := dk_177 (dk_at dksX0_findSquares_9 3 rfl rfl)
abbrev cX0_behind : ByteArray := prog_1_method_31_code
def yX0_behind : MethodName := ⟨RX0, "behind", "(I)I"⟩
def dkwX0_behind_1 : List UInt8 := [154, 0, 9, 132, 2, 1, 167, 255, 230, 28, 172]
abbrev dktX0_behind_1 : List UInt8 := dkwX0_behind_1 ++ []
def dkwX0_behind_0 : List UInt8 := [27, 61, 28, 17, 1, 108, 162, 0, 25, 42, 180, 0, 47, 28, 47, 42, 180, 0, 47, 27, 47, 148]
abbrev dktX0_behind_0 : List UInt8 := dkwX0_behind_0 ++ dktX0_behind_1
theorem dksX0_behind_0 : cX0_behind.data.toList.drop 0 = dktX0_behind_0 := by decide +kernel
theorem dksX0_behind_1 : cX0_behind.data.toList.drop 22 = dktX0_behind_1 := dk_seg dksX0_behind_0 22 rfl rfl
theorem dX0_behind_0 : decode cX0_behind 0 = .ok (.iload_n 1, 1) := dk_27 (dk_at dksX0_behind_0 0 rfl rfl)
theorem dX0_behind_1 : decode cX0_behind 1 = .ok (.istore_n 2, 1) := dk_61 (dk_at dksX0_behind_0 1 rfl rfl)
theorem dX0_behind_2 : decode cX0_behind 2 = .ok (.iload_n 2, 1) := dk_28 (dk_at dksX0_behind_0 2 rfl rfl)
theorem dX0_behind_3 : decode cX0_behind 3 = .ok (.sipush 364, 3) := dk_17 1 108 (dk_at dksX0_behind_0 3 rfl rfl)
theorem dX0_behind_6 : decode cX0_behind 6 = .ok (.if_icmp .ge 25, 3) := dk_162 0 25 (dk_at dksX0_behind_0 6 rfl rfl)
theorem dX0_behind_9 : decode cX0_behind 9 = .ok (.aload_n 0, 1) := dk_42 (dk_at dksX0_behind_0 9 rfl rfl)
theorem dX0_behind_10 : decode cX0_behind 10 = .ok (.getfield 47, 3) := dk_180 0 47 (dk_at dksX0_behind_0 10 rfl rfl)
theorem dX0_behind_13 : decode cX0_behind 13 = .ok (.iload_n 2, 1) := dk_28 (dk_at dksX0_behind_0 13 rfl rfl)
theorem dX0_behind_14 : decode cX0_behind 14 = .ok (.laload, 1) := dk_47 (dk_at dksX0_behind_0 14 rfl rfl)
theorem dX0_behind_15 : decode cX0_behind 15 = .ok (.aload_n 0, 1) := dk_42 (dk_at dksX0_behind_0 15 rfl rfl)
theorem dX0_behind_16 : decode cX0_behind 16 = .ok (.getfield 47, 3) := dk_180 0 47 (dk_at dksX0_behind_0 16 rfl rfl)
theorem dX0_behind_19 : decode cX0_behind 19 = .ok (.iload_n 1, 1) := dk_27 (dk_at dksX0_behind_0 19 rfl rfl)
theorem dX0_behind_20 : decode cX0_behind 20 = .ok (.laload, 1) := dk_47 (dk_at dksX0_behind_0 20 rfl rfl)
theorem dX0_behind_21 : decode cX0_behind 21 = .ok (.lcmp, 1) := dk_148 (dk_at dksX0_behind_0 21 rfl rfl)
theorem dX0_behind_22 : decode cX0_behind 22 = .ok (.ifCond .ne 9, 3) := dk_154 0 9 (dk_at dksX0_behind_1 0 rfl rfl)
theorem dX0_behind_25 : decode cX0_behind 25 = .ok (.iinc 2 1, 3) := dk_132 2 1 (dk_at dksX0_behind_1 3 rfl rfl)
theorem dX0_behind_28 : decode cX0_behind 28 = .ok (.goto (-26), 3) := dk_167 255 230 (dk_at dksX0_behind_1 6 rfl rfl)
theorem dX0_behind_31 : decode cX0_behind 31 = .ok (.iload_n 2, 1) := dk_28 (dk_at dksX0_behind_1 9 rfl rfl)
theorem dX0_behind_32 : decode cX0_behind 32 = .ok (.ireturn, 1) := dk_172 (dk_at dksX0_behind_1 10 rfl rfl)
abbrev cX0_squares : ByteArray := prog_1_method_32_code
def yX0_squares : MethodName := ⟨RX0, "squares", "(I)J"⟩
def dkwX0_squares_4 : List UInt8 := [180, 0, 54, 21, 4, 4, 96, 182, 1, 42, 54, 4, 167, 255, 231, 32, 173]
abbrev dktX0_squares_4 : List UInt8 := dkwX0_squares_4 ++ []
def dkwX0_squares_3 : List UInt8 := [180, 0, 54, 4, 182, 1, 42, 54, 4, 21, 4, 155, 0, 26, 32, 10, 21, 4, 121, 129, 65, 42]
abbrev dktX0_squares_3 : List UInt8 := dkwX0_squares_3 ++ dktX0_squares_4
def dkwX0_squares_2 : List UInt8 := [180, 0, 54, 42, 180, 0, 47, 28, 47, 136, 182, 1, 39, 132, 2, 1, 167, 255, 219, 9, 65, 42]
abbrev dktX0_squares_2 : List UInt8 := dkwX0_squares_2 ++ dktX0_squares_3
def dkwX0_squares_1 : List UInt8 := [3, 61, 28, 17, 1, 108, 162, 0, 36, 42, 180, 0, 47, 28, 47, 20, 1, 37, 148, 157, 0, 23, 42]
abbrev dktX0_squares_1 : List UInt8 := dkwX0_squares_1 ++ dktX0_squares_2
def dkwX0_squares_0 : List UInt8 := [42, 27, 182, 0, 123, 154, 0, 7, 20, 0, 129, 173, 42, 27, 182, 1, 27, 42, 180, 0, 54, 182, 1, 34]
abbrev dktX0_squares_0 : List UInt8 := dkwX0_squares_0 ++ dktX0_squares_1
theorem dksX0_squares_0 : cX0_squares.data.toList.drop 0 = dktX0_squares_0 := by decide +kernel
theorem dksX0_squares_1 : cX0_squares.data.toList.drop 24 = dktX0_squares_1 := dk_seg dksX0_squares_0 24 rfl rfl
theorem dksX0_squares_2 : cX0_squares.data.toList.drop 47 = dktX0_squares_2 := dk_seg dksX0_squares_1 23 rfl rfl
theorem dksX0_squares_3 : cX0_squares.data.toList.drop 69 = dktX0_squares_3 := dk_seg dksX0_squares_2 22 rfl rfl
theorem dksX0_squares_4 : cX0_squares.data.toList.drop 91 = dktX0_squares_4 := dk_seg dksX0_squares_3 22 rfl rfl
theorem dX0_squares_0 : decode cX0_squares 0 = .ok (.aload_n 0, 1) := dk_42 (dk_at dksX0_squares_0 0 rfl rfl)
theorem dX0_squares_1 : decode cX0_squares 1 = .ok (.iload_n 1, 1) := dk_27 (dk_at dksX0_squares_0 1 rfl rfl)
theorem dX0_squares_2 : decode cX0_squares 2 = .ok (.invokevirtual 123, 3) := dk_182 0 123 (dk_at dksX0_squares_0 2 rfl rfl)
theorem dX0_squares_5 : decode cX0_squares 5 = .ok (.ifCond .ne 7, 3) := dk_154 0 7 (dk_at dksX0_squares_0 5 rfl rfl)
theorem dX0_squares_8 : decode cX0_squares 8 = .ok (.ldc2_w 129, 3) := dk_20 0 129 (dk_at dksX0_squares_0 8 rfl rfl)
theorem dX0_squares_11 : decode cX0_squares 11 = .ok (.lreturn, 1) := dk_173 (dk_at dksX0_squares_0 11 rfl rfl)
theorem dX0_squares_12 : decode cX0_squares 12 = .ok (.aload_n 0, 1) := dk_42 (dk_at dksX0_squares_0 12 rfl rfl)
theorem dX0_squares_13 : decode cX0_squares 13 = .ok (.iload_n 1, 1) := dk_27 (dk_at dksX0_squares_0 13 rfl rfl)
theorem dX0_squares_14 : decode cX0_squares 14 = .ok (.invokevirtual 283, 3) := dk_182 1 27 (dk_at dksX0_squares_0 14 rfl rfl)
theorem dX0_squares_17 : decode cX0_squares 17 = .ok (.aload_n 0, 1) := dk_42 (dk_at dksX0_squares_0 17 rfl rfl)
theorem dX0_squares_18 : decode cX0_squares 18 = .ok (.getfield 54, 3) := dk_180 0 54 (dk_at dksX0_squares_0 18 rfl rfl)
theorem dX0_squares_21 : decode cX0_squares 21 = .ok (.invokevirtual 290, 3) := dk_182 1 34 (dk_at dksX0_squares_0 21 rfl rfl)
theorem dX0_squares_24 : decode cX0_squares 24 = .ok (.iconst 0, 1) := dk_3 (dk_at dksX0_squares_1 0 rfl rfl)
theorem dX0_squares_25 : decode cX0_squares 25 = .ok (.istore_n 2, 1) := dk_61 (dk_at dksX0_squares_1 1 rfl rfl)
theorem dX0_squares_26 : decode cX0_squares 26 = .ok (.iload_n 2, 1) := dk_28 (dk_at dksX0_squares_1 2 rfl rfl)
theorem dX0_squares_27 : decode cX0_squares 27 = .ok (.sipush 364, 3) := dk_17 1 108 (dk_at dksX0_squares_1 3 rfl rfl)
theorem dX0_squares_30 : decode cX0_squares 30 = .ok (.if_icmp .ge 36, 3) := dk_162 0 36 (dk_at dksX0_squares_1 6 rfl rfl)
theorem dX0_squares_33 : decode cX0_squares 33 = .ok (.aload_n 0, 1) := dk_42 (dk_at dksX0_squares_1 9 rfl rfl)
theorem dX0_squares_34 : decode cX0_squares 34 = .ok (.getfield 47, 3) := dk_180 0 47 (dk_at dksX0_squares_1 10 rfl rfl)
theorem dX0_squares_37 : decode cX0_squares 37 = .ok (.iload_n 2, 1) := dk_28 (dk_at dksX0_squares_1 13 rfl rfl)
theorem dX0_squares_38 : decode cX0_squares 38 = .ok (.laload, 1) := dk_47 (dk_at dksX0_squares_1 14 rfl rfl)
theorem dX0_squares_39 : decode cX0_squares 39 = .ok (.ldc2_w 293, 3) := dk_20 1 37 (dk_at dksX0_squares_1 15 rfl rfl)
theorem dX0_squares_42 : decode cX0_squares 42 = .ok (.lcmp, 1) := dk_148 (dk_at dksX0_squares_1 18 rfl rfl)
theorem dX0_squares_43 : decode cX0_squares 43 = .ok (.ifCond .gt 23, 3) := dk_157 0 23 (dk_at dksX0_squares_1 19 rfl rfl)
theorem dX0_squares_46 : decode cX0_squares 46 = .ok (.aload_n 0, 1) := dk_42 (dk_at dksX0_squares_1 22 rfl rfl)
theorem dX0_squares_47 : decode cX0_squares 47 = .ok (.getfield 54, 3) := dk_180 0 54 (dk_at dksX0_squares_2 0 rfl rfl)
theorem dX0_squares_50 : decode cX0_squares 50 = .ok (.aload_n 0, 1) := dk_42 (dk_at dksX0_squares_2 3 rfl rfl)
theorem dX0_squares_51 : decode cX0_squares 51 = .ok (.getfield 47, 3) := dk_180 0 47 (dk_at dksX0_squares_2 4 rfl rfl)
theorem dX0_squares_54 : decode cX0_squares 54 = .ok (.iload_n 2, 1) := dk_28 (dk_at dksX0_squares_2 7 rfl rfl)
theorem dX0_squares_55 : decode cX0_squares 55 = .ok (.laload, 1) := dk_47 (dk_at dksX0_squares_2 8 rfl rfl)
theorem dX0_squares_56 : decode cX0_squares 56 = .ok (.l2i, 1) := dk_136 (dk_at dksX0_squares_2 9 rfl rfl)
theorem dX0_squares_57 : decode cX0_squares 57 = .ok (.invokevirtual 295, 3) := dk_182 1 39 (dk_at dksX0_squares_2 10 rfl rfl)
theorem dX0_squares_60 : decode cX0_squares 60 = .ok (.iinc 2 1, 3) := dk_132 2 1 (dk_at dksX0_squares_2 13 rfl rfl)
theorem dX0_squares_63 : decode cX0_squares 63 = .ok (.goto (-37), 3) := dk_167 255 219 (dk_at dksX0_squares_2 16 rfl rfl)
theorem dX0_squares_66 : decode cX0_squares 66 = .ok (.lconst 0, 1) := dk_9 (dk_at dksX0_squares_2 19 rfl rfl)
theorem dX0_squares_67 : decode cX0_squares 67 = .ok (.lstore_n 2, 1) := dk_65 (dk_at dksX0_squares_2 20 rfl rfl)
theorem dX0_squares_68 : decode cX0_squares 68 = .ok (.aload_n 0, 1) := dk_42 (dk_at dksX0_squares_2 21 rfl rfl)
theorem dX0_squares_69 : decode cX0_squares 69 = .ok (.getfield 54, 3) := dk_180 0 54 (dk_at dksX0_squares_3 0 rfl rfl)
theorem dX0_squares_72 : decode cX0_squares 72 = .ok (.iconst 1, 1) := dk_4 (dk_at dksX0_squares_3 3 rfl rfl)
theorem dX0_squares_73 : decode cX0_squares 73 = .ok (.invokevirtual 298, 3) := dk_182 1 42 (dk_at dksX0_squares_3 4 rfl rfl)
theorem dX0_squares_76 : decode cX0_squares 76 = .ok (.istore 4, 2) := dk_54 4 (dk_at dksX0_squares_3 7 rfl rfl)
theorem dX0_squares_78 : decode cX0_squares 78 = .ok (.iload 4, 2) := dk_21 4 (dk_at dksX0_squares_3 9 rfl rfl)
theorem dX0_squares_80 : decode cX0_squares 80 = .ok (.ifCond .lt 26, 3) := dk_155 0 26 (dk_at dksX0_squares_3 11 rfl rfl)
theorem dX0_squares_83 : decode cX0_squares 83 = .ok (.lload_n 2, 1) := dk_32 (dk_at dksX0_squares_3 14 rfl rfl)
theorem dX0_squares_84 : decode cX0_squares 84 = .ok (.lconst 1, 1) := dk_10 (dk_at dksX0_squares_3 15 rfl rfl)
theorem dX0_squares_85 : decode cX0_squares 85 = .ok (.iload 4, 2) := dk_21 4 (dk_at dksX0_squares_3 16 rfl rfl)
theorem dX0_squares_87 : decode cX0_squares 87 = .ok (.lshl, 1) := dk_121 (dk_at dksX0_squares_3 18 rfl rfl)
theorem dX0_squares_88 : decode cX0_squares 88 = .ok (.lor, 1) := dk_129 (dk_at dksX0_squares_3 19 rfl rfl)
theorem dX0_squares_89 : decode cX0_squares 89 = .ok (.lstore_n 2, 1) := dk_65 (dk_at dksX0_squares_3 20 rfl rfl)
theorem dX0_squares_90 : decode cX0_squares 90 = .ok (.aload_n 0, 1) := dk_42 (dk_at dksX0_squares_3 21 rfl rfl)
theorem dX0_squares_91 : decode cX0_squares 91 = .ok (.getfield 54, 3) := dk_180 0 54 (dk_at dksX0_squares_4 0 rfl rfl)
theorem dX0_squares_94 : decode cX0_squares 94 = .ok (.iload 4, 2) := dk_21 4 (dk_at dksX0_squares_4 3 rfl rfl)
theorem dX0_squares_96 : decode cX0_squares 96 = .ok (.iconst 1, 1) := dk_4 (dk_at dksX0_squares_4 5 rfl rfl)
theorem dX0_squares_97 : decode cX0_squares 97 = .ok (.iadd, 1) := dk_96 (dk_at dksX0_squares_4 6 rfl rfl)
theorem dX0_squares_98 : decode cX0_squares 98 = .ok (.invokevirtual 298, 3) := dk_182 1 42 (dk_at dksX0_squares_4 7 rfl rfl)
theorem dX0_squares_101 : decode cX0_squares 101 = .ok (.istore 4, 2) := dk_54 4 (dk_at dksX0_squares_4 10 rfl rfl)
theorem dX0_squares_103 : decode cX0_squares 103 = .ok (.goto (-25), 3) := dk_167 255 231 (dk_at dksX0_squares_4 12 rfl rfl)
theorem dX0_squares_106 : decode cX0_squares 106 = .ok (.lload_n 2, 1) := dk_32 (dk_at dksX0_squares_4 15 rfl rfl)
theorem dX0_squares_107 : decode cX0_squares 107 = .ok (.lreturn, 1) := dk_173 (dk_at dksX0_squares_4 16 rfl rfl)
abbrev cX0_within : ByteArray := prog_1_method_37_code
def yX0_within : MethodName := ⟨RX0, "within", "(III)J"⟩
def dkwX0_within_4 : List UInt8 := [182, 0, 131, 167, 0, 6, 20, 0, 129, 173]
abbrev dktX0_within_4 : List UInt8 := dkwX0_within_4 ++ []
def dkwX0_within_3 : List UInt8 := [29, 16, 10, 112, 16, 6, 162, 0, 22, 42, 180, 0, 58, 29, 16, 10, 108, 50, 29, 16, 10, 112]
abbrev dktX0_within_3 : List UInt8 := dkwX0_within_3 ++ dktX0_within_4
def dkwX0_within_2 : List UInt8 := [180, 1, 45, 133, 167, 0, 8, 42, 182, 1, 60, 133, 173, 29, 16, 10, 108, 42, 180, 1, 45, 162, 0, 31]
abbrev dktX0_within_2 : List UInt8 := dkwX0_within_2 ++ dktX0_within_3
def dkwX0_within_1 : List UInt8 := [162, 0, 7, 20, 0, 129, 173, 42, 27, 28, 182, 1, 58, 29, 156, 0, 22, 29, 2, 160, 0, 11, 42]
abbrev dktX0_within_1 : List UInt8 := dkwX0_within_1 ++ dktX0_within_2
def dkwX0_within_0 : List UInt8 := [42, 27, 182, 0, 123, 153, 0, 21, 28, 133, 10, 20, 1, 56, 184, 0, 101, 153, 0, 9, 29, 16, 254]
abbrev dktX0_within_0 : List UInt8 := dkwX0_within_0 ++ dktX0_within_1
theorem dksX0_within_0 : cX0_within.data.toList.drop 0 = dktX0_within_0 := by decide +kernel
theorem dksX0_within_1 : cX0_within.data.toList.drop 23 = dktX0_within_1 := dk_seg dksX0_within_0 23 rfl rfl
theorem dksX0_within_2 : cX0_within.data.toList.drop 46 = dktX0_within_2 := dk_seg dksX0_within_1 23 rfl rfl
theorem dksX0_within_3 : cX0_within.data.toList.drop 70 = dktX0_within_3 := dk_seg dksX0_within_2 24 rfl rfl
theorem dksX0_within_4 : cX0_within.data.toList.drop 92 = dktX0_within_4 := dk_seg dksX0_within_3 22 rfl rfl
theorem dX0_within_0 : decode cX0_within 0 = .ok (.aload_n 0, 1) := dk_42 (dk_at dksX0_within_0 0 rfl rfl)
theorem dX0_within_1 : decode cX0_within 1 = .ok (.iload_n 1, 1) := dk_27 (dk_at dksX0_within_0 1 rfl rfl)
theorem dX0_within_2 : decode cX0_within 2 = .ok (.invokevirtual 123, 3) := dk_182 0 123 (dk_at dksX0_within_0 2 rfl rfl)
theorem dX0_within_5 : decode cX0_within 5 = .ok (.ifCond .eq 21, 3) := dk_153 0 21 (dk_at dksX0_within_0 5 rfl rfl)
theorem dX0_within_8 : decode cX0_within 8 = .ok (.iload_n 2, 1) := dk_28 (dk_at dksX0_within_0 8 rfl rfl)
theorem dX0_within_9 : decode cX0_within 9 = .ok (.i2l, 1) := dk_133 (dk_at dksX0_within_0 9 rfl rfl)
theorem dX0_within_10 : decode cX0_within 10 = .ok (.lconst 1, 1) := dk_10 (dk_at dksX0_within_0 10 rfl rfl)
theorem dX0_within_11 : decode cX0_within 11 = .ok (.ldc2_w 312, 3) := dk_20 1 56 (dk_at dksX0_within_0 11 rfl rfl)
theorem dX0_within_14 : decode cX0_within 14 = .ok (.invokestatic 101, 3) := dk_184 0 101 (dk_at dksX0_within_0 14 rfl rfl)
theorem dX0_within_17 : decode cX0_within 17 = .ok (.ifCond .eq 9, 3) := dk_153 0 9 (dk_at dksX0_within_0 17 rfl rfl)
theorem dX0_within_20 : decode cX0_within 20 = .ok (.iload_n 3, 1) := dk_29 (dk_at dksX0_within_0 20 rfl rfl)
theorem dX0_within_21 : decode cX0_within 21 = .ok (.bipush (-2), 2) := dk_16 254 (dk_at dksX0_within_0 21 rfl rfl)
theorem dX0_within_23 : decode cX0_within 23 = .ok (.if_icmp .ge 7, 3) := dk_162 0 7 (dk_at dksX0_within_1 0 rfl rfl)
theorem dX0_within_26 : decode cX0_within 26 = .ok (.ldc2_w 129, 3) := dk_20 0 129 (dk_at dksX0_within_1 3 rfl rfl)
theorem dX0_within_29 : decode cX0_within 29 = .ok (.lreturn, 1) := dk_173 (dk_at dksX0_within_1 6 rfl rfl)
theorem dX0_within_30 : decode cX0_within 30 = .ok (.aload_n 0, 1) := dk_42 (dk_at dksX0_within_1 7 rfl rfl)
theorem dX0_within_31 : decode cX0_within 31 = .ok (.iload_n 1, 1) := dk_27 (dk_at dksX0_within_1 8 rfl rfl)
theorem dX0_within_32 : decode cX0_within 32 = .ok (.iload_n 2, 1) := dk_28 (dk_at dksX0_within_1 9 rfl rfl)
theorem dX0_within_33 : decode cX0_within 33 = .ok (.invokevirtual 314, 3) := dk_182 1 58 (dk_at dksX0_within_1 10 rfl rfl)
theorem dX0_within_36 : decode cX0_within 36 = .ok (.iload_n 3, 1) := dk_29 (dk_at dksX0_within_1 13 rfl rfl)
theorem dX0_within_37 : decode cX0_within 37 = .ok (.ifCond .ge 22, 3) := dk_156 0 22 (dk_at dksX0_within_1 14 rfl rfl)
theorem dX0_within_40 : decode cX0_within 40 = .ok (.iload_n 3, 1) := dk_29 (dk_at dksX0_within_1 17 rfl rfl)
theorem dX0_within_41 : decode cX0_within 41 = .ok (.iconst (-1), 1) := dk_2 (dk_at dksX0_within_1 18 rfl rfl)
theorem dX0_within_42 : decode cX0_within 42 = .ok (.if_icmp .ne 11, 3) := dk_160 0 11 (dk_at dksX0_within_1 19 rfl rfl)
theorem dX0_within_45 : decode cX0_within 45 = .ok (.aload_n 0, 1) := dk_42 (dk_at dksX0_within_1 22 rfl rfl)
theorem dX0_within_46 : decode cX0_within 46 = .ok (.getfield 301, 3) := dk_180 1 45 (dk_at dksX0_within_2 0 rfl rfl)
theorem dX0_within_49 : decode cX0_within 49 = .ok (.i2l, 1) := dk_133 (dk_at dksX0_within_2 3 rfl rfl)
theorem dX0_within_50 : decode cX0_within 50 = .ok (.goto 8, 3) := dk_167 0 8 (dk_at dksX0_within_2 4 rfl rfl)
theorem dX0_within_53 : decode cX0_within 53 = .ok (.aload_n 0, 1) := dk_42 (dk_at dksX0_within_2 7 rfl rfl)
theorem dX0_within_54 : decode cX0_within 54 = .ok (.invokevirtual 316, 3) := dk_182 1 60 (dk_at dksX0_within_2 8 rfl rfl)
theorem dX0_within_57 : decode cX0_within 57 = .ok (.i2l, 1) := dk_133 (dk_at dksX0_within_2 11 rfl rfl)
theorem dX0_within_58 : decode cX0_within 58 = .ok (.lreturn, 1) := dk_173 (dk_at dksX0_within_2 12 rfl rfl)
theorem dX0_within_59 : decode cX0_within 59 = .ok (.iload_n 3, 1) := dk_29 (dk_at dksX0_within_2 13 rfl rfl)
theorem dX0_within_60 : decode cX0_within 60 = .ok (.bipush 10, 2) := dk_16 10 (dk_at dksX0_within_2 14 rfl rfl)
theorem dX0_within_62 : decode cX0_within 62 = .ok (.idiv, 1) := dk_108 (dk_at dksX0_within_2 16 rfl rfl)
theorem dX0_within_63 : decode cX0_within 63 = .ok (.aload_n 0, 1) := dk_42 (dk_at dksX0_within_2 17 rfl rfl)
theorem dX0_within_64 : decode cX0_within 64 = .ok (.getfield 301, 3) := dk_180 1 45 (dk_at dksX0_within_2 18 rfl rfl)
theorem dX0_within_67 : decode cX0_within 67 = .ok (.if_icmp .ge 31, 3) := dk_162 0 31 (dk_at dksX0_within_2 21 rfl rfl)
theorem dX0_within_70 : decode cX0_within 70 = .ok (.iload_n 3, 1) := dk_29 (dk_at dksX0_within_3 0 rfl rfl)
theorem dX0_within_71 : decode cX0_within 71 = .ok (.bipush 10, 2) := dk_16 10 (dk_at dksX0_within_3 1 rfl rfl)
theorem dX0_within_73 : decode cX0_within 73 = .ok (.irem, 1) := dk_112 (dk_at dksX0_within_3 3 rfl rfl)
theorem dX0_within_74 : decode cX0_within 74 = .ok (.bipush 6, 2) := dk_16 6 (dk_at dksX0_within_3 4 rfl rfl)
theorem dX0_within_76 : decode cX0_within 76 = .ok (.if_icmp .ge 22, 3) := dk_162 0 22 (dk_at dksX0_within_3 6 rfl rfl)
theorem dX0_within_79 : decode cX0_within 79 = .ok (.aload_n 0, 1) := dk_42 (dk_at dksX0_within_3 9 rfl rfl)
theorem dX0_within_80 : decode cX0_within 80 = .ok (.getfield 58, 3) := dk_180 0 58 (dk_at dksX0_within_3 10 rfl rfl)
theorem dX0_within_83 : decode cX0_within 83 = .ok (.iload_n 3, 1) := dk_29 (dk_at dksX0_within_3 13 rfl rfl)
theorem dX0_within_84 : decode cX0_within 84 = .ok (.bipush 10, 2) := dk_16 10 (dk_at dksX0_within_3 14 rfl rfl)
theorem dX0_within_86 : decode cX0_within 86 = .ok (.idiv, 1) := dk_108 (dk_at dksX0_within_3 16 rfl rfl)
theorem dX0_within_87 : decode cX0_within 87 = .ok (.aaload, 1) := dk_50 (dk_at dksX0_within_3 17 rfl rfl)
theorem dX0_within_88 : decode cX0_within 88 = .ok (.iload_n 3, 1) := dk_29 (dk_at dksX0_within_3 18 rfl rfl)
theorem dX0_within_89 : decode cX0_within 89 = .ok (.bipush 10, 2) := dk_16 10 (dk_at dksX0_within_3 19 rfl rfl)
theorem dX0_within_91 : decode cX0_within 91 = .ok (.irem, 1) := dk_112 (dk_at dksX0_within_3 21 rfl rfl)
theorem dX0_within_92 : decode cX0_within 92 = .ok (.invokevirtual 131, 3) := dk_182 0 131 (dk_at dksX0_within_4 0 rfl rfl)
theorem dX0_within_95 : decode cX0_within 95 = .ok (.goto 6, 3) := dk_167 0 6 (dk_at dksX0_within_4 3 rfl rfl)
theorem dX0_within_98 : decode cX0_within 98 = .ok (.ldc2_w 129, 3) := dk_20 0 129 (dk_at dksX0_within_4 6 rfl rfl)
theorem dX0_within_101 : decode cX0_within 101 = .ok (.lreturn, 1) := dk_173 (dk_at dksX0_within_4 9 rfl rfl)
abbrev cX0_findWithin : ByteArray := prog_1_method_34_code
def yX0_findWithin : MethodName := ⟨RX0, "findWithin", "(II)V"⟩
def dkwX0_findWithin_3 : List UInt8 := [177]
abbrev dktX0_findWithin_3 : List UInt8 := dkwX0_findWithin_3 ++ []
def dkwX0_findWithin_2 : List UInt8 := [29, 21, 4, 28, 29, 21, 4, 104, 108, 182, 1, 48, 132, 4, 1, 167, 255, 223, 132, 3, 1, 167, 255, 209]
abbrev dktX0_findWithin_2 : List UInt8 := dkwX0_findWithin_2 ++ dktX0_findWithin_3
def dkwX0_findWithin_1 : List UInt8 := [163, 0, 48, 4, 54, 4, 21, 4, 28, 29, 108, 163, 0, 31, 28, 29, 21, 4, 104, 112, 154, 0, 16, 42]
abbrev dktX0_findWithin_1 : List UInt8 := dkwX0_findWithin_1 ++ dktX0_findWithin_2
def dkwX0_findWithin_0 : List UInt8 := [42, 180, 0, 18, 42, 180, 0, 13, 27, 50, 182, 0, 205, 87, 42, 3, 181, 1, 45, 4, 62, 29, 28]
abbrev dktX0_findWithin_0 : List UInt8 := dkwX0_findWithin_0 ++ dktX0_findWithin_1
theorem dksX0_findWithin_0 : cX0_findWithin.data.toList.drop 0 = dktX0_findWithin_0 := by decide +kernel
theorem dksX0_findWithin_1 : cX0_findWithin.data.toList.drop 23 = dktX0_findWithin_1 := dk_seg dksX0_findWithin_0 23 rfl rfl
theorem dksX0_findWithin_2 : cX0_findWithin.data.toList.drop 47 = dktX0_findWithin_2 := dk_seg dksX0_findWithin_1 24 rfl rfl
theorem dksX0_findWithin_3 : cX0_findWithin.data.toList.drop 71 = dktX0_findWithin_3 := dk_seg dksX0_findWithin_2 24 rfl rfl
theorem dX0_findWithin_0 : decode cX0_findWithin 0 = .ok (.aload_n 0, 1) := dk_42 (dk_at dksX0_findWithin_0 0 rfl rfl)
theorem dX0_findWithin_1 : decode cX0_findWithin 1 = .ok (.getfield 18, 3) := dk_180 0 18 (dk_at dksX0_findWithin_0 1 rfl rfl)
theorem dX0_findWithin_4 : decode cX0_findWithin 4 = .ok (.aload_n 0, 1) := dk_42 (dk_at dksX0_findWithin_0 4 rfl rfl)
theorem dX0_findWithin_5 : decode cX0_findWithin 5 = .ok (.getfield 13, 3) := dk_180 0 13 (dk_at dksX0_findWithin_0 5 rfl rfl)
theorem dX0_findWithin_8 : decode cX0_findWithin 8 = .ok (.iload_n 1, 1) := dk_27 (dk_at dksX0_findWithin_0 8 rfl rfl)
theorem dX0_findWithin_9 : decode cX0_findWithin 9 = .ok (.aaload, 1) := dk_50 (dk_at dksX0_findWithin_0 9 rfl rfl)
theorem dX0_findWithin_10 : decode cX0_findWithin 10 = .ok (.invokevirtual 205, 3) := dk_182 0 205 (dk_at dksX0_findWithin_0 10 rfl rfl)
theorem dX0_findWithin_13 : decode cX0_findWithin 13 = .ok (.pop, 1) := dk_87 (dk_at dksX0_findWithin_0 13 rfl rfl)
theorem dX0_findWithin_14 : decode cX0_findWithin 14 = .ok (.aload_n 0, 1) := dk_42 (dk_at dksX0_findWithin_0 14 rfl rfl)
theorem dX0_findWithin_15 : decode cX0_findWithin 15 = .ok (.iconst 0, 1) := dk_3 (dk_at dksX0_findWithin_0 15 rfl rfl)
theorem dX0_findWithin_16 : decode cX0_findWithin 16 = .ok (.putfield 301, 3) := dk_181 1 45 (dk_at dksX0_findWithin_0 16 rfl rfl)
theorem dX0_findWithin_19 : decode cX0_findWithin 19 = .ok (.iconst 1, 1) := dk_4 (dk_at dksX0_findWithin_0 19 rfl rfl)
theorem dX0_findWithin_20 : decode cX0_findWithin 20 = .ok (.istore_n 3, 1) := dk_62 (dk_at dksX0_findWithin_0 20 rfl rfl)
theorem dX0_findWithin_21 : decode cX0_findWithin 21 = .ok (.iload_n 3, 1) := dk_29 (dk_at dksX0_findWithin_0 21 rfl rfl)
theorem dX0_findWithin_22 : decode cX0_findWithin 22 = .ok (.iload_n 2, 1) := dk_28 (dk_at dksX0_findWithin_0 22 rfl rfl)
theorem dX0_findWithin_23 : decode cX0_findWithin 23 = .ok (.if_icmp .gt 48, 3) := dk_163 0 48 (dk_at dksX0_findWithin_1 0 rfl rfl)
theorem dX0_findWithin_26 : decode cX0_findWithin 26 = .ok (.iconst 1, 1) := dk_4 (dk_at dksX0_findWithin_1 3 rfl rfl)
theorem dX0_findWithin_27 : decode cX0_findWithin 27 = .ok (.istore 4, 2) := dk_54 4 (dk_at dksX0_findWithin_1 4 rfl rfl)
theorem dX0_findWithin_29 : decode cX0_findWithin 29 = .ok (.iload 4, 2) := dk_21 4 (dk_at dksX0_findWithin_1 6 rfl rfl)
theorem dX0_findWithin_31 : decode cX0_findWithin 31 = .ok (.iload_n 2, 1) := dk_28 (dk_at dksX0_findWithin_1 8 rfl rfl)
theorem dX0_findWithin_32 : decode cX0_findWithin 32 = .ok (.iload_n 3, 1) := dk_29 (dk_at dksX0_findWithin_1 9 rfl rfl)
theorem dX0_findWithin_33 : decode cX0_findWithin 33 = .ok (.idiv, 1) := dk_108 (dk_at dksX0_findWithin_1 10 rfl rfl)
theorem dX0_findWithin_34 : decode cX0_findWithin 34 = .ok (.if_icmp .gt 31, 3) := dk_163 0 31 (dk_at dksX0_findWithin_1 11 rfl rfl)
theorem dX0_findWithin_37 : decode cX0_findWithin 37 = .ok (.iload_n 2, 1) := dk_28 (dk_at dksX0_findWithin_1 14 rfl rfl)
theorem dX0_findWithin_38 : decode cX0_findWithin 38 = .ok (.iload_n 3, 1) := dk_29 (dk_at dksX0_findWithin_1 15 rfl rfl)
theorem dX0_findWithin_39 : decode cX0_findWithin 39 = .ok (.iload 4, 2) := dk_21 4 (dk_at dksX0_findWithin_1 16 rfl rfl)
theorem dX0_findWithin_41 : decode cX0_findWithin 41 = .ok (.imul, 1) := dk_104 (dk_at dksX0_findWithin_1 18 rfl rfl)
theorem dX0_findWithin_42 : decode cX0_findWithin 42 = .ok (.irem, 1) := dk_112 (dk_at dksX0_findWithin_1 19 rfl rfl)
theorem dX0_findWithin_43 : decode cX0_findWithin 43 = .ok (.ifCond .ne 16, 3) := dk_154 0 16 (dk_at dksX0_findWithin_1 20 rfl rfl)
theorem dX0_findWithin_46 : decode cX0_findWithin 46 = .ok (.aload_n 0, 1) := dk_42 (dk_at dksX0_findWithin_1 23 rfl rfl)
theorem dX0_findWithin_47 : decode cX0_findWithin 47 = .ok (.iload_n 3, 1) := dk_29 (dk_at dksX0_findWithin_2 0 rfl rfl)
theorem dX0_findWithin_48 : decode cX0_findWithin 48 = .ok (.iload 4, 2) := dk_21 4 (dk_at dksX0_findWithin_2 1 rfl rfl)
theorem dX0_findWithin_50 : decode cX0_findWithin 50 = .ok (.iload_n 2, 1) := dk_28 (dk_at dksX0_findWithin_2 3 rfl rfl)
theorem dX0_findWithin_51 : decode cX0_findWithin 51 = .ok (.iload_n 3, 1) := dk_29 (dk_at dksX0_findWithin_2 4 rfl rfl)
theorem dX0_findWithin_52 : decode cX0_findWithin 52 = .ok (.iload 4, 2) := dk_21 4 (dk_at dksX0_findWithin_2 5 rfl rfl)
theorem dX0_findWithin_54 : decode cX0_findWithin 54 = .ok (.imul, 1) := dk_104 (dk_at dksX0_findWithin_2 7 rfl rfl)
theorem dX0_findWithin_55 : decode cX0_findWithin 55 = .ok (.idiv, 1) := dk_108 (dk_at dksX0_findWithin_2 8 rfl rfl)
theorem dX0_findWithin_56 : decode cX0_findWithin 56 = .ok (.invokevirtual 304, 3) := dk_182 1 48 (dk_at dksX0_findWithin_2 9 rfl rfl)
theorem dX0_findWithin_59 : decode cX0_findWithin 59 = .ok (.iinc 4 1, 3) := dk_132 4 1 (dk_at dksX0_findWithin_2 12 rfl rfl)
theorem dX0_findWithin_62 : decode cX0_findWithin 62 = .ok (.goto (-33), 3) := dk_167 255 223 (dk_at dksX0_findWithin_2 15 rfl rfl)
theorem dX0_findWithin_65 : decode cX0_findWithin 65 = .ok (.iinc 3 1, 3) := dk_132 3 1 (dk_at dksX0_findWithin_2 18 rfl rfl)
theorem dX0_findWithin_68 : decode cX0_findWithin 68 = .ok (.goto (-47), 3) := dk_167 255 209 (dk_at dksX0_findWithin_2 21 rfl rfl)
theorem dX0_findWithin_71 : decode cX0_findWithin 71 = .ok (.return_, 1) := dk_177 (dk_at dksX0_findWithin_3 0 rfl rfl)
abbrev cX0_findWithin_2 : ByteArray := prog_1_method_35_code
def yX0_findWithin_2 : MethodName := ⟨RX0, "findWithin", "(III)V"⟩
def dkwX0_findWithin_2_5 : List UInt8 := [96, 181, 1, 45, 132, 6, 1, 167, 255, 150, 132, 5, 1, 167, 255, 135, 132, 4, 1, 167, 255, 120, 177]
abbrev dktX0_findWithin_2_5 : List UInt8 := dkwX0_findWithin_2_5 ++ []
def dkwX0_findWithin_2_4 : List UInt8 := [180, 0, 44, 4, 50, 42, 180, 0, 44, 5, 50, 182, 1, 6, 182, 0, 205, 87, 42, 89, 180, 1, 45, 4]
abbrev dktX0_findWithin_2_4 : List UInt8 := dkwX0_findWithin_2_4 ++ dktX0_findWithin_2_5
def dkwX0_findWithin_2_3 : List UInt8 := [42, 180, 0, 58, 42, 180, 1, 45, 50, 42, 180, 0, 25, 42, 180, 0, 18, 42, 180, 0, 44, 3, 50, 42]
abbrev dktX0_findWithin_2_3 : List UInt8 := dkwX0_findWithin_2_3 ++ dktX0_findWithin_2_4
def dkwX0_findWithin_2_2 : List UInt8 := [133, 28, 133, 9, 184, 1, 52, 42, 180, 0, 44, 5, 50, 21, 5, 133, 21, 6, 133, 29, 133, 184, 1, 52]
abbrev dktX0_findWithin_2_2 : List UInt8 := dkwX0_findWithin_2_2 ++ dktX0_findWithin_2_3
def dkwX0_findWithin_2_1 : List UInt8 := [162, 0, 106, 42, 180, 0, 44, 3, 50, 27, 133, 9, 9, 184, 1, 52, 42, 180, 0, 44, 4, 50, 21, 4]
abbrev dktX0_findWithin_2_1 : List UInt8 := dkwX0_findWithin_2_1 ++ dktX0_findWithin_2_2
def dkwX0_findWithin_2_0 : List UInt8 := [3, 54, 4, 21, 4, 27, 162, 0, 136, 3, 54, 5, 21, 5, 27, 162, 0, 121, 3, 54, 6, 21, 6, 28]
abbrev dktX0_findWithin_2_0 : List UInt8 := dkwX0_findWithin_2_0 ++ dktX0_findWithin_2_1
theorem dksX0_findWithin_2_0 : cX0_findWithin_2.data.toList.drop 0 = dktX0_findWithin_2_0 := by decide +kernel
theorem dksX0_findWithin_2_1 : cX0_findWithin_2.data.toList.drop 24 = dktX0_findWithin_2_1 := dk_seg dksX0_findWithin_2_0 24 rfl rfl
theorem dksX0_findWithin_2_2 : cX0_findWithin_2.data.toList.drop 48 = dktX0_findWithin_2_2 := dk_seg dksX0_findWithin_2_1 24 rfl rfl
theorem dksX0_findWithin_2_3 : cX0_findWithin_2.data.toList.drop 72 = dktX0_findWithin_2_3 := dk_seg dksX0_findWithin_2_2 24 rfl rfl
theorem dksX0_findWithin_2_4 : cX0_findWithin_2.data.toList.drop 96 = dktX0_findWithin_2_4 := dk_seg dksX0_findWithin_2_3 24 rfl rfl
theorem dksX0_findWithin_2_5 : cX0_findWithin_2.data.toList.drop 120 = dktX0_findWithin_2_5 := dk_seg dksX0_findWithin_2_4 24 rfl rfl
theorem dX0_findWithin_2_0 : decode cX0_findWithin_2 0 = .ok (.iconst 0, 1) := dk_3 (dk_at dksX0_findWithin_2_0 0 rfl rfl)
theorem dX0_findWithin_2_1 : decode cX0_findWithin_2 1 = .ok (.istore 4, 2) := dk_54 4 (dk_at dksX0_findWithin_2_0 1 rfl rfl)
theorem dX0_findWithin_2_3 : decode cX0_findWithin_2 3 = .ok (.iload 4, 2) := dk_21 4 (dk_at dksX0_findWithin_2_0 3 rfl rfl)
theorem dX0_findWithin_2_5 : decode cX0_findWithin_2 5 = .ok (.iload_n 1, 1) := dk_27 (dk_at dksX0_findWithin_2_0 5 rfl rfl)
theorem dX0_findWithin_2_6 : decode cX0_findWithin_2 6 = .ok (.if_icmp .ge 136, 3) := dk_162 0 136 (dk_at dksX0_findWithin_2_0 6 rfl rfl)
theorem dX0_findWithin_2_9 : decode cX0_findWithin_2 9 = .ok (.iconst 0, 1) := dk_3 (dk_at dksX0_findWithin_2_0 9 rfl rfl)
theorem dX0_findWithin_2_10 : decode cX0_findWithin_2 10 = .ok (.istore 5, 2) := dk_54 5 (dk_at dksX0_findWithin_2_0 10 rfl rfl)
theorem dX0_findWithin_2_12 : decode cX0_findWithin_2 12 = .ok (.iload 5, 2) := dk_21 5 (dk_at dksX0_findWithin_2_0 12 rfl rfl)
theorem dX0_findWithin_2_14 : decode cX0_findWithin_2 14 = .ok (.iload_n 1, 1) := dk_27 (dk_at dksX0_findWithin_2_0 14 rfl rfl)
theorem dX0_findWithin_2_15 : decode cX0_findWithin_2 15 = .ok (.if_icmp .ge 121, 3) := dk_162 0 121 (dk_at dksX0_findWithin_2_0 15 rfl rfl)
theorem dX0_findWithin_2_18 : decode cX0_findWithin_2 18 = .ok (.iconst 0, 1) := dk_3 (dk_at dksX0_findWithin_2_0 18 rfl rfl)
theorem dX0_findWithin_2_19 : decode cX0_findWithin_2 19 = .ok (.istore 6, 2) := dk_54 6 (dk_at dksX0_findWithin_2_0 19 rfl rfl)
theorem dX0_findWithin_2_21 : decode cX0_findWithin_2 21 = .ok (.iload 6, 2) := dk_21 6 (dk_at dksX0_findWithin_2_0 21 rfl rfl)
theorem dX0_findWithin_2_23 : decode cX0_findWithin_2 23 = .ok (.iload_n 2, 1) := dk_28 (dk_at dksX0_findWithin_2_0 23 rfl rfl)
theorem dX0_findWithin_2_24 : decode cX0_findWithin_2 24 = .ok (.if_icmp .ge 106, 3) := dk_162 0 106 (dk_at dksX0_findWithin_2_1 0 rfl rfl)
theorem dX0_findWithin_2_27 : decode cX0_findWithin_2 27 = .ok (.aload_n 0, 1) := dk_42 (dk_at dksX0_findWithin_2_1 3 rfl rfl)
theorem dX0_findWithin_2_28 : decode cX0_findWithin_2 28 = .ok (.getfield 44, 3) := dk_180 0 44 (dk_at dksX0_findWithin_2_1 4 rfl rfl)
theorem dX0_findWithin_2_31 : decode cX0_findWithin_2 31 = .ok (.iconst 0, 1) := dk_3 (dk_at dksX0_findWithin_2_1 7 rfl rfl)
theorem dX0_findWithin_2_32 : decode cX0_findWithin_2 32 = .ok (.aaload, 1) := dk_50 (dk_at dksX0_findWithin_2_1 8 rfl rfl)
theorem dX0_findWithin_2_33 : decode cX0_findWithin_2 33 = .ok (.iload_n 1, 1) := dk_27 (dk_at dksX0_findWithin_2_1 9 rfl rfl)
theorem dX0_findWithin_2_34 : decode cX0_findWithin_2 34 = .ok (.i2l, 1) := dk_133 (dk_at dksX0_findWithin_2_1 10 rfl rfl)
theorem dX0_findWithin_2_35 : decode cX0_findWithin_2 35 = .ok (.lconst 0, 1) := dk_9 (dk_at dksX0_findWithin_2_1 11 rfl rfl)
theorem dX0_findWithin_2_36 : decode cX0_findWithin_2 36 = .ok (.lconst 0, 1) := dk_9 (dk_at dksX0_findWithin_2_1 12 rfl rfl)
theorem dX0_findWithin_2_37 : decode cX0_findWithin_2 37 = .ok (.invokestatic 308, 3) := dk_184 1 52 (dk_at dksX0_findWithin_2_1 13 rfl rfl)
theorem dX0_findWithin_2_40 : decode cX0_findWithin_2 40 = .ok (.aload_n 0, 1) := dk_42 (dk_at dksX0_findWithin_2_1 16 rfl rfl)
theorem dX0_findWithin_2_41 : decode cX0_findWithin_2 41 = .ok (.getfield 44, 3) := dk_180 0 44 (dk_at dksX0_findWithin_2_1 17 rfl rfl)
theorem dX0_findWithin_2_44 : decode cX0_findWithin_2 44 = .ok (.iconst 1, 1) := dk_4 (dk_at dksX0_findWithin_2_1 20 rfl rfl)
theorem dX0_findWithin_2_45 : decode cX0_findWithin_2 45 = .ok (.aaload, 1) := dk_50 (dk_at dksX0_findWithin_2_1 21 rfl rfl)
theorem dX0_findWithin_2_46 : decode cX0_findWithin_2 46 = .ok (.iload 4, 2) := dk_21 4 (dk_at dksX0_findWithin_2_1 22 rfl rfl)
theorem dX0_findWithin_2_48 : decode cX0_findWithin_2 48 = .ok (.i2l, 1) := dk_133 (dk_at dksX0_findWithin_2_2 0 rfl rfl)
theorem dX0_findWithin_2_49 : decode cX0_findWithin_2 49 = .ok (.iload_n 2, 1) := dk_28 (dk_at dksX0_findWithin_2_2 1 rfl rfl)
theorem dX0_findWithin_2_50 : decode cX0_findWithin_2 50 = .ok (.i2l, 1) := dk_133 (dk_at dksX0_findWithin_2_2 2 rfl rfl)
theorem dX0_findWithin_2_51 : decode cX0_findWithin_2 51 = .ok (.lconst 0, 1) := dk_9 (dk_at dksX0_findWithin_2_2 3 rfl rfl)
theorem dX0_findWithin_2_52 : decode cX0_findWithin_2 52 = .ok (.invokestatic 308, 3) := dk_184 1 52 (dk_at dksX0_findWithin_2_2 4 rfl rfl)
theorem dX0_findWithin_2_55 : decode cX0_findWithin_2 55 = .ok (.aload_n 0, 1) := dk_42 (dk_at dksX0_findWithin_2_2 7 rfl rfl)
theorem dX0_findWithin_2_56 : decode cX0_findWithin_2 56 = .ok (.getfield 44, 3) := dk_180 0 44 (dk_at dksX0_findWithin_2_2 8 rfl rfl)
theorem dX0_findWithin_2_59 : decode cX0_findWithin_2 59 = .ok (.iconst 2, 1) := dk_5 (dk_at dksX0_findWithin_2_2 11 rfl rfl)
theorem dX0_findWithin_2_60 : decode cX0_findWithin_2 60 = .ok (.aaload, 1) := dk_50 (dk_at dksX0_findWithin_2_2 12 rfl rfl)
theorem dX0_findWithin_2_61 : decode cX0_findWithin_2 61 = .ok (.iload 5, 2) := dk_21 5 (dk_at dksX0_findWithin_2_2 13 rfl rfl)
theorem dX0_findWithin_2_63 : decode cX0_findWithin_2 63 = .ok (.i2l, 1) := dk_133 (dk_at dksX0_findWithin_2_2 15 rfl rfl)
theorem dX0_findWithin_2_64 : decode cX0_findWithin_2 64 = .ok (.iload 6, 2) := dk_21 6 (dk_at dksX0_findWithin_2_2 16 rfl rfl)
theorem dX0_findWithin_2_66 : decode cX0_findWithin_2 66 = .ok (.i2l, 1) := dk_133 (dk_at dksX0_findWithin_2_2 18 rfl rfl)
theorem dX0_findWithin_2_67 : decode cX0_findWithin_2 67 = .ok (.iload_n 3, 1) := dk_29 (dk_at dksX0_findWithin_2_2 19 rfl rfl)
theorem dX0_findWithin_2_68 : decode cX0_findWithin_2 68 = .ok (.i2l, 1) := dk_133 (dk_at dksX0_findWithin_2_2 20 rfl rfl)
theorem dX0_findWithin_2_69 : decode cX0_findWithin_2 69 = .ok (.invokestatic 308, 3) := dk_184 1 52 (dk_at dksX0_findWithin_2_2 21 rfl rfl)
theorem dX0_findWithin_2_72 : decode cX0_findWithin_2 72 = .ok (.aload_n 0, 1) := dk_42 (dk_at dksX0_findWithin_2_3 0 rfl rfl)
theorem dX0_findWithin_2_73 : decode cX0_findWithin_2 73 = .ok (.getfield 58, 3) := dk_180 0 58 (dk_at dksX0_findWithin_2_3 1 rfl rfl)
theorem dX0_findWithin_2_76 : decode cX0_findWithin_2 76 = .ok (.aload_n 0, 1) := dk_42 (dk_at dksX0_findWithin_2_3 4 rfl rfl)
theorem dX0_findWithin_2_77 : decode cX0_findWithin_2 77 = .ok (.getfield 301, 3) := dk_180 1 45 (dk_at dksX0_findWithin_2_3 5 rfl rfl)
theorem dX0_findWithin_2_80 : decode cX0_findWithin_2 80 = .ok (.aaload, 1) := dk_50 (dk_at dksX0_findWithin_2_3 8 rfl rfl)
theorem dX0_findWithin_2_81 : decode cX0_findWithin_2 81 = .ok (.aload_n 0, 1) := dk_42 (dk_at dksX0_findWithin_2_3 9 rfl rfl)
theorem dX0_findWithin_2_82 : decode cX0_findWithin_2 82 = .ok (.getfield 25, 3) := dk_180 0 25 (dk_at dksX0_findWithin_2_3 10 rfl rfl)
theorem dX0_findWithin_2_85 : decode cX0_findWithin_2 85 = .ok (.aload_n 0, 1) := dk_42 (dk_at dksX0_findWithin_2_3 13 rfl rfl)
theorem dX0_findWithin_2_86 : decode cX0_findWithin_2 86 = .ok (.getfield 18, 3) := dk_180 0 18 (dk_at dksX0_findWithin_2_3 14 rfl rfl)
theorem dX0_findWithin_2_89 : decode cX0_findWithin_2 89 = .ok (.aload_n 0, 1) := dk_42 (dk_at dksX0_findWithin_2_3 17 rfl rfl)
theorem dX0_findWithin_2_90 : decode cX0_findWithin_2 90 = .ok (.getfield 44, 3) := dk_180 0 44 (dk_at dksX0_findWithin_2_3 18 rfl rfl)
theorem dX0_findWithin_2_93 : decode cX0_findWithin_2 93 = .ok (.iconst 0, 1) := dk_3 (dk_at dksX0_findWithin_2_3 21 rfl rfl)
theorem dX0_findWithin_2_94 : decode cX0_findWithin_2 94 = .ok (.aaload, 1) := dk_50 (dk_at dksX0_findWithin_2_3 22 rfl rfl)
theorem dX0_findWithin_2_95 : decode cX0_findWithin_2 95 = .ok (.aload_n 0, 1) := dk_42 (dk_at dksX0_findWithin_2_3 23 rfl rfl)
theorem dX0_findWithin_2_96 : decode cX0_findWithin_2 96 = .ok (.getfield 44, 3) := dk_180 0 44 (dk_at dksX0_findWithin_2_4 0 rfl rfl)
theorem dX0_findWithin_2_99 : decode cX0_findWithin_2 99 = .ok (.iconst 1, 1) := dk_4 (dk_at dksX0_findWithin_2_4 3 rfl rfl)
theorem dX0_findWithin_2_100 : decode cX0_findWithin_2 100 = .ok (.aaload, 1) := dk_50 (dk_at dksX0_findWithin_2_4 4 rfl rfl)
theorem dX0_findWithin_2_101 : decode cX0_findWithin_2 101 = .ok (.aload_n 0, 1) := dk_42 (dk_at dksX0_findWithin_2_4 5 rfl rfl)
theorem dX0_findWithin_2_102 : decode cX0_findWithin_2 102 = .ok (.getfield 44, 3) := dk_180 0 44 (dk_at dksX0_findWithin_2_4 6 rfl rfl)
theorem dX0_findWithin_2_105 : decode cX0_findWithin_2 105 = .ok (.iconst 2, 1) := dk_5 (dk_at dksX0_findWithin_2_4 9 rfl rfl)
theorem dX0_findWithin_2_106 : decode cX0_findWithin_2 106 = .ok (.aaload, 1) := dk_50 (dk_at dksX0_findWithin_2_4 10 rfl rfl)
theorem dX0_findWithin_2_107 : decode cX0_findWithin_2 107 = .ok (.invokevirtual 262, 3) := dk_182 1 6 (dk_at dksX0_findWithin_2_4 11 rfl rfl)
theorem dX0_findWithin_2_110 : decode cX0_findWithin_2 110 = .ok (.invokevirtual 205, 3) := dk_182 0 205 (dk_at dksX0_findWithin_2_4 14 rfl rfl)
theorem dX0_findWithin_2_113 : decode cX0_findWithin_2 113 = .ok (.pop, 1) := dk_87 (dk_at dksX0_findWithin_2_4 17 rfl rfl)
theorem dX0_findWithin_2_114 : decode cX0_findWithin_2 114 = .ok (.aload_n 0, 1) := dk_42 (dk_at dksX0_findWithin_2_4 18 rfl rfl)
theorem dX0_findWithin_2_115 : decode cX0_findWithin_2 115 = .ok (.dup, 1) := dk_89 (dk_at dksX0_findWithin_2_4 19 rfl rfl)
theorem dX0_findWithin_2_116 : decode cX0_findWithin_2 116 = .ok (.getfield 301, 3) := dk_180 1 45 (dk_at dksX0_findWithin_2_4 20 rfl rfl)
theorem dX0_findWithin_2_119 : decode cX0_findWithin_2 119 = .ok (.iconst 1, 1) := dk_4 (dk_at dksX0_findWithin_2_4 23 rfl rfl)
theorem dX0_findWithin_2_120 : decode cX0_findWithin_2 120 = .ok (.iadd, 1) := dk_96 (dk_at dksX0_findWithin_2_5 0 rfl rfl)
theorem dX0_findWithin_2_121 : decode cX0_findWithin_2 121 = .ok (.putfield 301, 3) := dk_181 1 45 (dk_at dksX0_findWithin_2_5 1 rfl rfl)
theorem dX0_findWithin_2_124 : decode cX0_findWithin_2 124 = .ok (.iinc 6 1, 3) := dk_132 6 1 (dk_at dksX0_findWithin_2_5 4 rfl rfl)
theorem dX0_findWithin_2_127 : decode cX0_findWithin_2 127 = .ok (.goto (-106), 3) := dk_167 255 150 (dk_at dksX0_findWithin_2_5 7 rfl rfl)
theorem dX0_findWithin_2_130 : decode cX0_findWithin_2 130 = .ok (.iinc 5 1, 3) := dk_132 5 1 (dk_at dksX0_findWithin_2_5 10 rfl rfl)
theorem dX0_findWithin_2_133 : decode cX0_findWithin_2 133 = .ok (.goto (-121), 3) := dk_167 255 135 (dk_at dksX0_findWithin_2_5 13 rfl rfl)
theorem dX0_findWithin_2_136 : decode cX0_findWithin_2 136 = .ok (.iinc 4 1, 3) := dk_132 4 1 (dk_at dksX0_findWithin_2_5 16 rfl rfl)
theorem dX0_findWithin_2_139 : decode cX0_findWithin_2 139 = .ok (.goto (-136), 3) := dk_167 255 120 (dk_at dksX0_findWithin_2_5 19 rfl rfl)
theorem dX0_findWithin_2_142 : decode cX0_findWithin_2 142 = .ok (.return_, 1) := dk_177 (dk_at dksX0_findWithin_2_5 22 rfl rfl)
abbrev cX0_three : ByteArray := prog_1_method_33_code
def yX0_three : MethodName := ⟨RX0, "three", "([JJJJ)V"⟩
def dkwX0_three_0 : List UInt8 := [42, 3, 31, 80, 42, 4, 33, 80, 42, 5, 22, 5, 80, 177]
abbrev dktX0_three_0 : List UInt8 := dkwX0_three_0 ++ []
theorem dksX0_three_0 : cX0_three.data.toList.drop 0 = dktX0_three_0 := by decide +kernel
theorem dX0_three_0 : decode cX0_three 0 = .ok (.aload_n 0, 1) := dk_42 (dk_at dksX0_three_0 0 rfl rfl)
theorem dX0_three_1 : decode cX0_three 1 = .ok (.iconst 0, 1) := dk_3 (dk_at dksX0_three_0 1 rfl rfl)
theorem dX0_three_2 : decode cX0_three 2 = .ok (.lload_n 1, 1) := dk_31 (dk_at dksX0_three_0 2 rfl rfl)
theorem dX0_three_3 : decode cX0_three 3 = .ok (.lastore, 1) := dk_80 (dk_at dksX0_three_0 3 rfl rfl)
theorem dX0_three_4 : decode cX0_three 4 = .ok (.aload_n 0, 1) := dk_42 (dk_at dksX0_three_0 4 rfl rfl)
theorem dX0_three_5 : decode cX0_three 5 = .ok (.iconst 1, 1) := dk_4 (dk_at dksX0_three_0 5 rfl rfl)
theorem dX0_three_6 : decode cX0_three 6 = .ok (.lload_n 3, 1) := dk_33 (dk_at dksX0_three_0 6 rfl rfl)
theorem dX0_three_7 : decode cX0_three 7 = .ok (.lastore, 1) := dk_80 (dk_at dksX0_three_0 7 rfl rfl)
theorem dX0_three_8 : decode cX0_three 8 = .ok (.aload_n 0, 1) := dk_42 (dk_at dksX0_three_0 8 rfl rfl)
theorem dX0_three_9 : decode cX0_three 9 = .ok (.iconst 2, 1) := dk_5 (dk_at dksX0_three_0 9 rfl rfl)
theorem dX0_three_10 : decode cX0_three 10 = .ok (.lload 5, 2) := dk_22 5 (dk_at dksX0_three_0 10 rfl rfl)
theorem dX0_three_12 : decode cX0_three 12 = .ok (.lastore, 1) := dk_80 (dk_at dksX0_three_0 12 rfl rfl)
theorem dX0_three_13 : decode cX0_three 13 = .ok (.return_, 1) := dk_177 (dk_at dksX0_three_0 13 rfl rfl)
abbrev cX0_unlike : ByteArray := prog_1_method_36_code
def yX0_unlike : MethodName := ⟨RX0, "unlike", "()I"⟩
def dkwX0_unlike_3 : List UInt8 := [132, 2, 1, 167, 255, 187, 27, 172]
abbrev dktX0_unlike_3 : List UInt8 := dkwX0_unlike_3 ++ []
def dkwX0_unlike_2 : List UInt8 := [167, 0, 4, 3, 62, 132, 4, 1, 167, 255, 218, 27, 29, 153, 0, 7, 4, 167, 0, 4, 3, 96, 60]
abbrev dktX0_unlike_2 : List UInt8 := dkwX0_unlike_2 ++ dktX0_unlike_3
def dkwX0_unlike_1 : List UInt8 := [153, 0, 34, 42, 180, 0, 58, 21, 4, 50, 42, 180, 0, 58, 28, 50, 182, 0, 240, 154, 0, 7, 4]
abbrev dktX0_unlike_1 : List UInt8 := dkwX0_unlike_1 ++ dktX0_unlike_2
def dkwX0_unlike_0 : List UInt8 := [3, 60, 3, 61, 28, 42, 180, 1, 45, 162, 0, 67, 4, 62, 3, 54, 4, 21, 4, 28, 162, 0, 38, 29]
abbrev dktX0_unlike_0 : List UInt8 := dkwX0_unlike_0 ++ dktX0_unlike_1
theorem dksX0_unlike_0 : cX0_unlike.data.toList.drop 0 = dktX0_unlike_0 := by decide +kernel
theorem dksX0_unlike_1 : cX0_unlike.data.toList.drop 24 = dktX0_unlike_1 := dk_seg dksX0_unlike_0 24 rfl rfl
theorem dksX0_unlike_2 : cX0_unlike.data.toList.drop 47 = dktX0_unlike_2 := dk_seg dksX0_unlike_1 23 rfl rfl
theorem dksX0_unlike_3 : cX0_unlike.data.toList.drop 70 = dktX0_unlike_3 := dk_seg dksX0_unlike_2 23 rfl rfl
theorem dX0_unlike_0 : decode cX0_unlike 0 = .ok (.iconst 0, 1) := dk_3 (dk_at dksX0_unlike_0 0 rfl rfl)
theorem dX0_unlike_1 : decode cX0_unlike 1 = .ok (.istore_n 1, 1) := dk_60 (dk_at dksX0_unlike_0 1 rfl rfl)
theorem dX0_unlike_2 : decode cX0_unlike 2 = .ok (.iconst 0, 1) := dk_3 (dk_at dksX0_unlike_0 2 rfl rfl)
theorem dX0_unlike_3 : decode cX0_unlike 3 = .ok (.istore_n 2, 1) := dk_61 (dk_at dksX0_unlike_0 3 rfl rfl)
theorem dX0_unlike_4 : decode cX0_unlike 4 = .ok (.iload_n 2, 1) := dk_28 (dk_at dksX0_unlike_0 4 rfl rfl)
theorem dX0_unlike_5 : decode cX0_unlike 5 = .ok (.aload_n 0, 1) := dk_42 (dk_at dksX0_unlike_0 5 rfl rfl)
theorem dX0_unlike_6 : decode cX0_unlike 6 = .ok (.getfield 301, 3) := dk_180 1 45 (dk_at dksX0_unlike_0 6 rfl rfl)
theorem dX0_unlike_9 : decode cX0_unlike 9 = .ok (.if_icmp .ge 67, 3) := dk_162 0 67 (dk_at dksX0_unlike_0 9 rfl rfl)
theorem dX0_unlike_12 : decode cX0_unlike 12 = .ok (.iconst 1, 1) := dk_4 (dk_at dksX0_unlike_0 12 rfl rfl)
theorem dX0_unlike_13 : decode cX0_unlike 13 = .ok (.istore_n 3, 1) := dk_62 (dk_at dksX0_unlike_0 13 rfl rfl)
theorem dX0_unlike_14 : decode cX0_unlike 14 = .ok (.iconst 0, 1) := dk_3 (dk_at dksX0_unlike_0 14 rfl rfl)
theorem dX0_unlike_15 : decode cX0_unlike 15 = .ok (.istore 4, 2) := dk_54 4 (dk_at dksX0_unlike_0 15 rfl rfl)
theorem dX0_unlike_17 : decode cX0_unlike 17 = .ok (.iload 4, 2) := dk_21 4 (dk_at dksX0_unlike_0 17 rfl rfl)
theorem dX0_unlike_19 : decode cX0_unlike 19 = .ok (.iload_n 2, 1) := dk_28 (dk_at dksX0_unlike_0 19 rfl rfl)
theorem dX0_unlike_20 : decode cX0_unlike 20 = .ok (.if_icmp .ge 38, 3) := dk_162 0 38 (dk_at dksX0_unlike_0 20 rfl rfl)
theorem dX0_unlike_23 : decode cX0_unlike 23 = .ok (.iload_n 3, 1) := dk_29 (dk_at dksX0_unlike_0 23 rfl rfl)
theorem dX0_unlike_24 : decode cX0_unlike 24 = .ok (.ifCond .eq 34, 3) := dk_153 0 34 (dk_at dksX0_unlike_1 0 rfl rfl)
theorem dX0_unlike_27 : decode cX0_unlike 27 = .ok (.aload_n 0, 1) := dk_42 (dk_at dksX0_unlike_1 3 rfl rfl)
theorem dX0_unlike_28 : decode cX0_unlike 28 = .ok (.getfield 58, 3) := dk_180 0 58 (dk_at dksX0_unlike_1 4 rfl rfl)
theorem dX0_unlike_31 : decode cX0_unlike 31 = .ok (.iload 4, 2) := dk_21 4 (dk_at dksX0_unlike_1 7 rfl rfl)
theorem dX0_unlike_33 : decode cX0_unlike 33 = .ok (.aaload, 1) := dk_50 (dk_at dksX0_unlike_1 9 rfl rfl)
theorem dX0_unlike_34 : decode cX0_unlike 34 = .ok (.aload_n 0, 1) := dk_42 (dk_at dksX0_unlike_1 10 rfl rfl)
theorem dX0_unlike_35 : decode cX0_unlike 35 = .ok (.getfield 58, 3) := dk_180 0 58 (dk_at dksX0_unlike_1 11 rfl rfl)
theorem dX0_unlike_38 : decode cX0_unlike 38 = .ok (.iload_n 2, 1) := dk_28 (dk_at dksX0_unlike_1 14 rfl rfl)
theorem dX0_unlike_39 : decode cX0_unlike 39 = .ok (.aaload, 1) := dk_50 (dk_at dksX0_unlike_1 15 rfl rfl)
theorem dX0_unlike_40 : decode cX0_unlike 40 = .ok (.invokevirtual 240, 3) := dk_182 0 240 (dk_at dksX0_unlike_1 16 rfl rfl)
theorem dX0_unlike_43 : decode cX0_unlike 43 = .ok (.ifCond .ne 7, 3) := dk_154 0 7 (dk_at dksX0_unlike_1 19 rfl rfl)
theorem dX0_unlike_46 : decode cX0_unlike 46 = .ok (.iconst 1, 1) := dk_4 (dk_at dksX0_unlike_1 22 rfl rfl)
theorem dX0_unlike_47 : decode cX0_unlike 47 = .ok (.goto 4, 3) := dk_167 0 4 (dk_at dksX0_unlike_2 0 rfl rfl)
theorem dX0_unlike_50 : decode cX0_unlike 50 = .ok (.iconst 0, 1) := dk_3 (dk_at dksX0_unlike_2 3 rfl rfl)
theorem dX0_unlike_51 : decode cX0_unlike 51 = .ok (.istore_n 3, 1) := dk_62 (dk_at dksX0_unlike_2 4 rfl rfl)
theorem dX0_unlike_52 : decode cX0_unlike 52 = .ok (.iinc 4 1, 3) := dk_132 4 1 (dk_at dksX0_unlike_2 5 rfl rfl)
theorem dX0_unlike_55 : decode cX0_unlike 55 = .ok (.goto (-38), 3) := dk_167 255 218 (dk_at dksX0_unlike_2 8 rfl rfl)
theorem dX0_unlike_58 : decode cX0_unlike 58 = .ok (.iload_n 1, 1) := dk_27 (dk_at dksX0_unlike_2 11 rfl rfl)
theorem dX0_unlike_59 : decode cX0_unlike 59 = .ok (.iload_n 3, 1) := dk_29 (dk_at dksX0_unlike_2 12 rfl rfl)
theorem dX0_unlike_60 : decode cX0_unlike 60 = .ok (.ifCond .eq 7, 3) := dk_153 0 7 (dk_at dksX0_unlike_2 13 rfl rfl)
theorem dX0_unlike_63 : decode cX0_unlike 63 = .ok (.iconst 1, 1) := dk_4 (dk_at dksX0_unlike_2 16 rfl rfl)
theorem dX0_unlike_64 : decode cX0_unlike 64 = .ok (.goto 4, 3) := dk_167 0 4 (dk_at dksX0_unlike_2 17 rfl rfl)
theorem dX0_unlike_67 : decode cX0_unlike 67 = .ok (.iconst 0, 1) := dk_3 (dk_at dksX0_unlike_2 20 rfl rfl)
theorem dX0_unlike_68 : decode cX0_unlike 68 = .ok (.iadd, 1) := dk_96 (dk_at dksX0_unlike_2 21 rfl rfl)
theorem dX0_unlike_69 : decode cX0_unlike 69 = .ok (.istore_n 1, 1) := dk_60 (dk_at dksX0_unlike_2 22 rfl rfl)
theorem dX0_unlike_70 : decode cX0_unlike 70 = .ok (.iinc 2 1, 3) := dk_132 2 1 (dk_at dksX0_unlike_3 0 rfl rfl)
theorem dX0_unlike_73 : decode cX0_unlike 73 = .ok (.goto (-69), 3) := dk_167 255 187 (dk_at dksX0_unlike_3 3 rfl rfl)
theorem dX0_unlike_76 : decode cX0_unlike 76 = .ok (.iload_n 1, 1) := dk_27 (dk_at dksX0_unlike_3 6 rfl rfl)
theorem dX0_unlike_77 : decode cX0_unlike 77 = .ok (.ireturn, 1) := dk_172 (dk_at dksX0_unlike_3 7 rfl rfl)
abbrev cX0_holds : ByteArray := prog_1_method_38_code
def yX0_holds : MethodName := ⟨RX0, "holds", "(III)I"⟩
def dkwX0_holds_4 : List UInt8 := [132, 5, 1, 167, 255, 217, 21, 4, 172]
abbrev dktX0_holds_4 : List UInt8 := dkwX0_holds_4 ++ []
def dkwX0_holds_3 : List UInt8 := [180, 0, 58, 21, 5, 50, 42, 180, 0, 22, 182, 0, 240, 153, 0, 7, 4, 167, 0, 4, 3, 96, 54, 4]
abbrev dktX0_holds_3 : List UInt8 := dkwX0_holds_3 ++ dktX0_holds_4
def dkwX0_holds_2 : List UInt8 := [182, 0, 205, 87, 3, 54, 4, 3, 54, 5, 21, 5, 42, 180, 1, 45, 162, 0, 36, 21, 4, 42]
abbrev dktX0_holds_2 : List UInt8 := dkwX0_holds_2 ++ dktX0_holds_3
def dkwX0_holds_1 : List UInt8 := [184, 0, 101, 154, 0, 5, 2, 172, 42, 27, 29, 182, 1, 58, 42, 180, 0, 22, 42, 180, 0, 13, 28, 50]
abbrev dktX0_holds_1 : List UInt8 := dkwX0_holds_1 ++ dktX0_holds_2
def dkwX0_holds_0 : List UInt8 := [42, 27, 182, 0, 123, 153, 0, 23, 42, 28, 182, 0, 123, 153, 0, 15, 29, 133, 10, 20, 1, 56]
abbrev dktX0_holds_0 : List UInt8 := dkwX0_holds_0 ++ dktX0_holds_1
theorem dksX0_holds_0 : cX0_holds.data.toList.drop 0 = dktX0_holds_0 := by decide +kernel
theorem dksX0_holds_1 : cX0_holds.data.toList.drop 22 = dktX0_holds_1 := dk_seg dksX0_holds_0 22 rfl rfl
theorem dksX0_holds_2 : cX0_holds.data.toList.drop 46 = dktX0_holds_2 := dk_seg dksX0_holds_1 24 rfl rfl
theorem dksX0_holds_3 : cX0_holds.data.toList.drop 68 = dktX0_holds_3 := dk_seg dksX0_holds_2 22 rfl rfl
theorem dksX0_holds_4 : cX0_holds.data.toList.drop 92 = dktX0_holds_4 := dk_seg dksX0_holds_3 24 rfl rfl
theorem dX0_holds_0 : decode cX0_holds 0 = .ok (.aload_n 0, 1) := dk_42 (dk_at dksX0_holds_0 0 rfl rfl)
theorem dX0_holds_1 : decode cX0_holds 1 = .ok (.iload_n 1, 1) := dk_27 (dk_at dksX0_holds_0 1 rfl rfl)
theorem dX0_holds_2 : decode cX0_holds 2 = .ok (.invokevirtual 123, 3) := dk_182 0 123 (dk_at dksX0_holds_0 2 rfl rfl)
theorem dX0_holds_5 : decode cX0_holds 5 = .ok (.ifCond .eq 23, 3) := dk_153 0 23 (dk_at dksX0_holds_0 5 rfl rfl)
theorem dX0_holds_8 : decode cX0_holds 8 = .ok (.aload_n 0, 1) := dk_42 (dk_at dksX0_holds_0 8 rfl rfl)
theorem dX0_holds_9 : decode cX0_holds 9 = .ok (.iload_n 2, 1) := dk_28 (dk_at dksX0_holds_0 9 rfl rfl)
theorem dX0_holds_10 : decode cX0_holds 10 = .ok (.invokevirtual 123, 3) := dk_182 0 123 (dk_at dksX0_holds_0 10 rfl rfl)
theorem dX0_holds_13 : decode cX0_holds 13 = .ok (.ifCond .eq 15, 3) := dk_153 0 15 (dk_at dksX0_holds_0 13 rfl rfl)
theorem dX0_holds_16 : decode cX0_holds 16 = .ok (.iload_n 3, 1) := dk_29 (dk_at dksX0_holds_0 16 rfl rfl)
theorem dX0_holds_17 : decode cX0_holds 17 = .ok (.i2l, 1) := dk_133 (dk_at dksX0_holds_0 17 rfl rfl)
theorem dX0_holds_18 : decode cX0_holds 18 = .ok (.lconst 1, 1) := dk_10 (dk_at dksX0_holds_0 18 rfl rfl)
theorem dX0_holds_19 : decode cX0_holds 19 = .ok (.ldc2_w 312, 3) := dk_20 1 56 (dk_at dksX0_holds_0 19 rfl rfl)
theorem dX0_holds_22 : decode cX0_holds 22 = .ok (.invokestatic 101, 3) := dk_184 0 101 (dk_at dksX0_holds_1 0 rfl rfl)
theorem dX0_holds_25 : decode cX0_holds 25 = .ok (.ifCond .ne 5, 3) := dk_154 0 5 (dk_at dksX0_holds_1 3 rfl rfl)
theorem dX0_holds_28 : decode cX0_holds 28 = .ok (.iconst (-1), 1) := dk_2 (dk_at dksX0_holds_1 6 rfl rfl)
theorem dX0_holds_29 : decode cX0_holds 29 = .ok (.ireturn, 1) := dk_172 (dk_at dksX0_holds_1 7 rfl rfl)
theorem dX0_holds_30 : decode cX0_holds 30 = .ok (.aload_n 0, 1) := dk_42 (dk_at dksX0_holds_1 8 rfl rfl)
theorem dX0_holds_31 : decode cX0_holds 31 = .ok (.iload_n 1, 1) := dk_27 (dk_at dksX0_holds_1 9 rfl rfl)
theorem dX0_holds_32 : decode cX0_holds 32 = .ok (.iload_n 3, 1) := dk_29 (dk_at dksX0_holds_1 10 rfl rfl)
theorem dX0_holds_33 : decode cX0_holds 33 = .ok (.invokevirtual 314, 3) := dk_182 1 58 (dk_at dksX0_holds_1 11 rfl rfl)
theorem dX0_holds_36 : decode cX0_holds 36 = .ok (.aload_n 0, 1) := dk_42 (dk_at dksX0_holds_1 14 rfl rfl)
theorem dX0_holds_37 : decode cX0_holds 37 = .ok (.getfield 22, 3) := dk_180 0 22 (dk_at dksX0_holds_1 15 rfl rfl)
theorem dX0_holds_40 : decode cX0_holds 40 = .ok (.aload_n 0, 1) := dk_42 (dk_at dksX0_holds_1 18 rfl rfl)
theorem dX0_holds_41 : decode cX0_holds 41 = .ok (.getfield 13, 3) := dk_180 0 13 (dk_at dksX0_holds_1 19 rfl rfl)
theorem dX0_holds_44 : decode cX0_holds 44 = .ok (.iload_n 2, 1) := dk_28 (dk_at dksX0_holds_1 22 rfl rfl)
theorem dX0_holds_45 : decode cX0_holds 45 = .ok (.aaload, 1) := dk_50 (dk_at dksX0_holds_1 23 rfl rfl)
theorem dX0_holds_46 : decode cX0_holds 46 = .ok (.invokevirtual 205, 3) := dk_182 0 205 (dk_at dksX0_holds_2 0 rfl rfl)
theorem dX0_holds_49 : decode cX0_holds 49 = .ok (.pop, 1) := dk_87 (dk_at dksX0_holds_2 3 rfl rfl)
theorem dX0_holds_50 : decode cX0_holds 50 = .ok (.iconst 0, 1) := dk_3 (dk_at dksX0_holds_2 4 rfl rfl)
theorem dX0_holds_51 : decode cX0_holds 51 = .ok (.istore 4, 2) := dk_54 4 (dk_at dksX0_holds_2 5 rfl rfl)
theorem dX0_holds_53 : decode cX0_holds 53 = .ok (.iconst 0, 1) := dk_3 (dk_at dksX0_holds_2 7 rfl rfl)
theorem dX0_holds_54 : decode cX0_holds 54 = .ok (.istore 5, 2) := dk_54 5 (dk_at dksX0_holds_2 8 rfl rfl)
theorem dX0_holds_56 : decode cX0_holds 56 = .ok (.iload 5, 2) := dk_21 5 (dk_at dksX0_holds_2 10 rfl rfl)
theorem dX0_holds_58 : decode cX0_holds 58 = .ok (.aload_n 0, 1) := dk_42 (dk_at dksX0_holds_2 12 rfl rfl)
theorem dX0_holds_59 : decode cX0_holds 59 = .ok (.getfield 301, 3) := dk_180 1 45 (dk_at dksX0_holds_2 13 rfl rfl)
theorem dX0_holds_62 : decode cX0_holds 62 = .ok (.if_icmp .ge 36, 3) := dk_162 0 36 (dk_at dksX0_holds_2 16 rfl rfl)
theorem dX0_holds_65 : decode cX0_holds 65 = .ok (.iload 4, 2) := dk_21 4 (dk_at dksX0_holds_2 19 rfl rfl)
theorem dX0_holds_67 : decode cX0_holds 67 = .ok (.aload_n 0, 1) := dk_42 (dk_at dksX0_holds_2 21 rfl rfl)
theorem dX0_holds_68 : decode cX0_holds 68 = .ok (.getfield 58, 3) := dk_180 0 58 (dk_at dksX0_holds_3 0 rfl rfl)
theorem dX0_holds_71 : decode cX0_holds 71 = .ok (.iload 5, 2) := dk_21 5 (dk_at dksX0_holds_3 3 rfl rfl)
theorem dX0_holds_73 : decode cX0_holds 73 = .ok (.aaload, 1) := dk_50 (dk_at dksX0_holds_3 5 rfl rfl)
theorem dX0_holds_74 : decode cX0_holds 74 = .ok (.aload_n 0, 1) := dk_42 (dk_at dksX0_holds_3 6 rfl rfl)
theorem dX0_holds_75 : decode cX0_holds 75 = .ok (.getfield 22, 3) := dk_180 0 22 (dk_at dksX0_holds_3 7 rfl rfl)
theorem dX0_holds_78 : decode cX0_holds 78 = .ok (.invokevirtual 240, 3) := dk_182 0 240 (dk_at dksX0_holds_3 10 rfl rfl)
theorem dX0_holds_81 : decode cX0_holds 81 = .ok (.ifCond .eq 7, 3) := dk_153 0 7 (dk_at dksX0_holds_3 13 rfl rfl)
theorem dX0_holds_84 : decode cX0_holds 84 = .ok (.iconst 1, 1) := dk_4 (dk_at dksX0_holds_3 16 rfl rfl)
theorem dX0_holds_85 : decode cX0_holds 85 = .ok (.goto 4, 3) := dk_167 0 4 (dk_at dksX0_holds_3 17 rfl rfl)
theorem dX0_holds_88 : decode cX0_holds 88 = .ok (.iconst 0, 1) := dk_3 (dk_at dksX0_holds_3 20 rfl rfl)
theorem dX0_holds_89 : decode cX0_holds 89 = .ok (.iadd, 1) := dk_96 (dk_at dksX0_holds_3 21 rfl rfl)
theorem dX0_holds_90 : decode cX0_holds 90 = .ok (.istore 4, 2) := dk_54 4 (dk_at dksX0_holds_3 22 rfl rfl)
theorem dX0_holds_92 : decode cX0_holds 92 = .ok (.iinc 5 1, 3) := dk_132 5 1 (dk_at dksX0_holds_4 0 rfl rfl)
theorem dX0_holds_95 : decode cX0_holds 95 = .ok (.goto (-39), 3) := dk_167 255 217 (dk_at dksX0_holds_4 3 rfl rfl)
theorem dX0_holds_98 : decode cX0_holds 98 = .ok (.iload 4, 2) := dk_21 4 (dk_at dksX0_holds_4 6 rfl rfl)
theorem dX0_holds_100 : decode cX0_holds 100 = .ok (.ireturn, 1) := dk_172 (dk_at dksX0_holds_4 8 rfl rfl)
abbrev cX0_blunt : ByteArray := prog_1_method_42_code
def yX0_blunt : MethodName := ⟨RX0, "blunt", "(II)J"⟩
def dkwX0_blunt_9 : List UInt8 := [25, 5, 28, 185, 1, 95, 2, 0, 192, 0, 1, 182, 1, 96, 173]
abbrev dktX0_blunt_9 : List UInt8 := dkwX0_blunt_9 ++ []
def dkwX0_blunt_8 : List UInt8 := [25, 5, 22, 9, 184, 1, 85, 185, 1, 88, 2, 0, 87, 132, 8, 1, 167, 255, 226, 25, 5, 184, 1, 89]
abbrev dktX0_blunt_8 : List UInt8 := dkwX0_blunt_8 ++ dktX0_blunt_9
def dkwX0_blunt_7 : List UInt8 := [58, 6, 25, 6, 190, 54, 7, 3, 54, 8, 21, 8, 21, 7, 162, 0, 29, 25, 6, 21, 8, 47, 55, 9]
abbrev dktX0_blunt_7 : List UInt8 := dkwX0_blunt_7 ++ dktX0_blunt_8
def dkwX0_blunt_6 : List UInt8 := [28, 16, 6, 160, 0, 7, 21, 4, 133, 173, 187, 1, 82, 89, 183, 1, 84, 58, 5, 42, 180, 0, 61]
abbrev dktX0_blunt_6 : List UInt8 := dkwX0_blunt_6 ++ dktX0_blunt_7
def dkwX0_blunt_5 : List UInt8 := [47, 9, 148, 158, 0, 21, 42, 21, 5, 182, 1, 79, 132, 4, 1, 42, 182, 1, 76, 54, 5, 167, 255, 229]
abbrev dktX0_blunt_5 : List UInt8 := dkwX0_blunt_5 ++ dktX0_blunt_6
def dkwX0_blunt_4 : List UInt8 := [47, 101, 80, 132, 4, 1, 167, 255, 189, 3, 54, 4, 42, 182, 1, 76, 54, 5, 42, 180, 0, 61, 21, 5]
abbrev dktX0_blunt_4 : List UInt8 := dkwX0_blunt_4 ++ dktX0_blunt_5
def dkwX0_blunt_3 : List UInt8 := [47, 105, 45, 180, 1, 3, 21, 4, 4, 96, 6, 112, 47, 101, 45, 180, 1, 3, 21, 4, 5, 96, 6, 112]
abbrev dktX0_blunt_3 : List UInt8 := dkwX0_blunt_3 ++ dktX0_blunt_4
def dkwX0_blunt_2 : List UInt8 := [180, 1, 3, 21, 4, 47, 80, 42, 180, 0, 61, 6, 21, 4, 96, 20, 1, 74, 45, 180, 0, 139, 21, 4]
abbrev dktX0_blunt_2 : List UInt8 := dkwX0_blunt_2 ++ dktX0_blunt_3
def dkwX0_blunt_1 : List UInt8 := [42, 180, 0, 13, 27, 50, 78, 3, 54, 4, 21, 4, 6, 162, 0, 67, 42, 180, 0, 61, 21, 4, 45]
abbrev dktX0_blunt_1 : List UInt8 := dkwX0_blunt_1 ++ dktX0_blunt_2
def dkwX0_blunt_0 : List UInt8 := [42, 27, 182, 0, 123, 153, 0, 15, 28, 133, 9, 20, 1, 56, 184, 0, 101, 154, 0, 7, 20, 0, 129, 173]
abbrev dktX0_blunt_0 : List UInt8 := dkwX0_blunt_0 ++ dktX0_blunt_1
theorem dksX0_blunt_0 : cX0_blunt.data.toList.drop 0 = dktX0_blunt_0 := by decide +kernel
theorem dksX0_blunt_1 : cX0_blunt.data.toList.drop 24 = dktX0_blunt_1 := dk_seg dksX0_blunt_0 24 rfl rfl
theorem dksX0_blunt_2 : cX0_blunt.data.toList.drop 47 = dktX0_blunt_2 := dk_seg dksX0_blunt_1 23 rfl rfl
theorem dksX0_blunt_3 : cX0_blunt.data.toList.drop 71 = dktX0_blunt_3 := dk_seg dksX0_blunt_2 24 rfl rfl
theorem dksX0_blunt_4 : cX0_blunt.data.toList.drop 95 = dktX0_blunt_4 := dk_seg dksX0_blunt_3 24 rfl rfl
theorem dksX0_blunt_5 : cX0_blunt.data.toList.drop 119 = dktX0_blunt_5 := dk_seg dksX0_blunt_4 24 rfl rfl
theorem dksX0_blunt_6 : cX0_blunt.data.toList.drop 143 = dktX0_blunt_6 := dk_seg dksX0_blunt_5 24 rfl rfl
theorem dksX0_blunt_7 : cX0_blunt.data.toList.drop 166 = dktX0_blunt_7 := dk_seg dksX0_blunt_6 23 rfl rfl
theorem dksX0_blunt_8 : cX0_blunt.data.toList.drop 190 = dktX0_blunt_8 := dk_seg dksX0_blunt_7 24 rfl rfl
theorem dksX0_blunt_9 : cX0_blunt.data.toList.drop 214 = dktX0_blunt_9 := dk_seg dksX0_blunt_8 24 rfl rfl
theorem dX0_blunt_0 : decode cX0_blunt 0 = .ok (.aload_n 0, 1) := dk_42 (dk_at dksX0_blunt_0 0 rfl rfl)
theorem dX0_blunt_1 : decode cX0_blunt 1 = .ok (.iload_n 1, 1) := dk_27 (dk_at dksX0_blunt_0 1 rfl rfl)
theorem dX0_blunt_2 : decode cX0_blunt 2 = .ok (.invokevirtual 123, 3) := dk_182 0 123 (dk_at dksX0_blunt_0 2 rfl rfl)
theorem dX0_blunt_5 : decode cX0_blunt 5 = .ok (.ifCond .eq 15, 3) := dk_153 0 15 (dk_at dksX0_blunt_0 5 rfl rfl)
theorem dX0_blunt_8 : decode cX0_blunt 8 = .ok (.iload_n 2, 1) := dk_28 (dk_at dksX0_blunt_0 8 rfl rfl)
theorem dX0_blunt_9 : decode cX0_blunt 9 = .ok (.i2l, 1) := dk_133 (dk_at dksX0_blunt_0 9 rfl rfl)
theorem dX0_blunt_10 : decode cX0_blunt 10 = .ok (.lconst 0, 1) := dk_9 (dk_at dksX0_blunt_0 10 rfl rfl)
theorem dX0_blunt_11 : decode cX0_blunt 11 = .ok (.ldc2_w 312, 3) := dk_20 1 56 (dk_at dksX0_blunt_0 11 rfl rfl)
theorem dX0_blunt_14 : decode cX0_blunt 14 = .ok (.invokestatic 101, 3) := dk_184 0 101 (dk_at dksX0_blunt_0 14 rfl rfl)
theorem dX0_blunt_17 : decode cX0_blunt 17 = .ok (.ifCond .ne 7, 3) := dk_154 0 7 (dk_at dksX0_blunt_0 17 rfl rfl)
theorem dX0_blunt_20 : decode cX0_blunt 20 = .ok (.ldc2_w 129, 3) := dk_20 0 129 (dk_at dksX0_blunt_0 20 rfl rfl)
theorem dX0_blunt_23 : decode cX0_blunt 23 = .ok (.lreturn, 1) := dk_173 (dk_at dksX0_blunt_0 23 rfl rfl)
theorem dX0_blunt_24 : decode cX0_blunt 24 = .ok (.aload_n 0, 1) := dk_42 (dk_at dksX0_blunt_1 0 rfl rfl)
theorem dX0_blunt_25 : decode cX0_blunt 25 = .ok (.getfield 13, 3) := dk_180 0 13 (dk_at dksX0_blunt_1 1 rfl rfl)
theorem dX0_blunt_28 : decode cX0_blunt 28 = .ok (.iload_n 1, 1) := dk_27 (dk_at dksX0_blunt_1 4 rfl rfl)
theorem dX0_blunt_29 : decode cX0_blunt 29 = .ok (.aaload, 1) := dk_50 (dk_at dksX0_blunt_1 5 rfl rfl)
theorem dX0_blunt_30 : decode cX0_blunt 30 = .ok (.astore_n 3, 1) := dk_78 (dk_at dksX0_blunt_1 6 rfl rfl)
theorem dX0_blunt_31 : decode cX0_blunt 31 = .ok (.iconst 0, 1) := dk_3 (dk_at dksX0_blunt_1 7 rfl rfl)
theorem dX0_blunt_32 : decode cX0_blunt 32 = .ok (.istore 4, 2) := dk_54 4 (dk_at dksX0_blunt_1 8 rfl rfl)
theorem dX0_blunt_34 : decode cX0_blunt 34 = .ok (.iload 4, 2) := dk_21 4 (dk_at dksX0_blunt_1 10 rfl rfl)
theorem dX0_blunt_36 : decode cX0_blunt 36 = .ok (.iconst 3, 1) := dk_6 (dk_at dksX0_blunt_1 12 rfl rfl)
theorem dX0_blunt_37 : decode cX0_blunt 37 = .ok (.if_icmp .ge 67, 3) := dk_162 0 67 (dk_at dksX0_blunt_1 13 rfl rfl)
theorem dX0_blunt_40 : decode cX0_blunt 40 = .ok (.aload_n 0, 1) := dk_42 (dk_at dksX0_blunt_1 16 rfl rfl)
theorem dX0_blunt_41 : decode cX0_blunt 41 = .ok (.getfield 61, 3) := dk_180 0 61 (dk_at dksX0_blunt_1 17 rfl rfl)
theorem dX0_blunt_44 : decode cX0_blunt 44 = .ok (.iload 4, 2) := dk_21 4 (dk_at dksX0_blunt_1 20 rfl rfl)
theorem dX0_blunt_46 : decode cX0_blunt 46 = .ok (.aload_n 3, 1) := dk_45 (dk_at dksX0_blunt_1 22 rfl rfl)
theorem dX0_blunt_47 : decode cX0_blunt 47 = .ok (.getfield 259, 3) := dk_180 1 3 (dk_at dksX0_blunt_2 0 rfl rfl)
theorem dX0_blunt_50 : decode cX0_blunt 50 = .ok (.iload 4, 2) := dk_21 4 (dk_at dksX0_blunt_2 3 rfl rfl)
theorem dX0_blunt_52 : decode cX0_blunt 52 = .ok (.laload, 1) := dk_47 (dk_at dksX0_blunt_2 5 rfl rfl)
theorem dX0_blunt_53 : decode cX0_blunt 53 = .ok (.lastore, 1) := dk_80 (dk_at dksX0_blunt_2 6 rfl rfl)
theorem dX0_blunt_54 : decode cX0_blunt 54 = .ok (.aload_n 0, 1) := dk_42 (dk_at dksX0_blunt_2 7 rfl rfl)
theorem dX0_blunt_55 : decode cX0_blunt 55 = .ok (.getfield 61, 3) := dk_180 0 61 (dk_at dksX0_blunt_2 8 rfl rfl)
theorem dX0_blunt_58 : decode cX0_blunt 58 = .ok (.iconst 3, 1) := dk_6 (dk_at dksX0_blunt_2 11 rfl rfl)
theorem dX0_blunt_59 : decode cX0_blunt 59 = .ok (.iload 4, 2) := dk_21 4 (dk_at dksX0_blunt_2 12 rfl rfl)
theorem dX0_blunt_61 : decode cX0_blunt 61 = .ok (.iadd, 1) := dk_96 (dk_at dksX0_blunt_2 14 rfl rfl)
theorem dX0_blunt_62 : decode cX0_blunt 62 = .ok (.ldc2_w 330, 3) := dk_20 1 74 (dk_at dksX0_blunt_2 15 rfl rfl)
theorem dX0_blunt_65 : decode cX0_blunt 65 = .ok (.aload_n 3, 1) := dk_45 (dk_at dksX0_blunt_2 18 rfl rfl)
theorem dX0_blunt_66 : decode cX0_blunt 66 = .ok (.getfield 139, 3) := dk_180 0 139 (dk_at dksX0_blunt_2 19 rfl rfl)
theorem dX0_blunt_69 : decode cX0_blunt 69 = .ok (.iload 4, 2) := dk_21 4 (dk_at dksX0_blunt_2 22 rfl rfl)
theorem dX0_blunt_71 : decode cX0_blunt 71 = .ok (.laload, 1) := dk_47 (dk_at dksX0_blunt_3 0 rfl rfl)
theorem dX0_blunt_72 : decode cX0_blunt 72 = .ok (.lmul, 1) := dk_105 (dk_at dksX0_blunt_3 1 rfl rfl)
theorem dX0_blunt_73 : decode cX0_blunt 73 = .ok (.aload_n 3, 1) := dk_45 (dk_at dksX0_blunt_3 2 rfl rfl)
theorem dX0_blunt_74 : decode cX0_blunt 74 = .ok (.getfield 259, 3) := dk_180 1 3 (dk_at dksX0_blunt_3 3 rfl rfl)
theorem dX0_blunt_77 : decode cX0_blunt 77 = .ok (.iload 4, 2) := dk_21 4 (dk_at dksX0_blunt_3 6 rfl rfl)
theorem dX0_blunt_79 : decode cX0_blunt 79 = .ok (.iconst 1, 1) := dk_4 (dk_at dksX0_blunt_3 8 rfl rfl)
theorem dX0_blunt_80 : decode cX0_blunt 80 = .ok (.iadd, 1) := dk_96 (dk_at dksX0_blunt_3 9 rfl rfl)
theorem dX0_blunt_81 : decode cX0_blunt 81 = .ok (.iconst 3, 1) := dk_6 (dk_at dksX0_blunt_3 10 rfl rfl)
theorem dX0_blunt_82 : decode cX0_blunt 82 = .ok (.irem, 1) := dk_112 (dk_at dksX0_blunt_3 11 rfl rfl)
theorem dX0_blunt_83 : decode cX0_blunt 83 = .ok (.laload, 1) := dk_47 (dk_at dksX0_blunt_3 12 rfl rfl)
theorem dX0_blunt_84 : decode cX0_blunt 84 = .ok (.lsub, 1) := dk_101 (dk_at dksX0_blunt_3 13 rfl rfl)
theorem dX0_blunt_85 : decode cX0_blunt 85 = .ok (.aload_n 3, 1) := dk_45 (dk_at dksX0_blunt_3 14 rfl rfl)
theorem dX0_blunt_86 : decode cX0_blunt 86 = .ok (.getfield 259, 3) := dk_180 1 3 (dk_at dksX0_blunt_3 15 rfl rfl)
theorem dX0_blunt_89 : decode cX0_blunt 89 = .ok (.iload 4, 2) := dk_21 4 (dk_at dksX0_blunt_3 18 rfl rfl)
theorem dX0_blunt_91 : decode cX0_blunt 91 = .ok (.iconst 2, 1) := dk_5 (dk_at dksX0_blunt_3 20 rfl rfl)
theorem dX0_blunt_92 : decode cX0_blunt 92 = .ok (.iadd, 1) := dk_96 (dk_at dksX0_blunt_3 21 rfl rfl)
theorem dX0_blunt_93 : decode cX0_blunt 93 = .ok (.iconst 3, 1) := dk_6 (dk_at dksX0_blunt_3 22 rfl rfl)
theorem dX0_blunt_94 : decode cX0_blunt 94 = .ok (.irem, 1) := dk_112 (dk_at dksX0_blunt_3 23 rfl rfl)
theorem dX0_blunt_95 : decode cX0_blunt 95 = .ok (.laload, 1) := dk_47 (dk_at dksX0_blunt_4 0 rfl rfl)
theorem dX0_blunt_96 : decode cX0_blunt 96 = .ok (.lsub, 1) := dk_101 (dk_at dksX0_blunt_4 1 rfl rfl)
theorem dX0_blunt_97 : decode cX0_blunt 97 = .ok (.lastore, 1) := dk_80 (dk_at dksX0_blunt_4 2 rfl rfl)
theorem dX0_blunt_98 : decode cX0_blunt 98 = .ok (.iinc 4 1, 3) := dk_132 4 1 (dk_at dksX0_blunt_4 3 rfl rfl)
theorem dX0_blunt_101 : decode cX0_blunt 101 = .ok (.goto (-67), 3) := dk_167 255 189 (dk_at dksX0_blunt_4 6 rfl rfl)
theorem dX0_blunt_104 : decode cX0_blunt 104 = .ok (.iconst 0, 1) := dk_3 (dk_at dksX0_blunt_4 9 rfl rfl)
theorem dX0_blunt_105 : decode cX0_blunt 105 = .ok (.istore 4, 2) := dk_54 4 (dk_at dksX0_blunt_4 10 rfl rfl)
theorem dX0_blunt_107 : decode cX0_blunt 107 = .ok (.aload_n 0, 1) := dk_42 (dk_at dksX0_blunt_4 12 rfl rfl)
theorem dX0_blunt_108 : decode cX0_blunt 108 = .ok (.invokevirtual 332, 3) := dk_182 1 76 (dk_at dksX0_blunt_4 13 rfl rfl)
theorem dX0_blunt_111 : decode cX0_blunt 111 = .ok (.istore 5, 2) := dk_54 5 (dk_at dksX0_blunt_4 16 rfl rfl)
theorem dX0_blunt_113 : decode cX0_blunt 113 = .ok (.aload_n 0, 1) := dk_42 (dk_at dksX0_blunt_4 18 rfl rfl)
theorem dX0_blunt_114 : decode cX0_blunt 114 = .ok (.getfield 61, 3) := dk_180 0 61 (dk_at dksX0_blunt_4 19 rfl rfl)
theorem dX0_blunt_117 : decode cX0_blunt 117 = .ok (.iload 5, 2) := dk_21 5 (dk_at dksX0_blunt_4 22 rfl rfl)
theorem dX0_blunt_119 : decode cX0_blunt 119 = .ok (.laload, 1) := dk_47 (dk_at dksX0_blunt_5 0 rfl rfl)
theorem dX0_blunt_120 : decode cX0_blunt 120 = .ok (.lconst 0, 1) := dk_9 (dk_at dksX0_blunt_5 1 rfl rfl)
theorem dX0_blunt_121 : decode cX0_blunt 121 = .ok (.lcmp, 1) := dk_148 (dk_at dksX0_blunt_5 2 rfl rfl)
theorem dX0_blunt_122 : decode cX0_blunt 122 = .ok (.ifCond .le 21, 3) := dk_158 0 21 (dk_at dksX0_blunt_5 3 rfl rfl)
theorem dX0_blunt_125 : decode cX0_blunt 125 = .ok (.aload_n 0, 1) := dk_42 (dk_at dksX0_blunt_5 6 rfl rfl)
theorem dX0_blunt_126 : decode cX0_blunt 126 = .ok (.iload 5, 2) := dk_21 5 (dk_at dksX0_blunt_5 7 rfl rfl)
theorem dX0_blunt_128 : decode cX0_blunt 128 = .ok (.invokevirtual 335, 3) := dk_182 1 79 (dk_at dksX0_blunt_5 9 rfl rfl)
theorem dX0_blunt_131 : decode cX0_blunt 131 = .ok (.iinc 4 1, 3) := dk_132 4 1 (dk_at dksX0_blunt_5 12 rfl rfl)
theorem dX0_blunt_134 : decode cX0_blunt 134 = .ok (.aload_n 0, 1) := dk_42 (dk_at dksX0_blunt_5 15 rfl rfl)
theorem dX0_blunt_135 : decode cX0_blunt 135 = .ok (.invokevirtual 332, 3) := dk_182 1 76 (dk_at dksX0_blunt_5 16 rfl rfl)
theorem dX0_blunt_138 : decode cX0_blunt 138 = .ok (.istore 5, 2) := dk_54 5 (dk_at dksX0_blunt_5 19 rfl rfl)
theorem dX0_blunt_140 : decode cX0_blunt 140 = .ok (.goto (-27), 3) := dk_167 255 229 (dk_at dksX0_blunt_5 21 rfl rfl)
theorem dX0_blunt_143 : decode cX0_blunt 143 = .ok (.iload_n 2, 1) := dk_28 (dk_at dksX0_blunt_6 0 rfl rfl)
theorem dX0_blunt_144 : decode cX0_blunt 144 = .ok (.bipush 6, 2) := dk_16 6 (dk_at dksX0_blunt_6 1 rfl rfl)
theorem dX0_blunt_146 : decode cX0_blunt 146 = .ok (.if_icmp .ne 7, 3) := dk_160 0 7 (dk_at dksX0_blunt_6 3 rfl rfl)
theorem dX0_blunt_149 : decode cX0_blunt 149 = .ok (.iload 4, 2) := dk_21 4 (dk_at dksX0_blunt_6 6 rfl rfl)
theorem dX0_blunt_151 : decode cX0_blunt 151 = .ok (.i2l, 1) := dk_133 (dk_at dksX0_blunt_6 8 rfl rfl)
theorem dX0_blunt_152 : decode cX0_blunt 152 = .ok (.lreturn, 1) := dk_173 (dk_at dksX0_blunt_6 9 rfl rfl)
theorem dX0_blunt_153 : decode cX0_blunt 153 = .ok (.new 338, 3) := dk_187 1 82 (dk_at dksX0_blunt_6 10 rfl rfl)
theorem dX0_blunt_156 : decode cX0_blunt 156 = .ok (.dup, 1) := dk_89 (dk_at dksX0_blunt_6 13 rfl rfl)
theorem dX0_blunt_157 : decode cX0_blunt 157 = .ok (.invokespecial 340, 3) := dk_183 1 84 (dk_at dksX0_blunt_6 14 rfl rfl)
theorem dX0_blunt_160 : decode cX0_blunt 160 = .ok (.astore 5, 2) := dk_58 5 (dk_at dksX0_blunt_6 17 rfl rfl)
theorem dX0_blunt_162 : decode cX0_blunt 162 = .ok (.aload_n 0, 1) := dk_42 (dk_at dksX0_blunt_6 19 rfl rfl)
theorem dX0_blunt_163 : decode cX0_blunt 163 = .ok (.getfield 61, 3) := dk_180 0 61 (dk_at dksX0_blunt_6 20 rfl rfl)
theorem dX0_blunt_166 : decode cX0_blunt 166 = .ok (.astore 6, 2) := dk_58 6 (dk_at dksX0_blunt_7 0 rfl rfl)
theorem dX0_blunt_168 : decode cX0_blunt 168 = .ok (.aload 6, 2) := dk_25 6 (dk_at dksX0_blunt_7 2 rfl rfl)
theorem dX0_blunt_170 : decode cX0_blunt 170 = .ok (.arraylength, 1) := dk_190 (dk_at dksX0_blunt_7 4 rfl rfl)
theorem dX0_blunt_171 : decode cX0_blunt 171 = .ok (.istore 7, 2) := dk_54 7 (dk_at dksX0_blunt_7 5 rfl rfl)
theorem dX0_blunt_173 : decode cX0_blunt 173 = .ok (.iconst 0, 1) := dk_3 (dk_at dksX0_blunt_7 7 rfl rfl)
theorem dX0_blunt_174 : decode cX0_blunt 174 = .ok (.istore 8, 2) := dk_54 8 (dk_at dksX0_blunt_7 8 rfl rfl)
theorem dX0_blunt_176 : decode cX0_blunt 176 = .ok (.iload 8, 2) := dk_21 8 (dk_at dksX0_blunt_7 10 rfl rfl)
theorem dX0_blunt_178 : decode cX0_blunt 178 = .ok (.iload 7, 2) := dk_21 7 (dk_at dksX0_blunt_7 12 rfl rfl)
theorem dX0_blunt_180 : decode cX0_blunt 180 = .ok (.if_icmp .ge 29, 3) := dk_162 0 29 (dk_at dksX0_blunt_7 14 rfl rfl)
theorem dX0_blunt_183 : decode cX0_blunt 183 = .ok (.aload 6, 2) := dk_25 6 (dk_at dksX0_blunt_7 17 rfl rfl)
theorem dX0_blunt_185 : decode cX0_blunt 185 = .ok (.iload 8, 2) := dk_21 8 (dk_at dksX0_blunt_7 19 rfl rfl)
theorem dX0_blunt_187 : decode cX0_blunt 187 = .ok (.laload, 1) := dk_47 (dk_at dksX0_blunt_7 21 rfl rfl)
theorem dX0_blunt_188 : decode cX0_blunt 188 = .ok (.lstore 9, 2) := dk_55 9 (dk_at dksX0_blunt_7 22 rfl rfl)
theorem dX0_blunt_190 : decode cX0_blunt 190 = .ok (.aload 5, 2) := dk_25 5 (dk_at dksX0_blunt_8 0 rfl rfl)
theorem dX0_blunt_192 : decode cX0_blunt 192 = .ok (.lload 9, 2) := dk_22 9 (dk_at dksX0_blunt_8 2 rfl rfl)
theorem dX0_blunt_194 : decode cX0_blunt 194 = .ok (.invokestatic 341, 3) := dk_184 1 85 (dk_at dksX0_blunt_8 4 rfl rfl)
theorem dX0_blunt_197 : decode cX0_blunt 197 = .ok (.invokeinterface 344 2, 5) := by decide +kernel
theorem dX0_blunt_202 : decode cX0_blunt 202 = .ok (.pop, 1) := dk_87 (dk_at dksX0_blunt_8 12 rfl rfl)
theorem dX0_blunt_203 : decode cX0_blunt 203 = .ok (.iinc 8 1, 3) := dk_132 8 1 (dk_at dksX0_blunt_8 13 rfl rfl)
theorem dX0_blunt_206 : decode cX0_blunt 206 = .ok (.goto (-30), 3) := dk_167 255 226 (dk_at dksX0_blunt_8 16 rfl rfl)
theorem dX0_blunt_209 : decode cX0_blunt 209 = .ok (.aload 5, 2) := dk_25 5 (dk_at dksX0_blunt_8 19 rfl rfl)
theorem dX0_blunt_211 : decode cX0_blunt 211 = .ok (.invokestatic 345, 3) := dk_184 1 89 (dk_at dksX0_blunt_8 21 rfl rfl)
theorem dX0_blunt_214 : decode cX0_blunt 214 = .ok (.aload 5, 2) := dk_25 5 (dk_at dksX0_blunt_9 0 rfl rfl)
theorem dX0_blunt_216 : decode cX0_blunt 216 = .ok (.iload_n 2, 1) := dk_28 (dk_at dksX0_blunt_9 2 rfl rfl)
theorem dX0_blunt_217 : decode cX0_blunt 217 = .ok (.invokeinterface 351 2, 5) := by decide +kernel
theorem dX0_blunt_222 : decode cX0_blunt 222 = .ok (.checkcast 1, 3) := dk_192 0 1 (dk_at dksX0_blunt_9 8 rfl rfl)
theorem dX0_blunt_225 : decode cX0_blunt 225 = .ok (.invokevirtual 352, 3) := dk_182 1 96 (dk_at dksX0_blunt_9 11 rfl rfl)
theorem dX0_blunt_228 : decode cX0_blunt 228 = .ok (.lreturn, 1) := dk_173 (dk_at dksX0_blunt_9 14 rfl rfl)
abbrev cX0_sharpest : ByteArray := prog_1_method_40_code
def yX0_sharpest : MethodName := ⟨RX0, "sharpest", "()I"⟩
def dkwX0_sharpest_1 : List UInt8 := [158, 0, 7, 28, 167, 0, 4, 27, 60, 132, 2, 1, 167, 255, 225, 27, 172]
abbrev dktX0_sharpest_1 : List UInt8 := dkwX0_sharpest_1 ++ []
def dkwX0_sharpest_0 : List UInt8 := [3, 60, 4, 61, 28, 16, 6, 162, 0, 31, 42, 180, 0, 61, 28, 47, 42, 180, 0, 61, 27, 47, 148]
abbrev dktX0_sharpest_0 : List UInt8 := dkwX0_sharpest_0 ++ dktX0_sharpest_1
theorem dksX0_sharpest_0 : cX0_sharpest.data.toList.drop 0 = dktX0_sharpest_0 := by decide +kernel
theorem dksX0_sharpest_1 : cX0_sharpest.data.toList.drop 23 = dktX0_sharpest_1 := dk_seg dksX0_sharpest_0 23 rfl rfl
theorem dX0_sharpest_0 : decode cX0_sharpest 0 = .ok (.iconst 0, 1) := dk_3 (dk_at dksX0_sharpest_0 0 rfl rfl)
theorem dX0_sharpest_1 : decode cX0_sharpest 1 = .ok (.istore_n 1, 1) := dk_60 (dk_at dksX0_sharpest_0 1 rfl rfl)
theorem dX0_sharpest_2 : decode cX0_sharpest 2 = .ok (.iconst 1, 1) := dk_4 (dk_at dksX0_sharpest_0 2 rfl rfl)
theorem dX0_sharpest_3 : decode cX0_sharpest 3 = .ok (.istore_n 2, 1) := dk_61 (dk_at dksX0_sharpest_0 3 rfl rfl)
theorem dX0_sharpest_4 : decode cX0_sharpest 4 = .ok (.iload_n 2, 1) := dk_28 (dk_at dksX0_sharpest_0 4 rfl rfl)
theorem dX0_sharpest_5 : decode cX0_sharpest 5 = .ok (.bipush 6, 2) := dk_16 6 (dk_at dksX0_sharpest_0 5 rfl rfl)
theorem dX0_sharpest_7 : decode cX0_sharpest 7 = .ok (.if_icmp .ge 31, 3) := dk_162 0 31 (dk_at dksX0_sharpest_0 7 rfl rfl)
theorem dX0_sharpest_10 : decode cX0_sharpest 10 = .ok (.aload_n 0, 1) := dk_42 (dk_at dksX0_sharpest_0 10 rfl rfl)
theorem dX0_sharpest_11 : decode cX0_sharpest 11 = .ok (.getfield 61, 3) := dk_180 0 61 (dk_at dksX0_sharpest_0 11 rfl rfl)
theorem dX0_sharpest_14 : decode cX0_sharpest 14 = .ok (.iload_n 2, 1) := dk_28 (dk_at dksX0_sharpest_0 14 rfl rfl)
theorem dX0_sharpest_15 : decode cX0_sharpest 15 = .ok (.laload, 1) := dk_47 (dk_at dksX0_sharpest_0 15 rfl rfl)
theorem dX0_sharpest_16 : decode cX0_sharpest 16 = .ok (.aload_n 0, 1) := dk_42 (dk_at dksX0_sharpest_0 16 rfl rfl)
theorem dX0_sharpest_17 : decode cX0_sharpest 17 = .ok (.getfield 61, 3) := dk_180 0 61 (dk_at dksX0_sharpest_0 17 rfl rfl)
theorem dX0_sharpest_20 : decode cX0_sharpest 20 = .ok (.iload_n 1, 1) := dk_27 (dk_at dksX0_sharpest_0 20 rfl rfl)
theorem dX0_sharpest_21 : decode cX0_sharpest 21 = .ok (.laload, 1) := dk_47 (dk_at dksX0_sharpest_0 21 rfl rfl)
theorem dX0_sharpest_22 : decode cX0_sharpest 22 = .ok (.lcmp, 1) := dk_148 (dk_at dksX0_sharpest_0 22 rfl rfl)
theorem dX0_sharpest_23 : decode cX0_sharpest 23 = .ok (.ifCond .le 7, 3) := dk_158 0 7 (dk_at dksX0_sharpest_1 0 rfl rfl)
theorem dX0_sharpest_26 : decode cX0_sharpest 26 = .ok (.iload_n 2, 1) := dk_28 (dk_at dksX0_sharpest_1 3 rfl rfl)
theorem dX0_sharpest_27 : decode cX0_sharpest 27 = .ok (.goto 4, 3) := dk_167 0 4 (dk_at dksX0_sharpest_1 4 rfl rfl)
theorem dX0_sharpest_30 : decode cX0_sharpest 30 = .ok (.iload_n 1, 1) := dk_27 (dk_at dksX0_sharpest_1 7 rfl rfl)
theorem dX0_sharpest_31 : decode cX0_sharpest 31 = .ok (.istore_n 1, 1) := dk_60 (dk_at dksX0_sharpest_1 8 rfl rfl)
theorem dX0_sharpest_32 : decode cX0_sharpest 32 = .ok (.iinc 2 1, 3) := dk_132 2 1 (dk_at dksX0_sharpest_1 9 rfl rfl)
theorem dX0_sharpest_35 : decode cX0_sharpest 35 = .ok (.goto (-31), 3) := dk_167 255 225 (dk_at dksX0_sharpest_1 12 rfl rfl)
theorem dX0_sharpest_38 : decode cX0_sharpest 38 = .ok (.iload_n 1, 1) := dk_27 (dk_at dksX0_sharpest_1 15 rfl rfl)
theorem dX0_sharpest_39 : decode cX0_sharpest 39 = .ok (.ireturn, 1) := dk_172 (dk_at dksX0_sharpest_1 16 rfl rfl)
abbrev cX0_blunts : ByteArray := prog_1_method_41_code
def yX0_blunts : MethodName := ⟨RX0, "blunts", "(I)V"⟩
def dkwX0_blunts_8 : List UInt8 := [80, 42, 180, 0, 61, 21, 5, 29, 184, 1, 71, 92, 47, 22, 6, 97, 80, 177]
abbrev dktX0_blunts_8 : List UInt8 := dkwX0_blunts_8 ++ []
def dkwX0_blunts_7 : List UInt8 := [184, 1, 71, 92, 47, 22, 6, 101, 80, 42, 180, 0, 61, 21, 4, 29, 184, 1, 71, 92, 47, 22, 6, 97]
abbrev dktX0_blunts_7 : List UInt8 := dkwX0_blunts_7 ++ dktX0_blunts_8
def dkwX0_blunts_6 : List UInt8 := [180, 0, 61, 28, 21, 5, 184, 1, 71, 22, 6, 22, 8, 97, 80, 42, 180, 0, 61, 21, 4, 21, 5]
abbrev dktX0_blunts_6 : List UInt8 := dkwX0_blunts_6 ++ dktX0_blunts_7
def dkwX0_blunts_5 : List UInt8 := [184, 1, 71, 22, 6, 117, 80, 42, 180, 0, 61, 28, 21, 4, 184, 1, 71, 22, 6, 22, 10, 97, 80, 42]
abbrev dktX0_blunts_5 : List UInt8 := dkwX0_blunts_5 ++ dktX0_blunts_6
def dkwX0_blunts_4 : List UInt8 := [47, 55, 8, 42, 180, 0, 61, 28, 21, 5, 184, 1, 71, 47, 55, 10, 42, 180, 0, 61, 28, 29]
abbrev dktX0_blunts_4 : List UInt8 := dkwX0_blunts_4 ++ dktX0_blunts_5
def dkwX0_blunts_3 : List UInt8 := [54, 5, 42, 180, 0, 61, 28, 29, 184, 1, 71, 47, 55, 6, 42, 180, 0, 61, 28, 21, 4, 184, 1, 71]
abbrev dktX0_blunts_3 : List UInt8 := dkwX0_blunts_3 ++ dktX0_blunts_4
def dkwX0_blunts_2 : List UInt8 := [159, 0, 9, 21, 4, 29, 160, 0, 9, 132, 4, 1, 167, 255, 241, 16, 6, 28, 100, 29, 100, 21, 4, 100]
abbrev dktX0_blunts_2 : List UInt8 := dkwX0_blunts_2 ++ dktX0_blunts_3
def dkwX0_blunts_1 : List UInt8 := [162, 0, 7, 5, 167, 0, 13, 27, 5, 160, 0, 7, 4, 167, 0, 4, 6, 62, 3, 54, 4, 21, 4, 28]
abbrev dktX0_blunts_1 : List UInt8 := dkwX0_blunts_1 ++ dktX0_blunts_2
def dkwX0_blunts_0 : List UInt8 := [27, 154, 0, 7, 4, 167, 0, 15, 27, 6, 162, 0, 7, 3, 167, 0, 6, 27, 6, 100, 61, 27, 5]
abbrev dktX0_blunts_0 : List UInt8 := dkwX0_blunts_0 ++ dktX0_blunts_1
theorem dksX0_blunts_0 : cX0_blunts.data.toList.drop 0 = dktX0_blunts_0 := by decide +kernel
theorem dksX0_blunts_1 : cX0_blunts.data.toList.drop 23 = dktX0_blunts_1 := dk_seg dksX0_blunts_0 23 rfl rfl
theorem dksX0_blunts_2 : cX0_blunts.data.toList.drop 47 = dktX0_blunts_2 := dk_seg dksX0_blunts_1 24 rfl rfl
theorem dksX0_blunts_3 : cX0_blunts.data.toList.drop 71 = dktX0_blunts_3 := dk_seg dksX0_blunts_2 24 rfl rfl
theorem dksX0_blunts_4 : cX0_blunts.data.toList.drop 95 = dktX0_blunts_4 := dk_seg dksX0_blunts_3 24 rfl rfl
theorem dksX0_blunts_5 : cX0_blunts.data.toList.drop 117 = dktX0_blunts_5 := dk_seg dksX0_blunts_4 22 rfl rfl
theorem dksX0_blunts_6 : cX0_blunts.data.toList.drop 141 = dktX0_blunts_6 := dk_seg dksX0_blunts_5 24 rfl rfl
theorem dksX0_blunts_7 : cX0_blunts.data.toList.drop 164 = dktX0_blunts_7 := dk_seg dksX0_blunts_6 23 rfl rfl
theorem dksX0_blunts_8 : cX0_blunts.data.toList.drop 188 = dktX0_blunts_8 := dk_seg dksX0_blunts_7 24 rfl rfl
theorem dX0_blunts_0 : decode cX0_blunts 0 = .ok (.iload_n 1, 1) := dk_27 (dk_at dksX0_blunts_0 0 rfl rfl)
theorem dX0_blunts_1 : decode cX0_blunts 1 = .ok (.ifCond .ne 7, 3) := dk_154 0 7 (dk_at dksX0_blunts_0 1 rfl rfl)
theorem dX0_blunts_4 : decode cX0_blunts 4 = .ok (.iconst 1, 1) := dk_4 (dk_at dksX0_blunts_0 4 rfl rfl)
theorem dX0_blunts_5 : decode cX0_blunts 5 = .ok (.goto 15, 3) := dk_167 0 15 (dk_at dksX0_blunts_0 5 rfl rfl)
theorem dX0_blunts_8 : decode cX0_blunts 8 = .ok (.iload_n 1, 1) := dk_27 (dk_at dksX0_blunts_0 8 rfl rfl)
theorem dX0_blunts_9 : decode cX0_blunts 9 = .ok (.iconst 3, 1) := dk_6 (dk_at dksX0_blunts_0 9 rfl rfl)
theorem dX0_blunts_10 : decode cX0_blunts 10 = .ok (.if_icmp .ge 7, 3) := dk_162 0 7 (dk_at dksX0_blunts_0 10 rfl rfl)
theorem dX0_blunts_13 : decode cX0_blunts 13 = .ok (.iconst 0, 1) := dk_3 (dk_at dksX0_blunts_0 13 rfl rfl)
theorem dX0_blunts_14 : decode cX0_blunts 14 = .ok (.goto 6, 3) := dk_167 0 6 (dk_at dksX0_blunts_0 14 rfl rfl)
theorem dX0_blunts_17 : decode cX0_blunts 17 = .ok (.iload_n 1, 1) := dk_27 (dk_at dksX0_blunts_0 17 rfl rfl)
theorem dX0_blunts_18 : decode cX0_blunts 18 = .ok (.iconst 3, 1) := dk_6 (dk_at dksX0_blunts_0 18 rfl rfl)
theorem dX0_blunts_19 : decode cX0_blunts 19 = .ok (.isub, 1) := dk_100 (dk_at dksX0_blunts_0 19 rfl rfl)
theorem dX0_blunts_20 : decode cX0_blunts 20 = .ok (.istore_n 2, 1) := dk_61 (dk_at dksX0_blunts_0 20 rfl rfl)
theorem dX0_blunts_21 : decode cX0_blunts 21 = .ok (.iload_n 1, 1) := dk_27 (dk_at dksX0_blunts_0 21 rfl rfl)
theorem dX0_blunts_22 : decode cX0_blunts 22 = .ok (.iconst 2, 1) := dk_5 (dk_at dksX0_blunts_0 22 rfl rfl)
theorem dX0_blunts_23 : decode cX0_blunts 23 = .ok (.if_icmp .ge 7, 3) := dk_162 0 7 (dk_at dksX0_blunts_1 0 rfl rfl)
theorem dX0_blunts_26 : decode cX0_blunts 26 = .ok (.iconst 2, 1) := dk_5 (dk_at dksX0_blunts_1 3 rfl rfl)
theorem dX0_blunts_27 : decode cX0_blunts 27 = .ok (.goto 13, 3) := dk_167 0 13 (dk_at dksX0_blunts_1 4 rfl rfl)
theorem dX0_blunts_30 : decode cX0_blunts 30 = .ok (.iload_n 1, 1) := dk_27 (dk_at dksX0_blunts_1 7 rfl rfl)
theorem dX0_blunts_31 : decode cX0_blunts 31 = .ok (.iconst 2, 1) := dk_5 (dk_at dksX0_blunts_1 8 rfl rfl)
theorem dX0_blunts_32 : decode cX0_blunts 32 = .ok (.if_icmp .ne 7, 3) := dk_160 0 7 (dk_at dksX0_blunts_1 9 rfl rfl)
theorem dX0_blunts_35 : decode cX0_blunts 35 = .ok (.iconst 1, 1) := dk_4 (dk_at dksX0_blunts_1 12 rfl rfl)
theorem dX0_blunts_36 : decode cX0_blunts 36 = .ok (.goto 4, 3) := dk_167 0 4 (dk_at dksX0_blunts_1 13 rfl rfl)
theorem dX0_blunts_39 : decode cX0_blunts 39 = .ok (.iconst 3, 1) := dk_6 (dk_at dksX0_blunts_1 16 rfl rfl)
theorem dX0_blunts_40 : decode cX0_blunts 40 = .ok (.istore_n 3, 1) := dk_62 (dk_at dksX0_blunts_1 17 rfl rfl)
theorem dX0_blunts_41 : decode cX0_blunts 41 = .ok (.iconst 0, 1) := dk_3 (dk_at dksX0_blunts_1 18 rfl rfl)
theorem dX0_blunts_42 : decode cX0_blunts 42 = .ok (.istore 4, 2) := dk_54 4 (dk_at dksX0_blunts_1 19 rfl rfl)
theorem dX0_blunts_44 : decode cX0_blunts 44 = .ok (.iload 4, 2) := dk_21 4 (dk_at dksX0_blunts_1 21 rfl rfl)
theorem dX0_blunts_46 : decode cX0_blunts 46 = .ok (.iload_n 2, 1) := dk_28 (dk_at dksX0_blunts_1 23 rfl rfl)
theorem dX0_blunts_47 : decode cX0_blunts 47 = .ok (.if_icmp .eq 9, 3) := dk_159 0 9 (dk_at dksX0_blunts_2 0 rfl rfl)
theorem dX0_blunts_50 : decode cX0_blunts 50 = .ok (.iload 4, 2) := dk_21 4 (dk_at dksX0_blunts_2 3 rfl rfl)
theorem dX0_blunts_52 : decode cX0_blunts 52 = .ok (.iload_n 3, 1) := dk_29 (dk_at dksX0_blunts_2 5 rfl rfl)
theorem dX0_blunts_53 : decode cX0_blunts 53 = .ok (.if_icmp .ne 9, 3) := dk_160 0 9 (dk_at dksX0_blunts_2 6 rfl rfl)
theorem dX0_blunts_56 : decode cX0_blunts 56 = .ok (.iinc 4 1, 3) := dk_132 4 1 (dk_at dksX0_blunts_2 9 rfl rfl)
theorem dX0_blunts_59 : decode cX0_blunts 59 = .ok (.goto (-15), 3) := dk_167 255 241 (dk_at dksX0_blunts_2 12 rfl rfl)
theorem dX0_blunts_62 : decode cX0_blunts 62 = .ok (.bipush 6, 2) := dk_16 6 (dk_at dksX0_blunts_2 15 rfl rfl)
theorem dX0_blunts_64 : decode cX0_blunts 64 = .ok (.iload_n 2, 1) := dk_28 (dk_at dksX0_blunts_2 17 rfl rfl)
theorem dX0_blunts_65 : decode cX0_blunts 65 = .ok (.isub, 1) := dk_100 (dk_at dksX0_blunts_2 18 rfl rfl)
theorem dX0_blunts_66 : decode cX0_blunts 66 = .ok (.iload_n 3, 1) := dk_29 (dk_at dksX0_blunts_2 19 rfl rfl)
theorem dX0_blunts_67 : decode cX0_blunts 67 = .ok (.isub, 1) := dk_100 (dk_at dksX0_blunts_2 20 rfl rfl)
theorem dX0_blunts_68 : decode cX0_blunts 68 = .ok (.iload 4, 2) := dk_21 4 (dk_at dksX0_blunts_2 21 rfl rfl)
theorem dX0_blunts_70 : decode cX0_blunts 70 = .ok (.isub, 1) := dk_100 (dk_at dksX0_blunts_2 23 rfl rfl)
theorem dX0_blunts_71 : decode cX0_blunts 71 = .ok (.istore 5, 2) := dk_54 5 (dk_at dksX0_blunts_3 0 rfl rfl)
theorem dX0_blunts_73 : decode cX0_blunts 73 = .ok (.aload_n 0, 1) := dk_42 (dk_at dksX0_blunts_3 2 rfl rfl)
theorem dX0_blunts_74 : decode cX0_blunts 74 = .ok (.getfield 61, 3) := dk_180 0 61 (dk_at dksX0_blunts_3 3 rfl rfl)
theorem dX0_blunts_77 : decode cX0_blunts 77 = .ok (.iload_n 2, 1) := dk_28 (dk_at dksX0_blunts_3 6 rfl rfl)
theorem dX0_blunts_78 : decode cX0_blunts 78 = .ok (.iload_n 3, 1) := dk_29 (dk_at dksX0_blunts_3 7 rfl rfl)
theorem dX0_blunts_79 : decode cX0_blunts 79 = .ok (.invokestatic 327, 3) := dk_184 1 71 (dk_at dksX0_blunts_3 8 rfl rfl)
theorem dX0_blunts_82 : decode cX0_blunts 82 = .ok (.laload, 1) := dk_47 (dk_at dksX0_blunts_3 11 rfl rfl)
theorem dX0_blunts_83 : decode cX0_blunts 83 = .ok (.lstore 6, 2) := dk_55 6 (dk_at dksX0_blunts_3 12 rfl rfl)
theorem dX0_blunts_85 : decode cX0_blunts 85 = .ok (.aload_n 0, 1) := dk_42 (dk_at dksX0_blunts_3 14 rfl rfl)
theorem dX0_blunts_86 : decode cX0_blunts 86 = .ok (.getfield 61, 3) := dk_180 0 61 (dk_at dksX0_blunts_3 15 rfl rfl)
theorem dX0_blunts_89 : decode cX0_blunts 89 = .ok (.iload_n 2, 1) := dk_28 (dk_at dksX0_blunts_3 18 rfl rfl)
theorem dX0_blunts_90 : decode cX0_blunts 90 = .ok (.iload 4, 2) := dk_21 4 (dk_at dksX0_blunts_3 19 rfl rfl)
theorem dX0_blunts_92 : decode cX0_blunts 92 = .ok (.invokestatic 327, 3) := dk_184 1 71 (dk_at dksX0_blunts_3 21 rfl rfl)
theorem dX0_blunts_95 : decode cX0_blunts 95 = .ok (.laload, 1) := dk_47 (dk_at dksX0_blunts_4 0 rfl rfl)
theorem dX0_blunts_96 : decode cX0_blunts 96 = .ok (.lstore 8, 2) := dk_55 8 (dk_at dksX0_blunts_4 1 rfl rfl)
theorem dX0_blunts_98 : decode cX0_blunts 98 = .ok (.aload_n 0, 1) := dk_42 (dk_at dksX0_blunts_4 3 rfl rfl)
theorem dX0_blunts_99 : decode cX0_blunts 99 = .ok (.getfield 61, 3) := dk_180 0 61 (dk_at dksX0_blunts_4 4 rfl rfl)
theorem dX0_blunts_102 : decode cX0_blunts 102 = .ok (.iload_n 2, 1) := dk_28 (dk_at dksX0_blunts_4 7 rfl rfl)
theorem dX0_blunts_103 : decode cX0_blunts 103 = .ok (.iload 5, 2) := dk_21 5 (dk_at dksX0_blunts_4 8 rfl rfl)
theorem dX0_blunts_105 : decode cX0_blunts 105 = .ok (.invokestatic 327, 3) := dk_184 1 71 (dk_at dksX0_blunts_4 10 rfl rfl)
theorem dX0_blunts_108 : decode cX0_blunts 108 = .ok (.laload, 1) := dk_47 (dk_at dksX0_blunts_4 13 rfl rfl)
theorem dX0_blunts_109 : decode cX0_blunts 109 = .ok (.lstore 10, 2) := dk_55 10 (dk_at dksX0_blunts_4 14 rfl rfl)
theorem dX0_blunts_111 : decode cX0_blunts 111 = .ok (.aload_n 0, 1) := dk_42 (dk_at dksX0_blunts_4 16 rfl rfl)
theorem dX0_blunts_112 : decode cX0_blunts 112 = .ok (.getfield 61, 3) := dk_180 0 61 (dk_at dksX0_blunts_4 17 rfl rfl)
theorem dX0_blunts_115 : decode cX0_blunts 115 = .ok (.iload_n 2, 1) := dk_28 (dk_at dksX0_blunts_4 20 rfl rfl)
theorem dX0_blunts_116 : decode cX0_blunts 116 = .ok (.iload_n 3, 1) := dk_29 (dk_at dksX0_blunts_4 21 rfl rfl)
theorem dX0_blunts_117 : decode cX0_blunts 117 = .ok (.invokestatic 327, 3) := dk_184 1 71 (dk_at dksX0_blunts_5 0 rfl rfl)
theorem dX0_blunts_120 : decode cX0_blunts 120 = .ok (.lload 6, 2) := dk_22 6 (dk_at dksX0_blunts_5 3 rfl rfl)
theorem dX0_blunts_122 : decode cX0_blunts 122 = .ok (.lneg, 1) := dk_117 (dk_at dksX0_blunts_5 5 rfl rfl)
theorem dX0_blunts_123 : decode cX0_blunts 123 = .ok (.lastore, 1) := dk_80 (dk_at dksX0_blunts_5 6 rfl rfl)
theorem dX0_blunts_124 : decode cX0_blunts 124 = .ok (.aload_n 0, 1) := dk_42 (dk_at dksX0_blunts_5 7 rfl rfl)
theorem dX0_blunts_125 : decode cX0_blunts 125 = .ok (.getfield 61, 3) := dk_180 0 61 (dk_at dksX0_blunts_5 8 rfl rfl)
theorem dX0_blunts_128 : decode cX0_blunts 128 = .ok (.iload_n 2, 1) := dk_28 (dk_at dksX0_blunts_5 11 rfl rfl)
theorem dX0_blunts_129 : decode cX0_blunts 129 = .ok (.iload 4, 2) := dk_21 4 (dk_at dksX0_blunts_5 12 rfl rfl)
theorem dX0_blunts_131 : decode cX0_blunts 131 = .ok (.invokestatic 327, 3) := dk_184 1 71 (dk_at dksX0_blunts_5 14 rfl rfl)
theorem dX0_blunts_134 : decode cX0_blunts 134 = .ok (.lload 6, 2) := dk_22 6 (dk_at dksX0_blunts_5 17 rfl rfl)
theorem dX0_blunts_136 : decode cX0_blunts 136 = .ok (.lload 10, 2) := dk_22 10 (dk_at dksX0_blunts_5 19 rfl rfl)
theorem dX0_blunts_138 : decode cX0_blunts 138 = .ok (.ladd, 1) := dk_97 (dk_at dksX0_blunts_5 21 rfl rfl)
theorem dX0_blunts_139 : decode cX0_blunts 139 = .ok (.lastore, 1) := dk_80 (dk_at dksX0_blunts_5 22 rfl rfl)
theorem dX0_blunts_140 : decode cX0_blunts 140 = .ok (.aload_n 0, 1) := dk_42 (dk_at dksX0_blunts_5 23 rfl rfl)
theorem dX0_blunts_141 : decode cX0_blunts 141 = .ok (.getfield 61, 3) := dk_180 0 61 (dk_at dksX0_blunts_6 0 rfl rfl)
theorem dX0_blunts_144 : decode cX0_blunts 144 = .ok (.iload_n 2, 1) := dk_28 (dk_at dksX0_blunts_6 3 rfl rfl)
theorem dX0_blunts_145 : decode cX0_blunts 145 = .ok (.iload 5, 2) := dk_21 5 (dk_at dksX0_blunts_6 4 rfl rfl)
theorem dX0_blunts_147 : decode cX0_blunts 147 = .ok (.invokestatic 327, 3) := dk_184 1 71 (dk_at dksX0_blunts_6 6 rfl rfl)
theorem dX0_blunts_150 : decode cX0_blunts 150 = .ok (.lload 6, 2) := dk_22 6 (dk_at dksX0_blunts_6 9 rfl rfl)
theorem dX0_blunts_152 : decode cX0_blunts 152 = .ok (.lload 8, 2) := dk_22 8 (dk_at dksX0_blunts_6 11 rfl rfl)
theorem dX0_blunts_154 : decode cX0_blunts 154 = .ok (.ladd, 1) := dk_97 (dk_at dksX0_blunts_6 13 rfl rfl)
theorem dX0_blunts_155 : decode cX0_blunts 155 = .ok (.lastore, 1) := dk_80 (dk_at dksX0_blunts_6 14 rfl rfl)
theorem dX0_blunts_156 : decode cX0_blunts 156 = .ok (.aload_n 0, 1) := dk_42 (dk_at dksX0_blunts_6 15 rfl rfl)
theorem dX0_blunts_157 : decode cX0_blunts 157 = .ok (.getfield 61, 3) := dk_180 0 61 (dk_at dksX0_blunts_6 16 rfl rfl)
theorem dX0_blunts_160 : decode cX0_blunts 160 = .ok (.iload 4, 2) := dk_21 4 (dk_at dksX0_blunts_6 19 rfl rfl)
theorem dX0_blunts_162 : decode cX0_blunts 162 = .ok (.iload 5, 2) := dk_21 5 (dk_at dksX0_blunts_6 21 rfl rfl)
theorem dX0_blunts_164 : decode cX0_blunts 164 = .ok (.invokestatic 327, 3) := dk_184 1 71 (dk_at dksX0_blunts_7 0 rfl rfl)
theorem dX0_blunts_167 : decode cX0_blunts 167 = .ok (.dup2, 1) := dk_92 (dk_at dksX0_blunts_7 3 rfl rfl)
theorem dX0_blunts_168 : decode cX0_blunts 168 = .ok (.laload, 1) := dk_47 (dk_at dksX0_blunts_7 4 rfl rfl)
theorem dX0_blunts_169 : decode cX0_blunts 169 = .ok (.lload 6, 2) := dk_22 6 (dk_at dksX0_blunts_7 5 rfl rfl)
theorem dX0_blunts_171 : decode cX0_blunts 171 = .ok (.lsub, 1) := dk_101 (dk_at dksX0_blunts_7 7 rfl rfl)
theorem dX0_blunts_172 : decode cX0_blunts 172 = .ok (.lastore, 1) := dk_80 (dk_at dksX0_blunts_7 8 rfl rfl)
theorem dX0_blunts_173 : decode cX0_blunts 173 = .ok (.aload_n 0, 1) := dk_42 (dk_at dksX0_blunts_7 9 rfl rfl)
theorem dX0_blunts_174 : decode cX0_blunts 174 = .ok (.getfield 61, 3) := dk_180 0 61 (dk_at dksX0_blunts_7 10 rfl rfl)
theorem dX0_blunts_177 : decode cX0_blunts 177 = .ok (.iload 4, 2) := dk_21 4 (dk_at dksX0_blunts_7 13 rfl rfl)
theorem dX0_blunts_179 : decode cX0_blunts 179 = .ok (.iload_n 3, 1) := dk_29 (dk_at dksX0_blunts_7 15 rfl rfl)
theorem dX0_blunts_180 : decode cX0_blunts 180 = .ok (.invokestatic 327, 3) := dk_184 1 71 (dk_at dksX0_blunts_7 16 rfl rfl)
theorem dX0_blunts_183 : decode cX0_blunts 183 = .ok (.dup2, 1) := dk_92 (dk_at dksX0_blunts_7 19 rfl rfl)
theorem dX0_blunts_184 : decode cX0_blunts 184 = .ok (.laload, 1) := dk_47 (dk_at dksX0_blunts_7 20 rfl rfl)
theorem dX0_blunts_185 : decode cX0_blunts 185 = .ok (.lload 6, 2) := dk_22 6 (dk_at dksX0_blunts_7 21 rfl rfl)
theorem dX0_blunts_187 : decode cX0_blunts 187 = .ok (.ladd, 1) := dk_97 (dk_at dksX0_blunts_7 23 rfl rfl)
theorem dX0_blunts_188 : decode cX0_blunts 188 = .ok (.lastore, 1) := dk_80 (dk_at dksX0_blunts_8 0 rfl rfl)
theorem dX0_blunts_189 : decode cX0_blunts 189 = .ok (.aload_n 0, 1) := dk_42 (dk_at dksX0_blunts_8 1 rfl rfl)
theorem dX0_blunts_190 : decode cX0_blunts 190 = .ok (.getfield 61, 3) := dk_180 0 61 (dk_at dksX0_blunts_8 2 rfl rfl)
theorem dX0_blunts_193 : decode cX0_blunts 193 = .ok (.iload 5, 2) := dk_21 5 (dk_at dksX0_blunts_8 5 rfl rfl)
theorem dX0_blunts_195 : decode cX0_blunts 195 = .ok (.iload_n 3, 1) := dk_29 (dk_at dksX0_blunts_8 7 rfl rfl)
theorem dX0_blunts_196 : decode cX0_blunts 196 = .ok (.invokestatic 327, 3) := dk_184 1 71 (dk_at dksX0_blunts_8 8 rfl rfl)
theorem dX0_blunts_199 : decode cX0_blunts 199 = .ok (.dup2, 1) := dk_92 (dk_at dksX0_blunts_8 11 rfl rfl)
theorem dX0_blunts_200 : decode cX0_blunts 200 = .ok (.laload, 1) := dk_47 (dk_at dksX0_blunts_8 12 rfl rfl)
theorem dX0_blunts_201 : decode cX0_blunts 201 = .ok (.lload 6, 2) := dk_22 6 (dk_at dksX0_blunts_8 13 rfl rfl)
theorem dX0_blunts_203 : decode cX0_blunts 203 = .ok (.ladd, 1) := dk_97 (dk_at dksX0_blunts_8 15 rfl rfl)
theorem dX0_blunts_204 : decode cX0_blunts 204 = .ok (.lastore, 1) := dk_80 (dk_at dksX0_blunts_8 16 rfl rfl)
theorem dX0_blunts_205 : decode cX0_blunts 205 = .ok (.return_, 1) := dk_177 (dk_at dksX0_blunts_8 17 rfl rfl)
abbrev cX0_pairOf : ByteArray := prog_1_method_39_code
def yX0_pairOf : MethodName := ⟨RX0, "pairOf", "(II)I"⟩
def dkwX0_pairOf_1 : List UInt8 := [28, 100, 29, 100, 4, 96, 172]
abbrev dktX0_pairOf_1 : List UInt8 := dkwX0_pairOf_1 ++ []
def dkwX0_pairOf_0 : List UInt8 := [26, 27, 184, 1, 63, 61, 26, 27, 184, 1, 68, 62, 29, 6, 160, 0, 9, 6, 28, 96, 167, 0, 10, 5]
abbrev dktX0_pairOf_0 : List UInt8 := dkwX0_pairOf_0 ++ dktX0_pairOf_1
theorem dksX0_pairOf_0 : cX0_pairOf.data.toList.drop 0 = dktX0_pairOf_0 := by decide +kernel
theorem dksX0_pairOf_1 : cX0_pairOf.data.toList.drop 24 = dktX0_pairOf_1 := dk_seg dksX0_pairOf_0 24 rfl rfl
theorem dX0_pairOf_0 : decode cX0_pairOf 0 = .ok (.iload_n 0, 1) := dk_26 (dk_at dksX0_pairOf_0 0 rfl rfl)
theorem dX0_pairOf_1 : decode cX0_pairOf 1 = .ok (.iload_n 1, 1) := dk_27 (dk_at dksX0_pairOf_0 1 rfl rfl)
theorem dX0_pairOf_2 : decode cX0_pairOf 2 = .ok (.invokestatic 319, 3) := dk_184 1 63 (dk_at dksX0_pairOf_0 2 rfl rfl)
theorem dX0_pairOf_5 : decode cX0_pairOf 5 = .ok (.istore_n 2, 1) := dk_61 (dk_at dksX0_pairOf_0 5 rfl rfl)
theorem dX0_pairOf_6 : decode cX0_pairOf 6 = .ok (.iload_n 0, 1) := dk_26 (dk_at dksX0_pairOf_0 6 rfl rfl)
theorem dX0_pairOf_7 : decode cX0_pairOf 7 = .ok (.iload_n 1, 1) := dk_27 (dk_at dksX0_pairOf_0 7 rfl rfl)
theorem dX0_pairOf_8 : decode cX0_pairOf 8 = .ok (.invokestatic 324, 3) := dk_184 1 68 (dk_at dksX0_pairOf_0 8 rfl rfl)
theorem dX0_pairOf_11 : decode cX0_pairOf 11 = .ok (.istore_n 3, 1) := dk_62 (dk_at dksX0_pairOf_0 11 rfl rfl)
theorem dX0_pairOf_12 : decode cX0_pairOf 12 = .ok (.iload_n 3, 1) := dk_29 (dk_at dksX0_pairOf_0 12 rfl rfl)
theorem dX0_pairOf_13 : decode cX0_pairOf 13 = .ok (.iconst 3, 1) := dk_6 (dk_at dksX0_pairOf_0 13 rfl rfl)
theorem dX0_pairOf_14 : decode cX0_pairOf 14 = .ok (.if_icmp .ne 9, 3) := dk_160 0 9 (dk_at dksX0_pairOf_0 14 rfl rfl)
theorem dX0_pairOf_17 : decode cX0_pairOf 17 = .ok (.iconst 3, 1) := dk_6 (dk_at dksX0_pairOf_0 17 rfl rfl)
theorem dX0_pairOf_18 : decode cX0_pairOf 18 = .ok (.iload_n 2, 1) := dk_28 (dk_at dksX0_pairOf_0 18 rfl rfl)
theorem dX0_pairOf_19 : decode cX0_pairOf 19 = .ok (.iadd, 1) := dk_96 (dk_at dksX0_pairOf_0 19 rfl rfl)
theorem dX0_pairOf_20 : decode cX0_pairOf 20 = .ok (.goto 10, 3) := dk_167 0 10 (dk_at dksX0_pairOf_0 20 rfl rfl)
theorem dX0_pairOf_23 : decode cX0_pairOf 23 = .ok (.iconst 2, 1) := dk_5 (dk_at dksX0_pairOf_0 23 rfl rfl)
theorem dX0_pairOf_24 : decode cX0_pairOf 24 = .ok (.iload_n 2, 1) := dk_28 (dk_at dksX0_pairOf_1 0 rfl rfl)
theorem dX0_pairOf_25 : decode cX0_pairOf 25 = .ok (.isub, 1) := dk_100 (dk_at dksX0_pairOf_1 1 rfl rfl)
theorem dX0_pairOf_26 : decode cX0_pairOf 26 = .ok (.iload_n 3, 1) := dk_29 (dk_at dksX0_pairOf_1 2 rfl rfl)
theorem dX0_pairOf_27 : decode cX0_pairOf 27 = .ok (.isub, 1) := dk_100 (dk_at dksX0_pairOf_1 3 rfl rfl)
theorem dX0_pairOf_28 : decode cX0_pairOf 28 = .ok (.iconst 1, 1) := dk_4 (dk_at dksX0_pairOf_1 4 rfl rfl)
theorem dX0_pairOf_29 : decode cX0_pairOf 29 = .ok (.iadd, 1) := dk_96 (dk_at dksX0_pairOf_1 5 rfl rfl)
theorem dX0_pairOf_30 : decode cX0_pairOf 30 = .ok (.ireturn, 1) := dk_172 (dk_at dksX0_pairOf_1 6 rfl rfl)
abbrev cX0_waits : ByteArray := prog_1_method_43_code
def yX0_waits : MethodName := ⟨RX0, "waits", "(I)I"⟩
def dkwX0_waits_1 : List UInt8 := [16, 251, 172, 42, 180, 0, 67, 27, 184, 0, 183, 182, 1, 102, 42, 180, 0, 67, 182, 1, 106, 172]
abbrev dktX0_waits_1 : List UInt8 := dkwX0_waits_1 ++ []
def dkwX0_waits_0 : List UInt8 := [42, 27, 182, 0, 123, 154, 0, 5, 2, 172, 42, 180, 0, 67, 27, 184, 0, 183, 182, 1, 99, 153, 0, 6]
abbrev dktX0_waits_0 : List UInt8 := dkwX0_waits_0 ++ dktX0_waits_1
theorem dksX0_waits_0 : cX0_waits.data.toList.drop 0 = dktX0_waits_0 := by decide +kernel
theorem dksX0_waits_1 : cX0_waits.data.toList.drop 24 = dktX0_waits_1 := dk_seg dksX0_waits_0 24 rfl rfl
theorem dX0_waits_0 : decode cX0_waits 0 = .ok (.aload_n 0, 1) := dk_42 (dk_at dksX0_waits_0 0 rfl rfl)
theorem dX0_waits_1 : decode cX0_waits 1 = .ok (.iload_n 1, 1) := dk_27 (dk_at dksX0_waits_0 1 rfl rfl)
theorem dX0_waits_2 : decode cX0_waits 2 = .ok (.invokevirtual 123, 3) := dk_182 0 123 (dk_at dksX0_waits_0 2 rfl rfl)
theorem dX0_waits_5 : decode cX0_waits 5 = .ok (.ifCond .ne 5, 3) := dk_154 0 5 (dk_at dksX0_waits_0 5 rfl rfl)
theorem dX0_waits_8 : decode cX0_waits 8 = .ok (.iconst (-1), 1) := dk_2 (dk_at dksX0_waits_0 8 rfl rfl)
theorem dX0_waits_9 : decode cX0_waits 9 = .ok (.ireturn, 1) := dk_172 (dk_at dksX0_waits_0 9 rfl rfl)
theorem dX0_waits_10 : decode cX0_waits 10 = .ok (.aload_n 0, 1) := dk_42 (dk_at dksX0_waits_0 10 rfl rfl)
theorem dX0_waits_11 : decode cX0_waits 11 = .ok (.getfield 67, 3) := dk_180 0 67 (dk_at dksX0_waits_0 11 rfl rfl)
theorem dX0_waits_14 : decode cX0_waits 14 = .ok (.iload_n 1, 1) := dk_27 (dk_at dksX0_waits_0 14 rfl rfl)
theorem dX0_waits_15 : decode cX0_waits 15 = .ok (.invokestatic 183, 3) := dk_184 0 183 (dk_at dksX0_waits_0 15 rfl rfl)
theorem dX0_waits_18 : decode cX0_waits 18 = .ok (.invokevirtual 355, 3) := dk_182 1 99 (dk_at dksX0_waits_0 18 rfl rfl)
theorem dX0_waits_21 : decode cX0_waits 21 = .ok (.ifCond .eq 6, 3) := dk_153 0 6 (dk_at dksX0_waits_0 21 rfl rfl)
theorem dX0_waits_24 : decode cX0_waits 24 = .ok (.bipush (-5), 2) := dk_16 251 (dk_at dksX0_waits_1 0 rfl rfl)
theorem dX0_waits_26 : decode cX0_waits 26 = .ok (.ireturn, 1) := dk_172 (dk_at dksX0_waits_1 2 rfl rfl)
theorem dX0_waits_27 : decode cX0_waits 27 = .ok (.aload_n 0, 1) := dk_42 (dk_at dksX0_waits_1 3 rfl rfl)
theorem dX0_waits_28 : decode cX0_waits 28 = .ok (.getfield 67, 3) := dk_180 0 67 (dk_at dksX0_waits_1 4 rfl rfl)
theorem dX0_waits_31 : decode cX0_waits 31 = .ok (.iload_n 1, 1) := dk_27 (dk_at dksX0_waits_1 7 rfl rfl)
theorem dX0_waits_32 : decode cX0_waits 32 = .ok (.invokestatic 183, 3) := dk_184 0 183 (dk_at dksX0_waits_1 8 rfl rfl)
theorem dX0_waits_35 : decode cX0_waits 35 = .ok (.invokevirtual 358, 3) := dk_182 1 102 (dk_at dksX0_waits_1 11 rfl rfl)
theorem dX0_waits_38 : decode cX0_waits 38 = .ok (.aload_n 0, 1) := dk_42 (dk_at dksX0_waits_1 14 rfl rfl)
theorem dX0_waits_39 : decode cX0_waits 39 = .ok (.getfield 67, 3) := dk_180 0 67 (dk_at dksX0_waits_1 15 rfl rfl)
theorem dX0_waits_42 : decode cX0_waits 42 = .ok (.invokevirtual 362, 3) := dk_182 1 106 (dk_at dksX0_waits_1 18 rfl rfl)
theorem dX0_waits_45 : decode cX0_waits 45 = .ok (.ireturn, 1) := dk_172 (dk_at dksX0_waits_1 21 rfl rfl)
abbrev cX0_leaves : ByteArray := prog_1_method_45_code
def yX0_leaves : MethodName := ⟨RX0, "leaves", "(I)I"⟩
def dkwX0_leaves_1 : List UInt8 := [167, 0, 4, 28, 172]
abbrev dktX0_leaves_1 : List UInt8 := dkwX0_leaves_1 ++ []
def dkwX0_leaves_0 : List UInt8 := [42, 27, 182, 0, 123, 154, 0, 5, 2, 172, 42, 27, 182, 1, 108, 61, 28, 156, 0, 8, 16, 251]
abbrev dktX0_leaves_0 : List UInt8 := dkwX0_leaves_0 ++ dktX0_leaves_1
theorem dksX0_leaves_0 : cX0_leaves.data.toList.drop 0 = dktX0_leaves_0 := by decide +kernel
theorem dksX0_leaves_1 : cX0_leaves.data.toList.drop 22 = dktX0_leaves_1 := dk_seg dksX0_leaves_0 22 rfl rfl
theorem dX0_leaves_0 : decode cX0_leaves 0 = .ok (.aload_n 0, 1) := dk_42 (dk_at dksX0_leaves_0 0 rfl rfl)
theorem dX0_leaves_1 : decode cX0_leaves 1 = .ok (.iload_n 1, 1) := dk_27 (dk_at dksX0_leaves_0 1 rfl rfl)
theorem dX0_leaves_2 : decode cX0_leaves 2 = .ok (.invokevirtual 123, 3) := dk_182 0 123 (dk_at dksX0_leaves_0 2 rfl rfl)
theorem dX0_leaves_5 : decode cX0_leaves 5 = .ok (.ifCond .ne 5, 3) := dk_154 0 5 (dk_at dksX0_leaves_0 5 rfl rfl)
theorem dX0_leaves_8 : decode cX0_leaves 8 = .ok (.iconst (-1), 1) := dk_2 (dk_at dksX0_leaves_0 8 rfl rfl)
theorem dX0_leaves_9 : decode cX0_leaves 9 = .ok (.ireturn, 1) := dk_172 (dk_at dksX0_leaves_0 9 rfl rfl)
theorem dX0_leaves_10 : decode cX0_leaves 10 = .ok (.aload_n 0, 1) := dk_42 (dk_at dksX0_leaves_0 10 rfl rfl)
theorem dX0_leaves_11 : decode cX0_leaves 11 = .ok (.iload_n 1, 1) := dk_27 (dk_at dksX0_leaves_0 11 rfl rfl)
theorem dX0_leaves_12 : decode cX0_leaves 12 = .ok (.invokevirtual 364, 3) := dk_182 1 108 (dk_at dksX0_leaves_0 12 rfl rfl)
theorem dX0_leaves_15 : decode cX0_leaves 15 = .ok (.istore_n 2, 1) := dk_61 (dk_at dksX0_leaves_0 15 rfl rfl)
theorem dX0_leaves_16 : decode cX0_leaves 16 = .ok (.iload_n 2, 1) := dk_28 (dk_at dksX0_leaves_0 16 rfl rfl)
theorem dX0_leaves_17 : decode cX0_leaves 17 = .ok (.ifCond .ge 8, 3) := dk_156 0 8 (dk_at dksX0_leaves_0 17 rfl rfl)
theorem dX0_leaves_20 : decode cX0_leaves 20 = .ok (.bipush (-5), 2) := dk_16 251 (dk_at dksX0_leaves_0 20 rfl rfl)
theorem dX0_leaves_22 : decode cX0_leaves 22 = .ok (.goto 4, 3) := dk_167 0 4 (dk_at dksX0_leaves_1 0 rfl rfl)
theorem dX0_leaves_25 : decode cX0_leaves 25 = .ok (.iload_n 2, 1) := dk_28 (dk_at dksX0_leaves_1 3 rfl rfl)
theorem dX0_leaves_26 : decode cX0_leaves 26 = .ok (.ireturn, 1) := dk_172 (dk_at dksX0_leaves_1 4 rfl rfl)
abbrev cX0_goesOut : ByteArray := prog_1_method_44_code
def yX0_goesOut : MethodName := ⟨RX0, "goesOut", "(I)I"⟩
def dkwX0_goesOut_2 : List UInt8 := [132, 2, 1, 167, 255, 220, 2, 172]
abbrev dktX0_goesOut_2 : List UInt8 := dkwX0_goesOut_2 ++ []
def dkwX0_goesOut_1 : List UInt8 := [185, 0, 228, 1, 0, 192, 0, 184, 182, 0, 216, 27, 160, 0, 11, 45, 185, 0, 231, 1, 0, 28, 172]
abbrev dktX0_goesOut_1 : List UInt8 := dkwX0_goesOut_1 ++ dktX0_goesOut_2
def dkwX0_goesOut_0 : List UInt8 := [3, 61, 42, 180, 0, 67, 182, 1, 107, 78, 45, 185, 0, 223, 1, 0, 153, 0, 33, 45]
abbrev dktX0_goesOut_0 : List UInt8 := dkwX0_goesOut_0 ++ dktX0_goesOut_1
theorem dksX0_goesOut_0 : cX0_goesOut.data.toList.drop 0 = dktX0_goesOut_0 := by decide +kernel
theorem dksX0_goesOut_1 : cX0_goesOut.data.toList.drop 20 = dktX0_goesOut_1 := dk_seg dksX0_goesOut_0 20 rfl rfl
theorem dksX0_goesOut_2 : cX0_goesOut.data.toList.drop 43 = dktX0_goesOut_2 := dk_seg dksX0_goesOut_1 23 rfl rfl
theorem dX0_goesOut_0 : decode cX0_goesOut 0 = .ok (.iconst 0, 1) := dk_3 (dk_at dksX0_goesOut_0 0 rfl rfl)
theorem dX0_goesOut_1 : decode cX0_goesOut 1 = .ok (.istore_n 2, 1) := dk_61 (dk_at dksX0_goesOut_0 1 rfl rfl)
theorem dX0_goesOut_2 : decode cX0_goesOut 2 = .ok (.aload_n 0, 1) := dk_42 (dk_at dksX0_goesOut_0 2 rfl rfl)
theorem dX0_goesOut_3 : decode cX0_goesOut 3 = .ok (.getfield 67, 3) := dk_180 0 67 (dk_at dksX0_goesOut_0 3 rfl rfl)
theorem dX0_goesOut_6 : decode cX0_goesOut 6 = .ok (.invokevirtual 363, 3) := dk_182 1 107 (dk_at dksX0_goesOut_0 6 rfl rfl)
theorem dX0_goesOut_9 : decode cX0_goesOut 9 = .ok (.astore_n 3, 1) := dk_78 (dk_at dksX0_goesOut_0 9 rfl rfl)
theorem dX0_goesOut_10 : decode cX0_goesOut 10 = .ok (.aload_n 3, 1) := dk_45 (dk_at dksX0_goesOut_0 10 rfl rfl)
theorem dX0_goesOut_11 : decode cX0_goesOut 11 = .ok (.invokeinterface 223 1, 5) := by decide +kernel
theorem dX0_goesOut_16 : decode cX0_goesOut 16 = .ok (.ifCond .eq 33, 3) := dk_153 0 33 (dk_at dksX0_goesOut_0 16 rfl rfl)
theorem dX0_goesOut_19 : decode cX0_goesOut 19 = .ok (.aload_n 3, 1) := dk_45 (dk_at dksX0_goesOut_0 19 rfl rfl)
theorem dX0_goesOut_20 : decode cX0_goesOut 20 = .ok (.invokeinterface 228 1, 5) := by decide +kernel
theorem dX0_goesOut_25 : decode cX0_goesOut 25 = .ok (.checkcast 184, 3) := dk_192 0 184 (dk_at dksX0_goesOut_1 5 rfl rfl)
theorem dX0_goesOut_28 : decode cX0_goesOut 28 = .ok (.invokevirtual 216, 3) := dk_182 0 216 (dk_at dksX0_goesOut_1 8 rfl rfl)
theorem dX0_goesOut_31 : decode cX0_goesOut 31 = .ok (.iload_n 1, 1) := dk_27 (dk_at dksX0_goesOut_1 11 rfl rfl)
theorem dX0_goesOut_32 : decode cX0_goesOut 32 = .ok (.if_icmp .ne 11, 3) := dk_160 0 11 (dk_at dksX0_goesOut_1 12 rfl rfl)
theorem dX0_goesOut_35 : decode cX0_goesOut 35 = .ok (.aload_n 3, 1) := dk_45 (dk_at dksX0_goesOut_1 15 rfl rfl)
theorem dX0_goesOut_36 : decode cX0_goesOut 36 = .ok (.invokeinterface 231 1, 5) := by decide +kernel
theorem dX0_goesOut_41 : decode cX0_goesOut 41 = .ok (.iload_n 2, 1) := dk_28 (dk_at dksX0_goesOut_1 21 rfl rfl)
theorem dX0_goesOut_42 : decode cX0_goesOut 42 = .ok (.ireturn, 1) := dk_172 (dk_at dksX0_goesOut_1 22 rfl rfl)
theorem dX0_goesOut_43 : decode cX0_goesOut 43 = .ok (.iinc 2 1, 3) := dk_132 2 1 (dk_at dksX0_goesOut_2 0 rfl rfl)
theorem dX0_goesOut_46 : decode cX0_goesOut 46 = .ok (.goto (-36), 3) := dk_167 255 220 (dk_at dksX0_goesOut_2 3 rfl rfl)
theorem dX0_goesOut_49 : decode cX0_goesOut 49 = .ok (.iconst (-1), 1) := dk_2 (dk_at dksX0_goesOut_2 6 rfl rfl)
theorem dX0_goesOut_50 : decode cX0_goesOut 50 = .ok (.ireturn, 1) := dk_172 (dk_at dksX0_goesOut_2 7 rfl rfl)
abbrev cX0_works : ByteArray := prog_1_method_46_code
def yX0_works : MethodName := ⟨RX0, "works", "(I)I"⟩
def dkwX0_works_4 : List UInt8 := [28, 172]
abbrev dktX0_works_4 : List UInt8 := dkwX0_works_4 ++ []
def dkwX0_works_3 : List UInt8 := [182, 0, 202, 42, 180, 0, 67, 21, 4, 184, 0, 183, 182, 1, 102, 132, 2, 1, 132, 3, 1, 167, 255, 183]
abbrev dktX0_works_3 : List UInt8 := dkwX0_works_3 ++ dktX0_works_4
def dkwX0_works_2 : List UInt8 := [42, 180, 0, 13, 21, 4, 50, 182, 0, 199, 54, 5, 21, 5, 158, 0, 26, 42, 21, 4, 21, 5]
abbrev dktX0_works_2 : List UInt8 := dkwX0_works_2 ++ dktX0_works_3
def dkwX0_works_1 : List UInt8 := [180, 0, 67, 182, 1, 113, 154, 0, 64, 42, 180, 0, 67, 182, 1, 116, 192, 0, 184, 182, 0, 216, 54, 4]
abbrev dktX0_works_1 : List UInt8 := dkwX0_works_1 ++ dktX0_works_2
def dkwX0_works_0 : List UInt8 := [27, 133, 10, 20, 1, 111, 184, 0, 101, 154, 0, 5, 2, 172, 3, 61, 3, 62, 29, 27, 162, 0, 74, 42]
abbrev dktX0_works_0 : List UInt8 := dkwX0_works_0 ++ dktX0_works_1
theorem dksX0_works_0 : cX0_works.data.toList.drop 0 = dktX0_works_0 := by decide +kernel
theorem dksX0_works_1 : cX0_works.data.toList.drop 24 = dktX0_works_1 := dk_seg dksX0_works_0 24 rfl rfl
theorem dksX0_works_2 : cX0_works.data.toList.drop 48 = dktX0_works_2 := dk_seg dksX0_works_1 24 rfl rfl
theorem dksX0_works_3 : cX0_works.data.toList.drop 70 = dktX0_works_3 := dk_seg dksX0_works_2 22 rfl rfl
theorem dksX0_works_4 : cX0_works.data.toList.drop 94 = dktX0_works_4 := dk_seg dksX0_works_3 24 rfl rfl
theorem dX0_works_0 : decode cX0_works 0 = .ok (.iload_n 1, 1) := dk_27 (dk_at dksX0_works_0 0 rfl rfl)
theorem dX0_works_1 : decode cX0_works 1 = .ok (.i2l, 1) := dk_133 (dk_at dksX0_works_0 1 rfl rfl)
theorem dX0_works_2 : decode cX0_works 2 = .ok (.lconst 1, 1) := dk_10 (dk_at dksX0_works_0 2 rfl rfl)
theorem dX0_works_3 : decode cX0_works 3 = .ok (.ldc2_w 367, 3) := dk_20 1 111 (dk_at dksX0_works_0 3 rfl rfl)
theorem dX0_works_6 : decode cX0_works 6 = .ok (.invokestatic 101, 3) := dk_184 0 101 (dk_at dksX0_works_0 6 rfl rfl)
theorem dX0_works_9 : decode cX0_works 9 = .ok (.ifCond .ne 5, 3) := dk_154 0 5 (dk_at dksX0_works_0 9 rfl rfl)
theorem dX0_works_12 : decode cX0_works 12 = .ok (.iconst (-1), 1) := dk_2 (dk_at dksX0_works_0 12 rfl rfl)
theorem dX0_works_13 : decode cX0_works 13 = .ok (.ireturn, 1) := dk_172 (dk_at dksX0_works_0 13 rfl rfl)
theorem dX0_works_14 : decode cX0_works 14 = .ok (.iconst 0, 1) := dk_3 (dk_at dksX0_works_0 14 rfl rfl)
theorem dX0_works_15 : decode cX0_works 15 = .ok (.istore_n 2, 1) := dk_61 (dk_at dksX0_works_0 15 rfl rfl)
theorem dX0_works_16 : decode cX0_works 16 = .ok (.iconst 0, 1) := dk_3 (dk_at dksX0_works_0 16 rfl rfl)
theorem dX0_works_17 : decode cX0_works 17 = .ok (.istore_n 3, 1) := dk_62 (dk_at dksX0_works_0 17 rfl rfl)
theorem dX0_works_18 : decode cX0_works 18 = .ok (.iload_n 3, 1) := dk_29 (dk_at dksX0_works_0 18 rfl rfl)
theorem dX0_works_19 : decode cX0_works 19 = .ok (.iload_n 1, 1) := dk_27 (dk_at dksX0_works_0 19 rfl rfl)
theorem dX0_works_20 : decode cX0_works 20 = .ok (.if_icmp .ge 74, 3) := dk_162 0 74 (dk_at dksX0_works_0 20 rfl rfl)
theorem dX0_works_23 : decode cX0_works 23 = .ok (.aload_n 0, 1) := dk_42 (dk_at dksX0_works_0 23 rfl rfl)
theorem dX0_works_24 : decode cX0_works 24 = .ok (.getfield 67, 3) := dk_180 0 67 (dk_at dksX0_works_1 0 rfl rfl)
theorem dX0_works_27 : decode cX0_works 27 = .ok (.invokevirtual 369, 3) := dk_182 1 113 (dk_at dksX0_works_1 3 rfl rfl)
theorem dX0_works_30 : decode cX0_works 30 = .ok (.ifCond .ne 64, 3) := dk_154 0 64 (dk_at dksX0_works_1 6 rfl rfl)
theorem dX0_works_33 : decode cX0_works 33 = .ok (.aload_n 0, 1) := dk_42 (dk_at dksX0_works_1 9 rfl rfl)
theorem dX0_works_34 : decode cX0_works 34 = .ok (.getfield 67, 3) := dk_180 0 67 (dk_at dksX0_works_1 10 rfl rfl)
theorem dX0_works_37 : decode cX0_works 37 = .ok (.invokevirtual 372, 3) := dk_182 1 116 (dk_at dksX0_works_1 13 rfl rfl)
theorem dX0_works_40 : decode cX0_works 40 = .ok (.checkcast 184, 3) := dk_192 0 184 (dk_at dksX0_works_1 16 rfl rfl)
theorem dX0_works_43 : decode cX0_works 43 = .ok (.invokevirtual 216, 3) := dk_182 0 216 (dk_at dksX0_works_1 19 rfl rfl)
theorem dX0_works_46 : decode cX0_works 46 = .ok (.istore 4, 2) := dk_54 4 (dk_at dksX0_works_1 22 rfl rfl)
theorem dX0_works_48 : decode cX0_works 48 = .ok (.aload_n 0, 1) := dk_42 (dk_at dksX0_works_2 0 rfl rfl)
theorem dX0_works_49 : decode cX0_works 49 = .ok (.getfield 13, 3) := dk_180 0 13 (dk_at dksX0_works_2 1 rfl rfl)
theorem dX0_works_52 : decode cX0_works 52 = .ok (.iload 4, 2) := dk_21 4 (dk_at dksX0_works_2 4 rfl rfl)
theorem dX0_works_54 : decode cX0_works 54 = .ok (.aaload, 1) := dk_50 (dk_at dksX0_works_2 6 rfl rfl)
theorem dX0_works_55 : decode cX0_works 55 = .ok (.invokevirtual 199, 3) := dk_182 0 199 (dk_at dksX0_works_2 7 rfl rfl)
theorem dX0_works_58 : decode cX0_works 58 = .ok (.istore 5, 2) := dk_54 5 (dk_at dksX0_works_2 10 rfl rfl)
theorem dX0_works_60 : decode cX0_works 60 = .ok (.iload 5, 2) := dk_21 5 (dk_at dksX0_works_2 12 rfl rfl)
theorem dX0_works_62 : decode cX0_works 62 = .ok (.ifCond .le 26, 3) := dk_158 0 26 (dk_at dksX0_works_2 14 rfl rfl)
theorem dX0_works_65 : decode cX0_works 65 = .ok (.aload_n 0, 1) := dk_42 (dk_at dksX0_works_2 17 rfl rfl)
theorem dX0_works_66 : decode cX0_works 66 = .ok (.iload 4, 2) := dk_21 4 (dk_at dksX0_works_2 18 rfl rfl)
theorem dX0_works_68 : decode cX0_works 68 = .ok (.iload 5, 2) := dk_21 5 (dk_at dksX0_works_2 20 rfl rfl)
theorem dX0_works_70 : decode cX0_works 70 = .ok (.invokevirtual 202, 3) := dk_182 0 202 (dk_at dksX0_works_3 0 rfl rfl)
theorem dX0_works_73 : decode cX0_works 73 = .ok (.aload_n 0, 1) := dk_42 (dk_at dksX0_works_3 3 rfl rfl)
theorem dX0_works_74 : decode cX0_works 74 = .ok (.getfield 67, 3) := dk_180 0 67 (dk_at dksX0_works_3 4 rfl rfl)
theorem dX0_works_77 : decode cX0_works 77 = .ok (.iload 4, 2) := dk_21 4 (dk_at dksX0_works_3 7 rfl rfl)
theorem dX0_works_79 : decode cX0_works 79 = .ok (.invokestatic 183, 3) := dk_184 0 183 (dk_at dksX0_works_3 9 rfl rfl)
theorem dX0_works_82 : decode cX0_works 82 = .ok (.invokevirtual 358, 3) := dk_182 1 102 (dk_at dksX0_works_3 12 rfl rfl)
theorem dX0_works_85 : decode cX0_works 85 = .ok (.iinc 2 1, 3) := dk_132 2 1 (dk_at dksX0_works_3 15 rfl rfl)
theorem dX0_works_88 : decode cX0_works 88 = .ok (.iinc 3 1, 3) := dk_132 3 1 (dk_at dksX0_works_3 18 rfl rfl)
theorem dX0_works_91 : decode cX0_works 91 = .ok (.goto (-73), 3) := dk_167 255 183 (dk_at dksX0_works_3 21 rfl rfl)
theorem dX0_works_94 : decode cX0_works 94 = .ok (.iload_n 2, 1) := dk_28 (dk_at dksX0_works_4 0 rfl rfl)
theorem dX0_works_95 : decode cX0_works 95 = .ok (.ireturn, 1) := dk_172 (dk_at dksX0_works_4 1 rfl rfl)
abbrev cX0_line : ByteArray := prog_1_method_47_code
def yX0_line : MethodName := ⟨RX0, "line", "(I)I"⟩
def dkwX0_line_3 : List UInt8 := [172]
abbrev dktX0_line_3 : List UInt8 := dkwX0_line_3 ++ []
def dkwX0_line_2 : List UInt8 := [192, 0, 184, 182, 0, 216, 54, 4, 28, 27, 160, 0, 6, 21, 4, 172, 132, 2, 1, 167, 255, 222, 16, 254]
abbrev dktX0_line_2 : List UInt8 := dkwX0_line_2 ++ dktX0_line_3
def dkwX0_line_1 : List UInt8 := [180, 0, 67, 182, 1, 107, 78, 45, 185, 0, 223, 1, 0, 153, 0, 31, 45, 185, 0, 228, 1, 0]
abbrev dktX0_line_1 : List UInt8 := dkwX0_line_1 ++ dktX0_line_2
def dkwX0_line_0 : List UInt8 := [27, 2, 162, 0, 5, 2, 172, 27, 2, 160, 0, 11, 42, 180, 0, 67, 182, 1, 106, 172, 3, 61, 42]
abbrev dktX0_line_0 : List UInt8 := dkwX0_line_0 ++ dktX0_line_1
theorem dksX0_line_0 : cX0_line.data.toList.drop 0 = dktX0_line_0 := by decide +kernel
theorem dksX0_line_1 : cX0_line.data.toList.drop 23 = dktX0_line_1 := dk_seg dksX0_line_0 23 rfl rfl
theorem dksX0_line_2 : cX0_line.data.toList.drop 45 = dktX0_line_2 := dk_seg dksX0_line_1 22 rfl rfl
theorem dksX0_line_3 : cX0_line.data.toList.drop 69 = dktX0_line_3 := dk_seg dksX0_line_2 24 rfl rfl
theorem dX0_line_0 : decode cX0_line 0 = .ok (.iload_n 1, 1) := dk_27 (dk_at dksX0_line_0 0 rfl rfl)
theorem dX0_line_1 : decode cX0_line 1 = .ok (.iconst (-1), 1) := dk_2 (dk_at dksX0_line_0 1 rfl rfl)
theorem dX0_line_2 : decode cX0_line 2 = .ok (.if_icmp .ge 5, 3) := dk_162 0 5 (dk_at dksX0_line_0 2 rfl rfl)
theorem dX0_line_5 : decode cX0_line 5 = .ok (.iconst (-1), 1) := dk_2 (dk_at dksX0_line_0 5 rfl rfl)
theorem dX0_line_6 : decode cX0_line 6 = .ok (.ireturn, 1) := dk_172 (dk_at dksX0_line_0 6 rfl rfl)
theorem dX0_line_7 : decode cX0_line 7 = .ok (.iload_n 1, 1) := dk_27 (dk_at dksX0_line_0 7 rfl rfl)
theorem dX0_line_8 : decode cX0_line 8 = .ok (.iconst (-1), 1) := dk_2 (dk_at dksX0_line_0 8 rfl rfl)
theorem dX0_line_9 : decode cX0_line 9 = .ok (.if_icmp .ne 11, 3) := dk_160 0 11 (dk_at dksX0_line_0 9 rfl rfl)
theorem dX0_line_12 : decode cX0_line 12 = .ok (.aload_n 0, 1) := dk_42 (dk_at dksX0_line_0 12 rfl rfl)
theorem dX0_line_13 : decode cX0_line 13 = .ok (.getfield 67, 3) := dk_180 0 67 (dk_at dksX0_line_0 13 rfl rfl)
theorem dX0_line_16 : decode cX0_line 16 = .ok (.invokevirtual 362, 3) := dk_182 1 106 (dk_at dksX0_line_0 16 rfl rfl)
theorem dX0_line_19 : decode cX0_line 19 = .ok (.ireturn, 1) := dk_172 (dk_at dksX0_line_0 19 rfl rfl)
theorem dX0_line_20 : decode cX0_line 20 = .ok (.iconst 0, 1) := dk_3 (dk_at dksX0_line_0 20 rfl rfl)
theorem dX0_line_21 : decode cX0_line 21 = .ok (.istore_n 2, 1) := dk_61 (dk_at dksX0_line_0 21 rfl rfl)
theorem dX0_line_22 : decode cX0_line 22 = .ok (.aload_n 0, 1) := dk_42 (dk_at dksX0_line_0 22 rfl rfl)
theorem dX0_line_23 : decode cX0_line 23 = .ok (.getfield 67, 3) := dk_180 0 67 (dk_at dksX0_line_1 0 rfl rfl)
theorem dX0_line_26 : decode cX0_line 26 = .ok (.invokevirtual 363, 3) := dk_182 1 107 (dk_at dksX0_line_1 3 rfl rfl)
theorem dX0_line_29 : decode cX0_line 29 = .ok (.astore_n 3, 1) := dk_78 (dk_at dksX0_line_1 6 rfl rfl)
theorem dX0_line_30 : decode cX0_line 30 = .ok (.aload_n 3, 1) := dk_45 (dk_at dksX0_line_1 7 rfl rfl)
theorem dX0_line_31 : decode cX0_line 31 = .ok (.invokeinterface 223 1, 5) := by decide +kernel
theorem dX0_line_36 : decode cX0_line 36 = .ok (.ifCond .eq 31, 3) := dk_153 0 31 (dk_at dksX0_line_1 13 rfl rfl)
theorem dX0_line_39 : decode cX0_line 39 = .ok (.aload_n 3, 1) := dk_45 (dk_at dksX0_line_1 16 rfl rfl)
theorem dX0_line_40 : decode cX0_line 40 = .ok (.invokeinterface 228 1, 5) := by decide +kernel
theorem dX0_line_45 : decode cX0_line 45 = .ok (.checkcast 184, 3) := dk_192 0 184 (dk_at dksX0_line_2 0 rfl rfl)
theorem dX0_line_48 : decode cX0_line 48 = .ok (.invokevirtual 216, 3) := dk_182 0 216 (dk_at dksX0_line_2 3 rfl rfl)
theorem dX0_line_51 : decode cX0_line 51 = .ok (.istore 4, 2) := dk_54 4 (dk_at dksX0_line_2 6 rfl rfl)
theorem dX0_line_53 : decode cX0_line 53 = .ok (.iload_n 2, 1) := dk_28 (dk_at dksX0_line_2 8 rfl rfl)
theorem dX0_line_54 : decode cX0_line 54 = .ok (.iload_n 1, 1) := dk_27 (dk_at dksX0_line_2 9 rfl rfl)
theorem dX0_line_55 : decode cX0_line 55 = .ok (.if_icmp .ne 6, 3) := dk_160 0 6 (dk_at dksX0_line_2 10 rfl rfl)
theorem dX0_line_58 : decode cX0_line 58 = .ok (.iload 4, 2) := dk_21 4 (dk_at dksX0_line_2 13 rfl rfl)
theorem dX0_line_60 : decode cX0_line 60 = .ok (.ireturn, 1) := dk_172 (dk_at dksX0_line_2 15 rfl rfl)
theorem dX0_line_61 : decode cX0_line 61 = .ok (.iinc 2 1, 3) := dk_132 2 1 (dk_at dksX0_line_2 16 rfl rfl)
theorem dX0_line_64 : decode cX0_line 64 = .ok (.goto (-34), 3) := dk_167 255 222 (dk_at dksX0_line_2 19 rfl rfl)
theorem dX0_line_67 : decode cX0_line 67 = .ok (.bipush (-2), 2) := dk_16 254 (dk_at dksX0_line_2 22 rfl rfl)
theorem dX0_line_69 : decode cX0_line 69 = .ok (.ireturn, 1) := dk_172 (dk_at dksX0_line_3 0 rfl rfl)
abbrev cX0_clears : ByteArray := prog_1_method_48_code
def yX0_clears : MethodName := ⟨RX0, "clears", "()I"⟩
def dkwX0_clears_2 : List UInt8 := [132, 1, 1, 167, 255, 219, 27, 172]
abbrev dktX0_clears_2 : List UInt8 := dkwX0_clears_2 ++ []
def dkwX0_clears_1 : List UInt8 := [185, 0, 228, 1, 0, 192, 0, 184, 182, 0, 216, 182, 1, 117, 154, 255, 231, 44, 185, 0, 231, 1, 0]
abbrev dktX0_clears_1 : List UInt8 := dkwX0_clears_1 ++ dktX0_clears_2
def dkwX0_clears_0 : List UInt8 := [3, 60, 42, 180, 0, 67, 182, 1, 107, 77, 44, 185, 0, 223, 1, 0, 153, 0, 34, 42, 44]
abbrev dktX0_clears_0 : List UInt8 := dkwX0_clears_0 ++ dktX0_clears_1
theorem dksX0_clears_0 : cX0_clears.data.toList.drop 0 = dktX0_clears_0 := by decide +kernel
theorem dksX0_clears_1 : cX0_clears.data.toList.drop 21 = dktX0_clears_1 := dk_seg dksX0_clears_0 21 rfl rfl
theorem dksX0_clears_2 : cX0_clears.data.toList.drop 44 = dktX0_clears_2 := dk_seg dksX0_clears_1 23 rfl rfl
theorem dX0_clears_0 : decode cX0_clears 0 = .ok (.iconst 0, 1) := dk_3 (dk_at dksX0_clears_0 0 rfl rfl)
theorem dX0_clears_1 : decode cX0_clears 1 = .ok (.istore_n 1, 1) := dk_60 (dk_at dksX0_clears_0 1 rfl rfl)
theorem dX0_clears_2 : decode cX0_clears 2 = .ok (.aload_n 0, 1) := dk_42 (dk_at dksX0_clears_0 2 rfl rfl)
theorem dX0_clears_3 : decode cX0_clears 3 = .ok (.getfield 67, 3) := dk_180 0 67 (dk_at dksX0_clears_0 3 rfl rfl)
theorem dX0_clears_6 : decode cX0_clears 6 = .ok (.invokevirtual 363, 3) := dk_182 1 107 (dk_at dksX0_clears_0 6 rfl rfl)
theorem dX0_clears_9 : decode cX0_clears 9 = .ok (.astore_n 2, 1) := dk_77 (dk_at dksX0_clears_0 9 rfl rfl)
theorem dX0_clears_10 : decode cX0_clears 10 = .ok (.aload_n 2, 1) := dk_44 (dk_at dksX0_clears_0 10 rfl rfl)
theorem dX0_clears_11 : decode cX0_clears 11 = .ok (.invokeinterface 223 1, 5) := by decide +kernel
theorem dX0_clears_16 : decode cX0_clears 16 = .ok (.ifCond .eq 34, 3) := dk_153 0 34 (dk_at dksX0_clears_0 16 rfl rfl)
theorem dX0_clears_19 : decode cX0_clears 19 = .ok (.aload_n 0, 1) := dk_42 (dk_at dksX0_clears_0 19 rfl rfl)
theorem dX0_clears_20 : decode cX0_clears 20 = .ok (.aload_n 2, 1) := dk_44 (dk_at dksX0_clears_0 20 rfl rfl)
theorem dX0_clears_21 : decode cX0_clears 21 = .ok (.invokeinterface 228 1, 5) := by decide +kernel
theorem dX0_clears_26 : decode cX0_clears 26 = .ok (.checkcast 184, 3) := dk_192 0 184 (dk_at dksX0_clears_1 5 rfl rfl)
theorem dX0_clears_29 : decode cX0_clears 29 = .ok (.invokevirtual 216, 3) := dk_182 0 216 (dk_at dksX0_clears_1 8 rfl rfl)
theorem dX0_clears_32 : decode cX0_clears 32 = .ok (.invokevirtual 373, 3) := dk_182 1 117 (dk_at dksX0_clears_1 11 rfl rfl)
theorem dX0_clears_35 : decode cX0_clears 35 = .ok (.ifCond .ne (-25), 3) := dk_154 255 231 (dk_at dksX0_clears_1 14 rfl rfl)
theorem dX0_clears_38 : decode cX0_clears 38 = .ok (.aload_n 2, 1) := dk_44 (dk_at dksX0_clears_1 17 rfl rfl)
theorem dX0_clears_39 : decode cX0_clears 39 = .ok (.invokeinterface 231 1, 5) := by decide +kernel
theorem dX0_clears_44 : decode cX0_clears 44 = .ok (.iinc 1 1, 3) := dk_132 1 1 (dk_at dksX0_clears_2 0 rfl rfl)
theorem dX0_clears_47 : decode cX0_clears 47 = .ok (.goto (-37), 3) := dk_167 255 219 (dk_at dksX0_clears_2 3 rfl rfl)
theorem dX0_clears_50 : decode cX0_clears 50 = .ok (.iload_n 1, 1) := dk_27 (dk_at dksX0_clears_2 6 rfl rfl)
theorem dX0_clears_51 : decode cX0_clears 51 = .ok (.ireturn, 1) := dk_172 (dk_at dksX0_clears_2 7 rfl rfl)
abbrev cX0_drop : ByteArray := prog_1_method_49_code
def yX0_drop : MethodName := ⟨RX0, "drop", "()I"⟩
def dkwX0_drop_2 : List UInt8 := [180, 0, 98, 172]
abbrev dktX0_drop_2 : List UInt8 := dkwX0_drop_2 ++ []
def dkwX0_drop_1 : List UInt8 := [180, 0, 98, 182, 1, 108, 87, 42, 42, 180, 0, 98, 3, 182, 0, 236, 87, 42, 3, 181, 0, 148, 42]
abbrev dktX0_drop_1 : List UInt8 := dkwX0_drop_1 ++ dktX0_drop_2
def dkwX0_drop_0 : List UInt8 := [42, 180, 0, 98, 154, 0, 6, 16, 251, 172, 42, 89, 180, 0, 98, 4, 100, 181, 0, 98, 42, 42]
abbrev dktX0_drop_0 : List UInt8 := dkwX0_drop_0 ++ dktX0_drop_1
theorem dksX0_drop_0 : cX0_drop.data.toList.drop 0 = dktX0_drop_0 := by decide +kernel
theorem dksX0_drop_1 : cX0_drop.data.toList.drop 22 = dktX0_drop_1 := dk_seg dksX0_drop_0 22 rfl rfl
theorem dksX0_drop_2 : cX0_drop.data.toList.drop 45 = dktX0_drop_2 := dk_seg dksX0_drop_1 23 rfl rfl
theorem dX0_drop_0 : decode cX0_drop 0 = .ok (.aload_n 0, 1) := dk_42 (dk_at dksX0_drop_0 0 rfl rfl)
theorem dX0_drop_1 : decode cX0_drop 1 = .ok (.getfield 98, 3) := dk_180 0 98 (dk_at dksX0_drop_0 1 rfl rfl)
theorem dX0_drop_4 : decode cX0_drop 4 = .ok (.ifCond .ne 6, 3) := dk_154 0 6 (dk_at dksX0_drop_0 4 rfl rfl)
theorem dX0_drop_7 : decode cX0_drop 7 = .ok (.bipush (-5), 2) := dk_16 251 (dk_at dksX0_drop_0 7 rfl rfl)
theorem dX0_drop_9 : decode cX0_drop 9 = .ok (.ireturn, 1) := dk_172 (dk_at dksX0_drop_0 9 rfl rfl)
theorem dX0_drop_10 : decode cX0_drop 10 = .ok (.aload_n 0, 1) := dk_42 (dk_at dksX0_drop_0 10 rfl rfl)
theorem dX0_drop_11 : decode cX0_drop 11 = .ok (.dup, 1) := dk_89 (dk_at dksX0_drop_0 11 rfl rfl)
theorem dX0_drop_12 : decode cX0_drop 12 = .ok (.getfield 98, 3) := dk_180 0 98 (dk_at dksX0_drop_0 12 rfl rfl)
theorem dX0_drop_15 : decode cX0_drop 15 = .ok (.iconst 1, 1) := dk_4 (dk_at dksX0_drop_0 15 rfl rfl)
theorem dX0_drop_16 : decode cX0_drop 16 = .ok (.isub, 1) := dk_100 (dk_at dksX0_drop_0 16 rfl rfl)
theorem dX0_drop_17 : decode cX0_drop 17 = .ok (.putfield 98, 3) := dk_181 0 98 (dk_at dksX0_drop_0 17 rfl rfl)
theorem dX0_drop_20 : decode cX0_drop 20 = .ok (.aload_n 0, 1) := dk_42 (dk_at dksX0_drop_0 20 rfl rfl)
theorem dX0_drop_21 : decode cX0_drop 21 = .ok (.aload_n 0, 1) := dk_42 (dk_at dksX0_drop_0 21 rfl rfl)
theorem dX0_drop_22 : decode cX0_drop 22 = .ok (.getfield 98, 3) := dk_180 0 98 (dk_at dksX0_drop_1 0 rfl rfl)
theorem dX0_drop_25 : decode cX0_drop 25 = .ok (.invokevirtual 364, 3) := dk_182 1 108 (dk_at dksX0_drop_1 3 rfl rfl)
theorem dX0_drop_28 : decode cX0_drop 28 = .ok (.pop, 1) := dk_87 (dk_at dksX0_drop_1 6 rfl rfl)
theorem dX0_drop_29 : decode cX0_drop 29 = .ok (.aload_n 0, 1) := dk_42 (dk_at dksX0_drop_1 7 rfl rfl)
theorem dX0_drop_30 : decode cX0_drop 30 = .ok (.aload_n 0, 1) := dk_42 (dk_at dksX0_drop_1 8 rfl rfl)
theorem dX0_drop_31 : decode cX0_drop 31 = .ok (.getfield 98, 3) := dk_180 0 98 (dk_at dksX0_drop_1 9 rfl rfl)
theorem dX0_drop_34 : decode cX0_drop 34 = .ok (.iconst 0, 1) := dk_3 (dk_at dksX0_drop_1 12 rfl rfl)
theorem dX0_drop_35 : decode cX0_drop 35 = .ok (.invokevirtual 236, 3) := dk_182 0 236 (dk_at dksX0_drop_1 13 rfl rfl)
theorem dX0_drop_38 : decode cX0_drop 38 = .ok (.pop, 1) := dk_87 (dk_at dksX0_drop_1 16 rfl rfl)
theorem dX0_drop_39 : decode cX0_drop 39 = .ok (.aload_n 0, 1) := dk_42 (dk_at dksX0_drop_1 17 rfl rfl)
theorem dX0_drop_40 : decode cX0_drop 40 = .ok (.iconst 0, 1) := dk_3 (dk_at dksX0_drop_1 18 rfl rfl)
theorem dX0_drop_41 : decode cX0_drop 41 = .ok (.putfield 148, 3) := dk_181 0 148 (dk_at dksX0_drop_1 19 rfl rfl)
theorem dX0_drop_44 : decode cX0_drop 44 = .ok (.aload_n 0, 1) := dk_42 (dk_at dksX0_drop_1 22 rfl rfl)
theorem dX0_drop_45 : decode cX0_drop 45 = .ok (.getfield 98, 3) := dk_180 0 98 (dk_at dksX0_drop_2 0 rfl rfl)
theorem dX0_drop_48 : decode cX0_drop 48 = .ok (.ireturn, 1) := dk_172 (dk_at dksX0_drop_2 3 rfl rfl)
abbrev cX0_feed : ByteArray := prog_1_method_50_code
def yX0_feed : MethodName := ⟨RX0, "feed", "(I)I"⟩
def dkwX0_feed_2 : List UInt8 := [42, 180, 1, 122, 172]
abbrev dktX0_feed_2 : List UInt8 := dkwX0_feed_2 ++ []
def dkwX0_feed_1 : List UInt8 := [16, 253, 172, 42, 180, 0, 71, 42, 180, 1, 122, 27, 145, 84, 42, 89, 180, 1, 122, 4, 96, 181, 1, 122]
abbrev dktX0_feed_1 : List UInt8 := dkwX0_feed_1 ++ dktX0_feed_2
def dkwX0_feed_0 : List UInt8 := [27, 133, 10, 20, 1, 120, 184, 0, 101, 154, 0, 5, 2, 172, 42, 180, 1, 122, 17, 0, 160, 160, 0, 6]
abbrev dktX0_feed_0 : List UInt8 := dkwX0_feed_0 ++ dktX0_feed_1
theorem dksX0_feed_0 : cX0_feed.data.toList.drop 0 = dktX0_feed_0 := by decide +kernel
theorem dksX0_feed_1 : cX0_feed.data.toList.drop 24 = dktX0_feed_1 := dk_seg dksX0_feed_0 24 rfl rfl
theorem dksX0_feed_2 : cX0_feed.data.toList.drop 48 = dktX0_feed_2 := dk_seg dksX0_feed_1 24 rfl rfl
theorem dX0_feed_0 : decode cX0_feed 0 = .ok (.iload_n 1, 1) := dk_27 (dk_at dksX0_feed_0 0 rfl rfl)
theorem dX0_feed_1 : decode cX0_feed 1 = .ok (.i2l, 1) := dk_133 (dk_at dksX0_feed_0 1 rfl rfl)
theorem dX0_feed_2 : decode cX0_feed 2 = .ok (.lconst 1, 1) := dk_10 (dk_at dksX0_feed_0 2 rfl rfl)
theorem dX0_feed_3 : decode cX0_feed 3 = .ok (.ldc2_w 376, 3) := dk_20 1 120 (dk_at dksX0_feed_0 3 rfl rfl)
theorem dX0_feed_6 : decode cX0_feed 6 = .ok (.invokestatic 101, 3) := dk_184 0 101 (dk_at dksX0_feed_0 6 rfl rfl)
theorem dX0_feed_9 : decode cX0_feed 9 = .ok (.ifCond .ne 5, 3) := dk_154 0 5 (dk_at dksX0_feed_0 9 rfl rfl)
theorem dX0_feed_12 : decode cX0_feed 12 = .ok (.iconst (-1), 1) := dk_2 (dk_at dksX0_feed_0 12 rfl rfl)
theorem dX0_feed_13 : decode cX0_feed 13 = .ok (.ireturn, 1) := dk_172 (dk_at dksX0_feed_0 13 rfl rfl)
theorem dX0_feed_14 : decode cX0_feed 14 = .ok (.aload_n 0, 1) := dk_42 (dk_at dksX0_feed_0 14 rfl rfl)
theorem dX0_feed_15 : decode cX0_feed 15 = .ok (.getfield 378, 3) := dk_180 1 122 (dk_at dksX0_feed_0 15 rfl rfl)
theorem dX0_feed_18 : decode cX0_feed 18 = .ok (.sipush 160, 3) := dk_17 0 160 (dk_at dksX0_feed_0 18 rfl rfl)
theorem dX0_feed_21 : decode cX0_feed 21 = .ok (.if_icmp .ne 6, 3) := dk_160 0 6 (dk_at dksX0_feed_0 21 rfl rfl)
theorem dX0_feed_24 : decode cX0_feed 24 = .ok (.bipush (-3), 2) := dk_16 253 (dk_at dksX0_feed_1 0 rfl rfl)
theorem dX0_feed_26 : decode cX0_feed 26 = .ok (.ireturn, 1) := dk_172 (dk_at dksX0_feed_1 2 rfl rfl)
theorem dX0_feed_27 : decode cX0_feed 27 = .ok (.aload_n 0, 1) := dk_42 (dk_at dksX0_feed_1 3 rfl rfl)
theorem dX0_feed_28 : decode cX0_feed 28 = .ok (.getfield 71, 3) := dk_180 0 71 (dk_at dksX0_feed_1 4 rfl rfl)
theorem dX0_feed_31 : decode cX0_feed 31 = .ok (.aload_n 0, 1) := dk_42 (dk_at dksX0_feed_1 7 rfl rfl)
theorem dX0_feed_32 : decode cX0_feed 32 = .ok (.getfield 378, 3) := dk_180 1 122 (dk_at dksX0_feed_1 8 rfl rfl)
theorem dX0_feed_35 : decode cX0_feed 35 = .ok (.iload_n 1, 1) := dk_27 (dk_at dksX0_feed_1 11 rfl rfl)
theorem dX0_feed_36 : decode cX0_feed 36 = .ok (.i2b, 1) := dk_145 (dk_at dksX0_feed_1 12 rfl rfl)
theorem dX0_feed_37 : decode cX0_feed 37 = .ok (.bastore, 1) := dk_84 (dk_at dksX0_feed_1 13 rfl rfl)
theorem dX0_feed_38 : decode cX0_feed 38 = .ok (.aload_n 0, 1) := dk_42 (dk_at dksX0_feed_1 14 rfl rfl)
theorem dX0_feed_39 : decode cX0_feed 39 = .ok (.dup, 1) := dk_89 (dk_at dksX0_feed_1 15 rfl rfl)
theorem dX0_feed_40 : decode cX0_feed 40 = .ok (.getfield 378, 3) := dk_180 1 122 (dk_at dksX0_feed_1 16 rfl rfl)
theorem dX0_feed_43 : decode cX0_feed 43 = .ok (.iconst 1, 1) := dk_4 (dk_at dksX0_feed_1 19 rfl rfl)
theorem dX0_feed_44 : decode cX0_feed 44 = .ok (.iadd, 1) := dk_96 (dk_at dksX0_feed_1 20 rfl rfl)
theorem dX0_feed_45 : decode cX0_feed 45 = .ok (.putfield 378, 3) := dk_181 1 122 (dk_at dksX0_feed_1 21 rfl rfl)
theorem dX0_feed_48 : decode cX0_feed 48 = .ok (.aload_n 0, 1) := dk_42 (dk_at dksX0_feed_2 0 rfl rfl)
theorem dX0_feed_49 : decode cX0_feed 49 = .ok (.getfield 378, 3) := dk_180 1 122 (dk_at dksX0_feed_2 1 rfl rfl)
theorem dX0_feed_52 : decode cX0_feed 52 = .ok (.ireturn, 1) := dk_172 (dk_at dksX0_feed_2 4 rfl rfl)
abbrev cX0_reads : ByteArray := prog_1_method_51_code
def yX0_reads : MethodName := ⟨RX0, "reads", "()I"⟩
def dkwX0_reads_5 : List UInt8 := [181, 1, 122, 28, 172, 78, 42, 3, 181, 1, 122, 45, 191]
abbrev dktX0_reads_5 : List UInt8 := dkwX0_reads_5 ++ []
def dkwX0_reads_4 : List UInt8 := [167, 255, 235, 43, 180, 1, 134, 61, 42, 3, 181, 1, 122, 28, 172, 76, 43, 180, 1, 147, 61, 42, 3]
abbrev dktX0_reads_4 : List UInt8 := dkwX0_reads_4 ++ dktX0_reads_5
def dkwX0_reads_3 : List UInt8 := [3, 61, 28, 43, 180, 1, 134, 162, 0, 19, 43, 28, 182, 1, 137, 42, 182, 0, 119, 87, 132, 2, 1]
abbrev dktX0_reads_3 : List UInt8 := dkwX0_reads_3 ++ dktX0_reads_4
def dkwX0_reads_2 : List UInt8 := [187, 1, 140, 89, 17, 248, 48, 43, 180, 1, 142, 28, 46, 100, 183, 1, 145, 191, 132, 2, 1, 167, 255, 201]
abbrev dktX0_reads_2 : List UInt8 := dkwX0_reads_2 ++ dktX0_reads_3
def dkwX0_reads_1 : List UInt8 := [182, 1, 137, 42, 180, 0, 25, 182, 0, 107, 153, 0, 14, 42, 180, 0, 98, 28, 96, 16, 6, 161, 0, 21]
abbrev dktX0_reads_1 : List UInt8 := dkwX0_reads_1 ++ dktX0_reads_2
def dkwX0_reads_0 : List UInt8 := [187, 1, 125, 89, 42, 183, 1, 127, 182, 1, 130, 76, 3, 61, 28, 43, 180, 1, 134, 162, 0, 53, 43, 28]
abbrev dktX0_reads_0 : List UInt8 := dkwX0_reads_0 ++ dktX0_reads_1
theorem dksX0_reads_0 : cX0_reads.data.toList.drop 0 = dktX0_reads_0 := by decide +kernel
theorem dksX0_reads_1 : cX0_reads.data.toList.drop 24 = dktX0_reads_1 := dk_seg dksX0_reads_0 24 rfl rfl
theorem dksX0_reads_2 : cX0_reads.data.toList.drop 48 = dktX0_reads_2 := dk_seg dksX0_reads_1 24 rfl rfl
theorem dksX0_reads_3 : cX0_reads.data.toList.drop 72 = dktX0_reads_3 := dk_seg dksX0_reads_2 24 rfl rfl
theorem dksX0_reads_4 : cX0_reads.data.toList.drop 95 = dktX0_reads_4 := dk_seg dksX0_reads_3 23 rfl rfl
theorem dksX0_reads_5 : cX0_reads.data.toList.drop 118 = dktX0_reads_5 := dk_seg dksX0_reads_4 23 rfl rfl
theorem dX0_reads_0 : decode cX0_reads 0 = .ok (.new 381, 3) := dk_187 1 125 (dk_at dksX0_reads_0 0 rfl rfl)
theorem dX0_reads_3 : decode cX0_reads 3 = .ok (.dup, 1) := dk_89 (dk_at dksX0_reads_0 3 rfl rfl)
theorem dX0_reads_4 : decode cX0_reads 4 = .ok (.aload_n 0, 1) := dk_42 (dk_at dksX0_reads_0 4 rfl rfl)
theorem dX0_reads_5 : decode cX0_reads 5 = .ok (.invokespecial 383, 3) := dk_183 1 127 (dk_at dksX0_reads_0 5 rfl rfl)
theorem dX0_reads_8 : decode cX0_reads 8 = .ok (.invokevirtual 386, 3) := dk_182 1 130 (dk_at dksX0_reads_0 8 rfl rfl)
theorem dX0_reads_11 : decode cX0_reads 11 = .ok (.astore_n 1, 1) := dk_76 (dk_at dksX0_reads_0 11 rfl rfl)
theorem dX0_reads_12 : decode cX0_reads 12 = .ok (.iconst 0, 1) := dk_3 (dk_at dksX0_reads_0 12 rfl rfl)
theorem dX0_reads_13 : decode cX0_reads 13 = .ok (.istore_n 2, 1) := dk_61 (dk_at dksX0_reads_0 13 rfl rfl)
theorem dX0_reads_14 : decode cX0_reads 14 = .ok (.iload_n 2, 1) := dk_28 (dk_at dksX0_reads_0 14 rfl rfl)
theorem dX0_reads_15 : decode cX0_reads 15 = .ok (.aload_n 1, 1) := dk_43 (dk_at dksX0_reads_0 15 rfl rfl)
theorem dX0_reads_16 : decode cX0_reads 16 = .ok (.getfield 390, 3) := dk_180 1 134 (dk_at dksX0_reads_0 16 rfl rfl)
theorem dX0_reads_19 : decode cX0_reads 19 = .ok (.if_icmp .ge 53, 3) := dk_162 0 53 (dk_at dksX0_reads_0 19 rfl rfl)
theorem dX0_reads_22 : decode cX0_reads 22 = .ok (.aload_n 1, 1) := dk_43 (dk_at dksX0_reads_0 22 rfl rfl)
theorem dX0_reads_23 : decode cX0_reads 23 = .ok (.iload_n 2, 1) := dk_28 (dk_at dksX0_reads_0 23 rfl rfl)
theorem dX0_reads_24 : decode cX0_reads 24 = .ok (.invokevirtual 393, 3) := dk_182 1 137 (dk_at dksX0_reads_1 0 rfl rfl)
theorem dX0_reads_27 : decode cX0_reads 27 = .ok (.aload_n 0, 1) := dk_42 (dk_at dksX0_reads_1 3 rfl rfl)
theorem dX0_reads_28 : decode cX0_reads 28 = .ok (.getfield 25, 3) := dk_180 0 25 (dk_at dksX0_reads_1 4 rfl rfl)
theorem dX0_reads_31 : decode cX0_reads 31 = .ok (.invokevirtual 107, 3) := dk_182 0 107 (dk_at dksX0_reads_1 7 rfl rfl)
theorem dX0_reads_34 : decode cX0_reads 34 = .ok (.ifCond .eq 14, 3) := dk_153 0 14 (dk_at dksX0_reads_1 10 rfl rfl)
theorem dX0_reads_37 : decode cX0_reads 37 = .ok (.aload_n 0, 1) := dk_42 (dk_at dksX0_reads_1 13 rfl rfl)
theorem dX0_reads_38 : decode cX0_reads 38 = .ok (.getfield 98, 3) := dk_180 0 98 (dk_at dksX0_reads_1 14 rfl rfl)
theorem dX0_reads_41 : decode cX0_reads 41 = .ok (.iload_n 2, 1) := dk_28 (dk_at dksX0_reads_1 17 rfl rfl)
theorem dX0_reads_42 : decode cX0_reads 42 = .ok (.iadd, 1) := dk_96 (dk_at dksX0_reads_1 18 rfl rfl)
theorem dX0_reads_43 : decode cX0_reads 43 = .ok (.bipush 6, 2) := dk_16 6 (dk_at dksX0_reads_1 19 rfl rfl)
theorem dX0_reads_45 : decode cX0_reads 45 = .ok (.if_icmp .lt 21, 3) := dk_161 0 21 (dk_at dksX0_reads_1 21 rfl rfl)
theorem dX0_reads_48 : decode cX0_reads 48 = .ok (.new 396, 3) := dk_187 1 140 (dk_at dksX0_reads_2 0 rfl rfl)
theorem dX0_reads_51 : decode cX0_reads 51 = .ok (.dup, 1) := dk_89 (dk_at dksX0_reads_2 3 rfl rfl)
theorem dX0_reads_52 : decode cX0_reads 52 = .ok (.sipush (-2000), 3) := dk_17 248 48 (dk_at dksX0_reads_2 4 rfl rfl)
theorem dX0_reads_55 : decode cX0_reads 55 = .ok (.aload_n 1, 1) := dk_43 (dk_at dksX0_reads_2 7 rfl rfl)
theorem dX0_reads_56 : decode cX0_reads 56 = .ok (.getfield 398, 3) := dk_180 1 142 (dk_at dksX0_reads_2 8 rfl rfl)
theorem dX0_reads_59 : decode cX0_reads 59 = .ok (.iload_n 2, 1) := dk_28 (dk_at dksX0_reads_2 11 rfl rfl)
theorem dX0_reads_60 : decode cX0_reads 60 = .ok (.iaload, 1) := dk_46 (dk_at dksX0_reads_2 12 rfl rfl)
theorem dX0_reads_61 : decode cX0_reads 61 = .ok (.isub, 1) := dk_100 (dk_at dksX0_reads_2 13 rfl rfl)
theorem dX0_reads_62 : decode cX0_reads 62 = .ok (.invokespecial 401, 3) := dk_183 1 145 (dk_at dksX0_reads_2 14 rfl rfl)
theorem dX0_reads_65 : decode cX0_reads 65 = .ok (.athrow, 1) := dk_191 (dk_at dksX0_reads_2 17 rfl rfl)
theorem dX0_reads_66 : decode cX0_reads 66 = .ok (.iinc 2 1, 3) := dk_132 2 1 (dk_at dksX0_reads_2 18 rfl rfl)
theorem dX0_reads_69 : decode cX0_reads 69 = .ok (.goto (-55), 3) := dk_167 255 201 (dk_at dksX0_reads_2 21 rfl rfl)
theorem dX0_reads_72 : decode cX0_reads 72 = .ok (.iconst 0, 1) := dk_3 (dk_at dksX0_reads_3 0 rfl rfl)
theorem dX0_reads_73 : decode cX0_reads 73 = .ok (.istore_n 2, 1) := dk_61 (dk_at dksX0_reads_3 1 rfl rfl)
theorem dX0_reads_74 : decode cX0_reads 74 = .ok (.iload_n 2, 1) := dk_28 (dk_at dksX0_reads_3 2 rfl rfl)
theorem dX0_reads_75 : decode cX0_reads 75 = .ok (.aload_n 1, 1) := dk_43 (dk_at dksX0_reads_3 3 rfl rfl)
theorem dX0_reads_76 : decode cX0_reads 76 = .ok (.getfield 390, 3) := dk_180 1 134 (dk_at dksX0_reads_3 4 rfl rfl)
theorem dX0_reads_79 : decode cX0_reads 79 = .ok (.if_icmp .ge 19, 3) := dk_162 0 19 (dk_at dksX0_reads_3 7 rfl rfl)
theorem dX0_reads_82 : decode cX0_reads 82 = .ok (.aload_n 1, 1) := dk_43 (dk_at dksX0_reads_3 10 rfl rfl)
theorem dX0_reads_83 : decode cX0_reads 83 = .ok (.iload_n 2, 1) := dk_28 (dk_at dksX0_reads_3 11 rfl rfl)
theorem dX0_reads_84 : decode cX0_reads 84 = .ok (.invokevirtual 393, 3) := dk_182 1 137 (dk_at dksX0_reads_3 12 rfl rfl)
theorem dX0_reads_87 : decode cX0_reads 87 = .ok (.aload_n 0, 1) := dk_42 (dk_at dksX0_reads_3 15 rfl rfl)
theorem dX0_reads_88 : decode cX0_reads 88 = .ok (.invokevirtual 119, 3) := dk_182 0 119 (dk_at dksX0_reads_3 16 rfl rfl)
theorem dX0_reads_91 : decode cX0_reads 91 = .ok (.pop, 1) := dk_87 (dk_at dksX0_reads_3 19 rfl rfl)
theorem dX0_reads_92 : decode cX0_reads 92 = .ok (.iinc 2 1, 3) := dk_132 2 1 (dk_at dksX0_reads_3 20 rfl rfl)
theorem dX0_reads_95 : decode cX0_reads 95 = .ok (.goto (-21), 3) := dk_167 255 235 (dk_at dksX0_reads_4 0 rfl rfl)
theorem dX0_reads_98 : decode cX0_reads 98 = .ok (.aload_n 1, 1) := dk_43 (dk_at dksX0_reads_4 3 rfl rfl)
theorem dX0_reads_99 : decode cX0_reads 99 = .ok (.getfield 390, 3) := dk_180 1 134 (dk_at dksX0_reads_4 4 rfl rfl)
theorem dX0_reads_102 : decode cX0_reads 102 = .ok (.istore_n 2, 1) := dk_61 (dk_at dksX0_reads_4 7 rfl rfl)
theorem dX0_reads_103 : decode cX0_reads 103 = .ok (.aload_n 0, 1) := dk_42 (dk_at dksX0_reads_4 8 rfl rfl)
theorem dX0_reads_104 : decode cX0_reads 104 = .ok (.iconst 0, 1) := dk_3 (dk_at dksX0_reads_4 9 rfl rfl)
theorem dX0_reads_105 : decode cX0_reads 105 = .ok (.putfield 378, 3) := dk_181 1 122 (dk_at dksX0_reads_4 10 rfl rfl)
theorem dX0_reads_108 : decode cX0_reads 108 = .ok (.iload_n 2, 1) := dk_28 (dk_at dksX0_reads_4 13 rfl rfl)
theorem dX0_reads_109 : decode cX0_reads 109 = .ok (.ireturn, 1) := dk_172 (dk_at dksX0_reads_4 14 rfl rfl)
theorem dX0_reads_110 : decode cX0_reads 110 = .ok (.astore_n 1, 1) := dk_76 (dk_at dksX0_reads_4 15 rfl rfl)
theorem dX0_reads_111 : decode cX0_reads 111 = .ok (.aload_n 1, 1) := dk_43 (dk_at dksX0_reads_4 16 rfl rfl)
theorem dX0_reads_112 : decode cX0_reads 112 = .ok (.getfield 403, 3) := dk_180 1 147 (dk_at dksX0_reads_4 17 rfl rfl)
theorem dX0_reads_115 : decode cX0_reads 115 = .ok (.istore_n 2, 1) := dk_61 (dk_at dksX0_reads_4 20 rfl rfl)
theorem dX0_reads_116 : decode cX0_reads 116 = .ok (.aload_n 0, 1) := dk_42 (dk_at dksX0_reads_4 21 rfl rfl)
theorem dX0_reads_117 : decode cX0_reads 117 = .ok (.iconst 0, 1) := dk_3 (dk_at dksX0_reads_4 22 rfl rfl)
theorem dX0_reads_118 : decode cX0_reads 118 = .ok (.putfield 378, 3) := dk_181 1 122 (dk_at dksX0_reads_5 0 rfl rfl)
theorem dX0_reads_121 : decode cX0_reads 121 = .ok (.iload_n 2, 1) := dk_28 (dk_at dksX0_reads_5 3 rfl rfl)
theorem dX0_reads_122 : decode cX0_reads 122 = .ok (.ireturn, 1) := dk_172 (dk_at dksX0_reads_5 4 rfl rfl)
theorem dX0_reads_123 : decode cX0_reads 123 = .ok (.astore_n 3, 1) := dk_78 (dk_at dksX0_reads_5 5 rfl rfl)
theorem dX0_reads_124 : decode cX0_reads 124 = .ok (.aload_n 0, 1) := dk_42 (dk_at dksX0_reads_5 6 rfl rfl)
theorem dX0_reads_125 : decode cX0_reads 125 = .ok (.iconst 0, 1) := dk_3 (dk_at dksX0_reads_5 7 rfl rfl)
theorem dX0_reads_126 : decode cX0_reads 126 = .ok (.putfield 378, 3) := dk_181 1 122 (dk_at dksX0_reads_5 8 rfl rfl)
theorem dX0_reads_129 : decode cX0_reads 129 = .ok (.aload_n 3, 1) := dk_45 (dk_at dksX0_reads_5 11 rfl rfl)
theorem dX0_reads_130 : decode cX0_reads 130 = .ok (.athrow, 1) := dk_191 (dk_at dksX0_reads_5 12 rfl rfl)
abbrev cX0_prints : ByteArray := prog_1_method_54_code
def yX0_prints : MethodName := ⟨RX0, "prints", "(II)I"⟩
def dkwX0_prints_4 : List UInt8 := [182, 1, 179, 172]
abbrev dktX0_prints_4 : List UInt8 := dkwX0_prints_4 ++ []
def dkwX0_prints_3 : List UInt8 := [180, 0, 13, 27, 50, 182, 0, 205, 87, 42, 42, 180, 0, 18, 184, 1, 175, 181, 0, 77, 42, 180, 0, 77]
abbrev dktX0_prints_3 : List UInt8 := dkwX0_prints_3 ++ dktX0_prints_4
def dkwX0_prints_2 : List UInt8 := [154, 0, 19, 42, 42, 180, 0, 13, 27, 50, 184, 1, 175, 181, 0, 77, 167, 0, 28, 42, 180, 0, 18, 42]
abbrev dktX0_prints_2 : List UInt8 := dkwX0_prints_2 ++ dktX0_prints_3
def dkwX0_prints_1 : List UInt8 := [154, 0, 5, 2, 172, 28, 5, 160, 0, 14, 42, 42, 182, 1, 172, 181, 0, 77, 167, 0, 48, 28]
abbrev dktX0_prints_1 : List UInt8 := dkwX0_prints_1 ++ dktX0_prints_2
def dkwX0_prints_0 : List UInt8 := [28, 133, 9, 20, 0, 105, 184, 0, 101, 153, 0, 16, 28, 5, 162, 0, 13, 42, 27, 182, 0, 123]
abbrev dktX0_prints_0 : List UInt8 := dkwX0_prints_0 ++ dktX0_prints_1
theorem dksX0_prints_0 : cX0_prints.data.toList.drop 0 = dktX0_prints_0 := by decide +kernel
theorem dksX0_prints_1 : cX0_prints.data.toList.drop 22 = dktX0_prints_1 := dk_seg dksX0_prints_0 22 rfl rfl
theorem dksX0_prints_2 : cX0_prints.data.toList.drop 44 = dktX0_prints_2 := dk_seg dksX0_prints_1 22 rfl rfl
theorem dksX0_prints_3 : cX0_prints.data.toList.drop 68 = dktX0_prints_3 := dk_seg dksX0_prints_2 24 rfl rfl
theorem dksX0_prints_4 : cX0_prints.data.toList.drop 92 = dktX0_prints_4 := dk_seg dksX0_prints_3 24 rfl rfl
theorem dX0_prints_0 : decode cX0_prints 0 = .ok (.iload_n 2, 1) := dk_28 (dk_at dksX0_prints_0 0 rfl rfl)
theorem dX0_prints_1 : decode cX0_prints 1 = .ok (.i2l, 1) := dk_133 (dk_at dksX0_prints_0 1 rfl rfl)
theorem dX0_prints_2 : decode cX0_prints 2 = .ok (.lconst 0, 1) := dk_9 (dk_at dksX0_prints_0 2 rfl rfl)
theorem dX0_prints_3 : decode cX0_prints 3 = .ok (.ldc2_w 105, 3) := dk_20 0 105 (dk_at dksX0_prints_0 3 rfl rfl)
theorem dX0_prints_6 : decode cX0_prints 6 = .ok (.invokestatic 101, 3) := dk_184 0 101 (dk_at dksX0_prints_0 6 rfl rfl)
theorem dX0_prints_9 : decode cX0_prints 9 = .ok (.ifCond .eq 16, 3) := dk_153 0 16 (dk_at dksX0_prints_0 9 rfl rfl)
theorem dX0_prints_12 : decode cX0_prints 12 = .ok (.iload_n 2, 1) := dk_28 (dk_at dksX0_prints_0 12 rfl rfl)
theorem dX0_prints_13 : decode cX0_prints 13 = .ok (.iconst 2, 1) := dk_5 (dk_at dksX0_prints_0 13 rfl rfl)
theorem dX0_prints_14 : decode cX0_prints 14 = .ok (.if_icmp .ge 13, 3) := dk_162 0 13 (dk_at dksX0_prints_0 14 rfl rfl)
theorem dX0_prints_17 : decode cX0_prints 17 = .ok (.aload_n 0, 1) := dk_42 (dk_at dksX0_prints_0 17 rfl rfl)
theorem dX0_prints_18 : decode cX0_prints 18 = .ok (.iload_n 1, 1) := dk_27 (dk_at dksX0_prints_0 18 rfl rfl)
theorem dX0_prints_19 : decode cX0_prints 19 = .ok (.invokevirtual 123, 3) := dk_182 0 123 (dk_at dksX0_prints_0 19 rfl rfl)
theorem dX0_prints_22 : decode cX0_prints 22 = .ok (.ifCond .ne 5, 3) := dk_154 0 5 (dk_at dksX0_prints_1 0 rfl rfl)
theorem dX0_prints_25 : decode cX0_prints 25 = .ok (.iconst (-1), 1) := dk_2 (dk_at dksX0_prints_1 3 rfl rfl)
theorem dX0_prints_26 : decode cX0_prints 26 = .ok (.ireturn, 1) := dk_172 (dk_at dksX0_prints_1 4 rfl rfl)
theorem dX0_prints_27 : decode cX0_prints 27 = .ok (.iload_n 2, 1) := dk_28 (dk_at dksX0_prints_1 5 rfl rfl)
theorem dX0_prints_28 : decode cX0_prints 28 = .ok (.iconst 2, 1) := dk_5 (dk_at dksX0_prints_1 6 rfl rfl)
theorem dX0_prints_29 : decode cX0_prints 29 = .ok (.if_icmp .ne 14, 3) := dk_160 0 14 (dk_at dksX0_prints_1 7 rfl rfl)
theorem dX0_prints_32 : decode cX0_prints 32 = .ok (.aload_n 0, 1) := dk_42 (dk_at dksX0_prints_1 10 rfl rfl)
theorem dX0_prints_33 : decode cX0_prints 33 = .ok (.aload_n 0, 1) := dk_42 (dk_at dksX0_prints_1 11 rfl rfl)
theorem dX0_prints_34 : decode cX0_prints 34 = .ok (.invokevirtual 428, 3) := dk_182 1 172 (dk_at dksX0_prints_1 12 rfl rfl)
theorem dX0_prints_37 : decode cX0_prints 37 = .ok (.putfield 77, 3) := dk_181 0 77 (dk_at dksX0_prints_1 15 rfl rfl)
theorem dX0_prints_40 : decode cX0_prints 40 = .ok (.goto 48, 3) := dk_167 0 48 (dk_at dksX0_prints_1 18 rfl rfl)
theorem dX0_prints_43 : decode cX0_prints 43 = .ok (.iload_n 2, 1) := dk_28 (dk_at dksX0_prints_1 21 rfl rfl)
theorem dX0_prints_44 : decode cX0_prints 44 = .ok (.ifCond .ne 19, 3) := dk_154 0 19 (dk_at dksX0_prints_2 0 rfl rfl)
theorem dX0_prints_47 : decode cX0_prints 47 = .ok (.aload_n 0, 1) := dk_42 (dk_at dksX0_prints_2 3 rfl rfl)
theorem dX0_prints_48 : decode cX0_prints 48 = .ok (.aload_n 0, 1) := dk_42 (dk_at dksX0_prints_2 4 rfl rfl)
theorem dX0_prints_49 : decode cX0_prints 49 = .ok (.getfield 13, 3) := dk_180 0 13 (dk_at dksX0_prints_2 5 rfl rfl)
theorem dX0_prints_52 : decode cX0_prints 52 = .ok (.iload_n 1, 1) := dk_27 (dk_at dksX0_prints_2 8 rfl rfl)
theorem dX0_prints_53 : decode cX0_prints 53 = .ok (.aaload, 1) := dk_50 (dk_at dksX0_prints_2 9 rfl rfl)
theorem dX0_prints_54 : decode cX0_prints 54 = .ok (.invokestatic 431, 3) := dk_184 1 175 (dk_at dksX0_prints_2 10 rfl rfl)
theorem dX0_prints_57 : decode cX0_prints 57 = .ok (.putfield 77, 3) := dk_181 0 77 (dk_at dksX0_prints_2 13 rfl rfl)
theorem dX0_prints_60 : decode cX0_prints 60 = .ok (.goto 28, 3) := dk_167 0 28 (dk_at dksX0_prints_2 16 rfl rfl)
theorem dX0_prints_63 : decode cX0_prints 63 = .ok (.aload_n 0, 1) := dk_42 (dk_at dksX0_prints_2 19 rfl rfl)
theorem dX0_prints_64 : decode cX0_prints 64 = .ok (.getfield 18, 3) := dk_180 0 18 (dk_at dksX0_prints_2 20 rfl rfl)
theorem dX0_prints_67 : decode cX0_prints 67 = .ok (.aload_n 0, 1) := dk_42 (dk_at dksX0_prints_2 23 rfl rfl)
theorem dX0_prints_68 : decode cX0_prints 68 = .ok (.getfield 13, 3) := dk_180 0 13 (dk_at dksX0_prints_3 0 rfl rfl)
theorem dX0_prints_71 : decode cX0_prints 71 = .ok (.iload_n 1, 1) := dk_27 (dk_at dksX0_prints_3 3 rfl rfl)
theorem dX0_prints_72 : decode cX0_prints 72 = .ok (.aaload, 1) := dk_50 (dk_at dksX0_prints_3 4 rfl rfl)
theorem dX0_prints_73 : decode cX0_prints 73 = .ok (.invokevirtual 205, 3) := dk_182 0 205 (dk_at dksX0_prints_3 5 rfl rfl)
theorem dX0_prints_76 : decode cX0_prints 76 = .ok (.pop, 1) := dk_87 (dk_at dksX0_prints_3 8 rfl rfl)
theorem dX0_prints_77 : decode cX0_prints 77 = .ok (.aload_n 0, 1) := dk_42 (dk_at dksX0_prints_3 9 rfl rfl)
theorem dX0_prints_78 : decode cX0_prints 78 = .ok (.aload_n 0, 1) := dk_42 (dk_at dksX0_prints_3 10 rfl rfl)
theorem dX0_prints_79 : decode cX0_prints 79 = .ok (.getfield 18, 3) := dk_180 0 18 (dk_at dksX0_prints_3 11 rfl rfl)
theorem dX0_prints_82 : decode cX0_prints 82 = .ok (.invokestatic 431, 3) := dk_184 1 175 (dk_at dksX0_prints_3 14 rfl rfl)
theorem dX0_prints_85 : decode cX0_prints 85 = .ok (.putfield 77, 3) := dk_181 0 77 (dk_at dksX0_prints_3 17 rfl rfl)
theorem dX0_prints_88 : decode cX0_prints 88 = .ok (.aload_n 0, 1) := dk_42 (dk_at dksX0_prints_3 20 rfl rfl)
theorem dX0_prints_89 : decode cX0_prints 89 = .ok (.getfield 77, 3) := dk_180 0 77 (dk_at dksX0_prints_3 21 rfl rfl)
theorem dX0_prints_92 : decode cX0_prints 92 = .ok (.invokevirtual 435, 3) := dk_182 1 179 (dk_at dksX0_prints_4 0 rfl rfl)
theorem dX0_prints_95 : decode cX0_prints 95 = .ok (.ireturn, 1) := dk_172 (dk_at dksX0_prints_4 3 rfl rfl)
abbrev cX0_toldLog : ByteArray := prog_1_method_53_code
def yX0_toldLog : MethodName := ⟨RX0, "toldLog", "()Ljava/lang/String;"⟩
def dkwX0_toldLog_2 : List UInt8 := [146, 182, 1, 157, 29, 16, 10, 112, 182, 1, 169, 87, 167, 255, 214, 43, 182, 1, 164, 176]
abbrev dktX0_toldLog_2 : List UInt8 := dkwX0_toldLog_2 ++ []
def dkwX0_toldLog_1 : List UInt8 := [153, 0, 39, 44, 185, 0, 228, 1, 0, 192, 0, 184, 182, 0, 216, 62, 43, 16, 97, 29, 16, 10, 108, 96]
abbrev dktX0_toldLog_1 : List UInt8 := dkwX0_toldLog_1 ++ dktX0_toldLog_2
def dkwX0_toldLog_0 : List UInt8 := [187, 1, 150, 89, 183, 1, 168, 76, 42, 180, 0, 38, 182, 0, 219, 77, 44, 185, 0, 223, 1, 0]
abbrev dktX0_toldLog_0 : List UInt8 := dkwX0_toldLog_0 ++ dktX0_toldLog_1
theorem dksX0_toldLog_0 : cX0_toldLog.data.toList.drop 0 = dktX0_toldLog_0 := by decide +kernel
theorem dksX0_toldLog_1 : cX0_toldLog.data.toList.drop 22 = dktX0_toldLog_1 := dk_seg dksX0_toldLog_0 22 rfl rfl
theorem dksX0_toldLog_2 : cX0_toldLog.data.toList.drop 46 = dktX0_toldLog_2 := dk_seg dksX0_toldLog_1 24 rfl rfl
theorem dX0_toldLog_0 : decode cX0_toldLog 0 = .ok (.new 406, 3) := dk_187 1 150 (dk_at dksX0_toldLog_0 0 rfl rfl)
theorem dX0_toldLog_3 : decode cX0_toldLog 3 = .ok (.dup, 1) := dk_89 (dk_at dksX0_toldLog_0 3 rfl rfl)
theorem dX0_toldLog_4 : decode cX0_toldLog 4 = .ok (.invokespecial 424, 3) := dk_183 1 168 (dk_at dksX0_toldLog_0 4 rfl rfl)
theorem dX0_toldLog_7 : decode cX0_toldLog 7 = .ok (.astore_n 1, 1) := dk_76 (dk_at dksX0_toldLog_0 7 rfl rfl)
theorem dX0_toldLog_8 : decode cX0_toldLog 8 = .ok (.aload_n 0, 1) := dk_42 (dk_at dksX0_toldLog_0 8 rfl rfl)
theorem dX0_toldLog_9 : decode cX0_toldLog 9 = .ok (.getfield 38, 3) := dk_180 0 38 (dk_at dksX0_toldLog_0 9 rfl rfl)
theorem dX0_toldLog_12 : decode cX0_toldLog 12 = .ok (.invokevirtual 219, 3) := dk_182 0 219 (dk_at dksX0_toldLog_0 12 rfl rfl)
theorem dX0_toldLog_15 : decode cX0_toldLog 15 = .ok (.astore_n 2, 1) := dk_77 (dk_at dksX0_toldLog_0 15 rfl rfl)
theorem dX0_toldLog_16 : decode cX0_toldLog 16 = .ok (.aload_n 2, 1) := dk_44 (dk_at dksX0_toldLog_0 16 rfl rfl)
theorem dX0_toldLog_17 : decode cX0_toldLog 17 = .ok (.invokeinterface 223 1, 5) := by decide +kernel
theorem dX0_toldLog_22 : decode cX0_toldLog 22 = .ok (.ifCond .eq 39, 3) := dk_153 0 39 (dk_at dksX0_toldLog_1 0 rfl rfl)
theorem dX0_toldLog_25 : decode cX0_toldLog 25 = .ok (.aload_n 2, 1) := dk_44 (dk_at dksX0_toldLog_1 3 rfl rfl)
theorem dX0_toldLog_26 : decode cX0_toldLog 26 = .ok (.invokeinterface 228 1, 5) := by decide +kernel
theorem dX0_toldLog_31 : decode cX0_toldLog 31 = .ok (.checkcast 184, 3) := dk_192 0 184 (dk_at dksX0_toldLog_1 9 rfl rfl)
theorem dX0_toldLog_34 : decode cX0_toldLog 34 = .ok (.invokevirtual 216, 3) := dk_182 0 216 (dk_at dksX0_toldLog_1 12 rfl rfl)
theorem dX0_toldLog_37 : decode cX0_toldLog 37 = .ok (.istore_n 3, 1) := dk_62 (dk_at dksX0_toldLog_1 15 rfl rfl)
theorem dX0_toldLog_38 : decode cX0_toldLog 38 = .ok (.aload_n 1, 1) := dk_43 (dk_at dksX0_toldLog_1 16 rfl rfl)
theorem dX0_toldLog_39 : decode cX0_toldLog 39 = .ok (.bipush 97, 2) := dk_16 97 (dk_at dksX0_toldLog_1 17 rfl rfl)
theorem dX0_toldLog_41 : decode cX0_toldLog 41 = .ok (.iload_n 3, 1) := dk_29 (dk_at dksX0_toldLog_1 19 rfl rfl)
theorem dX0_toldLog_42 : decode cX0_toldLog 42 = .ok (.bipush 10, 2) := dk_16 10 (dk_at dksX0_toldLog_1 20 rfl rfl)
theorem dX0_toldLog_44 : decode cX0_toldLog 44 = .ok (.idiv, 1) := dk_108 (dk_at dksX0_toldLog_1 22 rfl rfl)
theorem dX0_toldLog_45 : decode cX0_toldLog 45 = .ok (.iadd, 1) := dk_96 (dk_at dksX0_toldLog_1 23 rfl rfl)
theorem dX0_toldLog_46 : decode cX0_toldLog 46 = .ok (.i2c, 1) := dk_146 (dk_at dksX0_toldLog_2 0 rfl rfl)
theorem dX0_toldLog_47 : decode cX0_toldLog 47 = .ok (.invokevirtual 413, 3) := dk_182 1 157 (dk_at dksX0_toldLog_2 1 rfl rfl)
theorem dX0_toldLog_50 : decode cX0_toldLog 50 = .ok (.iload_n 3, 1) := dk_29 (dk_at dksX0_toldLog_2 4 rfl rfl)
theorem dX0_toldLog_51 : decode cX0_toldLog 51 = .ok (.bipush 10, 2) := dk_16 10 (dk_at dksX0_toldLog_2 5 rfl rfl)
theorem dX0_toldLog_53 : decode cX0_toldLog 53 = .ok (.irem, 1) := dk_112 (dk_at dksX0_toldLog_2 7 rfl rfl)
theorem dX0_toldLog_54 : decode cX0_toldLog 54 = .ok (.invokevirtual 425, 3) := dk_182 1 169 (dk_at dksX0_toldLog_2 8 rfl rfl)
theorem dX0_toldLog_57 : decode cX0_toldLog 57 = .ok (.pop, 1) := dk_87 (dk_at dksX0_toldLog_2 11 rfl rfl)
theorem dX0_toldLog_58 : decode cX0_toldLog 58 = .ok (.goto (-42), 3) := dk_167 255 214 (dk_at dksX0_toldLog_2 12 rfl rfl)
theorem dX0_toldLog_61 : decode cX0_toldLog 61 = .ok (.aload_n 1, 1) := dk_43 (dk_at dksX0_toldLog_2 15 rfl rfl)
theorem dX0_toldLog_62 : decode cX0_toldLog 62 = .ok (.invokevirtual 420, 3) := dk_182 1 164 (dk_at dksX0_toldLog_2 16 rfl rfl)
theorem dX0_toldLog_65 : decode cX0_toldLog 65 = .ok (.areturn, 1) := dk_176 (dk_at dksX0_toldLog_2 19 rfl rfl)
abbrev cX0_told : ByteArray := prog_1_method_52_code
def yX0_told : MethodName := ⟨RX0, "told", "(LCellReducer$Cell;)Ljava/lang/String;"⟩
def dkwX0_told_1 : List UInt8 := [182, 1, 157, 42, 28, 182, 0, 131, 182, 1, 161, 87, 132, 2, 1, 167, 255, 232, 43, 182, 1, 164, 176]
abbrev dktX0_told_1 : List UInt8 := dkwX0_told_1 ++ []
def dkwX0_told_0 : List UInt8 := [187, 1, 150, 89, 19, 1, 152, 183, 1, 154, 76, 3, 61, 28, 16, 6, 162, 0, 24, 43, 16, 32]
abbrev dktX0_told_0 : List UInt8 := dkwX0_told_0 ++ dktX0_told_1
theorem dksX0_told_0 : cX0_told.data.toList.drop 0 = dktX0_told_0 := by decide +kernel
theorem dksX0_told_1 : cX0_told.data.toList.drop 22 = dktX0_told_1 := dk_seg dksX0_told_0 22 rfl rfl
theorem dX0_told_0 : decode cX0_told 0 = .ok (.new 406, 3) := dk_187 1 150 (dk_at dksX0_told_0 0 rfl rfl)
theorem dX0_told_3 : decode cX0_told 3 = .ok (.dup, 1) := dk_89 (dk_at dksX0_told_0 3 rfl rfl)
theorem dX0_told_4 : decode cX0_told 4 = .ok (.ldc_w 408, 3) := dk_19 1 152 (dk_at dksX0_told_0 4 rfl rfl)
theorem dX0_told_7 : decode cX0_told 7 = .ok (.invokespecial 410, 3) := dk_183 1 154 (dk_at dksX0_told_0 7 rfl rfl)
theorem dX0_told_10 : decode cX0_told 10 = .ok (.astore_n 1, 1) := dk_76 (dk_at dksX0_told_0 10 rfl rfl)
theorem dX0_told_11 : decode cX0_told 11 = .ok (.iconst 0, 1) := dk_3 (dk_at dksX0_told_0 11 rfl rfl)
theorem dX0_told_12 : decode cX0_told 12 = .ok (.istore_n 2, 1) := dk_61 (dk_at dksX0_told_0 12 rfl rfl)
theorem dX0_told_13 : decode cX0_told 13 = .ok (.iload_n 2, 1) := dk_28 (dk_at dksX0_told_0 13 rfl rfl)
theorem dX0_told_14 : decode cX0_told 14 = .ok (.bipush 6, 2) := dk_16 6 (dk_at dksX0_told_0 14 rfl rfl)
theorem dX0_told_16 : decode cX0_told 16 = .ok (.if_icmp .ge 24, 3) := dk_162 0 24 (dk_at dksX0_told_0 16 rfl rfl)
theorem dX0_told_19 : decode cX0_told 19 = .ok (.aload_n 1, 1) := dk_43 (dk_at dksX0_told_0 19 rfl rfl)
theorem dX0_told_20 : decode cX0_told 20 = .ok (.bipush 32, 2) := dk_16 32 (dk_at dksX0_told_0 20 rfl rfl)
theorem dX0_told_22 : decode cX0_told 22 = .ok (.invokevirtual 413, 3) := dk_182 1 157 (dk_at dksX0_told_1 0 rfl rfl)
theorem dX0_told_25 : decode cX0_told 25 = .ok (.aload_n 0, 1) := dk_42 (dk_at dksX0_told_1 3 rfl rfl)
theorem dX0_told_26 : decode cX0_told 26 = .ok (.iload_n 2, 1) := dk_28 (dk_at dksX0_told_1 4 rfl rfl)
theorem dX0_told_27 : decode cX0_told 27 = .ok (.invokevirtual 131, 3) := dk_182 0 131 (dk_at dksX0_told_1 5 rfl rfl)
theorem dX0_told_30 : decode cX0_told 30 = .ok (.invokevirtual 417, 3) := dk_182 1 161 (dk_at dksX0_told_1 8 rfl rfl)
theorem dX0_told_33 : decode cX0_told 33 = .ok (.pop, 1) := dk_87 (dk_at dksX0_told_1 11 rfl rfl)
theorem dX0_told_34 : decode cX0_told 34 = .ok (.iinc 2 1, 3) := dk_132 2 1 (dk_at dksX0_told_1 12 rfl rfl)
theorem dX0_told_37 : decode cX0_told 37 = .ok (.goto (-24), 3) := dk_167 255 232 (dk_at dksX0_told_1 15 rfl rfl)
theorem dX0_told_40 : decode cX0_told 40 = .ok (.aload_n 1, 1) := dk_43 (dk_at dksX0_told_1 18 rfl rfl)
theorem dX0_told_41 : decode cX0_told 41 = .ok (.invokevirtual 420, 3) := dk_182 1 164 (dk_at dksX0_told_1 19 rfl rfl)
theorem dX0_told_44 : decode cX0_told 44 = .ok (.areturn, 1) := dk_176 (dk_at dksX0_told_1 22 rfl rfl)
abbrev cX0_paper : ByteArray := prog_1_method_55_code
def yX0_paper : MethodName := ⟨RX0, "paper", "(I)I"⟩
def dkwX0_paper_1 : List UInt8 := [182, 1, 183, 167, 0, 5, 16, 254, 172]
abbrev dktX0_paper_1 : List UInt8 := dkwX0_paper_1 ++ []
def dkwX0_paper_0 : List UInt8 := [27, 156, 0, 5, 2, 172, 27, 42, 180, 0, 77, 182, 1, 179, 162, 0, 14, 42, 180, 0, 77, 27]
abbrev dktX0_paper_0 : List UInt8 := dkwX0_paper_0 ++ dktX0_paper_1
theorem dksX0_paper_0 : cX0_paper.data.toList.drop 0 = dktX0_paper_0 := by decide +kernel
theorem dksX0_paper_1 : cX0_paper.data.toList.drop 22 = dktX0_paper_1 := dk_seg dksX0_paper_0 22 rfl rfl
theorem dX0_paper_0 : decode cX0_paper 0 = .ok (.iload_n 1, 1) := dk_27 (dk_at dksX0_paper_0 0 rfl rfl)
theorem dX0_paper_1 : decode cX0_paper 1 = .ok (.ifCond .ge 5, 3) := dk_156 0 5 (dk_at dksX0_paper_0 1 rfl rfl)
theorem dX0_paper_4 : decode cX0_paper 4 = .ok (.iconst (-1), 1) := dk_2 (dk_at dksX0_paper_0 4 rfl rfl)
theorem dX0_paper_5 : decode cX0_paper 5 = .ok (.ireturn, 1) := dk_172 (dk_at dksX0_paper_0 5 rfl rfl)
theorem dX0_paper_6 : decode cX0_paper 6 = .ok (.iload_n 1, 1) := dk_27 (dk_at dksX0_paper_0 6 rfl rfl)
theorem dX0_paper_7 : decode cX0_paper 7 = .ok (.aload_n 0, 1) := dk_42 (dk_at dksX0_paper_0 7 rfl rfl)
theorem dX0_paper_8 : decode cX0_paper 8 = .ok (.getfield 77, 3) := dk_180 0 77 (dk_at dksX0_paper_0 8 rfl rfl)
theorem dX0_paper_11 : decode cX0_paper 11 = .ok (.invokevirtual 435, 3) := dk_182 1 179 (dk_at dksX0_paper_0 11 rfl rfl)
theorem dX0_paper_14 : decode cX0_paper 14 = .ok (.if_icmp .ge 14, 3) := dk_162 0 14 (dk_at dksX0_paper_0 14 rfl rfl)
theorem dX0_paper_17 : decode cX0_paper 17 = .ok (.aload_n 0, 1) := dk_42 (dk_at dksX0_paper_0 17 rfl rfl)
theorem dX0_paper_18 : decode cX0_paper 18 = .ok (.getfield 77, 3) := dk_180 0 77 (dk_at dksX0_paper_0 18 rfl rfl)
theorem dX0_paper_21 : decode cX0_paper 21 = .ok (.iload_n 1, 1) := dk_27 (dk_at dksX0_paper_0 21 rfl rfl)
theorem dX0_paper_22 : decode cX0_paper 22 = .ok (.invokevirtual 439, 3) := dk_182 1 183 (dk_at dksX0_paper_1 0 rfl rfl)
theorem dX0_paper_25 : decode cX0_paper 25 = .ok (.goto 5, 3) := dk_167 0 5 (dk_at dksX0_paper_1 3 rfl rfl)
theorem dX0_paper_28 : decode cX0_paper 28 = .ok (.bipush (-2), 2) := dk_16 254 (dk_at dksX0_paper_1 6 rfl rfl)
theorem dX0_paper_30 : decode cX0_paper 30 = .ok (.ireturn, 1) := dk_172 (dk_at dksX0_paper_1 8 rfl rfl)
abbrev cX0_list : ByteArray := prog_1_method_57_code
def yX0_list : MethodName := ⟨RX0, "list", "(II)I"⟩
def dkwX0_list_1 : List UInt8 := [167, 0, 7, 78, 16, 242, 172, 4, 172]
abbrev dktX0_list_1 : List UInt8 := dkwX0_list_1 ++ []
def dkwX0_list_0 : List UInt8 := [27, 184, 1, 189, 153, 0, 9, 28, 16, 16, 164, 0, 5, 2, 172, 42, 180, 0, 82, 27, 28, 188, 11, 83]
abbrev dktX0_list_0 : List UInt8 := dkwX0_list_0 ++ dktX0_list_1
theorem dksX0_list_0 : cX0_list.data.toList.drop 0 = dktX0_list_0 := by decide +kernel
theorem dksX0_list_1 : cX0_list.data.toList.drop 24 = dktX0_list_1 := dk_seg dksX0_list_0 24 rfl rfl
theorem dX0_list_0 : decode cX0_list 0 = .ok (.iload_n 1, 1) := dk_27 (dk_at dksX0_list_0 0 rfl rfl)
theorem dX0_list_1 : decode cX0_list 1 = .ok (.invokestatic 445, 3) := dk_184 1 189 (dk_at dksX0_list_0 1 rfl rfl)
theorem dX0_list_4 : decode cX0_list 4 = .ok (.ifCond .eq 9, 3) := dk_153 0 9 (dk_at dksX0_list_0 4 rfl rfl)
theorem dX0_list_7 : decode cX0_list 7 = .ok (.iload_n 2, 1) := dk_28 (dk_at dksX0_list_0 7 rfl rfl)
theorem dX0_list_8 : decode cX0_list 8 = .ok (.bipush 16, 2) := dk_16 16 (dk_at dksX0_list_0 8 rfl rfl)
theorem dX0_list_10 : decode cX0_list 10 = .ok (.if_icmp .le 5, 3) := dk_164 0 5 (dk_at dksX0_list_0 10 rfl rfl)
theorem dX0_list_13 : decode cX0_list 13 = .ok (.iconst (-1), 1) := dk_2 (dk_at dksX0_list_0 13 rfl rfl)
theorem dX0_list_14 : decode cX0_list 14 = .ok (.ireturn, 1) := dk_172 (dk_at dksX0_list_0 14 rfl rfl)
theorem dX0_list_15 : decode cX0_list 15 = .ok (.aload_n 0, 1) := dk_42 (dk_at dksX0_list_0 15 rfl rfl)
theorem dX0_list_16 : decode cX0_list 16 = .ok (.getfield 82, 3) := dk_180 0 82 (dk_at dksX0_list_0 16 rfl rfl)
theorem dX0_list_19 : decode cX0_list 19 = .ok (.iload_n 1, 1) := dk_27 (dk_at dksX0_list_0 19 rfl rfl)
theorem dX0_list_20 : decode cX0_list 20 = .ok (.iload_n 2, 1) := dk_28 (dk_at dksX0_list_0 20 rfl rfl)
theorem dX0_list_21 : decode cX0_list 21 = .ok (.newarray .long, 2) := dk_188_11 (dk_at dksX0_list_0 21 rfl rfl)
theorem dX0_list_23 : decode cX0_list 23 = .ok (.aastore, 1) := dk_83 (dk_at dksX0_list_0 23 rfl rfl)
theorem dX0_list_24 : decode cX0_list 24 = .ok (.goto 7, 3) := dk_167 0 7 (dk_at dksX0_list_1 0 rfl rfl)
theorem dX0_list_27 : decode cX0_list 27 = .ok (.astore_n 3, 1) := dk_78 (dk_at dksX0_list_1 3 rfl rfl)
theorem dX0_list_28 : decode cX0_list 28 = .ok (.bipush (-14), 2) := dk_16 242 (dk_at dksX0_list_1 4 rfl rfl)
theorem dX0_list_30 : decode cX0_list 30 = .ok (.ireturn, 1) := dk_172 (dk_at dksX0_list_1 6 rfl rfl)
theorem dX0_list_31 : decode cX0_list 31 = .ok (.iconst 1, 1) := dk_4 (dk_at dksX0_list_1 7 rfl rfl)
theorem dX0_list_32 : decode cX0_list 32 = .ok (.ireturn, 1) := dk_172 (dk_at dksX0_list_1 8 rfl rfl)
abbrev cX0_isList : ByteArray := prog_1_method_56_code
def yX0_isList : MethodName := ⟨RX0, "isList", "(I)Z"⟩
def dkwX0_isList_0 : List UInt8 := [26, 133, 9, 20, 1, 187, 184, 0, 101, 172]
abbrev dktX0_isList_0 : List UInt8 := dkwX0_isList_0 ++ []
theorem dksX0_isList_0 : cX0_isList.data.toList.drop 0 = dktX0_isList_0 := by decide +kernel
theorem dX0_isList_0 : decode cX0_isList 0 = .ok (.iload_n 0, 1) := dk_26 (dk_at dksX0_isList_0 0 rfl rfl)
theorem dX0_isList_1 : decode cX0_isList 1 = .ok (.i2l, 1) := dk_133 (dk_at dksX0_isList_0 1 rfl rfl)
theorem dX0_isList_2 : decode cX0_isList 2 = .ok (.lconst 0, 1) := dk_9 (dk_at dksX0_isList_0 2 rfl rfl)
theorem dX0_isList_3 : decode cX0_isList 3 = .ok (.ldc2_w 443, 3) := dk_20 1 187 (dk_at dksX0_isList_0 3 rfl rfl)
theorem dX0_isList_6 : decode cX0_isList 6 = .ok (.invokestatic 101, 3) := dk_184 0 101 (dk_at dksX0_isList_0 6 rfl rfl)
theorem dX0_isList_9 : decode cX0_isList 9 = .ok (.ireturn, 1) := dk_172 (dk_at dksX0_isList_0 9 rfl rfl)
abbrev cX0_set : ByteArray := prog_1_method_58_code
def yX0_set : MethodName := ⟨RX0, "set", "(IIJ)I"⟩
def dkwX0_set_1 : List UInt8 := [16, 245, 172, 58, 5, 16, 243, 172, 4, 172]
abbrev dktX0_set_1 : List UInt8 := dkwX0_set_1 ++ []
def dkwX0_set_0 : List UInt8 := [27, 184, 1, 189, 154, 0, 5, 2, 172, 42, 180, 0, 82, 27, 50, 28, 33, 80, 167, 0, 13, 58, 5]
abbrev dktX0_set_0 : List UInt8 := dkwX0_set_0 ++ dktX0_set_1
theorem dksX0_set_0 : cX0_set.data.toList.drop 0 = dktX0_set_0 := by decide +kernel
theorem dksX0_set_1 : cX0_set.data.toList.drop 23 = dktX0_set_1 := dk_seg dksX0_set_0 23 rfl rfl
theorem dX0_set_0 : decode cX0_set 0 = .ok (.iload_n 1, 1) := dk_27 (dk_at dksX0_set_0 0 rfl rfl)
theorem dX0_set_1 : decode cX0_set 1 = .ok (.invokestatic 445, 3) := dk_184 1 189 (dk_at dksX0_set_0 1 rfl rfl)
theorem dX0_set_4 : decode cX0_set 4 = .ok (.ifCond .ne 5, 3) := dk_154 0 5 (dk_at dksX0_set_0 4 rfl rfl)
theorem dX0_set_7 : decode cX0_set 7 = .ok (.iconst (-1), 1) := dk_2 (dk_at dksX0_set_0 7 rfl rfl)
theorem dX0_set_8 : decode cX0_set 8 = .ok (.ireturn, 1) := dk_172 (dk_at dksX0_set_0 8 rfl rfl)
theorem dX0_set_9 : decode cX0_set 9 = .ok (.aload_n 0, 1) := dk_42 (dk_at dksX0_set_0 9 rfl rfl)
theorem dX0_set_10 : decode cX0_set 10 = .ok (.getfield 82, 3) := dk_180 0 82 (dk_at dksX0_set_0 10 rfl rfl)
theorem dX0_set_13 : decode cX0_set 13 = .ok (.iload_n 1, 1) := dk_27 (dk_at dksX0_set_0 13 rfl rfl)
theorem dX0_set_14 : decode cX0_set 14 = .ok (.aaload, 1) := dk_50 (dk_at dksX0_set_0 14 rfl rfl)
theorem dX0_set_15 : decode cX0_set 15 = .ok (.iload_n 2, 1) := dk_28 (dk_at dksX0_set_0 15 rfl rfl)
theorem dX0_set_16 : decode cX0_set 16 = .ok (.lload_n 3, 1) := dk_33 (dk_at dksX0_set_0 16 rfl rfl)
theorem dX0_set_17 : decode cX0_set 17 = .ok (.lastore, 1) := dk_80 (dk_at dksX0_set_0 17 rfl rfl)
theorem dX0_set_18 : decode cX0_set 18 = .ok (.goto 13, 3) := dk_167 0 13 (dk_at dksX0_set_0 18 rfl rfl)
theorem dX0_set_21 : decode cX0_set 21 = .ok (.astore 5, 2) := dk_58 5 (dk_at dksX0_set_0 21 rfl rfl)
theorem dX0_set_23 : decode cX0_set 23 = .ok (.bipush (-11), 2) := dk_16 245 (dk_at dksX0_set_1 0 rfl rfl)
theorem dX0_set_25 : decode cX0_set 25 = .ok (.ireturn, 1) := dk_172 (dk_at dksX0_set_1 2 rfl rfl)
theorem dX0_set_26 : decode cX0_set 26 = .ok (.astore 5, 2) := dk_58 5 (dk_at dksX0_set_1 3 rfl rfl)
theorem dX0_set_28 : decode cX0_set 28 = .ok (.bipush (-13), 2) := dk_16 243 (dk_at dksX0_set_1 5 rfl rfl)
theorem dX0_set_30 : decode cX0_set 30 = .ok (.ireturn, 1) := dk_172 (dk_at dksX0_set_1 7 rfl rfl)
theorem dX0_set_31 : decode cX0_set 31 = .ok (.iconst 1, 1) := dk_4 (dk_at dksX0_set_1 8 rfl rfl)
theorem dX0_set_32 : decode cX0_set 32 = .ok (.ireturn, 1) := dk_172 (dk_at dksX0_set_1 9 rfl rfl)
abbrev cX0_get : ByteArray := prog_1_method_59_code
def yX0_get : MethodName := ⟨RX0, "get", "(II)J"⟩
def dkwX0_get_1 : List UInt8 := [173]
abbrev dktX0_get_1 : List UInt8 := dkwX0_get_1 ++ []
def dkwX0_get_0 : List UInt8 := [27, 184, 1, 189, 154, 0, 7, 20, 0, 129, 173, 42, 180, 0, 82, 27, 50, 28, 47, 173, 78, 20, 0, 129]
abbrev dktX0_get_0 : List UInt8 := dkwX0_get_0 ++ dktX0_get_1
theorem dksX0_get_0 : cX0_get.data.toList.drop 0 = dktX0_get_0 := by decide +kernel
theorem dksX0_get_1 : cX0_get.data.toList.drop 24 = dktX0_get_1 := dk_seg dksX0_get_0 24 rfl rfl
theorem dX0_get_0 : decode cX0_get 0 = .ok (.iload_n 1, 1) := dk_27 (dk_at dksX0_get_0 0 rfl rfl)
theorem dX0_get_1 : decode cX0_get 1 = .ok (.invokestatic 445, 3) := dk_184 1 189 (dk_at dksX0_get_0 1 rfl rfl)
theorem dX0_get_4 : decode cX0_get 4 = .ok (.ifCond .ne 7, 3) := dk_154 0 7 (dk_at dksX0_get_0 4 rfl rfl)
theorem dX0_get_7 : decode cX0_get 7 = .ok (.ldc2_w 129, 3) := dk_20 0 129 (dk_at dksX0_get_0 7 rfl rfl)
theorem dX0_get_10 : decode cX0_get 10 = .ok (.lreturn, 1) := dk_173 (dk_at dksX0_get_0 10 rfl rfl)
theorem dX0_get_11 : decode cX0_get 11 = .ok (.aload_n 0, 1) := dk_42 (dk_at dksX0_get_0 11 rfl rfl)
theorem dX0_get_12 : decode cX0_get 12 = .ok (.getfield 82, 3) := dk_180 0 82 (dk_at dksX0_get_0 12 rfl rfl)
theorem dX0_get_15 : decode cX0_get 15 = .ok (.iload_n 1, 1) := dk_27 (dk_at dksX0_get_0 15 rfl rfl)
theorem dX0_get_16 : decode cX0_get 16 = .ok (.aaload, 1) := dk_50 (dk_at dksX0_get_0 16 rfl rfl)
theorem dX0_get_17 : decode cX0_get 17 = .ok (.iload_n 2, 1) := dk_28 (dk_at dksX0_get_0 17 rfl rfl)
theorem dX0_get_18 : decode cX0_get 18 = .ok (.laload, 1) := dk_47 (dk_at dksX0_get_0 18 rfl rfl)
theorem dX0_get_19 : decode cX0_get 19 = .ok (.lreturn, 1) := dk_173 (dk_at dksX0_get_0 19 rfl rfl)
theorem dX0_get_20 : decode cX0_get 20 = .ok (.astore_n 3, 1) := dk_78 (dk_at dksX0_get_0 20 rfl rfl)
theorem dX0_get_21 : decode cX0_get 21 = .ok (.ldc2_w 129, 3) := dk_20 0 129 (dk_at dksX0_get_0 21 rfl rfl)
theorem dX0_get_24 : decode cX0_get 24 = .ok (.lreturn, 1) := dk_173 (dk_at dksX0_get_1 0 rfl rfl)
abbrev cX0_into : ByteArray := prog_1_method_61_code
def yX0_into : MethodName := ⟨RX0, "into", "(IIII)I"⟩
def dkwX0_into_5 : List UInt8 := [21, 4, 21, 6, 96, 42, 25, 5, 28, 21, 6, 182, 1, 198, 80, 132, 6, 1, 167, 255, 200, 21, 6, 172]
abbrev dktX0_into_5 : List UInt8 := dkwX0_into_5 ++ []
def dkwX0_into_4 : List UInt8 := [162, 0, 45, 21, 4, 42, 180, 0, 82, 29, 50, 190, 21, 6, 100, 162, 0, 30, 42, 180, 0, 82, 29, 50]
abbrev dktX0_into_4 : List UInt8 := dkwX0_into_4 ++ dktX0_into_5
def dkwX0_into_3 : List UInt8 := [42, 180, 0, 18, 58, 5, 3, 54, 6, 21, 6, 28, 5, 162, 0, 8, 16, 6, 167, 0, 5, 16, 9]
abbrev dktX0_into_3 : List UInt8 := dkwX0_into_3 ++ dktX0_into_4
def dkwX0_into_2 : List UInt8 := [172, 42, 180, 0, 13, 27, 50, 58, 5, 28, 4, 160, 0, 19, 42, 180, 0, 18, 25, 5, 182, 0, 205, 87]
abbrev dktX0_into_2 : List UInt8 := dkwX0_into_2 ++ dktX0_into_3
def dkwX0_into_1 : List UInt8 := [154, 0, 5, 2, 172, 42, 180, 0, 82, 29, 50, 199, 0, 6, 16, 245, 172, 21, 4, 156, 0, 6, 16, 243]
abbrev dktX0_into_1 : List UInt8 := dkwX0_into_1 ++ dktX0_into_2
def dkwX0_into_0 : List UInt8 := [42, 27, 182, 0, 123, 153, 0, 22, 29, 184, 1, 189, 153, 0, 15, 28, 133, 9, 20, 0, 105, 184, 0, 101]
abbrev dktX0_into_0 : List UInt8 := dkwX0_into_0 ++ dktX0_into_1
theorem dksX0_into_0 : cX0_into.data.toList.drop 0 = dktX0_into_0 := by decide +kernel
theorem dksX0_into_1 : cX0_into.data.toList.drop 24 = dktX0_into_1 := dk_seg dksX0_into_0 24 rfl rfl
theorem dksX0_into_2 : cX0_into.data.toList.drop 48 = dktX0_into_2 := dk_seg dksX0_into_1 24 rfl rfl
theorem dksX0_into_3 : cX0_into.data.toList.drop 72 = dktX0_into_3 := dk_seg dksX0_into_2 24 rfl rfl
theorem dksX0_into_4 : cX0_into.data.toList.drop 95 = dktX0_into_4 := dk_seg dksX0_into_3 23 rfl rfl
theorem dksX0_into_5 : cX0_into.data.toList.drop 119 = dktX0_into_5 := dk_seg dksX0_into_4 24 rfl rfl
theorem dX0_into_0 : decode cX0_into 0 = .ok (.aload_n 0, 1) := dk_42 (dk_at dksX0_into_0 0 rfl rfl)
theorem dX0_into_1 : decode cX0_into 1 = .ok (.iload_n 1, 1) := dk_27 (dk_at dksX0_into_0 1 rfl rfl)
theorem dX0_into_2 : decode cX0_into 2 = .ok (.invokevirtual 123, 3) := dk_182 0 123 (dk_at dksX0_into_0 2 rfl rfl)
theorem dX0_into_5 : decode cX0_into 5 = .ok (.ifCond .eq 22, 3) := dk_153 0 22 (dk_at dksX0_into_0 5 rfl rfl)
theorem dX0_into_8 : decode cX0_into 8 = .ok (.iload_n 3, 1) := dk_29 (dk_at dksX0_into_0 8 rfl rfl)
theorem dX0_into_9 : decode cX0_into 9 = .ok (.invokestatic 445, 3) := dk_184 1 189 (dk_at dksX0_into_0 9 rfl rfl)
theorem dX0_into_12 : decode cX0_into 12 = .ok (.ifCond .eq 15, 3) := dk_153 0 15 (dk_at dksX0_into_0 12 rfl rfl)
theorem dX0_into_15 : decode cX0_into 15 = .ok (.iload_n 2, 1) := dk_28 (dk_at dksX0_into_0 15 rfl rfl)
theorem dX0_into_16 : decode cX0_into 16 = .ok (.i2l, 1) := dk_133 (dk_at dksX0_into_0 16 rfl rfl)
theorem dX0_into_17 : decode cX0_into 17 = .ok (.lconst 0, 1) := dk_9 (dk_at dksX0_into_0 17 rfl rfl)
theorem dX0_into_18 : decode cX0_into 18 = .ok (.ldc2_w 105, 3) := dk_20 0 105 (dk_at dksX0_into_0 18 rfl rfl)
theorem dX0_into_21 : decode cX0_into 21 = .ok (.invokestatic 101, 3) := dk_184 0 101 (dk_at dksX0_into_0 21 rfl rfl)
theorem dX0_into_24 : decode cX0_into 24 = .ok (.ifCond .ne 5, 3) := dk_154 0 5 (dk_at dksX0_into_1 0 rfl rfl)
theorem dX0_into_27 : decode cX0_into 27 = .ok (.iconst (-1), 1) := dk_2 (dk_at dksX0_into_1 3 rfl rfl)
theorem dX0_into_28 : decode cX0_into 28 = .ok (.ireturn, 1) := dk_172 (dk_at dksX0_into_1 4 rfl rfl)
theorem dX0_into_29 : decode cX0_into 29 = .ok (.aload_n 0, 1) := dk_42 (dk_at dksX0_into_1 5 rfl rfl)
theorem dX0_into_30 : decode cX0_into 30 = .ok (.getfield 82, 3) := dk_180 0 82 (dk_at dksX0_into_1 6 rfl rfl)
theorem dX0_into_33 : decode cX0_into 33 = .ok (.iload_n 3, 1) := dk_29 (dk_at dksX0_into_1 9 rfl rfl)
theorem dX0_into_34 : decode cX0_into 34 = .ok (.aaload, 1) := dk_50 (dk_at dksX0_into_1 10 rfl rfl)
theorem dX0_into_35 : decode cX0_into 35 = .ok (.ifnonnull 6, 3) := dk_199 0 6 (dk_at dksX0_into_1 11 rfl rfl)
theorem dX0_into_38 : decode cX0_into 38 = .ok (.bipush (-11), 2) := dk_16 245 (dk_at dksX0_into_1 14 rfl rfl)
theorem dX0_into_40 : decode cX0_into 40 = .ok (.ireturn, 1) := dk_172 (dk_at dksX0_into_1 16 rfl rfl)
theorem dX0_into_41 : decode cX0_into 41 = .ok (.iload 4, 2) := dk_21 4 (dk_at dksX0_into_1 17 rfl rfl)
theorem dX0_into_43 : decode cX0_into 43 = .ok (.ifCond .ge 6, 3) := dk_156 0 6 (dk_at dksX0_into_1 19 rfl rfl)
theorem dX0_into_46 : decode cX0_into 46 = .ok (.bipush (-13), 2) := dk_16 243 (dk_at dksX0_into_1 22 rfl rfl)
theorem dX0_into_48 : decode cX0_into 48 = .ok (.ireturn, 1) := dk_172 (dk_at dksX0_into_2 0 rfl rfl)
theorem dX0_into_49 : decode cX0_into 49 = .ok (.aload_n 0, 1) := dk_42 (dk_at dksX0_into_2 1 rfl rfl)
theorem dX0_into_50 : decode cX0_into 50 = .ok (.getfield 13, 3) := dk_180 0 13 (dk_at dksX0_into_2 2 rfl rfl)
theorem dX0_into_53 : decode cX0_into 53 = .ok (.iload_n 1, 1) := dk_27 (dk_at dksX0_into_2 5 rfl rfl)
theorem dX0_into_54 : decode cX0_into 54 = .ok (.aaload, 1) := dk_50 (dk_at dksX0_into_2 6 rfl rfl)
theorem dX0_into_55 : decode cX0_into 55 = .ok (.astore 5, 2) := dk_58 5 (dk_at dksX0_into_2 7 rfl rfl)
theorem dX0_into_57 : decode cX0_into 57 = .ok (.iload_n 2, 1) := dk_28 (dk_at dksX0_into_2 9 rfl rfl)
theorem dX0_into_58 : decode cX0_into 58 = .ok (.iconst 1, 1) := dk_4 (dk_at dksX0_into_2 10 rfl rfl)
theorem dX0_into_59 : decode cX0_into 59 = .ok (.if_icmp .ne 19, 3) := dk_160 0 19 (dk_at dksX0_into_2 11 rfl rfl)
theorem dX0_into_62 : decode cX0_into 62 = .ok (.aload_n 0, 1) := dk_42 (dk_at dksX0_into_2 14 rfl rfl)
theorem dX0_into_63 : decode cX0_into 63 = .ok (.getfield 18, 3) := dk_180 0 18 (dk_at dksX0_into_2 15 rfl rfl)
theorem dX0_into_66 : decode cX0_into 66 = .ok (.aload 5, 2) := dk_25 5 (dk_at dksX0_into_2 18 rfl rfl)
theorem dX0_into_68 : decode cX0_into 68 = .ok (.invokevirtual 205, 3) := dk_182 0 205 (dk_at dksX0_into_2 20 rfl rfl)
theorem dX0_into_71 : decode cX0_into 71 = .ok (.pop, 1) := dk_87 (dk_at dksX0_into_2 23 rfl rfl)
theorem dX0_into_72 : decode cX0_into 72 = .ok (.aload_n 0, 1) := dk_42 (dk_at dksX0_into_3 0 rfl rfl)
theorem dX0_into_73 : decode cX0_into 73 = .ok (.getfield 18, 3) := dk_180 0 18 (dk_at dksX0_into_3 1 rfl rfl)
theorem dX0_into_76 : decode cX0_into 76 = .ok (.astore 5, 2) := dk_58 5 (dk_at dksX0_into_3 4 rfl rfl)
theorem dX0_into_78 : decode cX0_into 78 = .ok (.iconst 0, 1) := dk_3 (dk_at dksX0_into_3 6 rfl rfl)
theorem dX0_into_79 : decode cX0_into 79 = .ok (.istore 6, 2) := dk_54 6 (dk_at dksX0_into_3 7 rfl rfl)
theorem dX0_into_81 : decode cX0_into 81 = .ok (.iload 6, 2) := dk_21 6 (dk_at dksX0_into_3 9 rfl rfl)
theorem dX0_into_83 : decode cX0_into 83 = .ok (.iload_n 2, 1) := dk_28 (dk_at dksX0_into_3 11 rfl rfl)
theorem dX0_into_84 : decode cX0_into 84 = .ok (.iconst 2, 1) := dk_5 (dk_at dksX0_into_3 12 rfl rfl)
theorem dX0_into_85 : decode cX0_into 85 = .ok (.if_icmp .ge 8, 3) := dk_162 0 8 (dk_at dksX0_into_3 13 rfl rfl)
theorem dX0_into_88 : decode cX0_into 88 = .ok (.bipush 6, 2) := dk_16 6 (dk_at dksX0_into_3 16 rfl rfl)
theorem dX0_into_90 : decode cX0_into 90 = .ok (.goto 5, 3) := dk_167 0 5 (dk_at dksX0_into_3 18 rfl rfl)
theorem dX0_into_93 : decode cX0_into 93 = .ok (.bipush 9, 2) := dk_16 9 (dk_at dksX0_into_3 21 rfl rfl)
theorem dX0_into_95 : decode cX0_into 95 = .ok (.if_icmp .ge 45, 3) := dk_162 0 45 (dk_at dksX0_into_4 0 rfl rfl)
theorem dX0_into_98 : decode cX0_into 98 = .ok (.iload 4, 2) := dk_21 4 (dk_at dksX0_into_4 3 rfl rfl)
theorem dX0_into_100 : decode cX0_into 100 = .ok (.aload_n 0, 1) := dk_42 (dk_at dksX0_into_4 5 rfl rfl)
theorem dX0_into_101 : decode cX0_into 101 = .ok (.getfield 82, 3) := dk_180 0 82 (dk_at dksX0_into_4 6 rfl rfl)
theorem dX0_into_104 : decode cX0_into 104 = .ok (.iload_n 3, 1) := dk_29 (dk_at dksX0_into_4 9 rfl rfl)
theorem dX0_into_105 : decode cX0_into 105 = .ok (.aaload, 1) := dk_50 (dk_at dksX0_into_4 10 rfl rfl)
theorem dX0_into_106 : decode cX0_into 106 = .ok (.arraylength, 1) := dk_190 (dk_at dksX0_into_4 11 rfl rfl)
theorem dX0_into_107 : decode cX0_into 107 = .ok (.iload 6, 2) := dk_21 6 (dk_at dksX0_into_4 12 rfl rfl)
theorem dX0_into_109 : decode cX0_into 109 = .ok (.isub, 1) := dk_100 (dk_at dksX0_into_4 14 rfl rfl)
theorem dX0_into_110 : decode cX0_into 110 = .ok (.if_icmp .ge 30, 3) := dk_162 0 30 (dk_at dksX0_into_4 15 rfl rfl)
theorem dX0_into_113 : decode cX0_into 113 = .ok (.aload_n 0, 1) := dk_42 (dk_at dksX0_into_4 18 rfl rfl)
theorem dX0_into_114 : decode cX0_into 114 = .ok (.getfield 82, 3) := dk_180 0 82 (dk_at dksX0_into_4 19 rfl rfl)
theorem dX0_into_117 : decode cX0_into 117 = .ok (.iload_n 3, 1) := dk_29 (dk_at dksX0_into_4 22 rfl rfl)
theorem dX0_into_118 : decode cX0_into 118 = .ok (.aaload, 1) := dk_50 (dk_at dksX0_into_4 23 rfl rfl)
theorem dX0_into_119 : decode cX0_into 119 = .ok (.iload 4, 2) := dk_21 4 (dk_at dksX0_into_5 0 rfl rfl)
theorem dX0_into_121 : decode cX0_into 121 = .ok (.iload 6, 2) := dk_21 6 (dk_at dksX0_into_5 2 rfl rfl)
theorem dX0_into_123 : decode cX0_into 123 = .ok (.iadd, 1) := dk_96 (dk_at dksX0_into_5 4 rfl rfl)
theorem dX0_into_124 : decode cX0_into 124 = .ok (.aload_n 0, 1) := dk_42 (dk_at dksX0_into_5 5 rfl rfl)
theorem dX0_into_125 : decode cX0_into 125 = .ok (.aload 5, 2) := dk_25 5 (dk_at dksX0_into_5 6 rfl rfl)
theorem dX0_into_127 : decode cX0_into 127 = .ok (.iload_n 2, 1) := dk_28 (dk_at dksX0_into_5 8 rfl rfl)
theorem dX0_into_128 : decode cX0_into 128 = .ok (.iload 6, 2) := dk_21 6 (dk_at dksX0_into_5 9 rfl rfl)
theorem dX0_into_130 : decode cX0_into 130 = .ok (.invokevirtual 454, 3) := dk_182 1 198 (dk_at dksX0_into_5 11 rfl rfl)
theorem dX0_into_133 : decode cX0_into 133 = .ok (.lastore, 1) := dk_80 (dk_at dksX0_into_5 14 rfl rfl)
theorem dX0_into_134 : decode cX0_into 134 = .ok (.iinc 6 1, 3) := dk_132 6 1 (dk_at dksX0_into_5 15 rfl rfl)
theorem dX0_into_137 : decode cX0_into 137 = .ok (.goto (-56), 3) := dk_167 255 200 (dk_at dksX0_into_5 18 rfl rfl)
theorem dX0_into_140 : decode cX0_into 140 = .ok (.iload 6, 2) := dk_21 6 (dk_at dksX0_into_5 21 rfl rfl)
theorem dX0_into_142 : decode cX0_into 142 = .ok (.ireturn, 1) := dk_172 (dk_at dksX0_into_5 23 rfl rfl)
abbrev cX0_toldAt : ByteArray := prog_1_method_60_code
def yX0_toldAt : MethodName := ⟨RX0, "toldAt", "(LCellReducer$Cell;II)J"⟩
def dkwX0_toldAt_1 : List UInt8 := [47, 173]
abbrev dktX0_toldAt_1 : List UInt8 := dkwX0_toldAt_1 ++ []
def dkwX0_toldAt_0 : List UInt8 := [28, 5, 162, 0, 11, 43, 29, 182, 0, 131, 167, 0, 15, 43, 180, 0, 145, 29, 6, 108, 50, 29, 6, 112]
abbrev dktX0_toldAt_0 : List UInt8 := dkwX0_toldAt_0 ++ dktX0_toldAt_1
theorem dksX0_toldAt_0 : cX0_toldAt.data.toList.drop 0 = dktX0_toldAt_0 := by decide +kernel
theorem dksX0_toldAt_1 : cX0_toldAt.data.toList.drop 24 = dktX0_toldAt_1 := dk_seg dksX0_toldAt_0 24 rfl rfl
theorem dX0_toldAt_0 : decode cX0_toldAt 0 = .ok (.iload_n 2, 1) := dk_28 (dk_at dksX0_toldAt_0 0 rfl rfl)
theorem dX0_toldAt_1 : decode cX0_toldAt 1 = .ok (.iconst 2, 1) := dk_5 (dk_at dksX0_toldAt_0 1 rfl rfl)
theorem dX0_toldAt_2 : decode cX0_toldAt 2 = .ok (.if_icmp .ge 11, 3) := dk_162 0 11 (dk_at dksX0_toldAt_0 2 rfl rfl)
theorem dX0_toldAt_5 : decode cX0_toldAt 5 = .ok (.aload_n 1, 1) := dk_43 (dk_at dksX0_toldAt_0 5 rfl rfl)
theorem dX0_toldAt_6 : decode cX0_toldAt 6 = .ok (.iload_n 3, 1) := dk_29 (dk_at dksX0_toldAt_0 6 rfl rfl)
theorem dX0_toldAt_7 : decode cX0_toldAt 7 = .ok (.invokevirtual 131, 3) := dk_182 0 131 (dk_at dksX0_toldAt_0 7 rfl rfl)
theorem dX0_toldAt_10 : decode cX0_toldAt 10 = .ok (.goto 15, 3) := dk_167 0 15 (dk_at dksX0_toldAt_0 10 rfl rfl)
theorem dX0_toldAt_13 : decode cX0_toldAt 13 = .ok (.aload_n 1, 1) := dk_43 (dk_at dksX0_toldAt_0 13 rfl rfl)
theorem dX0_toldAt_14 : decode cX0_toldAt 14 = .ok (.getfield 145, 3) := dk_180 0 145 (dk_at dksX0_toldAt_0 14 rfl rfl)
theorem dX0_toldAt_17 : decode cX0_toldAt 17 = .ok (.iload_n 3, 1) := dk_29 (dk_at dksX0_toldAt_0 17 rfl rfl)
theorem dX0_toldAt_18 : decode cX0_toldAt 18 = .ok (.iconst 3, 1) := dk_6 (dk_at dksX0_toldAt_0 18 rfl rfl)
theorem dX0_toldAt_19 : decode cX0_toldAt 19 = .ok (.idiv, 1) := dk_108 (dk_at dksX0_toldAt_0 19 rfl rfl)
theorem dX0_toldAt_20 : decode cX0_toldAt 20 = .ok (.aaload, 1) := dk_50 (dk_at dksX0_toldAt_0 20 rfl rfl)
theorem dX0_toldAt_21 : decode cX0_toldAt 21 = .ok (.iload_n 3, 1) := dk_29 (dk_at dksX0_toldAt_0 21 rfl rfl)
theorem dX0_toldAt_22 : decode cX0_toldAt 22 = .ok (.iconst 3, 1) := dk_6 (dk_at dksX0_toldAt_0 22 rfl rfl)
theorem dX0_toldAt_23 : decode cX0_toldAt 23 = .ok (.irem, 1) := dk_112 (dk_at dksX0_toldAt_0 23 rfl rfl)
theorem dX0_toldAt_24 : decode cX0_toldAt 24 = .ok (.laload, 1) := dk_47 (dk_at dksX0_toldAt_1 0 rfl rfl)
theorem dX0_toldAt_25 : decode cX0_toldAt 25 = .ok (.lreturn, 1) := dk_173 (dk_at dksX0_toldAt_1 1 rfl rfl)
abbrev cX0_from : ByteArray := prog_1_method_62_code
def yX0_from : MethodName := ⟨RX0, "from", "(II)I"⟩
def dkwX0_from_3 : List UInt8 := [182, 0, 115, 87, 42, 182, 0, 119, 172]
abbrev dktX0_from_3 : List UInt8 := dkwX0_from_3 ++ []
def dkwX0_from_2 : List UInt8 := [4, 96, 47, 45, 28, 5, 96, 47, 45, 28, 6, 96, 47, 45, 28, 7, 96, 47, 45, 28, 8, 96, 47]
abbrev dktX0_from_2 : List UInt8 := dkwX0_from_2 ++ dktX0_from_3
def dkwX0_from_1 : List UInt8 := [155, 0, 12, 28, 45, 190, 16, 6, 100, 164, 0, 6, 16, 243, 172, 42, 180, 0, 25, 45, 28, 47, 45, 28]
abbrev dktX0_from_1 : List UInt8 := dkwX0_from_1 ++ dktX0_from_2
def dkwX0_from_0 : List UInt8 := [27, 184, 1, 189, 154, 0, 5, 2, 172, 42, 180, 0, 82, 27, 50, 78, 45, 199, 0, 6, 16, 245, 172, 28]
abbrev dktX0_from_0 : List UInt8 := dkwX0_from_0 ++ dktX0_from_1
theorem dksX0_from_0 : cX0_from.data.toList.drop 0 = dktX0_from_0 := by decide +kernel
theorem dksX0_from_1 : cX0_from.data.toList.drop 24 = dktX0_from_1 := dk_seg dksX0_from_0 24 rfl rfl
theorem dksX0_from_2 : cX0_from.data.toList.drop 48 = dktX0_from_2 := dk_seg dksX0_from_1 24 rfl rfl
theorem dksX0_from_3 : cX0_from.data.toList.drop 71 = dktX0_from_3 := dk_seg dksX0_from_2 23 rfl rfl
theorem dX0_from_0 : decode cX0_from 0 = .ok (.iload_n 1, 1) := dk_27 (dk_at dksX0_from_0 0 rfl rfl)
theorem dX0_from_1 : decode cX0_from 1 = .ok (.invokestatic 445, 3) := dk_184 1 189 (dk_at dksX0_from_0 1 rfl rfl)
theorem dX0_from_4 : decode cX0_from 4 = .ok (.ifCond .ne 5, 3) := dk_154 0 5 (dk_at dksX0_from_0 4 rfl rfl)
theorem dX0_from_7 : decode cX0_from 7 = .ok (.iconst (-1), 1) := dk_2 (dk_at dksX0_from_0 7 rfl rfl)
theorem dX0_from_8 : decode cX0_from 8 = .ok (.ireturn, 1) := dk_172 (dk_at dksX0_from_0 8 rfl rfl)
theorem dX0_from_9 : decode cX0_from 9 = .ok (.aload_n 0, 1) := dk_42 (dk_at dksX0_from_0 9 rfl rfl)
theorem dX0_from_10 : decode cX0_from 10 = .ok (.getfield 82, 3) := dk_180 0 82 (dk_at dksX0_from_0 10 rfl rfl)
theorem dX0_from_13 : decode cX0_from 13 = .ok (.iload_n 1, 1) := dk_27 (dk_at dksX0_from_0 13 rfl rfl)
theorem dX0_from_14 : decode cX0_from 14 = .ok (.aaload, 1) := dk_50 (dk_at dksX0_from_0 14 rfl rfl)
theorem dX0_from_15 : decode cX0_from 15 = .ok (.astore_n 3, 1) := dk_78 (dk_at dksX0_from_0 15 rfl rfl)
theorem dX0_from_16 : decode cX0_from 16 = .ok (.aload_n 3, 1) := dk_45 (dk_at dksX0_from_0 16 rfl rfl)
theorem dX0_from_17 : decode cX0_from 17 = .ok (.ifnonnull 6, 3) := dk_199 0 6 (dk_at dksX0_from_0 17 rfl rfl)
theorem dX0_from_20 : decode cX0_from 20 = .ok (.bipush (-11), 2) := dk_16 245 (dk_at dksX0_from_0 20 rfl rfl)
theorem dX0_from_22 : decode cX0_from 22 = .ok (.ireturn, 1) := dk_172 (dk_at dksX0_from_0 22 rfl rfl)
theorem dX0_from_23 : decode cX0_from 23 = .ok (.iload_n 2, 1) := dk_28 (dk_at dksX0_from_0 23 rfl rfl)
theorem dX0_from_24 : decode cX0_from 24 = .ok (.ifCond .lt 12, 3) := dk_155 0 12 (dk_at dksX0_from_1 0 rfl rfl)
theorem dX0_from_27 : decode cX0_from 27 = .ok (.iload_n 2, 1) := dk_28 (dk_at dksX0_from_1 3 rfl rfl)
theorem dX0_from_28 : decode cX0_from 28 = .ok (.aload_n 3, 1) := dk_45 (dk_at dksX0_from_1 4 rfl rfl)
theorem dX0_from_29 : decode cX0_from 29 = .ok (.arraylength, 1) := dk_190 (dk_at dksX0_from_1 5 rfl rfl)
theorem dX0_from_30 : decode cX0_from 30 = .ok (.bipush 6, 2) := dk_16 6 (dk_at dksX0_from_1 6 rfl rfl)
theorem dX0_from_32 : decode cX0_from 32 = .ok (.isub, 1) := dk_100 (dk_at dksX0_from_1 8 rfl rfl)
theorem dX0_from_33 : decode cX0_from 33 = .ok (.if_icmp .le 6, 3) := dk_164 0 6 (dk_at dksX0_from_1 9 rfl rfl)
theorem dX0_from_36 : decode cX0_from 36 = .ok (.bipush (-13), 2) := dk_16 243 (dk_at dksX0_from_1 12 rfl rfl)
theorem dX0_from_38 : decode cX0_from 38 = .ok (.ireturn, 1) := dk_172 (dk_at dksX0_from_1 14 rfl rfl)
theorem dX0_from_39 : decode cX0_from 39 = .ok (.aload_n 0, 1) := dk_42 (dk_at dksX0_from_1 15 rfl rfl)
theorem dX0_from_40 : decode cX0_from 40 = .ok (.getfield 25, 3) := dk_180 0 25 (dk_at dksX0_from_1 16 rfl rfl)
theorem dX0_from_43 : decode cX0_from 43 = .ok (.aload_n 3, 1) := dk_45 (dk_at dksX0_from_1 19 rfl rfl)
theorem dX0_from_44 : decode cX0_from 44 = .ok (.iload_n 2, 1) := dk_28 (dk_at dksX0_from_1 20 rfl rfl)
theorem dX0_from_45 : decode cX0_from 45 = .ok (.laload, 1) := dk_47 (dk_at dksX0_from_1 21 rfl rfl)
theorem dX0_from_46 : decode cX0_from 46 = .ok (.aload_n 3, 1) := dk_45 (dk_at dksX0_from_1 22 rfl rfl)
theorem dX0_from_47 : decode cX0_from 47 = .ok (.iload_n 2, 1) := dk_28 (dk_at dksX0_from_1 23 rfl rfl)
theorem dX0_from_48 : decode cX0_from 48 = .ok (.iconst 1, 1) := dk_4 (dk_at dksX0_from_2 0 rfl rfl)
theorem dX0_from_49 : decode cX0_from 49 = .ok (.iadd, 1) := dk_96 (dk_at dksX0_from_2 1 rfl rfl)
theorem dX0_from_50 : decode cX0_from 50 = .ok (.laload, 1) := dk_47 (dk_at dksX0_from_2 2 rfl rfl)
theorem dX0_from_51 : decode cX0_from 51 = .ok (.aload_n 3, 1) := dk_45 (dk_at dksX0_from_2 3 rfl rfl)
theorem dX0_from_52 : decode cX0_from 52 = .ok (.iload_n 2, 1) := dk_28 (dk_at dksX0_from_2 4 rfl rfl)
theorem dX0_from_53 : decode cX0_from 53 = .ok (.iconst 2, 1) := dk_5 (dk_at dksX0_from_2 5 rfl rfl)
theorem dX0_from_54 : decode cX0_from 54 = .ok (.iadd, 1) := dk_96 (dk_at dksX0_from_2 6 rfl rfl)
theorem dX0_from_55 : decode cX0_from 55 = .ok (.laload, 1) := dk_47 (dk_at dksX0_from_2 7 rfl rfl)
theorem dX0_from_56 : decode cX0_from 56 = .ok (.aload_n 3, 1) := dk_45 (dk_at dksX0_from_2 8 rfl rfl)
theorem dX0_from_57 : decode cX0_from 57 = .ok (.iload_n 2, 1) := dk_28 (dk_at dksX0_from_2 9 rfl rfl)
theorem dX0_from_58 : decode cX0_from 58 = .ok (.iconst 3, 1) := dk_6 (dk_at dksX0_from_2 10 rfl rfl)
theorem dX0_from_59 : decode cX0_from 59 = .ok (.iadd, 1) := dk_96 (dk_at dksX0_from_2 11 rfl rfl)
theorem dX0_from_60 : decode cX0_from 60 = .ok (.laload, 1) := dk_47 (dk_at dksX0_from_2 12 rfl rfl)
theorem dX0_from_61 : decode cX0_from 61 = .ok (.aload_n 3, 1) := dk_45 (dk_at dksX0_from_2 13 rfl rfl)
theorem dX0_from_62 : decode cX0_from 62 = .ok (.iload_n 2, 1) := dk_28 (dk_at dksX0_from_2 14 rfl rfl)
theorem dX0_from_63 : decode cX0_from 63 = .ok (.iconst 4, 1) := dk_7 (dk_at dksX0_from_2 15 rfl rfl)
theorem dX0_from_64 : decode cX0_from 64 = .ok (.iadd, 1) := dk_96 (dk_at dksX0_from_2 16 rfl rfl)
theorem dX0_from_65 : decode cX0_from 65 = .ok (.laload, 1) := dk_47 (dk_at dksX0_from_2 17 rfl rfl)
theorem dX0_from_66 : decode cX0_from 66 = .ok (.aload_n 3, 1) := dk_45 (dk_at dksX0_from_2 18 rfl rfl)
theorem dX0_from_67 : decode cX0_from 67 = .ok (.iload_n 2, 1) := dk_28 (dk_at dksX0_from_2 19 rfl rfl)
theorem dX0_from_68 : decode cX0_from 68 = .ok (.iconst 5, 1) := dk_8 (dk_at dksX0_from_2 20 rfl rfl)
theorem dX0_from_69 : decode cX0_from 69 = .ok (.iadd, 1) := dk_96 (dk_at dksX0_from_2 21 rfl rfl)
theorem dX0_from_70 : decode cX0_from 70 = .ok (.laload, 1) := dk_47 (dk_at dksX0_from_2 22 rfl rfl)
theorem dX0_from_71 : decode cX0_from 71 = .ok (.invokevirtual 115, 3) := dk_182 0 115 (dk_at dksX0_from_3 0 rfl rfl)
theorem dX0_from_74 : decode cX0_from 74 = .ok (.pop, 1) := dk_87 (dk_at dksX0_from_3 3 rfl rfl)
theorem dX0_from_75 : decode cX0_from 75 = .ok (.aload_n 0, 1) := dk_42 (dk_at dksX0_from_3 4 rfl rfl)
theorem dX0_from_76 : decode cX0_from 76 = .ok (.invokevirtual 119, 3) := dk_182 0 119 (dk_at dksX0_from_3 5 rfl rfl)
theorem dX0_from_79 : decode cX0_from 79 = .ok (.ireturn, 1) := dk_172 (dk_at dksX0_from_3 8 rfl rfl)
abbrev cX0_image : ByteArray := prog_1_method_63_code
def yX0_image : MethodName := ⟨RX0, "image", "()I"⟩
def dkwX0_image_6 : List UInt8 := [182, 1, 102, 167, 255, 223, 42, 180, 0, 98, 172]
abbrev dktX0_image_6 : List UInt8 := dkwX0_image_6 ++ []
def dkwX0_image_5 : List UInt8 := [153, 0, 30, 43, 185, 0, 228, 1, 0, 192, 0, 184, 182, 0, 216, 61, 42, 180, 0, 91, 28, 184, 0, 183]
abbrev dktX0_image_5 : List UInt8 := dkwX0_image_5 ++ dktX0_image_6
def dkwX0_image_4 : List UInt8 := [167, 255, 222, 42, 180, 0, 91, 182, 1, 203, 42, 180, 0, 67, 182, 1, 107, 76, 43, 185, 0, 223, 1, 0]
abbrev dktX0_image_4 : List UInt8 := dkwX0_image_4 ++ dktX0_image_5
def dkwX0_image_3 : List UInt8 := [185, 0, 228, 1, 0, 192, 0, 184, 182, 0, 216, 61, 42, 180, 0, 88, 28, 184, 0, 183, 182, 0, 189, 87]
abbrev dktX0_image_3 : List UInt8 := dkwX0_image_3 ++ dktX0_image_4
def dkwX0_image_2 : List UInt8 := [182, 1, 202, 42, 180, 0, 38, 182, 0, 219, 76, 43, 185, 0, 223, 1, 0, 153, 0, 31, 43]
abbrev dktX0_image_2 : List UInt8 := dkwX0_image_2 ++ dktX0_image_3
def dkwX0_image_1 : List UInt8 := [182, 0, 111, 87, 132, 1, 1, 167, 255, 229, 42, 42, 180, 0, 98, 181, 0, 94, 42, 180, 0, 88]
abbrev dktX0_image_1 : List UInt8 := dkwX0_image_1 ++ dktX0_image_2
def dkwX0_image_0 : List UInt8 := [3, 60, 27, 42, 180, 0, 98, 162, 0, 25, 42, 180, 0, 85, 27, 50, 42, 180, 0, 13, 27, 50]
abbrev dktX0_image_0 : List UInt8 := dkwX0_image_0 ++ dktX0_image_1
theorem dksX0_image_0 : cX0_image.data.toList.drop 0 = dktX0_image_0 := by decide +kernel
theorem dksX0_image_1 : cX0_image.data.toList.drop 22 = dktX0_image_1 := dk_seg dksX0_image_0 22 rfl rfl
theorem dksX0_image_2 : cX0_image.data.toList.drop 44 = dktX0_image_2 := dk_seg dksX0_image_1 22 rfl rfl
theorem dksX0_image_3 : cX0_image.data.toList.drop 65 = dktX0_image_3 := dk_seg dksX0_image_2 21 rfl rfl
theorem dksX0_image_4 : cX0_image.data.toList.drop 89 = dktX0_image_4 := dk_seg dksX0_image_3 24 rfl rfl
theorem dksX0_image_5 : cX0_image.data.toList.drop 113 = dktX0_image_5 := dk_seg dksX0_image_4 24 rfl rfl
theorem dksX0_image_6 : cX0_image.data.toList.drop 137 = dktX0_image_6 := dk_seg dksX0_image_5 24 rfl rfl
theorem dX0_image_0 : decode cX0_image 0 = .ok (.iconst 0, 1) := dk_3 (dk_at dksX0_image_0 0 rfl rfl)
theorem dX0_image_1 : decode cX0_image 1 = .ok (.istore_n 1, 1) := dk_60 (dk_at dksX0_image_0 1 rfl rfl)
theorem dX0_image_2 : decode cX0_image 2 = .ok (.iload_n 1, 1) := dk_27 (dk_at dksX0_image_0 2 rfl rfl)
theorem dX0_image_3 : decode cX0_image 3 = .ok (.aload_n 0, 1) := dk_42 (dk_at dksX0_image_0 3 rfl rfl)
theorem dX0_image_4 : decode cX0_image 4 = .ok (.getfield 98, 3) := dk_180 0 98 (dk_at dksX0_image_0 4 rfl rfl)
theorem dX0_image_7 : decode cX0_image 7 = .ok (.if_icmp .ge 25, 3) := dk_162 0 25 (dk_at dksX0_image_0 7 rfl rfl)
theorem dX0_image_10 : decode cX0_image 10 = .ok (.aload_n 0, 1) := dk_42 (dk_at dksX0_image_0 10 rfl rfl)
theorem dX0_image_11 : decode cX0_image 11 = .ok (.getfield 85, 3) := dk_180 0 85 (dk_at dksX0_image_0 11 rfl rfl)
theorem dX0_image_14 : decode cX0_image 14 = .ok (.iload_n 1, 1) := dk_27 (dk_at dksX0_image_0 14 rfl rfl)
theorem dX0_image_15 : decode cX0_image 15 = .ok (.aaload, 1) := dk_50 (dk_at dksX0_image_0 15 rfl rfl)
theorem dX0_image_16 : decode cX0_image 16 = .ok (.aload_n 0, 1) := dk_42 (dk_at dksX0_image_0 16 rfl rfl)
theorem dX0_image_17 : decode cX0_image 17 = .ok (.getfield 13, 3) := dk_180 0 13 (dk_at dksX0_image_0 17 rfl rfl)
theorem dX0_image_20 : decode cX0_image 20 = .ok (.iload_n 1, 1) := dk_27 (dk_at dksX0_image_0 20 rfl rfl)
theorem dX0_image_21 : decode cX0_image 21 = .ok (.aaload, 1) := dk_50 (dk_at dksX0_image_0 21 rfl rfl)
theorem dX0_image_22 : decode cX0_image 22 = .ok (.invokevirtual 111, 3) := dk_182 0 111 (dk_at dksX0_image_1 0 rfl rfl)
theorem dX0_image_25 : decode cX0_image 25 = .ok (.pop, 1) := dk_87 (dk_at dksX0_image_1 3 rfl rfl)
theorem dX0_image_26 : decode cX0_image 26 = .ok (.iinc 1 1, 3) := dk_132 1 1 (dk_at dksX0_image_1 4 rfl rfl)
theorem dX0_image_29 : decode cX0_image 29 = .ok (.goto (-27), 3) := dk_167 255 229 (dk_at dksX0_image_1 7 rfl rfl)
theorem dX0_image_32 : decode cX0_image 32 = .ok (.aload_n 0, 1) := dk_42 (dk_at dksX0_image_1 10 rfl rfl)
theorem dX0_image_33 : decode cX0_image 33 = .ok (.aload_n 0, 1) := dk_42 (dk_at dksX0_image_1 11 rfl rfl)
theorem dX0_image_34 : decode cX0_image 34 = .ok (.getfield 98, 3) := dk_180 0 98 (dk_at dksX0_image_1 12 rfl rfl)
theorem dX0_image_37 : decode cX0_image 37 = .ok (.putfield 94, 3) := dk_181 0 94 (dk_at dksX0_image_1 15 rfl rfl)
theorem dX0_image_40 : decode cX0_image 40 = .ok (.aload_n 0, 1) := dk_42 (dk_at dksX0_image_1 18 rfl rfl)
theorem dX0_image_41 : decode cX0_image 41 = .ok (.getfield 88, 3) := dk_180 0 88 (dk_at dksX0_image_1 19 rfl rfl)
theorem dX0_image_44 : decode cX0_image 44 = .ok (.invokevirtual 458, 3) := dk_182 1 202 (dk_at dksX0_image_2 0 rfl rfl)
theorem dX0_image_47 : decode cX0_image 47 = .ok (.aload_n 0, 1) := dk_42 (dk_at dksX0_image_2 3 rfl rfl)
theorem dX0_image_48 : decode cX0_image 48 = .ok (.getfield 38, 3) := dk_180 0 38 (dk_at dksX0_image_2 4 rfl rfl)
theorem dX0_image_51 : decode cX0_image 51 = .ok (.invokevirtual 219, 3) := dk_182 0 219 (dk_at dksX0_image_2 7 rfl rfl)
theorem dX0_image_54 : decode cX0_image 54 = .ok (.astore_n 1, 1) := dk_76 (dk_at dksX0_image_2 10 rfl rfl)
theorem dX0_image_55 : decode cX0_image 55 = .ok (.aload_n 1, 1) := dk_43 (dk_at dksX0_image_2 11 rfl rfl)
theorem dX0_image_56 : decode cX0_image 56 = .ok (.invokeinterface 223 1, 5) := by decide +kernel
theorem dX0_image_61 : decode cX0_image 61 = .ok (.ifCond .eq 31, 3) := dk_153 0 31 (dk_at dksX0_image_2 17 rfl rfl)
theorem dX0_image_64 : decode cX0_image 64 = .ok (.aload_n 1, 1) := dk_43 (dk_at dksX0_image_2 20 rfl rfl)
theorem dX0_image_65 : decode cX0_image 65 = .ok (.invokeinterface 228 1, 5) := by decide +kernel
theorem dX0_image_70 : decode cX0_image 70 = .ok (.checkcast 184, 3) := dk_192 0 184 (dk_at dksX0_image_3 5 rfl rfl)
theorem dX0_image_73 : decode cX0_image 73 = .ok (.invokevirtual 216, 3) := dk_182 0 216 (dk_at dksX0_image_3 8 rfl rfl)
theorem dX0_image_76 : decode cX0_image 76 = .ok (.istore_n 2, 1) := dk_61 (dk_at dksX0_image_3 11 rfl rfl)
theorem dX0_image_77 : decode cX0_image 77 = .ok (.aload_n 0, 1) := dk_42 (dk_at dksX0_image_3 12 rfl rfl)
theorem dX0_image_78 : decode cX0_image 78 = .ok (.getfield 88, 3) := dk_180 0 88 (dk_at dksX0_image_3 13 rfl rfl)
theorem dX0_image_81 : decode cX0_image 81 = .ok (.iload_n 2, 1) := dk_28 (dk_at dksX0_image_3 16 rfl rfl)
theorem dX0_image_82 : decode cX0_image 82 = .ok (.invokestatic 183, 3) := dk_184 0 183 (dk_at dksX0_image_3 17 rfl rfl)
theorem dX0_image_85 : decode cX0_image 85 = .ok (.invokevirtual 189, 3) := dk_182 0 189 (dk_at dksX0_image_3 20 rfl rfl)
theorem dX0_image_88 : decode cX0_image 88 = .ok (.pop, 1) := dk_87 (dk_at dksX0_image_3 23 rfl rfl)
theorem dX0_image_89 : decode cX0_image 89 = .ok (.goto (-34), 3) := dk_167 255 222 (dk_at dksX0_image_4 0 rfl rfl)
theorem dX0_image_92 : decode cX0_image 92 = .ok (.aload_n 0, 1) := dk_42 (dk_at dksX0_image_4 3 rfl rfl)
theorem dX0_image_93 : decode cX0_image 93 = .ok (.getfield 91, 3) := dk_180 0 91 (dk_at dksX0_image_4 4 rfl rfl)
theorem dX0_image_96 : decode cX0_image 96 = .ok (.invokevirtual 459, 3) := dk_182 1 203 (dk_at dksX0_image_4 7 rfl rfl)
theorem dX0_image_99 : decode cX0_image 99 = .ok (.aload_n 0, 1) := dk_42 (dk_at dksX0_image_4 10 rfl rfl)
theorem dX0_image_100 : decode cX0_image 100 = .ok (.getfield 67, 3) := dk_180 0 67 (dk_at dksX0_image_4 11 rfl rfl)
theorem dX0_image_103 : decode cX0_image 103 = .ok (.invokevirtual 363, 3) := dk_182 1 107 (dk_at dksX0_image_4 14 rfl rfl)
theorem dX0_image_106 : decode cX0_image 106 = .ok (.astore_n 1, 1) := dk_76 (dk_at dksX0_image_4 17 rfl rfl)
theorem dX0_image_107 : decode cX0_image 107 = .ok (.aload_n 1, 1) := dk_43 (dk_at dksX0_image_4 18 rfl rfl)
theorem dX0_image_108 : decode cX0_image 108 = .ok (.invokeinterface 223 1, 5) := by decide +kernel
theorem dX0_image_113 : decode cX0_image 113 = .ok (.ifCond .eq 30, 3) := dk_153 0 30 (dk_at dksX0_image_5 0 rfl rfl)
theorem dX0_image_116 : decode cX0_image 116 = .ok (.aload_n 1, 1) := dk_43 (dk_at dksX0_image_5 3 rfl rfl)
theorem dX0_image_117 : decode cX0_image 117 = .ok (.invokeinterface 228 1, 5) := by decide +kernel
theorem dX0_image_122 : decode cX0_image 122 = .ok (.checkcast 184, 3) := dk_192 0 184 (dk_at dksX0_image_5 9 rfl rfl)
theorem dX0_image_125 : decode cX0_image 125 = .ok (.invokevirtual 216, 3) := dk_182 0 216 (dk_at dksX0_image_5 12 rfl rfl)
theorem dX0_image_128 : decode cX0_image 128 = .ok (.istore_n 2, 1) := dk_61 (dk_at dksX0_image_5 15 rfl rfl)
theorem dX0_image_129 : decode cX0_image 129 = .ok (.aload_n 0, 1) := dk_42 (dk_at dksX0_image_5 16 rfl rfl)
theorem dX0_image_130 : decode cX0_image 130 = .ok (.getfield 91, 3) := dk_180 0 91 (dk_at dksX0_image_5 17 rfl rfl)
theorem dX0_image_133 : decode cX0_image 133 = .ok (.iload_n 2, 1) := dk_28 (dk_at dksX0_image_5 20 rfl rfl)
theorem dX0_image_134 : decode cX0_image 134 = .ok (.invokestatic 183, 3) := dk_184 0 183 (dk_at dksX0_image_5 21 rfl rfl)
theorem dX0_image_137 : decode cX0_image 137 = .ok (.invokevirtual 358, 3) := dk_182 1 102 (dk_at dksX0_image_6 0 rfl rfl)
theorem dX0_image_140 : decode cX0_image 140 = .ok (.goto (-33), 3) := dk_167 255 223 (dk_at dksX0_image_6 3 rfl rfl)
theorem dX0_image_143 : decode cX0_image 143 = .ok (.aload_n 0, 1) := dk_42 (dk_at dksX0_image_6 6 rfl rfl)
theorem dX0_image_144 : decode cX0_image 144 = .ok (.getfield 98, 3) := dk_180 0 98 (dk_at dksX0_image_6 7 rfl rfl)
theorem dX0_image_147 : decode cX0_image 147 = .ok (.ireturn, 1) := dk_172 (dk_at dksX0_image_6 10 rfl rfl)
abbrev cX0_back : ByteArray := prog_1_method_64_code
def yX0_back : MethodName := ⟨RX0, "back", "()I"⟩
def dkwX0_back_7 : List UInt8 := [181, 0, 148, 42, 180, 0, 98, 172]
abbrev dktX0_back_7 : List UInt8 := dkwX0_back_7 ++ []
def dkwX0_back_6 : List UInt8 := [192, 0, 184, 182, 0, 216, 61, 42, 180, 0, 67, 28, 184, 0, 183, 182, 1, 102, 167, 255, 223, 42, 3]
abbrev dktX0_back_6 : List UInt8 := dkwX0_back_6 ++ dktX0_back_7
def dkwX0_back_5 : List UInt8 := [180, 0, 91, 182, 1, 107, 76, 43, 185, 0, 223, 1, 0, 153, 0, 30, 43, 185, 0, 228, 1, 0]
abbrev dktX0_back_5 : List UInt8 := dkwX0_back_5 ++ dktX0_back_6
def dkwX0_back_4 : List UInt8 := [180, 0, 38, 28, 184, 0, 183, 182, 0, 189, 87, 167, 255, 222, 42, 180, 0, 67, 182, 1, 203, 42]
abbrev dktX0_back_4 : List UInt8 := dkwX0_back_4 ++ dktX0_back_5
def dkwX0_back_3 : List UInt8 := [185, 0, 223, 1, 0, 153, 0, 31, 43, 185, 0, 228, 1, 0, 192, 0, 184, 182, 0, 216, 61, 42]
abbrev dktX0_back_3 : List UInt8 := dkwX0_back_3 ++ dktX0_back_4
def dkwX0_back_2 : List UInt8 := [132, 1, 1, 167, 255, 229, 42, 180, 0, 38, 182, 1, 202, 42, 180, 0, 88, 182, 0, 219, 76, 43]
abbrev dktX0_back_2 : List UInt8 := dkwX0_back_2 ++ dktX0_back_3
def dkwX0_back_1 : List UInt8 := [180, 0, 98, 162, 0, 25, 42, 180, 0, 13, 27, 50, 42, 180, 0, 85, 27, 50, 182, 0, 111, 87]
abbrev dktX0_back_1 : List UInt8 := dkwX0_back_1 ++ dktX0_back_2
def dkwX0_back_0 : List UInt8 := [42, 180, 0, 94, 156, 0, 6, 16, 251, 172, 42, 42, 180, 0, 94, 181, 0, 98, 3, 60, 27, 42]
abbrev dktX0_back_0 : List UInt8 := dkwX0_back_0 ++ dktX0_back_1
theorem dksX0_back_0 : cX0_back.data.toList.drop 0 = dktX0_back_0 := by decide +kernel
theorem dksX0_back_1 : cX0_back.data.toList.drop 22 = dktX0_back_1 := dk_seg dksX0_back_0 22 rfl rfl
theorem dksX0_back_2 : cX0_back.data.toList.drop 44 = dktX0_back_2 := dk_seg dksX0_back_1 22 rfl rfl
theorem dksX0_back_3 : cX0_back.data.toList.drop 66 = dktX0_back_3 := dk_seg dksX0_back_2 22 rfl rfl
theorem dksX0_back_4 : cX0_back.data.toList.drop 88 = dktX0_back_4 := dk_seg dksX0_back_3 22 rfl rfl
theorem dksX0_back_5 : cX0_back.data.toList.drop 110 = dktX0_back_5 := dk_seg dksX0_back_4 22 rfl rfl
theorem dksX0_back_6 : cX0_back.data.toList.drop 132 = dktX0_back_6 := dk_seg dksX0_back_5 22 rfl rfl
theorem dksX0_back_7 : cX0_back.data.toList.drop 155 = dktX0_back_7 := dk_seg dksX0_back_6 23 rfl rfl
theorem dX0_back_0 : decode cX0_back 0 = .ok (.aload_n 0, 1) := dk_42 (dk_at dksX0_back_0 0 rfl rfl)
theorem dX0_back_1 : decode cX0_back 1 = .ok (.getfield 94, 3) := dk_180 0 94 (dk_at dksX0_back_0 1 rfl rfl)
theorem dX0_back_4 : decode cX0_back 4 = .ok (.ifCond .ge 6, 3) := dk_156 0 6 (dk_at dksX0_back_0 4 rfl rfl)
theorem dX0_back_7 : decode cX0_back 7 = .ok (.bipush (-5), 2) := dk_16 251 (dk_at dksX0_back_0 7 rfl rfl)
theorem dX0_back_9 : decode cX0_back 9 = .ok (.ireturn, 1) := dk_172 (dk_at dksX0_back_0 9 rfl rfl)
theorem dX0_back_10 : decode cX0_back 10 = .ok (.aload_n 0, 1) := dk_42 (dk_at dksX0_back_0 10 rfl rfl)
theorem dX0_back_11 : decode cX0_back 11 = .ok (.aload_n 0, 1) := dk_42 (dk_at dksX0_back_0 11 rfl rfl)
theorem dX0_back_12 : decode cX0_back 12 = .ok (.getfield 94, 3) := dk_180 0 94 (dk_at dksX0_back_0 12 rfl rfl)
theorem dX0_back_15 : decode cX0_back 15 = .ok (.putfield 98, 3) := dk_181 0 98 (dk_at dksX0_back_0 15 rfl rfl)
theorem dX0_back_18 : decode cX0_back 18 = .ok (.iconst 0, 1) := dk_3 (dk_at dksX0_back_0 18 rfl rfl)
theorem dX0_back_19 : decode cX0_back 19 = .ok (.istore_n 1, 1) := dk_60 (dk_at dksX0_back_0 19 rfl rfl)
theorem dX0_back_20 : decode cX0_back 20 = .ok (.iload_n 1, 1) := dk_27 (dk_at dksX0_back_0 20 rfl rfl)
theorem dX0_back_21 : decode cX0_back 21 = .ok (.aload_n 0, 1) := dk_42 (dk_at dksX0_back_0 21 rfl rfl)
theorem dX0_back_22 : decode cX0_back 22 = .ok (.getfield 98, 3) := dk_180 0 98 (dk_at dksX0_back_1 0 rfl rfl)
theorem dX0_back_25 : decode cX0_back 25 = .ok (.if_icmp .ge 25, 3) := dk_162 0 25 (dk_at dksX0_back_1 3 rfl rfl)
theorem dX0_back_28 : decode cX0_back 28 = .ok (.aload_n 0, 1) := dk_42 (dk_at dksX0_back_1 6 rfl rfl)
theorem dX0_back_29 : decode cX0_back 29 = .ok (.getfield 13, 3) := dk_180 0 13 (dk_at dksX0_back_1 7 rfl rfl)
theorem dX0_back_32 : decode cX0_back 32 = .ok (.iload_n 1, 1) := dk_27 (dk_at dksX0_back_1 10 rfl rfl)
theorem dX0_back_33 : decode cX0_back 33 = .ok (.aaload, 1) := dk_50 (dk_at dksX0_back_1 11 rfl rfl)
theorem dX0_back_34 : decode cX0_back 34 = .ok (.aload_n 0, 1) := dk_42 (dk_at dksX0_back_1 12 rfl rfl)
theorem dX0_back_35 : decode cX0_back 35 = .ok (.getfield 85, 3) := dk_180 0 85 (dk_at dksX0_back_1 13 rfl rfl)
theorem dX0_back_38 : decode cX0_back 38 = .ok (.iload_n 1, 1) := dk_27 (dk_at dksX0_back_1 16 rfl rfl)
theorem dX0_back_39 : decode cX0_back 39 = .ok (.aaload, 1) := dk_50 (dk_at dksX0_back_1 17 rfl rfl)
theorem dX0_back_40 : decode cX0_back 40 = .ok (.invokevirtual 111, 3) := dk_182 0 111 (dk_at dksX0_back_1 18 rfl rfl)
theorem dX0_back_43 : decode cX0_back 43 = .ok (.pop, 1) := dk_87 (dk_at dksX0_back_1 21 rfl rfl)
theorem dX0_back_44 : decode cX0_back 44 = .ok (.iinc 1 1, 3) := dk_132 1 1 (dk_at dksX0_back_2 0 rfl rfl)
theorem dX0_back_47 : decode cX0_back 47 = .ok (.goto (-27), 3) := dk_167 255 229 (dk_at dksX0_back_2 3 rfl rfl)
theorem dX0_back_50 : decode cX0_back 50 = .ok (.aload_n 0, 1) := dk_42 (dk_at dksX0_back_2 6 rfl rfl)
theorem dX0_back_51 : decode cX0_back 51 = .ok (.getfield 38, 3) := dk_180 0 38 (dk_at dksX0_back_2 7 rfl rfl)
theorem dX0_back_54 : decode cX0_back 54 = .ok (.invokevirtual 458, 3) := dk_182 1 202 (dk_at dksX0_back_2 10 rfl rfl)
theorem dX0_back_57 : decode cX0_back 57 = .ok (.aload_n 0, 1) := dk_42 (dk_at dksX0_back_2 13 rfl rfl)
theorem dX0_back_58 : decode cX0_back 58 = .ok (.getfield 88, 3) := dk_180 0 88 (dk_at dksX0_back_2 14 rfl rfl)
theorem dX0_back_61 : decode cX0_back 61 = .ok (.invokevirtual 219, 3) := dk_182 0 219 (dk_at dksX0_back_2 17 rfl rfl)
theorem dX0_back_64 : decode cX0_back 64 = .ok (.astore_n 1, 1) := dk_76 (dk_at dksX0_back_2 20 rfl rfl)
theorem dX0_back_65 : decode cX0_back 65 = .ok (.aload_n 1, 1) := dk_43 (dk_at dksX0_back_2 21 rfl rfl)
theorem dX0_back_66 : decode cX0_back 66 = .ok (.invokeinterface 223 1, 5) := by decide +kernel
theorem dX0_back_71 : decode cX0_back 71 = .ok (.ifCond .eq 31, 3) := dk_153 0 31 (dk_at dksX0_back_3 5 rfl rfl)
theorem dX0_back_74 : decode cX0_back 74 = .ok (.aload_n 1, 1) := dk_43 (dk_at dksX0_back_3 8 rfl rfl)
theorem dX0_back_75 : decode cX0_back 75 = .ok (.invokeinterface 228 1, 5) := by decide +kernel
theorem dX0_back_80 : decode cX0_back 80 = .ok (.checkcast 184, 3) := dk_192 0 184 (dk_at dksX0_back_3 14 rfl rfl)
theorem dX0_back_83 : decode cX0_back 83 = .ok (.invokevirtual 216, 3) := dk_182 0 216 (dk_at dksX0_back_3 17 rfl rfl)
theorem dX0_back_86 : decode cX0_back 86 = .ok (.istore_n 2, 1) := dk_61 (dk_at dksX0_back_3 20 rfl rfl)
theorem dX0_back_87 : decode cX0_back 87 = .ok (.aload_n 0, 1) := dk_42 (dk_at dksX0_back_3 21 rfl rfl)
theorem dX0_back_88 : decode cX0_back 88 = .ok (.getfield 38, 3) := dk_180 0 38 (dk_at dksX0_back_4 0 rfl rfl)
theorem dX0_back_91 : decode cX0_back 91 = .ok (.iload_n 2, 1) := dk_28 (dk_at dksX0_back_4 3 rfl rfl)
theorem dX0_back_92 : decode cX0_back 92 = .ok (.invokestatic 183, 3) := dk_184 0 183 (dk_at dksX0_back_4 4 rfl rfl)
theorem dX0_back_95 : decode cX0_back 95 = .ok (.invokevirtual 189, 3) := dk_182 0 189 (dk_at dksX0_back_4 7 rfl rfl)
theorem dX0_back_98 : decode cX0_back 98 = .ok (.pop, 1) := dk_87 (dk_at dksX0_back_4 10 rfl rfl)
theorem dX0_back_99 : decode cX0_back 99 = .ok (.goto (-34), 3) := dk_167 255 222 (dk_at dksX0_back_4 11 rfl rfl)
theorem dX0_back_102 : decode cX0_back 102 = .ok (.aload_n 0, 1) := dk_42 (dk_at dksX0_back_4 14 rfl rfl)
theorem dX0_back_103 : decode cX0_back 103 = .ok (.getfield 67, 3) := dk_180 0 67 (dk_at dksX0_back_4 15 rfl rfl)
theorem dX0_back_106 : decode cX0_back 106 = .ok (.invokevirtual 459, 3) := dk_182 1 203 (dk_at dksX0_back_4 18 rfl rfl)
theorem dX0_back_109 : decode cX0_back 109 = .ok (.aload_n 0, 1) := dk_42 (dk_at dksX0_back_4 21 rfl rfl)
theorem dX0_back_110 : decode cX0_back 110 = .ok (.getfield 91, 3) := dk_180 0 91 (dk_at dksX0_back_5 0 rfl rfl)
theorem dX0_back_113 : decode cX0_back 113 = .ok (.invokevirtual 363, 3) := dk_182 1 107 (dk_at dksX0_back_5 3 rfl rfl)
theorem dX0_back_116 : decode cX0_back 116 = .ok (.astore_n 1, 1) := dk_76 (dk_at dksX0_back_5 6 rfl rfl)
theorem dX0_back_117 : decode cX0_back 117 = .ok (.aload_n 1, 1) := dk_43 (dk_at dksX0_back_5 7 rfl rfl)
theorem dX0_back_118 : decode cX0_back 118 = .ok (.invokeinterface 223 1, 5) := by decide +kernel
theorem dX0_back_123 : decode cX0_back 123 = .ok (.ifCond .eq 30, 3) := dk_153 0 30 (dk_at dksX0_back_5 13 rfl rfl)
theorem dX0_back_126 : decode cX0_back 126 = .ok (.aload_n 1, 1) := dk_43 (dk_at dksX0_back_5 16 rfl rfl)
theorem dX0_back_127 : decode cX0_back 127 = .ok (.invokeinterface 228 1, 5) := by decide +kernel
theorem dX0_back_132 : decode cX0_back 132 = .ok (.checkcast 184, 3) := dk_192 0 184 (dk_at dksX0_back_6 0 rfl rfl)
theorem dX0_back_135 : decode cX0_back 135 = .ok (.invokevirtual 216, 3) := dk_182 0 216 (dk_at dksX0_back_6 3 rfl rfl)
theorem dX0_back_138 : decode cX0_back 138 = .ok (.istore_n 2, 1) := dk_61 (dk_at dksX0_back_6 6 rfl rfl)
theorem dX0_back_139 : decode cX0_back 139 = .ok (.aload_n 0, 1) := dk_42 (dk_at dksX0_back_6 7 rfl rfl)
theorem dX0_back_140 : decode cX0_back 140 = .ok (.getfield 67, 3) := dk_180 0 67 (dk_at dksX0_back_6 8 rfl rfl)
theorem dX0_back_143 : decode cX0_back 143 = .ok (.iload_n 2, 1) := dk_28 (dk_at dksX0_back_6 11 rfl rfl)
theorem dX0_back_144 : decode cX0_back 144 = .ok (.invokestatic 183, 3) := dk_184 0 183 (dk_at dksX0_back_6 12 rfl rfl)
theorem dX0_back_147 : decode cX0_back 147 = .ok (.invokevirtual 358, 3) := dk_182 1 102 (dk_at dksX0_back_6 15 rfl rfl)
theorem dX0_back_150 : decode cX0_back 150 = .ok (.goto (-33), 3) := dk_167 255 223 (dk_at dksX0_back_6 18 rfl rfl)
theorem dX0_back_153 : decode cX0_back 153 = .ok (.aload_n 0, 1) := dk_42 (dk_at dksX0_back_6 21 rfl rfl)
theorem dX0_back_154 : decode cX0_back 154 = .ok (.iconst 0, 1) := dk_3 (dk_at dksX0_back_6 22 rfl rfl)
theorem dX0_back_155 : decode cX0_back 155 = .ok (.putfield 148, 3) := dk_181 0 148 (dk_at dksX0_back_7 0 rfl rfl)
theorem dX0_back_158 : decode cX0_back 158 = .ok (.aload_n 0, 1) := dk_42 (dk_at dksX0_back_7 3 rfl rfl)
theorem dX0_back_159 : decode cX0_back 159 = .ok (.getfield 98, 3) := dk_180 0 98 (dk_at dksX0_back_7 4 rfl rfl)
theorem dX0_back_162 : decode cX0_back 162 = .ok (.ireturn, 1) := dk_172 (dk_at dksX0_back_7 7 rfl rfl)
abbrev cX0_count : ByteArray := prog_1_method_65_code
def yX0_count : MethodName := ⟨RX0, "count", "(I)I"⟩
def dkwX0_count_3 : List UInt8 := [180, 0, 148, 172, 42, 180, 1, 122, 172, 42, 180, 0, 77, 182, 1, 179, 172, 42, 180, 0, 193, 172, 2, 172]
abbrev dktX0_count_3 : List UInt8 := dkwX0_count_3 ++ []
def dkwX0_count_2 : List UInt8 := [42, 180, 0, 98, 172, 42, 180, 0, 38, 182, 0, 176, 172, 42, 180, 0, 67, 182, 1, 106, 172, 42]
abbrev dktX0_count_2 : List UInt8 := dkwX0_count_2 ++ dktX0_count_3
def dkwX0_count_1 : List UInt8 := [170, 0, 0, 0, 0, 0, 87, 0, 0, 0, 0, 0, 0, 0, 6, 0, 0, 0, 43, 0, 0, 0, 48, 0, 0, 0, 56, 0, 0, 0, 64, 0, 0, 0, 69, 0, 0, 0, 74, 0, 0, 0, 82]
abbrev dktX0_count_1 : List UInt8 := dkwX0_count_1 ++ dktX0_count_2
def dkwX0_count_0 : List UInt8 := [27]
abbrev dktX0_count_0 : List UInt8 := dkwX0_count_0 ++ dktX0_count_1
theorem dksX0_count_0 : cX0_count.data.toList.drop 0 = dktX0_count_0 := by decide +kernel
theorem dksX0_count_1 : cX0_count.data.toList.drop 1 = dktX0_count_1 := dk_seg dksX0_count_0 1 rfl rfl
theorem dksX0_count_2 : cX0_count.data.toList.drop 44 = dktX0_count_2 := dk_seg dksX0_count_1 43 rfl rfl
theorem dksX0_count_3 : cX0_count.data.toList.drop 66 = dktX0_count_3 := dk_seg dksX0_count_2 22 rfl rfl
theorem dX0_count_0 : decode cX0_count 0 = .ok (.iload_n 1, 1) := dk_27 (dk_at dksX0_count_0 0 rfl rfl)
theorem dX0_count_1 : decode cX0_count 1 = .ok (.tableswitch 87 0 6 #[43, 48, 56, 64, 69, 74, 82], 43) := by decide +kernel
theorem dX0_count_44 : decode cX0_count 44 = .ok (.aload_n 0, 1) := dk_42 (dk_at dksX0_count_2 0 rfl rfl)
theorem dX0_count_45 : decode cX0_count 45 = .ok (.getfield 98, 3) := dk_180 0 98 (dk_at dksX0_count_2 1 rfl rfl)
theorem dX0_count_48 : decode cX0_count 48 = .ok (.ireturn, 1) := dk_172 (dk_at dksX0_count_2 4 rfl rfl)
theorem dX0_count_49 : decode cX0_count 49 = .ok (.aload_n 0, 1) := dk_42 (dk_at dksX0_count_2 5 rfl rfl)
theorem dX0_count_50 : decode cX0_count 50 = .ok (.getfield 38, 3) := dk_180 0 38 (dk_at dksX0_count_2 6 rfl rfl)
theorem dX0_count_53 : decode cX0_count 53 = .ok (.invokevirtual 176, 3) := dk_182 0 176 (dk_at dksX0_count_2 9 rfl rfl)
theorem dX0_count_56 : decode cX0_count 56 = .ok (.ireturn, 1) := dk_172 (dk_at dksX0_count_2 12 rfl rfl)
theorem dX0_count_57 : decode cX0_count 57 = .ok (.aload_n 0, 1) := dk_42 (dk_at dksX0_count_2 13 rfl rfl)
theorem dX0_count_58 : decode cX0_count 58 = .ok (.getfield 67, 3) := dk_180 0 67 (dk_at dksX0_count_2 14 rfl rfl)
theorem dX0_count_61 : decode cX0_count 61 = .ok (.invokevirtual 362, 3) := dk_182 1 106 (dk_at dksX0_count_2 17 rfl rfl)
theorem dX0_count_64 : decode cX0_count 64 = .ok (.ireturn, 1) := dk_172 (dk_at dksX0_count_2 20 rfl rfl)
theorem dX0_count_65 : decode cX0_count 65 = .ok (.aload_n 0, 1) := dk_42 (dk_at dksX0_count_2 21 rfl rfl)
theorem dX0_count_66 : decode cX0_count 66 = .ok (.getfield 148, 3) := dk_180 0 148 (dk_at dksX0_count_3 0 rfl rfl)
theorem dX0_count_69 : decode cX0_count 69 = .ok (.ireturn, 1) := dk_172 (dk_at dksX0_count_3 3 rfl rfl)
theorem dX0_count_70 : decode cX0_count 70 = .ok (.aload_n 0, 1) := dk_42 (dk_at dksX0_count_3 4 rfl rfl)
theorem dX0_count_71 : decode cX0_count 71 = .ok (.getfield 378, 3) := dk_180 1 122 (dk_at dksX0_count_3 5 rfl rfl)
theorem dX0_count_74 : decode cX0_count 74 = .ok (.ireturn, 1) := dk_172 (dk_at dksX0_count_3 8 rfl rfl)
theorem dX0_count_75 : decode cX0_count 75 = .ok (.aload_n 0, 1) := dk_42 (dk_at dksX0_count_3 9 rfl rfl)
theorem dX0_count_76 : decode cX0_count 76 = .ok (.getfield 77, 3) := dk_180 0 77 (dk_at dksX0_count_3 10 rfl rfl)
theorem dX0_count_79 : decode cX0_count 79 = .ok (.invokevirtual 435, 3) := dk_182 1 179 (dk_at dksX0_count_3 13 rfl rfl)
theorem dX0_count_82 : decode cX0_count 82 = .ok (.ireturn, 1) := dk_172 (dk_at dksX0_count_3 16 rfl rfl)
theorem dX0_count_83 : decode cX0_count 83 = .ok (.aload_n 0, 1) := dk_42 (dk_at dksX0_count_3 17 rfl rfl)
theorem dX0_count_84 : decode cX0_count 84 = .ok (.getfield 193, 3) := dk_180 0 193 (dk_at dksX0_count_3 18 rfl rfl)
theorem dX0_count_87 : decode cX0_count 87 = .ok (.ireturn, 1) := dk_172 (dk_at dksX0_count_3 21 rfl rfl)
theorem dX0_count_88 : decode cX0_count 88 = .ok (.iconst (-1), 1) := dk_2 (dk_at dksX0_count_3 22 rfl rfl)
theorem dX0_count_89 : decode cX0_count 89 = .ok (.ireturn, 1) := dk_172 (dk_at dksX0_count_3 23 rfl rfl)
theorem q103 : (Jvm.Cond.initialized "CellReducer") ∈ lw_all := lw_g (lw_at lw_m1 1 rfl) rfl
theorem q162 : (Jvm.Cond.instantiable "CellReducer" (25 : Nat)) ∈ lw_all := lw_g (lw_at lw_m1 60 rfl) rfl
theorem q164 : (Jvm.Cond.instanceMethod ({ cls := "CellReducer", name := "<init>", desc := "()V" } : Jvm.MethodName)) ∈ lw_all := lw_g (lw_at lw_m1 62 rfl) rfl
theorem q165 : (Jvm.Cond.code ({ cls := "CellReducer", name := "<init>", desc := "()V" } : Jvm.MethodName) prog_1_method_2_code (2 : Nat) (Option.none : Option Jvm.ClassFile.FieldType)) ∈ lw_all := lw_g (lw_at lw_m1 63 rfl) rfl
theorem q166 : (Jvm.Cond.methodLink "CellReducer" (3 : Nat) ({ cls := "java/lang/Object", name := "<init>", desc := "()V" } : Jvm.MethodName)) ∈ lw_all := lw_g (lw_at lw_m1 64 rfl) rfl
theorem q169 : (Jvm.Cond.classLink "CellReducer" (11 : Nat) "CellReducer$Cell") ∈ lw_all := lw_g (lw_at lw_m1 67 rfl) rfl
theorem q172 : (Jvm.Cond.methodLinkNest "CellReducer" (17 : Nat) ({ cls := "CellReducer$Cell", name := "<init>", desc := "()V" } : Jvm.MethodName) "CellReducer") ∈ lw_tbl := lw_at lw_m1 70 rfl
theorem q179 : (Jvm.Cond.fieldLinkNest "CellReducer" (139 : Nat) "CellReducer$Cell" "s" "[J" "CellReducer") ∈ lw_tbl := lw_at lw_m1 77 rfl
theorem q181 : (Jvm.Cond.fieldLinkNest "CellReducer" (259 : Nat) "CellReducer$Cell" "d" "[J" "CellReducer") ∈ lw_tbl := lw_at lw_m1 79 rfl
theorem q183 : (Jvm.Cond.fieldLinkNest "CellReducer" (145 : Nat) "CellReducer$Cell" "column" "[[J" "CellReducer") ∈ lw_tbl := lw_at lw_m1 81 rfl
theorem q196 : (Jvm.Cond.classLink "CellReducer" (35 : Nat) "java/util/LinkedList") ∈ lw_all := lw_g (lw_at lw_m1 94 rfl) rfl
theorem q198 : (Jvm.Cond.methodLink "CellReducer" (37 : Nat) ({ cls := "java/util/LinkedList", name := "<init>", desc := "()V" } : Jvm.MethodName)) ∈ lw_all := lw_g (lw_at lw_m1 96 rfl) rfl
theorem q234 : (Jvm.Cond.classLink "CellReducer" (42 : Nat) "[[J") ∈ lw_all := lw_g (lw_at lw_m1 132 rfl) rfl
theorem q235 : (Jvm.Cond.classLink "CellReducer" (51 : Nat) "java/util/BitSet") ∈ lw_all := lw_g (lw_at lw_m1 133 rfl) rfl
theorem q237 : (Jvm.Cond.methodLink "CellReducer" (53 : Nat) ({ cls := "java/util/BitSet", name := "<init>", desc := "()V" } : Jvm.MethodName)) ∈ lw_all := lw_g (lw_at lw_m1 135 rfl) rfl
theorem q258 : (Jvm.Cond.classLink "CellReducer" (64 : Nat) "java/util/ArrayDeque") ∈ lw_all := lw_g (lw_at lw_m1 156 rfl) rfl
theorem q260 : (Jvm.Cond.methodLink "CellReducer" (66 : Nat) ({ cls := "java/util/ArrayDeque", name := "<init>", desc := "()V" } : Jvm.MethodName)) ∈ lw_all := lw_g (lw_at lw_m1 158 rfl) rfl
theorem q278 : (Jvm.Cond.stringRef "CellReducer" (75 : Nat) "") ∈ lw_tbl := lw_at lw_m1 176 rfl
theorem q279 : (Jvm.Cond.classLink "CellReducer" (81 : Nat) "[J") ∈ lw_all := lw_g (lw_at lw_m1 177 rfl) rfl
theorem q280 : (Jvm.Cond.fieldLink "CellReducer" (13 : Nat) "CellReducer" "cells" "[LCellReducer$Cell;") ∈ lw_all := lw_g (lw_at lw_m1 178 rfl) rfl
theorem q281 : (Jvm.Cond.fieldLink "CellReducer" (98 : Nat) "CellReducer" "many" "I") ∈ lw_all := lw_g (lw_at lw_m1 179 rfl) rfl
theorem q282 : (Jvm.Cond.fieldLink "CellReducer" (18 : Nat) "CellReducer" "normal" "LCellReducer$Cell;") ∈ lw_all := lw_g (lw_at lw_m1 180 rfl) rfl
theorem q283 : (Jvm.Cond.fieldLink "CellReducer" (22 : Nat) "CellReducer" "otherNormal" "LCellReducer$Cell;") ∈ lw_all := lw_g (lw_at lw_m1 181 rfl) rfl
theorem q284 : (Jvm.Cond.fieldLink "CellReducer" (25 : Nat) "CellReducer" "tried" "LCellReducer$Cell;") ∈ lw_all := lw_g (lw_at lw_m1 182 rfl) rfl
theorem q286 : (Jvm.Cond.fieldLink "CellReducer" (193 : Nat) "CellReducer" "stepsDone" "I") ∈ lw_all := lw_g (lw_at lw_m1 184 rfl) rfl
theorem q287 : (Jvm.Cond.fieldLink "CellReducer" (28 : Nat) "CellReducer" "was" "[LCellReducer$Cell;") ∈ lw_all := lw_g (lw_at lw_m1 185 rfl) rfl
theorem q288 : (Jvm.Cond.fieldLink "CellReducer" (31 : Nat) "CellReducer" "changed" "[I") ∈ lw_all := lw_g (lw_at lw_m1 186 rfl) rfl
theorem q289 : (Jvm.Cond.fieldLink "CellReducer" (148 : Nat) "CellReducer" "changes" "I") ∈ lw_all := lw_g (lw_at lw_m1 187 rfl) rfl
theorem q290 : (Jvm.Cond.fieldLink "CellReducer" (38 : Nat) "CellReducer" "log" "Ljava/util/LinkedList;") ∈ lw_all := lw_g (lw_at lw_m1 188 rfl) rfl
theorem q291 : (Jvm.Cond.fieldLink "CellReducer" (44 : Nat) "CellReducer" "figures" "[[J") ∈ lw_all := lw_g (lw_at lw_m1 189 rfl) rfl
theorem q292 : (Jvm.Cond.fieldLink "CellReducer" (47 : Nat) "CellReducer" "squares" "[J") ∈ lw_all := lw_g (lw_at lw_m1 190 rfl) rfl
theorem q293 : (Jvm.Cond.fieldLink "CellReducer" (54 : Nat) "CellReducer" "met" "Ljava/util/BitSet;") ∈ lw_all := lw_g (lw_at lw_m1 191 rfl) rfl
theorem q294 : (Jvm.Cond.fieldLink "CellReducer" (58 : Nat) "CellReducer" "subs" "[LCellReducer$Cell;") ∈ lw_all := lw_g (lw_at lw_m1 192 rfl) rfl
theorem q295 : (Jvm.Cond.fieldLink "CellReducer" (301 : Nat) "CellReducer" "subMany" "I") ∈ lw_all := lw_g (lw_at lw_m1 193 rfl) rfl
theorem q296 : (Jvm.Cond.fieldLink "CellReducer" (61 : Nat) "CellReducer" "by" "[J") ∈ lw_all := lw_g (lw_at lw_m1 194 rfl) rfl
theorem q297 : (Jvm.Cond.fieldLink "CellReducer" (67 : Nat) "CellReducer" "line" "Ljava/util/ArrayDeque;") ∈ lw_all := lw_g (lw_at lw_m1 195 rfl) rfl
theorem q299 : (Jvm.Cond.fieldLink "CellReducer" (71 : Nat) "CellReducer" "tape" "[B") ∈ lw_all := lw_g (lw_at lw_m1 197 rfl) rfl
theorem q301 : (Jvm.Cond.fieldLink "CellReducer" (378 : Nat) "CellReducer" "length" "I") ∈ lw_all := lw_g (lw_at lw_m1 199 rfl) rfl
theorem q302 : (Jvm.Cond.fieldLink "CellReducer" (77 : Nat) "CellReducer" "paper" "Ljava/lang/String;") ∈ lw_all := lw_g (lw_at lw_m1 200 rfl) rfl
theorem q303 : (Jvm.Cond.fieldLink "CellReducer" (82 : Nat) "CellReducer" "rows" "[[J") ∈ lw_all := lw_g (lw_at lw_m1 201 rfl) rfl
theorem q304 : (Jvm.Cond.fieldLink "CellReducer" (85 : Nat) "CellReducer" "keptCells" "[LCellReducer$Cell;") ∈ lw_all := lw_g (lw_at lw_m1 202 rfl) rfl
theorem q305 : (Jvm.Cond.fieldLink "CellReducer" (88 : Nat) "CellReducer" "keptLog" "Ljava/util/LinkedList;") ∈ lw_all := lw_g (lw_at lw_m1 203 rfl) rfl
theorem q306 : (Jvm.Cond.fieldLink "CellReducer" (91 : Nat) "CellReducer" "keptLine" "Ljava/util/ArrayDeque;") ∈ lw_all := lw_g (lw_at lw_m1 204 rfl) rfl
theorem q307 : (Jvm.Cond.fieldLink "CellReducer" (94 : Nat) "CellReducer" "keptMany" "I") ∈ lw_all := lw_g (lw_at lw_m1 205 rfl) rfl
theorem q308 : (Jvm.Cond.laysFinal "CellReducer" "CellReducer" "cells" "[LCellReducer$Cell;") ∈ lw_all := lw_g (lw_at lw_m1 206 rfl) rfl
theorem q309 : (Jvm.Cond.soleField "CellReducer" "cells") ∈ lw_all := lw_g (lw_at lw_m1 207 rfl) rfl
theorem q310 : (Jvm.Cond.lays "CellReducer" "CellReducer" "many" "I") ∈ lw_all := lw_g (lw_at lw_m1 208 rfl) rfl
theorem q311 : (Jvm.Cond.soleField "CellReducer" "many") ∈ lw_all := lw_g (lw_at lw_m1 209 rfl) rfl
theorem q312 : (Jvm.Cond.laysFinal "CellReducer" "CellReducer" "normal" "LCellReducer$Cell;") ∈ lw_all := lw_g (lw_at lw_m1 210 rfl) rfl
theorem q313 : (Jvm.Cond.soleField "CellReducer" "normal") ∈ lw_all := lw_g (lw_at lw_m1 211 rfl) rfl
theorem q314 : (Jvm.Cond.laysFinal "CellReducer" "CellReducer" "otherNormal" "LCellReducer$Cell;") ∈ lw_all := lw_g (lw_at lw_m1 212 rfl) rfl
theorem q315 : (Jvm.Cond.soleField "CellReducer" "otherNormal") ∈ lw_all := lw_g (lw_at lw_m1 213 rfl) rfl
theorem q316 : (Jvm.Cond.laysFinal "CellReducer" "CellReducer" "tried" "LCellReducer$Cell;") ∈ lw_all := lw_g (lw_at lw_m1 214 rfl) rfl
theorem q317 : (Jvm.Cond.soleField "CellReducer" "tried") ∈ lw_all := lw_g (lw_at lw_m1 215 rfl) rfl
theorem q318 : (Jvm.Cond.lays "CellReducer" "CellReducer" "stepsDone" "I") ∈ lw_all := lw_g (lw_at lw_m1 216 rfl) rfl
theorem q319 : (Jvm.Cond.soleField "CellReducer" "stepsDone") ∈ lw_all := lw_g (lw_at lw_m1 217 rfl) rfl
theorem q320 : (Jvm.Cond.laysFinal "CellReducer" "CellReducer" "was" "[LCellReducer$Cell;") ∈ lw_all := lw_g (lw_at lw_m1 218 rfl) rfl
theorem q321 : (Jvm.Cond.soleField "CellReducer" "was") ∈ lw_all := lw_g (lw_at lw_m1 219 rfl) rfl
theorem q322 : (Jvm.Cond.laysFinal "CellReducer" "CellReducer" "changed" "[I") ∈ lw_all := lw_g (lw_at lw_m1 220 rfl) rfl
theorem q323 : (Jvm.Cond.soleField "CellReducer" "changed") ∈ lw_all := lw_g (lw_at lw_m1 221 rfl) rfl
theorem q324 : (Jvm.Cond.lays "CellReducer" "CellReducer" "changes" "I") ∈ lw_all := lw_g (lw_at lw_m1 222 rfl) rfl
theorem q325 : (Jvm.Cond.soleField "CellReducer" "changes") ∈ lw_all := lw_g (lw_at lw_m1 223 rfl) rfl
theorem q326 : (Jvm.Cond.laysFinal "CellReducer" "CellReducer" "log" "Ljava/util/LinkedList;") ∈ lw_all := lw_g (lw_at lw_m1 224 rfl) rfl
theorem q327 : (Jvm.Cond.soleField "CellReducer" "log") ∈ lw_all := lw_g (lw_at lw_m1 225 rfl) rfl
theorem q328 : (Jvm.Cond.laysFinal "CellReducer" "CellReducer" "figures" "[[J") ∈ lw_all := lw_g (lw_at lw_m1 226 rfl) rfl
theorem q329 : (Jvm.Cond.soleField "CellReducer" "figures") ∈ lw_all := lw_g (lw_at lw_m1 227 rfl) rfl
theorem q330 : (Jvm.Cond.laysFinal "CellReducer" "CellReducer" "squares" "[J") ∈ lw_all := lw_g (lw_at lw_m1 228 rfl) rfl
theorem q331 : (Jvm.Cond.soleField "CellReducer" "squares") ∈ lw_all := lw_g (lw_at lw_m1 229 rfl) rfl
theorem q332 : (Jvm.Cond.laysFinal "CellReducer" "CellReducer" "met" "Ljava/util/BitSet;") ∈ lw_all := lw_g (lw_at lw_m1 230 rfl) rfl
theorem q333 : (Jvm.Cond.soleField "CellReducer" "met") ∈ lw_all := lw_g (lw_at lw_m1 231 rfl) rfl
theorem q334 : (Jvm.Cond.laysFinal "CellReducer" "CellReducer" "subs" "[LCellReducer$Cell;") ∈ lw_all := lw_g (lw_at lw_m1 232 rfl) rfl
theorem q335 : (Jvm.Cond.soleField "CellReducer" "subs") ∈ lw_all := lw_g (lw_at lw_m1 233 rfl) rfl
theorem q336 : (Jvm.Cond.lays "CellReducer" "CellReducer" "subMany" "I") ∈ lw_all := lw_g (lw_at lw_m1 234 rfl) rfl
theorem q337 : (Jvm.Cond.soleField "CellReducer" "subMany") ∈ lw_all := lw_g (lw_at lw_m1 235 rfl) rfl
theorem q338 : (Jvm.Cond.laysFinal "CellReducer" "CellReducer" "by" "[J") ∈ lw_all := lw_g (lw_at lw_m1 236 rfl) rfl
theorem q339 : (Jvm.Cond.soleField "CellReducer" "by") ∈ lw_all := lw_g (lw_at lw_m1 237 rfl) rfl
theorem q340 : (Jvm.Cond.laysFinal "CellReducer" "CellReducer" "line" "Ljava/util/ArrayDeque;") ∈ lw_all := lw_g (lw_at lw_m1 238 rfl) rfl
theorem q341 : (Jvm.Cond.soleField "CellReducer" "line") ∈ lw_all := lw_g (lw_at lw_m1 239 rfl) rfl
theorem q342 : (Jvm.Cond.laysFinal "CellReducer" "CellReducer" "tape" "[B") ∈ lw_all := lw_g (lw_at lw_m2 0 rfl) rfl
theorem q343 : (Jvm.Cond.soleField "CellReducer" "tape") ∈ lw_all := lw_g (lw_at lw_m2 1 rfl) rfl
theorem q344 : (Jvm.Cond.lays "CellReducer" "CellReducer" "length" "I") ∈ lw_all := lw_g (lw_at lw_m2 2 rfl) rfl
theorem q345 : (Jvm.Cond.soleField "CellReducer" "length") ∈ lw_all := lw_g (lw_at lw_m2 3 rfl) rfl
theorem q346 : (Jvm.Cond.lays "CellReducer" "CellReducer" "paper" "Ljava/lang/String;") ∈ lw_all := lw_g (lw_at lw_m2 4 rfl) rfl
theorem q347 : (Jvm.Cond.soleField "CellReducer" "paper") ∈ lw_all := lw_g (lw_at lw_m2 5 rfl) rfl
theorem q348 : (Jvm.Cond.laysFinal "CellReducer" "CellReducer" "rows" "[[J") ∈ lw_all := lw_g (lw_at lw_m2 6 rfl) rfl
theorem q349 : (Jvm.Cond.soleField "CellReducer" "rows") ∈ lw_all := lw_g (lw_at lw_m2 7 rfl) rfl
theorem q350 : (Jvm.Cond.laysFinal "CellReducer" "CellReducer" "keptCells" "[LCellReducer$Cell;") ∈ lw_all := lw_g (lw_at lw_m2 8 rfl) rfl
theorem q351 : (Jvm.Cond.soleField "CellReducer" "keptCells") ∈ lw_all := lw_g (lw_at lw_m2 9 rfl) rfl
theorem q352 : (Jvm.Cond.laysFinal "CellReducer" "CellReducer" "keptLog" "Ljava/util/LinkedList;") ∈ lw_all := lw_g (lw_at lw_m2 10 rfl) rfl
theorem q353 : (Jvm.Cond.soleField "CellReducer" "keptLog") ∈ lw_all := lw_g (lw_at lw_m2 11 rfl) rfl
theorem q354 : (Jvm.Cond.laysFinal "CellReducer" "CellReducer" "keptLine" "Ljava/util/ArrayDeque;") ∈ lw_all := lw_g (lw_at lw_m2 12 rfl) rfl
theorem q355 : (Jvm.Cond.soleField "CellReducer" "keptLine") ∈ lw_all := lw_g (lw_at lw_m2 13 rfl) rfl
theorem q356 : (Jvm.Cond.lays "CellReducer" "CellReducer" "keptMany" "I") ∈ lw_all := lw_g (lw_at lw_m2 14 rfl) rfl
theorem q357 : (Jvm.Cond.soleField "CellReducer" "keptMany") ∈ lw_all := lw_g (lw_at lw_m2 15 rfl) rfl
theorem q358 : (Jvm.Cond.superclass "CellReducer" "java/lang/Object") ∈ lw_all := lw_g (lw_at lw_m2 16 rfl) rfl
theorem q361 : (Jvm.Cond.instanceMethod ({ cls := "CellReducer", name := "cell", desc := "(IIIIII)I" } : Jvm.MethodName)) ∈ lw_all := lw_g (lw_at lw_m2 19 rfl) rfl
theorem q362 : (Jvm.Cond.selects "CellReducer" ({ cls := "CellReducer", name := "cell", desc := "(IIIIII)I" } : Jvm.MethodName) ({ cls := "CellReducer", name := "cell", desc := "(IIIIII)I" } : Jvm.MethodName)) ∈ lw_all := lw_g (lw_at lw_m2 20 rfl) rfl
theorem q363 : (Jvm.Cond.code ({ cls := "CellReducer", name := "cell", desc := "(IIIIII)I" } : Jvm.MethodName) prog_1_method_6_code (7 : Nat) (Option.some Jvm.ClassFile.FieldType.int)) ∈ lw_all := lw_g (lw_at lw_m2 21 rfl) rfl
theorem q364 : (Jvm.Cond.methodLink "CellReducer" (115 : Nat) ({ cls := "CellReducer$Cell", name := "tells", desc := "(JJJJJJ)LCellReducer$Cell;" } : Jvm.MethodName)) ∈ lw_all := lw_g (lw_at lw_m2 22 rfl) rfl
theorem q372 : (Jvm.Cond.methodLink "CellReducer" (119 : Nat) ({ cls := "CellReducer", name := "comes", desc := "()I" } : Jvm.MethodName)) ∈ lw_all := lw_g (lw_at lw_m2 30 rfl) rfl
theorem q373 : (Jvm.Cond.privateMethod ({ cls := "CellReducer", name := "comes", desc := "()I" } : Jvm.MethodName)) ∈ lw_tbl := lw_at lw_m2 31 rfl
theorem q374 : (Jvm.Cond.instanceMethod ({ cls := "CellReducer", name := "comes", desc := "()I" } : Jvm.MethodName)) ∈ lw_all := lw_g (lw_at lw_m2 32 rfl) rfl
theorem q375 : (Jvm.Cond.code ({ cls := "CellReducer", name := "comes", desc := "()I" } : Jvm.MethodName) prog_1_method_5_code (1 : Nat) (Option.some Jvm.ClassFile.FieldType.int)) ∈ lw_all := lw_g (lw_at lw_m2 33 rfl) rfl
theorem q376 : (Jvm.Cond.methodLink "CellReducer" (107 : Nat) ({ cls := "CellReducer$Cell", name := "mayBe", desc := "()Z" } : Jvm.MethodName)) ∈ lw_all := lw_g (lw_at lw_m2 34 rfl) rfl
theorem q382 : (Jvm.Cond.static ({ cls := "CellReducer", name := "isIn", desc := "(JJJ)Z" } : Jvm.MethodName)) ∈ lw_all := lw_g (lw_at lw_m2 40 rfl) rfl
theorem q383 : (Jvm.Cond.code ({ cls := "CellReducer", name := "isIn", desc := "(JJJ)Z" } : Jvm.MethodName) prog_1_method_1_code (6 : Nat) (Option.some Jvm.ClassFile.FieldType.boolean)) ∈ lw_all := lw_g (lw_at lw_m2 41 rfl) rfl
theorem q391 : (Jvm.Cond.methodLink "CellReducer" (111 : Nat) ({ cls := "CellReducer$Cell", name := "takes", desc := "(LCellReducer$Cell;)LCellReducer$Cell;" } : Jvm.MethodName)) ∈ lw_all := lw_g (lw_at lw_m2 49 rfl) rfl
theorem q399 : (Jvm.Cond.instanceMethod ({ cls := "CellReducer", name := "number", desc := "(II)J" } : Jvm.MethodName)) ∈ lw_all := lw_g (lw_at lw_m2 57 rfl) rfl
theorem q400 : (Jvm.Cond.selects "CellReducer" ({ cls := "CellReducer", name := "number", desc := "(II)J" } : Jvm.MethodName) ({ cls := "CellReducer", name := "number", desc := "(II)J" } : Jvm.MethodName)) ∈ lw_all := lw_g (lw_at lw_m2 58 rfl) rfl
theorem q401 : (Jvm.Cond.code ({ cls := "CellReducer", name := "number", desc := "(II)J" } : Jvm.MethodName) prog_1_method_7_code (4 : Nat) (Option.some Jvm.ClassFile.FieldType.long)) ∈ lw_all := lw_g (lw_at lw_m2 59 rfl) rfl
theorem q402 : (Jvm.Cond.methodLink "CellReducer" (123 : Nat) ({ cls := "CellReducer", name := "isCell", desc := "(I)Z" } : Jvm.MethodName)) ∈ lw_all := lw_g (lw_at lw_m2 60 rfl) rfl
theorem q403 : (Jvm.Cond.privateMethod ({ cls := "CellReducer", name := "isCell", desc := "(I)Z" } : Jvm.MethodName)) ∈ lw_tbl := lw_at lw_m2 61 rfl
theorem q404 : (Jvm.Cond.instanceMethod ({ cls := "CellReducer", name := "isCell", desc := "(I)Z" } : Jvm.MethodName)) ∈ lw_all := lw_g (lw_at lw_m2 62 rfl) rfl
theorem q405 : (Jvm.Cond.code ({ cls := "CellReducer", name := "isCell", desc := "(I)Z" } : Jvm.MethodName) prog_1_method_3_code (2 : Nat) (Option.some Jvm.ClassFile.FieldType.boolean)) ∈ lw_all := lw_g (lw_at lw_m2 63 rfl) rfl
theorem q406 : (Jvm.Cond.methodLink "CellReducer" (101 : Nat) ({ cls := "CellReducer", name := "isIn", desc := "(JJJ)Z" } : Jvm.MethodName)) ∈ lw_all := lw_g (lw_at lw_m2 64 rfl) rfl
theorem q407 : (Jvm.Cond.constantLong "CellReducer" (127 : Nat) (7 : Int64)) ∈ lw_all := lw_g (lw_at lw_m2 65 rfl) rfl
theorem q408 : (Jvm.Cond.constantLong "CellReducer" (129 : Nat) (-9223372036854775808 : Int64)) ∈ lw_all := lw_g (lw_at lw_m2 66 rfl) rfl
theorem q409 : (Jvm.Cond.methodLink "CellReducer" (131 : Nat) ({ cls := "CellReducer$Cell", name := "six", desc := "(I)J" } : Jvm.MethodName)) ∈ lw_all := lw_g (lw_at lw_m2 67 rfl) rfl
theorem q413 : (Jvm.Cond.methodLink "CellReducer" (135 : Nat) ({ cls := "CellReducer$Cell", name := "volume", desc := "()J" } : Jvm.MethodName)) ∈ lw_all := lw_g (lw_at lw_m2 71 rfl) rfl
theorem q415 : (Jvm.Cond.instanceMethod ({ cls := "CellReducer", name := "change", desc := "(III)J" } : Jvm.MethodName)) ∈ lw_all := lw_g (lw_at lw_m2 73 rfl) rfl
theorem q416 : (Jvm.Cond.selects "CellReducer" ({ cls := "CellReducer", name := "change", desc := "(III)J" } : Jvm.MethodName) ({ cls := "CellReducer", name := "change", desc := "(III)J" } : Jvm.MethodName)) ∈ lw_all := lw_g (lw_at lw_m2 74 rfl) rfl
theorem q417 : (Jvm.Cond.code ({ cls := "CellReducer", name := "change", desc := "(III)J" } : Jvm.MethodName) prog_1_method_8_code (4 : Nat) (Option.some Jvm.ClassFile.FieldType.long)) ∈ lw_all := lw_g (lw_at lw_m2 75 rfl) rfl
theorem q418 : (Jvm.Cond.methodLink "CellReducer" (142 : Nat) ({ cls := "CellReducer", name := "isVector", desc := "(I)Z" } : Jvm.MethodName)) ∈ lw_all := lw_g (lw_at lw_m2 76 rfl) rfl
theorem q419 : (Jvm.Cond.static ({ cls := "CellReducer", name := "isVector", desc := "(I)Z" } : Jvm.MethodName)) ∈ lw_all := lw_g (lw_at lw_m2 77 rfl) rfl
theorem q420 : (Jvm.Cond.code ({ cls := "CellReducer", name := "isVector", desc := "(I)Z" } : Jvm.MethodName) prog_1_method_4_code (1 : Nat) (Option.some Jvm.ClassFile.FieldType.boolean)) ∈ lw_all := lw_g (lw_at lw_m2 78 rfl) rfl
theorem q421 : (Jvm.Cond.constantLong "CellReducer" (105 : Nat) (2 : Int64)) ∈ lw_all := lw_g (lw_at lw_m2 79 rfl) rfl
theorem q423 : (Jvm.Cond.instanceMethod ({ cls := "CellReducer", name := "undo", desc := "()I" } : Jvm.MethodName)) ∈ lw_all := lw_g (lw_at lw_m2 81 rfl) rfl
theorem q424 : (Jvm.Cond.selects "CellReducer" ({ cls := "CellReducer", name := "undo", desc := "()I" } : Jvm.MethodName) ({ cls := "CellReducer", name := "undo", desc := "()I" } : Jvm.MethodName)) ∈ lw_all := lw_g (lw_at lw_m2 82 rfl) rfl
theorem q425 : (Jvm.Cond.code ({ cls := "CellReducer", name := "undo", desc := "()I" } : Jvm.MethodName) prog_1_method_10_code (1 : Nat) (Option.some Jvm.ClassFile.FieldType.int)) ∈ lw_all := lw_g (lw_at lw_m2 83 rfl) rfl
theorem q427 : (Jvm.Cond.instanceMethod ({ cls := "CellReducer", name := "add", desc := "(IIII)I" } : Jvm.MethodName)) ∈ lw_all := lw_g (lw_at lw_m2 85 rfl) rfl
theorem q428 : (Jvm.Cond.selects "CellReducer" ({ cls := "CellReducer", name := "add", desc := "(IIII)I" } : Jvm.MethodName) ({ cls := "CellReducer", name := "add", desc := "(IIII)I" } : Jvm.MethodName)) ∈ lw_all := lw_g (lw_at lw_m2 86 rfl) rfl
theorem q429 : (Jvm.Cond.code ({ cls := "CellReducer", name := "add", desc := "(IIII)I" } : Jvm.MethodName) prog_1_method_11_code (7 : Nat) (Option.some Jvm.ClassFile.FieldType.int)) ∈ lw_all := lw_g (lw_at lw_m2 87 rfl) rfl
theorem q430 : (Jvm.Cond.constantLong "CellReducer" (151 : Nat) (-9 : Int64)) ∈ lw_all := lw_g (lw_at lw_m2 88 rfl) rfl
theorem q431 : (Jvm.Cond.constantLong "CellReducer" (153 : Nat) (9 : Int64)) ∈ lw_all := lw_g (lw_at lw_m2 89 rfl) rfl
theorem q432 : (Jvm.Cond.methodLink "CellReducer" (155 : Nat) ({ cls := "CellReducer$Cell", name := "squareBy", desc := "(IIJ)J" } : Jvm.MethodName)) ∈ lw_all := lw_g (lw_at lw_m2 90 rfl) rfl
theorem q436 : (Jvm.Cond.constantLong "CellReducer" (159 : Nat) (100000 : Int64)) ∈ lw_all := lw_g (lw_at lw_m2 94 rfl) rfl
theorem q437 : (Jvm.Cond.methodLink "CellReducer" (161 : Nat) ({ cls := "CellReducer", name := "keeps", desc := "(I)V" } : Jvm.MethodName)) ∈ lw_all := lw_g (lw_at lw_m2 95 rfl) rfl
theorem q438 : (Jvm.Cond.privateMethod ({ cls := "CellReducer", name := "keeps", desc := "(I)V" } : Jvm.MethodName)) ∈ lw_tbl := lw_at lw_m2 96 rfl
theorem q439 : (Jvm.Cond.instanceMethod ({ cls := "CellReducer", name := "keeps", desc := "(I)V" } : Jvm.MethodName)) ∈ lw_all := lw_g (lw_at lw_m2 97 rfl) rfl
theorem q440 : (Jvm.Cond.code ({ cls := "CellReducer", name := "keeps", desc := "(I)V" } : Jvm.MethodName) prog_1_method_9_code (4 : Nat) (Option.none : Option Jvm.ClassFile.FieldType)) ∈ lw_all := lw_g (lw_at lw_m2 98 rfl) rfl
theorem q441 : (Jvm.Cond.methodLink "CellReducer" (165 : Nat) ({ cls := "CellReducer$Cell", name := "adds", desc := "(IIJ)V" } : Jvm.MethodName)) ∈ lw_all := lw_g (lw_at lw_m2 99 rfl) rfl
theorem q448 : (Jvm.Cond.instanceMethod ({ cls := "CellReducer", name := "swap", desc := "(III)I" } : Jvm.MethodName)) ∈ lw_all := lw_g (lw_at lw_m2 106 rfl) rfl
theorem q449 : (Jvm.Cond.selects "CellReducer" ({ cls := "CellReducer", name := "swap", desc := "(III)I" } : Jvm.MethodName) ({ cls := "CellReducer", name := "swap", desc := "(III)I" } : Jvm.MethodName)) ∈ lw_all := lw_g (lw_at lw_m2 107 rfl) rfl
theorem q450 : (Jvm.Cond.code ({ cls := "CellReducer", name := "swap", desc := "(III)I" } : Jvm.MethodName) prog_1_method_12_code (4 : Nat) (Option.some Jvm.ClassFile.FieldType.int)) ∈ lw_all := lw_g (lw_at lw_m2 108 rfl) rfl
theorem q451 : (Jvm.Cond.methodLink "CellReducer" (169 : Nat) ({ cls := "CellReducer$Cell", name := "exchanges", desc := "(II)V" } : Jvm.MethodName)) ∈ lw_all := lw_g (lw_at lw_m2 109 rfl) rfl
theorem q455 : (Jvm.Cond.methodLink "CellReducer" (173 : Nat) ({ cls := "CellReducer$Cell", name := "turns", desc := "(I)V" } : Jvm.MethodName)) ∈ lw_all := lw_g (lw_at lw_m2 113 rfl) rfl
theorem q460 : (Jvm.Cond.instanceMethod ({ cls := "CellReducer", name := "fails", desc := "(I)I" } : Jvm.MethodName)) ∈ lw_all := lw_g (lw_at lw_m2 118 rfl) rfl
theorem q461 : (Jvm.Cond.selects "CellReducer" ({ cls := "CellReducer", name := "fails", desc := "(I)I" } : Jvm.MethodName) ({ cls := "CellReducer", name := "fails", desc := "(I)I" } : Jvm.MethodName)) ∈ lw_all := lw_g (lw_at lw_m2 119 rfl) rfl
theorem q462 : (Jvm.Cond.code ({ cls := "CellReducer", name := "fails", desc := "(I)I" } : Jvm.MethodName) prog_1_method_14_code (4 : Nat) (Option.some Jvm.ClassFile.FieldType.int)) ∈ lw_all := lw_g (lw_at lw_m2 120 rfl) rfl
theorem q463 : (Jvm.Cond.methodLink "CellReducer" (196 : Nat) ({ cls := "CellReducer$Cell", name := "applies", desc := "(I)Z" } : Jvm.MethodName)) ∈ lw_all := lw_g (lw_at lw_m2 121 rfl) rfl
theorem q490 : (Jvm.Cond.instanceMethod ({ cls := "CellReducer", name := "step", desc := "(I)I" } : Jvm.MethodName)) ∈ lw_all := lw_g (lw_at lw_m2 148 rfl) rfl
theorem q491 : (Jvm.Cond.selects "CellReducer" ({ cls := "CellReducer", name := "step", desc := "(I)I" } : Jvm.MethodName) ({ cls := "CellReducer", name := "step", desc := "(I)I" } : Jvm.MethodName)) ∈ lw_all := lw_g (lw_at lw_m2 149 rfl) rfl
theorem q492 : (Jvm.Cond.code ({ cls := "CellReducer", name := "step", desc := "(I)I" } : Jvm.MethodName) prog_1_method_15_code (3 : Nat) (Option.some Jvm.ClassFile.FieldType.int)) ∈ lw_all := lw_g (lw_at lw_m2 150 rfl) rfl
theorem q493 : (Jvm.Cond.methodLink "CellReducer" (199 : Nat) ({ cls := "CellReducer$Cell", name := "steps", desc := "()I" } : Jvm.MethodName)) ∈ lw_all := lw_g (lw_at lw_m2 151 rfl) rfl
theorem q517 : (Jvm.Cond.methodLink "CellReducer" (202 : Nat) ({ cls := "CellReducer", name := "logs", desc := "(II)V" } : Jvm.MethodName)) ∈ lw_all := lw_g (lw_at lw_m2 175 rfl) rfl
theorem q518 : (Jvm.Cond.privateMethod ({ cls := "CellReducer", name := "logs", desc := "(II)V" } : Jvm.MethodName)) ∈ lw_tbl := lw_at lw_m2 176 rfl
theorem q519 : (Jvm.Cond.instanceMethod ({ cls := "CellReducer", name := "logs", desc := "(II)V" } : Jvm.MethodName)) ∈ lw_all := lw_g (lw_at lw_m2 177 rfl) rfl
theorem q520 : (Jvm.Cond.code ({ cls := "CellReducer", name := "logs", desc := "(II)V" } : Jvm.MethodName) prog_1_method_13_code (3 : Nat) (Option.none : Option Jvm.ClassFile.FieldType)) ∈ lw_all := lw_g (lw_at lw_m2 178 rfl) rfl
theorem q521 : (Jvm.Cond.methodLink "CellReducer" (176 : Nat) ({ cls := "java/util/LinkedList", name := "size", desc := "()I" } : Jvm.MethodName)) ∈ lw_all := lw_g (lw_at lw_m2 179 rfl) rfl
theorem q525 : (Jvm.Cond.methodLink "CellReducer" (179 : Nat) ({ cls := "java/util/LinkedList", name := "removeFirst", desc := "()Ljava/lang/Object;" } : Jvm.MethodName)) ∈ lw_all := lw_g (lw_at lw_m2 183 rfl) rfl
theorem q533 : (Jvm.Cond.methodLink "CellReducer" (183 : Nat) ({ cls := "java/lang/Integer", name := "valueOf", desc := "(I)Ljava/lang/Integer;" } : Jvm.MethodName)) ∈ lw_all := lw_g (lw_at lw_m2 191 rfl) rfl
theorem q553 : (Jvm.Cond.methodLink "CellReducer" (189 : Nat) ({ cls := "java/util/LinkedList", name := "add", desc := "(Ljava/lang/Object;)Z" } : Jvm.MethodName)) ∈ lw_all := lw_g (lw_at lw_m2 211 rfl) rfl
theorem q583 : (Jvm.Cond.instanceMethod ({ cls := "CellReducer", name := "reduce", desc := "(I)I" } : Jvm.MethodName)) ∈ lw_all := lw_g (lw_at lw_m3 1 rfl) rfl
theorem q584 : (Jvm.Cond.selects "CellReducer" ({ cls := "CellReducer", name := "reduce", desc := "(I)I" } : Jvm.MethodName) ({ cls := "CellReducer", name := "reduce", desc := "(I)I" } : Jvm.MethodName)) ∈ lw_all := lw_g (lw_at lw_m3 2 rfl) rfl
theorem q585 : (Jvm.Cond.code ({ cls := "CellReducer", name := "reduce", desc := "(I)I" } : Jvm.MethodName) prog_1_method_16_code (4 : Nat) (Option.some Jvm.ClassFile.FieldType.int)) ∈ lw_all := lw_g (lw_at lw_m3 3 rfl) rfl
theorem q587 : (Jvm.Cond.instanceMethod ({ cls := "CellReducer", name := "normal", desc := "(II)J" } : Jvm.MethodName)) ∈ lw_all := lw_g (lw_at lw_m3 5 rfl) rfl
theorem q588 : (Jvm.Cond.selects "CellReducer" ({ cls := "CellReducer", name := "normal", desc := "(II)J" } : Jvm.MethodName) ({ cls := "CellReducer", name := "normal", desc := "(II)J" } : Jvm.MethodName)) ∈ lw_all := lw_g (lw_at lw_m3 6 rfl) rfl
theorem q589 : (Jvm.Cond.code ({ cls := "CellReducer", name := "normal", desc := "(II)J" } : Jvm.MethodName) prog_1_method_17_code (4 : Nat) (Option.some Jvm.ClassFile.FieldType.long)) ∈ lw_all := lw_g (lw_at lw_m3 7 rfl) rfl
theorem q590 : (Jvm.Cond.methodLink "CellReducer" (205 : Nat) ({ cls := "CellReducer$Cell", name := "normalOf", desc := "(LCellReducer$Cell;)I" } : Jvm.MethodName)) ∈ lw_all := lw_g (lw_at lw_m3 8 rfl) rfl
theorem q596 : (Jvm.Cond.methodLinkNest "CellReducer" (209 : Nat) ({ cls := "CellReducer$Cell", name := "areAbove", desc := "(I)Z" } : Jvm.MethodName) "CellReducer") ∈ lw_tbl := lw_at lw_m3 14 rfl
theorem q598 : (Jvm.Cond.instanceMethod ({ cls := "CellReducer", name := "log", desc := "(I)I" } : Jvm.MethodName)) ∈ lw_all := lw_g (lw_at lw_m3 16 rfl) rfl
theorem q599 : (Jvm.Cond.selects "CellReducer" ({ cls := "CellReducer", name := "log", desc := "(I)I" } : Jvm.MethodName) ({ cls := "CellReducer", name := "log", desc := "(I)I" } : Jvm.MethodName)) ∈ lw_all := lw_g (lw_at lw_m3 17 rfl) rfl
theorem q600 : (Jvm.Cond.code ({ cls := "CellReducer", name := "log", desc := "(I)I" } : Jvm.MethodName) prog_1_method_18_code (2 : Nat) (Option.some Jvm.ClassFile.FieldType.int)) ∈ lw_all := lw_g (lw_at lw_m3 18 rfl) rfl
theorem q601 : (Jvm.Cond.methodLink "CellReducer" (212 : Nat) ({ cls := "java/util/LinkedList", name := "get", desc := "(I)Ljava/lang/Object;" } : Jvm.MethodName)) ∈ lw_all := lw_g (lw_at lw_m3 19 rfl) rfl
theorem q617 : (Jvm.Cond.classLink "CellReducer" (184 : Nat) "java/lang/Integer") ∈ lw_all := lw_g (lw_at lw_m3 35 rfl) rfl
theorem q618 : (Jvm.Cond.methodLink "CellReducer" (216 : Nat) ({ cls := "java/lang/Integer", name := "intValue", desc := "()I" } : Jvm.MethodName)) ∈ lw_all := lw_g (lw_at lw_m3 36 rfl) rfl
theorem q623 : (Jvm.Cond.instanceMethod ({ cls := "CellReducer", name := "forget", desc := "(I)I" } : Jvm.MethodName)) ∈ lw_all := lw_g (lw_at lw_m3 41 rfl) rfl
theorem q624 : (Jvm.Cond.selects "CellReducer" ({ cls := "CellReducer", name := "forget", desc := "(I)I" } : Jvm.MethodName) ({ cls := "CellReducer", name := "forget", desc := "(I)I" } : Jvm.MethodName)) ∈ lw_all := lw_g (lw_at lw_m3 42 rfl) rfl
theorem q625 : (Jvm.Cond.code ({ cls := "CellReducer", name := "forget", desc := "(I)I" } : Jvm.MethodName) prog_1_method_20_code (2 : Nat) (Option.some Jvm.ClassFile.FieldType.int)) ∈ lw_all := lw_g (lw_at lw_m3 43 rfl) rfl
theorem q626 : (Jvm.Cond.constantLong "CellReducer" (234 : Nat) (8 : Int64)) ∈ lw_all := lw_g (lw_at lw_m3 44 rfl) rfl
theorem q627 : (Jvm.Cond.methodLink "CellReducer" (236 : Nat) ({ cls := "CellReducer", name := "forgets", desc := "(II)I" } : Jvm.MethodName)) ∈ lw_all := lw_g (lw_at lw_m3 45 rfl) rfl
theorem q628 : (Jvm.Cond.privateMethod ({ cls := "CellReducer", name := "forgets", desc := "(II)I" } : Jvm.MethodName)) ∈ lw_tbl := lw_at lw_m3 46 rfl
theorem q629 : (Jvm.Cond.instanceMethod ({ cls := "CellReducer", name := "forgets", desc := "(II)I" } : Jvm.MethodName)) ∈ lw_all := lw_g (lw_at lw_m3 47 rfl) rfl
theorem q630 : (Jvm.Cond.code ({ cls := "CellReducer", name := "forgets", desc := "(II)I" } : Jvm.MethodName) prog_1_method_19_code (6 : Nat) (Option.some Jvm.ClassFile.FieldType.int)) ∈ lw_all := lw_g (lw_at lw_m3 48 rfl) rfl
theorem q631 : (Jvm.Cond.methodLink "CellReducer" (219 : Nat) ({ cls := "java/util/LinkedList", name := "iterator", desc := "()Ljava/util/Iterator;" } : Jvm.MethodName)) ∈ lw_all := lw_g (lw_at lw_m3 49 rfl) rfl
theorem q718 : (Jvm.Cond.interfaceEntry "CellReducer" (223 : Nat)) ∈ lw_tbl := lw_at lw_m3 136 rfl
theorem q719 : (Jvm.Cond.methodLink "CellReducer" (223 : Nat) ({ cls := "java/util/Iterator", name := "hasNext", desc := "()Z" } : Jvm.MethodName)) ∈ lw_all := lw_g (lw_at lw_m3 137 rfl) rfl
theorem q759 : (Jvm.Cond.interfaceEntry "CellReducer" (228 : Nat)) ∈ lw_tbl := lw_at lw_m3 177 rfl
theorem q760 : (Jvm.Cond.methodLink "CellReducer" (228 : Nat) ({ cls := "java/util/Iterator", name := "next", desc := "()Ljava/lang/Object;" } : Jvm.MethodName)) ∈ lw_all := lw_g (lw_at lw_m3 178 rfl) rfl
theorem q874 : (Jvm.Cond.selects "CellReducer" ({ cls := "java/lang/Object", name := "getClass", desc := "()Ljava/lang/Class;" } : Jvm.MethodName) ({ cls := "java/lang/Object", name := "getClass", desc := "()Ljava/lang/Class;" } : Jvm.MethodName)) ∈ lw_all := lw_g (lw_at lw_m4 52 rfl) rfl
theorem q1242 : (Jvm.Cond.interfaceEntry "CellReducer" (231 : Nat)) ∈ lw_tbl := lw_at lw_m5 180 rfl
theorem q1243 : (Jvm.Cond.methodLink "CellReducer" (231 : Nat) ({ cls := "java/util/Iterator", name := "remove", desc := "()V" } : Jvm.MethodName)) ∈ lw_all := lw_g (lw_at lw_m5 181 rfl) rfl
theorem q1342 : (Jvm.Cond.instanceMethod ({ cls := "CellReducer", name := "same", desc := "(II)I" } : Jvm.MethodName)) ∈ lw_all := lw_g (lw_at lw_m6 40 rfl) rfl
theorem q1343 : (Jvm.Cond.selects "CellReducer" ({ cls := "CellReducer", name := "same", desc := "(II)I" } : Jvm.MethodName) ({ cls := "CellReducer", name := "same", desc := "(II)I" } : Jvm.MethodName)) ∈ lw_all := lw_g (lw_at lw_m6 41 rfl) rfl
theorem q1344 : (Jvm.Cond.code ({ cls := "CellReducer", name := "same", desc := "(II)I" } : Jvm.MethodName) prog_1_method_22_code (3 : Nat) (Option.some Jvm.ClassFile.FieldType.int)) ∈ lw_all := lw_g (lw_at lw_m6 42 rfl) rfl
theorem q1345 : (Jvm.Cond.methodLink "CellReducer" (244 : Nat) ({ cls := "CellReducer", name := "areSame", desc := "(II)Z" } : Jvm.MethodName)) ∈ lw_all := lw_g (lw_at lw_m6 43 rfl) rfl
theorem q1346 : (Jvm.Cond.privateMethod ({ cls := "CellReducer", name := "areSame", desc := "(II)Z" } : Jvm.MethodName)) ∈ lw_tbl := lw_at lw_m6 44 rfl
theorem q1347 : (Jvm.Cond.instanceMethod ({ cls := "CellReducer", name := "areSame", desc := "(II)Z" } : Jvm.MethodName)) ∈ lw_all := lw_g (lw_at lw_m6 45 rfl) rfl
theorem q1348 : (Jvm.Cond.code ({ cls := "CellReducer", name := "areSame", desc := "(II)Z" } : Jvm.MethodName) prog_1_method_21_code (3 : Nat) (Option.some Jvm.ClassFile.FieldType.boolean)) ∈ lw_all := lw_g (lw_at lw_m6 46 rfl) rfl
theorem q1349 : (Jvm.Cond.methodLink "CellReducer" (240 : Nat) ({ cls := "CellReducer$Cell", name := "isLike", desc := "(LCellReducer$Cell;)Z" } : Jvm.MethodName)) ∈ lw_all := lw_g (lw_at lw_m6 47 rfl) rfl
theorem q1355 : (Jvm.Cond.instanceMethod ({ cls := "CellReducer", name := "bridge", desc := "(IIII)J" } : Jvm.MethodName)) ∈ lw_all := lw_g (lw_at lw_m6 53 rfl) rfl
theorem q1356 : (Jvm.Cond.selects "CellReducer" ({ cls := "CellReducer", name := "bridge", desc := "(IIII)J" } : Jvm.MethodName) ({ cls := "CellReducer", name := "bridge", desc := "(IIII)J" } : Jvm.MethodName)) ∈ lw_all := lw_g (lw_at lw_m6 54 rfl) rfl
theorem q1357 : (Jvm.Cond.code ({ cls := "CellReducer", name := "bridge", desc := "(IIII)J" } : Jvm.MethodName) prog_1_method_24_code (8 : Nat) (Option.some Jvm.ClassFile.FieldType.long)) ∈ lw_all := lw_g (lw_at lw_m6 55 rfl) rfl
theorem q1358 : (Jvm.Cond.methodLink "CellReducer" (248 : Nat) ({ cls := "CellReducer", name := "backAt", desc := "([[JII)J" } : Jvm.MethodName)) ∈ lw_all := lw_g (lw_at lw_m6 56 rfl) rfl
theorem q1359 : (Jvm.Cond.static ({ cls := "CellReducer", name := "backAt", desc := "([[JII)J" } : Jvm.MethodName)) ∈ lw_all := lw_g (lw_at lw_m6 57 rfl) rfl
theorem q1360 : (Jvm.Cond.code ({ cls := "CellReducer", name := "backAt", desc := "([[JII)J" } : Jvm.MethodName) prog_1_method_23_code (7 : Nat) (Option.some Jvm.ClassFile.FieldType.long)) ∈ lw_all := lw_g (lw_at lw_m6 58 rfl) rfl
theorem q1362 : (Jvm.Cond.instanceMethod ({ cls := "CellReducer", name := "turns", desc := "(II)I" } : Jvm.MethodName)) ∈ lw_all := lw_g (lw_at lw_m6 60 rfl) rfl
theorem q1363 : (Jvm.Cond.selects "CellReducer" ({ cls := "CellReducer", name := "turns", desc := "(II)I" } : Jvm.MethodName) ({ cls := "CellReducer", name := "turns", desc := "(II)I" } : Jvm.MethodName)) ∈ lw_all := lw_g (lw_at lw_m6 61 rfl) rfl
theorem q1364 : (Jvm.Cond.code ({ cls := "CellReducer", name := "turns", desc := "(II)I" } : Jvm.MethodName) prog_1_method_27_code (3 : Nat) (Option.some Jvm.ClassFile.FieldType.int)) ∈ lw_all := lw_g (lw_at lw_m6 62 rfl) rfl
theorem q1365 : (Jvm.Cond.methodLink "CellReducer" (266 : Nat) ({ cls := "CellReducer", name := "turnsOf", desc := "(II)I" } : Jvm.MethodName)) ∈ lw_all := lw_g (lw_at lw_m6 63 rfl) rfl
theorem q1366 : (Jvm.Cond.privateMethod ({ cls := "CellReducer", name := "turnsOf", desc := "(II)I" } : Jvm.MethodName)) ∈ lw_tbl := lw_at lw_m6 64 rfl
theorem q1367 : (Jvm.Cond.instanceMethod ({ cls := "CellReducer", name := "turnsOf", desc := "(II)I" } : Jvm.MethodName)) ∈ lw_all := lw_g (lw_at lw_m6 65 rfl) rfl
theorem q1368 : (Jvm.Cond.code ({ cls := "CellReducer", name := "turnsOf", desc := "(II)I" } : Jvm.MethodName) prog_1_method_26_code (7 : Nat) (Option.some Jvm.ClassFile.FieldType.int)) ∈ lw_all := lw_g (lw_at lw_m6 66 rfl) rfl
theorem q1369 : (Jvm.Cond.methodLink "CellReducer" (252 : Nat) ({ cls := "CellReducer", name := "figures", desc := "(I[J)V" } : Jvm.MethodName)) ∈ lw_all := lw_g (lw_at lw_m6 67 rfl) rfl
theorem q1370 : (Jvm.Cond.static ({ cls := "CellReducer", name := "figures", desc := "(I[J)V" } : Jvm.MethodName)) ∈ lw_all := lw_g (lw_at lw_m6 68 rfl) rfl
theorem q1371 : (Jvm.Cond.code ({ cls := "CellReducer", name := "figures", desc := "(I[J)V" } : Jvm.MethodName) prog_1_method_25_code (2 : Nat) (Option.none : Option Jvm.ClassFile.FieldType)) ∈ lw_all := lw_g (lw_at lw_m6 69 rfl) rfl
theorem q1372 : (Jvm.Cond.methodLink "CellReducer" (255 : Nat) ({ cls := "CellReducer$Cell", name := "twice", desc := "([J[J)J" } : Jvm.MethodName)) ∈ lw_all := lw_g (lw_at lw_m6 70 rfl) rfl
theorem q1376 : (Jvm.Cond.methodLink "CellReducer" (262 : Nat) ({ cls := "CellReducer$Cell", name := "puts", desc := "(LCellReducer$Cell;[J[J[J)LCellReducer$Cell;" } : Jvm.MethodName)) ∈ lw_all := lw_g (lw_at lw_m6 74 rfl) rfl
theorem q1383 : (Jvm.Cond.instanceMethod ({ cls := "CellReducer", name := "system", desc := "(I)I" } : Jvm.MethodName)) ∈ lw_all := lw_g (lw_at lw_m6 81 rfl) rfl
theorem q1384 : (Jvm.Cond.selects "CellReducer" ({ cls := "CellReducer", name := "system", desc := "(I)I" } : Jvm.MethodName) ({ cls := "CellReducer", name := "system", desc := "(I)I" } : Jvm.MethodName)) ∈ lw_all := lw_g (lw_at lw_m6 82 rfl) rfl
theorem q1385 : (Jvm.Cond.code ({ cls := "CellReducer", name := "system", desc := "(I)I" } : Jvm.MethodName) prog_1_method_28_code (3 : Nat) (Option.some Jvm.ClassFile.FieldType.int)) ∈ lw_all := lw_g (lw_at lw_m6 83 rfl) rfl
theorem q1386 : (Jvm.Cond.methodLink "CellReducer" (269 : Nat) ({ cls := "java/util/List", name := "of", desc := "(Ljava/lang/Object;Ljava/lang/Object;Ljava/lang/Object;Ljava/lang/Object;Ljava/lang/Object;Ljava/lang/Object;Ljava/lang/Object;)Ljava/util/List;" } : Jvm.MethodName)) ∈ lw_all := lw_g (lw_at lw_m6 84 rfl) rfl
theorem q1457 : (Jvm.Cond.interfaceEntry "CellReducer" (275 : Nat)) ∈ lw_tbl := lw_at lw_m6 155 rfl
theorem q1458 : (Jvm.Cond.methodLink "CellReducer" (275 : Nat) ({ cls := "java/util/List", name := "indexOf", desc := "(Ljava/lang/Object;)I" } : Jvm.MethodName)) ∈ lw_all := lw_g (lw_at lw_m6 156 rfl) rfl
theorem q1474 : (Jvm.Cond.selects "CellReducer" ({ cls := "java/lang/Object", name := "equals", desc := "(Ljava/lang/Object;)Z" } : Jvm.MethodName) ({ cls := "java/lang/Object", name := "equals", desc := "(Ljava/lang/Object;)Z" } : Jvm.MethodName)) ∈ lw_all := lw_g (lw_at lw_m6 172 rfl) rfl
theorem q1529 : (Jvm.Cond.instanceMethod ({ cls := "CellReducer", name := "shell", desc := "(III)I" } : Jvm.MethodName)) ∈ lw_all := lw_g (lw_at lw_m6 227 rfl) rfl
theorem q1530 : (Jvm.Cond.selects "CellReducer" ({ cls := "CellReducer", name := "shell", desc := "(III)I" } : Jvm.MethodName) ({ cls := "CellReducer", name := "shell", desc := "(III)I" } : Jvm.MethodName)) ∈ lw_all := lw_g (lw_at lw_m6 228 rfl) rfl
theorem q1531 : (Jvm.Cond.code ({ cls := "CellReducer", name := "shell", desc := "(III)I" } : Jvm.MethodName) prog_1_method_30_code (6 : Nat) (Option.some Jvm.ClassFile.FieldType.int)) ∈ lw_all := lw_g (lw_at lw_m6 229 rfl) rfl
theorem q1532 : (Jvm.Cond.methodLink "CellReducer" (283 : Nat) ({ cls := "CellReducer", name := "findSquares", desc := "(I)V" } : Jvm.MethodName)) ∈ lw_all := lw_g (lw_at lw_m6 230 rfl) rfl
theorem q1533 : (Jvm.Cond.privateMethod ({ cls := "CellReducer", name := "findSquares", desc := "(I)V" } : Jvm.MethodName)) ∈ lw_tbl := lw_at lw_m6 231 rfl
theorem q1534 : (Jvm.Cond.instanceMethod ({ cls := "CellReducer", name := "findSquares", desc := "(I)V" } : Jvm.MethodName)) ∈ lw_all := lw_g (lw_at lw_m6 232 rfl) rfl
theorem q1535 : (Jvm.Cond.code ({ cls := "CellReducer", name := "findSquares", desc := "(I)V" } : Jvm.MethodName) prog_1_method_29_code (8 : Nat) (Option.none : Option Jvm.ClassFile.FieldType)) ∈ lw_all := lw_g (lw_at lw_m6 233 rfl) rfl
theorem q1536 : (Jvm.Cond.constantLong "CellReducer" (279 : Nat) (-4 : Int64)) ∈ lw_all := lw_g (lw_at lw_m6 234 rfl) rfl
theorem q1537 : (Jvm.Cond.constantLong "CellReducer" (281 : Nat) (4 : Int64)) ∈ lw_all := lw_g (lw_at lw_m6 235 rfl) rfl
theorem q1538 : (Jvm.Cond.methodLink "CellReducer" (286 : Nat) ({ cls := "CellReducer", name := "behind", desc := "(I)I" } : Jvm.MethodName)) ∈ lw_all := lw_g (lw_at lw_m6 236 rfl) rfl
theorem q1539 : (Jvm.Cond.privateMethod ({ cls := "CellReducer", name := "behind", desc := "(I)I" } : Jvm.MethodName)) ∈ lw_tbl := lw_at lw_m6 237 rfl
theorem q1540 : (Jvm.Cond.instanceMethod ({ cls := "CellReducer", name := "behind", desc := "(I)I" } : Jvm.MethodName)) ∈ lw_all := lw_g (lw_at lw_m6 238 rfl) rfl
theorem q1541 : (Jvm.Cond.code ({ cls := "CellReducer", name := "behind", desc := "(I)I" } : Jvm.MethodName) prog_1_method_31_code (3 : Nat) (Option.some Jvm.ClassFile.FieldType.int)) ∈ lw_all := lw_g (lw_at lw_m6 239 rfl) rfl
theorem q1543 : (Jvm.Cond.instanceMethod ({ cls := "CellReducer", name := "squares", desc := "(I)J" } : Jvm.MethodName)) ∈ lw_all := lw_g (lw_at lw_m7 1 rfl) rfl
theorem q1544 : (Jvm.Cond.selects "CellReducer" ({ cls := "CellReducer", name := "squares", desc := "(I)J" } : Jvm.MethodName) ({ cls := "CellReducer", name := "squares", desc := "(I)J" } : Jvm.MethodName)) ∈ lw_all := lw_g (lw_at lw_m7 2 rfl) rfl
theorem q1545 : (Jvm.Cond.code ({ cls := "CellReducer", name := "squares", desc := "(I)J" } : Jvm.MethodName) prog_1_method_32_code (5 : Nat) (Option.some Jvm.ClassFile.FieldType.long)) ∈ lw_all := lw_g (lw_at lw_m7 3 rfl) rfl
theorem q1546 : (Jvm.Cond.methodLink "CellReducer" (290 : Nat) ({ cls := "java/util/BitSet", name := "clear", desc := "()V" } : Jvm.MethodName)) ∈ lw_all := lw_g (lw_at lw_m7 4 rfl) rfl
theorem q1550 : (Jvm.Cond.constantLong "CellReducer" (293 : Nat) (60 : Int64)) ∈ lw_all := lw_g (lw_at lw_m7 8 rfl) rfl
theorem q1551 : (Jvm.Cond.methodLink "CellReducer" (295 : Nat) ({ cls := "java/util/BitSet", name := "set", desc := "(I)V" } : Jvm.MethodName)) ∈ lw_all := lw_g (lw_at lw_m7 9 rfl) rfl
theorem q1578 : (Jvm.Cond.methodLink "CellReducer" (298 : Nat) ({ cls := "java/util/BitSet", name := "nextSetBit", desc := "(I)I" } : Jvm.MethodName)) ∈ lw_all := lw_g (lw_at lw_m7 36 rfl) rfl
theorem q1591 : (Jvm.Cond.instanceMethod ({ cls := "CellReducer", name := "within", desc := "(III)J" } : Jvm.MethodName)) ∈ lw_all := lw_g (lw_at lw_m7 49 rfl) rfl
theorem q1592 : (Jvm.Cond.selects "CellReducer" ({ cls := "CellReducer", name := "within", desc := "(III)J" } : Jvm.MethodName) ({ cls := "CellReducer", name := "within", desc := "(III)J" } : Jvm.MethodName)) ∈ lw_all := lw_g (lw_at lw_m7 50 rfl) rfl
theorem q1593 : (Jvm.Cond.code ({ cls := "CellReducer", name := "within", desc := "(III)J" } : Jvm.MethodName) prog_1_method_37_code (4 : Nat) (Option.some Jvm.ClassFile.FieldType.long)) ∈ lw_all := lw_g (lw_at lw_m7 51 rfl) rfl
theorem q1594 : (Jvm.Cond.constantLong "CellReducer" (312 : Nat) (6 : Int64)) ∈ lw_all := lw_g (lw_at lw_m7 52 rfl) rfl
theorem q1595 : (Jvm.Cond.methodLink "CellReducer" (314 : Nat) ({ cls := "CellReducer", name := "findWithin", desc := "(II)V" } : Jvm.MethodName)) ∈ lw_all := lw_g (lw_at lw_m7 53 rfl) rfl
theorem q1596 : (Jvm.Cond.privateMethod ({ cls := "CellReducer", name := "findWithin", desc := "(II)V" } : Jvm.MethodName)) ∈ lw_tbl := lw_at lw_m7 54 rfl
theorem q1597 : (Jvm.Cond.instanceMethod ({ cls := "CellReducer", name := "findWithin", desc := "(II)V" } : Jvm.MethodName)) ∈ lw_all := lw_g (lw_at lw_m7 55 rfl) rfl
theorem q1598 : (Jvm.Cond.code ({ cls := "CellReducer", name := "findWithin", desc := "(II)V" } : Jvm.MethodName) prog_1_method_34_code (5 : Nat) (Option.none : Option Jvm.ClassFile.FieldType)) ∈ lw_all := lw_g (lw_at lw_m7 56 rfl) rfl
theorem q1599 : (Jvm.Cond.methodLink "CellReducer" (304 : Nat) ({ cls := "CellReducer", name := "findWithin", desc := "(III)V" } : Jvm.MethodName)) ∈ lw_all := lw_g (lw_at lw_m7 57 rfl) rfl
theorem q1600 : (Jvm.Cond.privateMethod ({ cls := "CellReducer", name := "findWithin", desc := "(III)V" } : Jvm.MethodName)) ∈ lw_tbl := lw_at lw_m7 58 rfl
theorem q1601 : (Jvm.Cond.instanceMethod ({ cls := "CellReducer", name := "findWithin", desc := "(III)V" } : Jvm.MethodName)) ∈ lw_all := lw_g (lw_at lw_m7 59 rfl) rfl
theorem q1602 : (Jvm.Cond.code ({ cls := "CellReducer", name := "findWithin", desc := "(III)V" } : Jvm.MethodName) prog_1_method_35_code (7 : Nat) (Option.none : Option Jvm.ClassFile.FieldType)) ∈ lw_all := lw_g (lw_at lw_m7 60 rfl) rfl
theorem q1603 : (Jvm.Cond.methodLink "CellReducer" (308 : Nat) ({ cls := "CellReducer", name := "three", desc := "([JJJJ)V" } : Jvm.MethodName)) ∈ lw_all := lw_g (lw_at lw_m7 61 rfl) rfl
theorem q1604 : (Jvm.Cond.static ({ cls := "CellReducer", name := "three", desc := "([JJJJ)V" } : Jvm.MethodName)) ∈ lw_all := lw_g (lw_at lw_m7 62 rfl) rfl
theorem q1605 : (Jvm.Cond.code ({ cls := "CellReducer", name := "three", desc := "([JJJJ)V" } : Jvm.MethodName) prog_1_method_33_code (7 : Nat) (Option.none : Option Jvm.ClassFile.FieldType)) ∈ lw_all := lw_g (lw_at lw_m7 63 rfl) rfl
theorem q1606 : (Jvm.Cond.methodLink "CellReducer" (316 : Nat) ({ cls := "CellReducer", name := "unlike", desc := "()I" } : Jvm.MethodName)) ∈ lw_all := lw_g (lw_at lw_m7 64 rfl) rfl
theorem q1607 : (Jvm.Cond.privateMethod ({ cls := "CellReducer", name := "unlike", desc := "()I" } : Jvm.MethodName)) ∈ lw_tbl := lw_at lw_m7 65 rfl
theorem q1608 : (Jvm.Cond.instanceMethod ({ cls := "CellReducer", name := "unlike", desc := "()I" } : Jvm.MethodName)) ∈ lw_all := lw_g (lw_at lw_m7 66 rfl) rfl
theorem q1609 : (Jvm.Cond.code ({ cls := "CellReducer", name := "unlike", desc := "()I" } : Jvm.MethodName) prog_1_method_36_code (5 : Nat) (Option.some Jvm.ClassFile.FieldType.int)) ∈ lw_all := lw_g (lw_at lw_m7 67 rfl) rfl
theorem q1611 : (Jvm.Cond.instanceMethod ({ cls := "CellReducer", name := "holds", desc := "(III)I" } : Jvm.MethodName)) ∈ lw_all := lw_g (lw_at lw_m7 69 rfl) rfl
theorem q1612 : (Jvm.Cond.selects "CellReducer" ({ cls := "CellReducer", name := "holds", desc := "(III)I" } : Jvm.MethodName) ({ cls := "CellReducer", name := "holds", desc := "(III)I" } : Jvm.MethodName)) ∈ lw_all := lw_g (lw_at lw_m7 70 rfl) rfl
theorem q1613 : (Jvm.Cond.code ({ cls := "CellReducer", name := "holds", desc := "(III)I" } : Jvm.MethodName) prog_1_method_38_code (6 : Nat) (Option.some Jvm.ClassFile.FieldType.int)) ∈ lw_all := lw_g (lw_at lw_m7 71 rfl) rfl
theorem q1615 : (Jvm.Cond.instanceMethod ({ cls := "CellReducer", name := "blunt", desc := "(II)J" } : Jvm.MethodName)) ∈ lw_all := lw_g (lw_at lw_m7 73 rfl) rfl
theorem q1616 : (Jvm.Cond.selects "CellReducer" ({ cls := "CellReducer", name := "blunt", desc := "(II)J" } : Jvm.MethodName) ({ cls := "CellReducer", name := "blunt", desc := "(II)J" } : Jvm.MethodName)) ∈ lw_all := lw_g (lw_at lw_m7 74 rfl) rfl
theorem q1617 : (Jvm.Cond.code ({ cls := "CellReducer", name := "blunt", desc := "(II)J" } : Jvm.MethodName) prog_1_method_42_code (11 : Nat) (Option.some Jvm.ClassFile.FieldType.long)) ∈ lw_all := lw_g (lw_at lw_m7 75 rfl) rfl
theorem q1618 : (Jvm.Cond.constantLong "CellReducer" (330 : Nat) (-2 : Int64)) ∈ lw_all := lw_g (lw_at lw_m7 76 rfl) rfl
theorem q1619 : (Jvm.Cond.methodLink "CellReducer" (332 : Nat) ({ cls := "CellReducer", name := "sharpest", desc := "()I" } : Jvm.MethodName)) ∈ lw_all := lw_g (lw_at lw_m7 77 rfl) rfl
theorem q1620 : (Jvm.Cond.privateMethod ({ cls := "CellReducer", name := "sharpest", desc := "()I" } : Jvm.MethodName)) ∈ lw_tbl := lw_at lw_m7 78 rfl
theorem q1621 : (Jvm.Cond.instanceMethod ({ cls := "CellReducer", name := "sharpest", desc := "()I" } : Jvm.MethodName)) ∈ lw_all := lw_g (lw_at lw_m7 79 rfl) rfl
theorem q1622 : (Jvm.Cond.code ({ cls := "CellReducer", name := "sharpest", desc := "()I" } : Jvm.MethodName) prog_1_method_40_code (3 : Nat) (Option.some Jvm.ClassFile.FieldType.int)) ∈ lw_all := lw_g (lw_at lw_m7 80 rfl) rfl
theorem q1623 : (Jvm.Cond.methodLink "CellReducer" (335 : Nat) ({ cls := "CellReducer", name := "blunts", desc := "(I)V" } : Jvm.MethodName)) ∈ lw_all := lw_g (lw_at lw_m7 81 rfl) rfl
theorem q1624 : (Jvm.Cond.privateMethod ({ cls := "CellReducer", name := "blunts", desc := "(I)V" } : Jvm.MethodName)) ∈ lw_tbl := lw_at lw_m7 82 rfl
theorem q1625 : (Jvm.Cond.instanceMethod ({ cls := "CellReducer", name := "blunts", desc := "(I)V" } : Jvm.MethodName)) ∈ lw_all := lw_g (lw_at lw_m7 83 rfl) rfl
theorem q1626 : (Jvm.Cond.code ({ cls := "CellReducer", name := "blunts", desc := "(I)V" } : Jvm.MethodName) prog_1_method_41_code (12 : Nat) (Option.none : Option Jvm.ClassFile.FieldType)) ∈ lw_all := lw_g (lw_at lw_m7 84 rfl) rfl
theorem q1627 : (Jvm.Cond.methodLink "CellReducer" (327 : Nat) ({ cls := "CellReducer", name := "pairOf", desc := "(II)I" } : Jvm.MethodName)) ∈ lw_all := lw_g (lw_at lw_m7 85 rfl) rfl
theorem q1628 : (Jvm.Cond.static ({ cls := "CellReducer", name := "pairOf", desc := "(II)I" } : Jvm.MethodName)) ∈ lw_all := lw_g (lw_at lw_m7 86 rfl) rfl
theorem q1629 : (Jvm.Cond.code ({ cls := "CellReducer", name := "pairOf", desc := "(II)I" } : Jvm.MethodName) prog_1_method_39_code (4 : Nat) (Option.some Jvm.ClassFile.FieldType.int)) ∈ lw_all := lw_g (lw_at lw_m7 87 rfl) rfl
theorem q1630 : (Jvm.Cond.methodLink "CellReducer" (319 : Nat) ({ cls := "java/lang/Math", name := "min", desc := "(II)I" } : Jvm.MethodName)) ∈ lw_all := lw_g (lw_at lw_m7 88 rfl) rfl
theorem q1631 : (Jvm.Cond.methodLink "CellReducer" (324 : Nat) ({ cls := "java/lang/Math", name := "max", desc := "(II)I" } : Jvm.MethodName)) ∈ lw_all := lw_g (lw_at lw_m7 89 rfl) rfl
theorem q1632 : (Jvm.Cond.classLink "CellReducer" (338 : Nat) "java/util/ArrayList") ∈ lw_all := lw_g (lw_at lw_m7 90 rfl) rfl
theorem q1633 : (Jvm.Cond.methodLink "CellReducer" (340 : Nat) ({ cls := "java/util/ArrayList", name := "<init>", desc := "()V" } : Jvm.MethodName)) ∈ lw_all := lw_g (lw_at lw_m7 91 rfl) rfl
theorem q1649 : (Jvm.Cond.methodLink "CellReducer" (341 : Nat) ({ cls := "java/lang/Long", name := "valueOf", desc := "(J)Ljava/lang/Long;" } : Jvm.MethodName)) ∈ lw_all := lw_g (lw_at lw_m7 107 rfl) rfl
theorem q1665 : (Jvm.Cond.interfaceEntry "CellReducer" (344 : Nat)) ∈ lw_tbl := lw_at lw_m7 123 rfl
theorem q1666 : (Jvm.Cond.methodLink "CellReducer" (344 : Nat) ({ cls := "java/util/List", name := "add", desc := "(Ljava/lang/Object;)Z" } : Jvm.MethodName)) ∈ lw_all := lw_g (lw_at lw_m7 124 rfl) rfl
theorem q1708 : (Jvm.Cond.methodLink "CellReducer" (345 : Nat) ({ cls := "java/util/Collections", name := "sort", desc := "(Ljava/util/List;)V" } : Jvm.MethodName)) ∈ lw_all := lw_g (lw_at lw_m7 166 rfl) rfl
theorem q2257 : (Jvm.Cond.interfaceEntry "CellReducer" (351 : Nat)) ∈ lw_tbl := lw_at lw_m9 235 rfl
theorem q2258 : (Jvm.Cond.methodLink "CellReducer" (351 : Nat) ({ cls := "java/util/List", name := "get", desc := "(I)Ljava/lang/Object;" } : Jvm.MethodName)) ∈ lw_all := lw_g (lw_at lw_m9 236 rfl) rfl
theorem q2259 : (Jvm.Cond.classLink "CellReducer" (1 : Nat) "java/lang/Long") ∈ lw_all := lw_g (lw_at lw_m9 237 rfl) rfl
theorem q2260 : (Jvm.Cond.methodLink "CellReducer" (352 : Nat) ({ cls := "java/lang/Long", name := "longValue", desc := "()J" } : Jvm.MethodName)) ∈ lw_all := lw_g (lw_at lw_m9 238 rfl) rfl
theorem q2262 : (Jvm.Cond.instanceMethod ({ cls := "CellReducer", name := "waits", desc := "(I)I" } : Jvm.MethodName)) ∈ lw_all := lw_g (lw_at lw_m10 0 rfl) rfl
theorem q2263 : (Jvm.Cond.selects "CellReducer" ({ cls := "CellReducer", name := "waits", desc := "(I)I" } : Jvm.MethodName) ({ cls := "CellReducer", name := "waits", desc := "(I)I" } : Jvm.MethodName)) ∈ lw_all := lw_g (lw_at lw_m10 1 rfl) rfl
theorem q2264 : (Jvm.Cond.code ({ cls := "CellReducer", name := "waits", desc := "(I)I" } : Jvm.MethodName) prog_1_method_43_code (2 : Nat) (Option.some Jvm.ClassFile.FieldType.int)) ∈ lw_all := lw_g (lw_at lw_m10 2 rfl) rfl
theorem q2265 : (Jvm.Cond.methodLink "CellReducer" (355 : Nat) ({ cls := "java/util/ArrayDeque", name := "contains", desc := "(Ljava/lang/Object;)Z" } : Jvm.MethodName)) ∈ lw_all := lw_g (lw_at lw_m10 3 rfl) rfl
theorem q2270 : (Jvm.Cond.methodLink "CellReducer" (358 : Nat) ({ cls := "java/util/ArrayDeque", name := "addLast", desc := "(Ljava/lang/Object;)V" } : Jvm.MethodName)) ∈ lw_all := lw_g (lw_at lw_m10 8 rfl) rfl
theorem q2287 : (Jvm.Cond.methodLink "CellReducer" (362 : Nat) ({ cls := "java/util/ArrayDeque", name := "size", desc := "()I" } : Jvm.MethodName)) ∈ lw_all := lw_g (lw_at lw_m10 25 rfl) rfl
theorem q2292 : (Jvm.Cond.instanceMethod ({ cls := "CellReducer", name := "leaves", desc := "(I)I" } : Jvm.MethodName)) ∈ lw_all := lw_g (lw_at lw_m10 30 rfl) rfl
theorem q2293 : (Jvm.Cond.selects "CellReducer" ({ cls := "CellReducer", name := "leaves", desc := "(I)I" } : Jvm.MethodName) ({ cls := "CellReducer", name := "leaves", desc := "(I)I" } : Jvm.MethodName)) ∈ lw_all := lw_g (lw_at lw_m10 31 rfl) rfl
theorem q2294 : (Jvm.Cond.code ({ cls := "CellReducer", name := "leaves", desc := "(I)I" } : Jvm.MethodName) prog_1_method_45_code (3 : Nat) (Option.some Jvm.ClassFile.FieldType.int)) ∈ lw_all := lw_g (lw_at lw_m10 32 rfl) rfl
theorem q2295 : (Jvm.Cond.methodLink "CellReducer" (364 : Nat) ({ cls := "CellReducer", name := "goesOut", desc := "(I)I" } : Jvm.MethodName)) ∈ lw_all := lw_g (lw_at lw_m10 33 rfl) rfl
theorem q2296 : (Jvm.Cond.privateMethod ({ cls := "CellReducer", name := "goesOut", desc := "(I)I" } : Jvm.MethodName)) ∈ lw_tbl := lw_at lw_m10 34 rfl
theorem q2297 : (Jvm.Cond.instanceMethod ({ cls := "CellReducer", name := "goesOut", desc := "(I)I" } : Jvm.MethodName)) ∈ lw_all := lw_g (lw_at lw_m10 35 rfl) rfl
theorem q2298 : (Jvm.Cond.code ({ cls := "CellReducer", name := "goesOut", desc := "(I)I" } : Jvm.MethodName) prog_1_method_44_code (4 : Nat) (Option.some Jvm.ClassFile.FieldType.int)) ∈ lw_all := lw_g (lw_at lw_m10 36 rfl) rfl
theorem q2299 : (Jvm.Cond.methodLink "CellReducer" (363 : Nat) ({ cls := "java/util/ArrayDeque", name := "iterator", desc := "()Ljava/util/Iterator;" } : Jvm.MethodName)) ∈ lw_all := lw_g (lw_at lw_m10 37 rfl) rfl
theorem q2324 : (Jvm.Cond.instanceMethod ({ cls := "CellReducer", name := "works", desc := "(I)I" } : Jvm.MethodName)) ∈ lw_all := lw_g (lw_at lw_m10 62 rfl) rfl
theorem q2325 : (Jvm.Cond.selects "CellReducer" ({ cls := "CellReducer", name := "works", desc := "(I)I" } : Jvm.MethodName) ({ cls := "CellReducer", name := "works", desc := "(I)I" } : Jvm.MethodName)) ∈ lw_all := lw_g (lw_at lw_m10 63 rfl) rfl
theorem q2326 : (Jvm.Cond.code ({ cls := "CellReducer", name := "works", desc := "(I)I" } : Jvm.MethodName) prog_1_method_46_code (6 : Nat) (Option.some Jvm.ClassFile.FieldType.int)) ∈ lw_all := lw_g (lw_at lw_m10 64 rfl) rfl
theorem q2327 : (Jvm.Cond.constantLong "CellReducer" (367 : Nat) (99 : Int64)) ∈ lw_all := lw_g (lw_at lw_m10 65 rfl) rfl
theorem q2328 : (Jvm.Cond.methodLink "CellReducer" (369 : Nat) ({ cls := "java/util/ArrayDeque", name := "isEmpty", desc := "()Z" } : Jvm.MethodName)) ∈ lw_all := lw_g (lw_at lw_m10 66 rfl) rfl
theorem q2332 : (Jvm.Cond.methodLink "CellReducer" (372 : Nat) ({ cls := "java/util/ArrayDeque", name := "removeFirst", desc := "()Ljava/lang/Object;" } : Jvm.MethodName)) ∈ lw_all := lw_g (lw_at lw_m10 70 rfl) rfl
theorem q2344 : (Jvm.Cond.instanceMethod ({ cls := "CellReducer", name := "line", desc := "(I)I" } : Jvm.MethodName)) ∈ lw_all := lw_g (lw_at lw_m10 82 rfl) rfl
theorem q2345 : (Jvm.Cond.selects "CellReducer" ({ cls := "CellReducer", name := "line", desc := "(I)I" } : Jvm.MethodName) ({ cls := "CellReducer", name := "line", desc := "(I)I" } : Jvm.MethodName)) ∈ lw_all := lw_g (lw_at lw_m10 83 rfl) rfl
theorem q2346 : (Jvm.Cond.code ({ cls := "CellReducer", name := "line", desc := "(I)I" } : Jvm.MethodName) prog_1_method_47_code (5 : Nat) (Option.some Jvm.ClassFile.FieldType.int)) ∈ lw_all := lw_g (lw_at lw_m10 84 rfl) rfl
theorem q2348 : (Jvm.Cond.instanceMethod ({ cls := "CellReducer", name := "clears", desc := "()I" } : Jvm.MethodName)) ∈ lw_all := lw_g (lw_at lw_m10 86 rfl) rfl
theorem q2349 : (Jvm.Cond.selects "CellReducer" ({ cls := "CellReducer", name := "clears", desc := "()I" } : Jvm.MethodName) ({ cls := "CellReducer", name := "clears", desc := "()I" } : Jvm.MethodName)) ∈ lw_all := lw_g (lw_at lw_m10 87 rfl) rfl
theorem q2350 : (Jvm.Cond.code ({ cls := "CellReducer", name := "clears", desc := "()I" } : Jvm.MethodName) prog_1_method_48_code (3 : Nat) (Option.some Jvm.ClassFile.FieldType.int)) ∈ lw_all := lw_g (lw_at lw_m10 88 rfl) rfl
theorem q2351 : (Jvm.Cond.methodLink "CellReducer" (373 : Nat) ({ cls := "CellReducer", name := "fails", desc := "(I)I" } : Jvm.MethodName)) ∈ lw_all := lw_g (lw_at lw_m10 89 rfl) rfl
theorem q2353 : (Jvm.Cond.instanceMethod ({ cls := "CellReducer", name := "drop", desc := "()I" } : Jvm.MethodName)) ∈ lw_all := lw_g (lw_at lw_m10 91 rfl) rfl
theorem q2354 : (Jvm.Cond.selects "CellReducer" ({ cls := "CellReducer", name := "drop", desc := "()I" } : Jvm.MethodName) ({ cls := "CellReducer", name := "drop", desc := "()I" } : Jvm.MethodName)) ∈ lw_all := lw_g (lw_at lw_m10 92 rfl) rfl
theorem q2355 : (Jvm.Cond.code ({ cls := "CellReducer", name := "drop", desc := "()I" } : Jvm.MethodName) prog_1_method_49_code (1 : Nat) (Option.some Jvm.ClassFile.FieldType.int)) ∈ lw_all := lw_g (lw_at lw_m10 93 rfl) rfl
theorem q2357 : (Jvm.Cond.instanceMethod ({ cls := "CellReducer", name := "feed", desc := "(I)I" } : Jvm.MethodName)) ∈ lw_all := lw_g (lw_at lw_m10 95 rfl) rfl
theorem q2358 : (Jvm.Cond.selects "CellReducer" ({ cls := "CellReducer", name := "feed", desc := "(I)I" } : Jvm.MethodName) ({ cls := "CellReducer", name := "feed", desc := "(I)I" } : Jvm.MethodName)) ∈ lw_all := lw_g (lw_at lw_m10 96 rfl) rfl
theorem q2359 : (Jvm.Cond.code ({ cls := "CellReducer", name := "feed", desc := "(I)I" } : Jvm.MethodName) prog_1_method_50_code (2 : Nat) (Option.some Jvm.ClassFile.FieldType.int)) ∈ lw_all := lw_g (lw_at lw_m10 97 rfl) rfl
theorem q2360 : (Jvm.Cond.constantLong "CellReducer" (376 : Nat) (127 : Int64)) ∈ lw_all := lw_g (lw_at lw_m10 98 rfl) rfl
theorem q2362 : (Jvm.Cond.instanceMethod ({ cls := "CellReducer", name := "reads", desc := "()I" } : Jvm.MethodName)) ∈ lw_all := lw_g (lw_at lw_m10 100 rfl) rfl
theorem q2363 : (Jvm.Cond.selects "CellReducer" ({ cls := "CellReducer", name := "reads", desc := "()I" } : Jvm.MethodName) ({ cls := "CellReducer", name := "reads", desc := "()I" } : Jvm.MethodName)) ∈ lw_all := lw_g (lw_at lw_m10 101 rfl) rfl
theorem q2364 : (Jvm.Cond.codeWith ({ cls := "CellReducer", name := "reads", desc := "()I" } : Jvm.MethodName) prog_1_method_51_code (4 : Nat) (Option.some Jvm.ClassFile.FieldType.int) [((0 : Nat), (103 : Nat), (110 : Nat), (396 : Nat)), ((0 : Nat), (103 : Nat), (123 : Nat), (0 : Nat)), ((110 : Nat), (116 : Nat), (123 : Nat), (0 : Nat))]) ∈ lw_all := lw_g (lw_at lw_m10 102 rfl) rfl
theorem q2365 : (Jvm.Cond.classLink "CellReducer" (396 : Nat) "CellReducer$Fault") ∈ lw_all := lw_g (lw_at lw_m10 103 rfl) rfl
theorem q2366 : (Jvm.Cond.classLink "CellReducer" (381 : Nat) "CellReducer$Reader") ∈ lw_all := lw_g (lw_at lw_m10 104 rfl) rfl
theorem q2368 : (Jvm.Cond.methodLinkNest "CellReducer" (383 : Nat) ({ cls := "CellReducer$Reader", name := "<init>", desc := "(LCellReducer;)V" } : Jvm.MethodName) "CellReducer") ∈ lw_tbl := lw_at lw_m10 106 rfl
theorem q2375 : (Jvm.Cond.fieldLinkNest "CellReducer" (398 : Nat) "CellReducer$Reader" "begins" "[I" "CellReducer") ∈ lw_tbl := lw_at lw_m10 113 rfl
theorem q2378 : (Jvm.Cond.fieldLinkNest "CellReducer" (390 : Nat) "CellReducer$Reader" "parts" "I" "CellReducer") ∈ lw_tbl := lw_at lw_m10 116 rfl
theorem q2394 : (Jvm.Cond.methodLink "CellReducer" (386 : Nat) ({ cls := "CellReducer$Reader", name := "whole", desc := "()LCellReducer$Reader;" } : Jvm.MethodName)) ∈ lw_all := lw_g (lw_at lw_m10 132 rfl) rfl
theorem q2433 : (Jvm.Cond.fieldLinkNest "CellReducer" (403 : Nat) "CellReducer$Fault" "code" "I" "CellReducer") ∈ lw_tbl := lw_at lw_m10 171 rfl
theorem q2446 : (Jvm.Cond.methodLink "CellReducer" (393 : Nat) ({ cls := "CellReducer$Reader", name := "tries", desc := "(I)V" } : Jvm.MethodName)) ∈ lw_all := lw_g (lw_at lw_m10 184 rfl) rfl
theorem q2456 : (Jvm.Cond.methodLink "CellReducer" (401 : Nat) ({ cls := "CellReducer$Fault", name := "<init>", desc := "(I)V" } : Jvm.MethodName)) ∈ lw_all := lw_g (lw_at lw_m10 194 rfl) rfl
theorem q2458 : (Jvm.Cond.instanceMethod ({ cls := "CellReducer", name := "prints", desc := "(II)I" } : Jvm.MethodName)) ∈ lw_all := lw_g (lw_at lw_m10 196 rfl) rfl
theorem q2459 : (Jvm.Cond.selects "CellReducer" ({ cls := "CellReducer", name := "prints", desc := "(II)I" } : Jvm.MethodName) ({ cls := "CellReducer", name := "prints", desc := "(II)I" } : Jvm.MethodName)) ∈ lw_all := lw_g (lw_at lw_m10 197 rfl) rfl
theorem q2460 : (Jvm.Cond.code ({ cls := "CellReducer", name := "prints", desc := "(II)I" } : Jvm.MethodName) prog_1_method_54_code (3 : Nat) (Option.some Jvm.ClassFile.FieldType.int)) ∈ lw_all := lw_g (lw_at lw_m10 198 rfl) rfl
theorem q2461 : (Jvm.Cond.methodLink "CellReducer" (428 : Nat) ({ cls := "CellReducer", name := "toldLog", desc := "()Ljava/lang/String;" } : Jvm.MethodName)) ∈ lw_all := lw_g (lw_at lw_m10 199 rfl) rfl
theorem q2462 : (Jvm.Cond.privateMethod ({ cls := "CellReducer", name := "toldLog", desc := "()Ljava/lang/String;" } : Jvm.MethodName)) ∈ lw_tbl := lw_at lw_m10 200 rfl
theorem q2463 : (Jvm.Cond.instanceMethod ({ cls := "CellReducer", name := "toldLog", desc := "()Ljava/lang/String;" } : Jvm.MethodName)) ∈ lw_all := lw_g (lw_at lw_m10 201 rfl) rfl
theorem q2464 : (Jvm.Cond.code ({ cls := "CellReducer", name := "toldLog", desc := "()Ljava/lang/String;" } : Jvm.MethodName) prog_1_method_53_code (4 : Nat) (Option.some (Jvm.ClassFile.FieldType.object "java/lang/String"))) ∈ lw_all := lw_g (lw_at lw_m10 202 rfl) rfl
theorem q2465 : (Jvm.Cond.classLink "CellReducer" (406 : Nat) "java/lang/StringBuilder") ∈ lw_all := lw_g (lw_at lw_m10 203 rfl) rfl
theorem q2466 : (Jvm.Cond.methodLink "CellReducer" (424 : Nat) ({ cls := "java/lang/StringBuilder", name := "<init>", desc := "()V" } : Jvm.MethodName)) ∈ lw_all := lw_g (lw_at lw_m10 204 rfl) rfl
theorem q2467 : (Jvm.Cond.methodLink "CellReducer" (413 : Nat) ({ cls := "java/lang/StringBuilder", name := "append", desc := "(C)Ljava/lang/StringBuilder;" } : Jvm.MethodName)) ∈ lw_all := lw_g (lw_at lw_m10 205 rfl) rfl
theorem q2487 : (Jvm.Cond.methodLink "CellReducer" (425 : Nat) ({ cls := "java/lang/StringBuilder", name := "append", desc := "(I)Ljava/lang/StringBuilder;" } : Jvm.MethodName)) ∈ lw_all := lw_g (lw_at lw_m10 225 rfl) rfl
theorem q2488 : (Jvm.Cond.methodLink "CellReducer" (420 : Nat) ({ cls := "java/lang/StringBuilder", name := "toString", desc := "()Ljava/lang/String;" } : Jvm.MethodName)) ∈ lw_all := lw_g (lw_at lw_m10 226 rfl) rfl
theorem q2489 : (Jvm.Cond.methodLink "CellReducer" (431 : Nat) ({ cls := "CellReducer", name := "told", desc := "(LCellReducer$Cell;)Ljava/lang/String;" } : Jvm.MethodName)) ∈ lw_all := lw_g (lw_at lw_m10 227 rfl) rfl
theorem q2490 : (Jvm.Cond.static ({ cls := "CellReducer", name := "told", desc := "(LCellReducer$Cell;)Ljava/lang/String;" } : Jvm.MethodName)) ∈ lw_all := lw_g (lw_at lw_m10 228 rfl) rfl
theorem q2491 : (Jvm.Cond.code ({ cls := "CellReducer", name := "told", desc := "(LCellReducer$Cell;)Ljava/lang/String;" } : Jvm.MethodName) prog_1_method_52_code (3 : Nat) (Option.some (Jvm.ClassFile.FieldType.object "java/lang/String"))) ∈ lw_all := lw_g (lw_at lw_m10 229 rfl) rfl
theorem q2492 : (Jvm.Cond.stringRef "CellReducer" (408 : Nat) "g") ∈ lw_tbl := lw_at lw_m10 230 rfl
theorem q2493 : (Jvm.Cond.methodLink "CellReducer" (410 : Nat) ({ cls := "java/lang/StringBuilder", name := "<init>", desc := "(Ljava/lang/String;)V" } : Jvm.MethodName)) ∈ lw_all := lw_g (lw_at lw_m10 231 rfl) rfl
theorem q2504 : (Jvm.Cond.methodLink "CellReducer" (417 : Nat) ({ cls := "java/lang/StringBuilder", name := "append", desc := "(J)Ljava/lang/StringBuilder;" } : Jvm.MethodName)) ∈ lw_all := lw_g (lw_at lw_m11 2 rfl) rfl
theorem q2531 : (Jvm.Cond.methodLink "CellReducer" (435 : Nat) ({ cls := "java/lang/String", name := "length", desc := "()I" } : Jvm.MethodName)) ∈ lw_all := lw_g (lw_at lw_m11 29 rfl) rfl
theorem q2533 : (Jvm.Cond.instanceMethod ({ cls := "CellReducer", name := "paper", desc := "(I)I" } : Jvm.MethodName)) ∈ lw_all := lw_g (lw_at lw_m11 31 rfl) rfl
theorem q2534 : (Jvm.Cond.selects "CellReducer" ({ cls := "CellReducer", name := "paper", desc := "(I)I" } : Jvm.MethodName) ({ cls := "CellReducer", name := "paper", desc := "(I)I" } : Jvm.MethodName)) ∈ lw_all := lw_g (lw_at lw_m11 32 rfl) rfl
theorem q2535 : (Jvm.Cond.code ({ cls := "CellReducer", name := "paper", desc := "(I)I" } : Jvm.MethodName) prog_1_method_55_code (2 : Nat) (Option.some Jvm.ClassFile.FieldType.int)) ∈ lw_all := lw_g (lw_at lw_m11 33 rfl) rfl
theorem q2536 : (Jvm.Cond.methodLink "CellReducer" (439 : Nat) ({ cls := "java/lang/String", name := "charAt", desc := "(I)C" } : Jvm.MethodName)) ∈ lw_all := lw_g (lw_at lw_m11 34 rfl) rfl
theorem q2552 : (Jvm.Cond.instanceMethod ({ cls := "CellReducer", name := "list", desc := "(II)I" } : Jvm.MethodName)) ∈ lw_all := lw_g (lw_at lw_m11 50 rfl) rfl
theorem q2553 : (Jvm.Cond.selects "CellReducer" ({ cls := "CellReducer", name := "list", desc := "(II)I" } : Jvm.MethodName) ({ cls := "CellReducer", name := "list", desc := "(II)I" } : Jvm.MethodName)) ∈ lw_all := lw_g (lw_at lw_m11 51 rfl) rfl
theorem q2554 : (Jvm.Cond.codeWith ({ cls := "CellReducer", name := "list", desc := "(II)I" } : Jvm.MethodName) prog_1_method_57_code (4 : Nat) (Option.some Jvm.ClassFile.FieldType.int) [((15 : Nat), (24 : Nat), (27 : Nat), (448 : Nat))]) ∈ lw_all := lw_g (lw_at lw_m11 52 rfl) rfl
theorem q2555 : (Jvm.Cond.classLink "CellReducer" (448 : Nat) "java/lang/NegativeArraySizeException") ∈ lw_all := lw_g (lw_at lw_m11 53 rfl) rfl
theorem q2559 : (Jvm.Cond.methodLink "CellReducer" (445 : Nat) ({ cls := "CellReducer", name := "isList", desc := "(I)Z" } : Jvm.MethodName)) ∈ lw_all := lw_g (lw_at lw_m11 57 rfl) rfl
theorem q2560 : (Jvm.Cond.static ({ cls := "CellReducer", name := "isList", desc := "(I)Z" } : Jvm.MethodName)) ∈ lw_all := lw_g (lw_at lw_m11 58 rfl) rfl
theorem q2561 : (Jvm.Cond.code ({ cls := "CellReducer", name := "isList", desc := "(I)Z" } : Jvm.MethodName) prog_1_method_56_code (1 : Nat) (Option.some Jvm.ClassFile.FieldType.boolean)) ∈ lw_all := lw_g (lw_at lw_m11 59 rfl) rfl
theorem q2562 : (Jvm.Cond.constantLong "CellReducer" (443 : Nat) (3 : Int64)) ∈ lw_all := lw_g (lw_at lw_m11 60 rfl) rfl
theorem q2564 : (Jvm.Cond.instanceMethod ({ cls := "CellReducer", name := "set", desc := "(IIJ)I" } : Jvm.MethodName)) ∈ lw_all := lw_g (lw_at lw_m11 62 rfl) rfl
theorem q2565 : (Jvm.Cond.selects "CellReducer" ({ cls := "CellReducer", name := "set", desc := "(IIJ)I" } : Jvm.MethodName) ({ cls := "CellReducer", name := "set", desc := "(IIJ)I" } : Jvm.MethodName)) ∈ lw_all := lw_g (lw_at lw_m11 63 rfl) rfl
theorem q2566 : (Jvm.Cond.codeWith ({ cls := "CellReducer", name := "set", desc := "(IIJ)I" } : Jvm.MethodName) prog_1_method_58_code (6 : Nat) (Option.some Jvm.ClassFile.FieldType.int) [((9 : Nat), (18 : Nat), (21 : Nat), (450 : Nat)), ((9 : Nat), (18 : Nat), (26 : Nat), (452 : Nat))]) ∈ lw_all := lw_g (lw_at lw_m11 64 rfl) rfl
theorem q2567 : (Jvm.Cond.classLink "CellReducer" (450 : Nat) "java/lang/NullPointerException") ∈ lw_all := lw_g (lw_at lw_m11 65 rfl) rfl
theorem q2569 : (Jvm.Cond.classLink "CellReducer" (452 : Nat) "java/lang/ArrayIndexOutOfBoundsException") ∈ lw_all := lw_g (lw_at lw_m11 67 rfl) rfl
theorem q2573 : (Jvm.Cond.instanceMethod ({ cls := "CellReducer", name := "get", desc := "(II)J" } : Jvm.MethodName)) ∈ lw_all := lw_g (lw_at lw_m11 71 rfl) rfl
theorem q2574 : (Jvm.Cond.selects "CellReducer" ({ cls := "CellReducer", name := "get", desc := "(II)J" } : Jvm.MethodName) ({ cls := "CellReducer", name := "get", desc := "(II)J" } : Jvm.MethodName)) ∈ lw_all := lw_g (lw_at lw_m11 72 rfl) rfl
theorem q2575 : (Jvm.Cond.codeWith ({ cls := "CellReducer", name := "get", desc := "(II)J" } : Jvm.MethodName) prog_1_method_59_code (4 : Nat) (Option.some Jvm.ClassFile.FieldType.long) [((11 : Nat), (19 : Nat), (20 : Nat), (450 : Nat)), ((11 : Nat), (19 : Nat), (20 : Nat), (452 : Nat))]) ∈ lw_all := lw_g (lw_at lw_m11 73 rfl) rfl
theorem q2577 : (Jvm.Cond.instanceMethod ({ cls := "CellReducer", name := "into", desc := "(IIII)I" } : Jvm.MethodName)) ∈ lw_all := lw_g (lw_at lw_m11 75 rfl) rfl
theorem q2578 : (Jvm.Cond.selects "CellReducer" ({ cls := "CellReducer", name := "into", desc := "(IIII)I" } : Jvm.MethodName) ({ cls := "CellReducer", name := "into", desc := "(IIII)I" } : Jvm.MethodName)) ∈ lw_all := lw_g (lw_at lw_m11 76 rfl) rfl
theorem q2579 : (Jvm.Cond.code ({ cls := "CellReducer", name := "into", desc := "(IIII)I" } : Jvm.MethodName) prog_1_method_61_code (7 : Nat) (Option.some Jvm.ClassFile.FieldType.int)) ∈ lw_all := lw_g (lw_at lw_m11 77 rfl) rfl
theorem q2580 : (Jvm.Cond.methodLink "CellReducer" (454 : Nat) ({ cls := "CellReducer", name := "toldAt", desc := "(LCellReducer$Cell;II)J" } : Jvm.MethodName)) ∈ lw_all := lw_g (lw_at lw_m11 78 rfl) rfl
theorem q2581 : (Jvm.Cond.privateMethod ({ cls := "CellReducer", name := "toldAt", desc := "(LCellReducer$Cell;II)J" } : Jvm.MethodName)) ∈ lw_tbl := lw_at lw_m11 79 rfl
theorem q2582 : (Jvm.Cond.instanceMethod ({ cls := "CellReducer", name := "toldAt", desc := "(LCellReducer$Cell;II)J" } : Jvm.MethodName)) ∈ lw_all := lw_g (lw_at lw_m11 80 rfl) rfl
theorem q2583 : (Jvm.Cond.code ({ cls := "CellReducer", name := "toldAt", desc := "(LCellReducer$Cell;II)J" } : Jvm.MethodName) prog_1_method_60_code (4 : Nat) (Option.some Jvm.ClassFile.FieldType.long)) ∈ lw_all := lw_g (lw_at lw_m11 81 rfl) rfl
theorem q2585 : (Jvm.Cond.instanceMethod ({ cls := "CellReducer", name := "from", desc := "(II)I" } : Jvm.MethodName)) ∈ lw_all := lw_g (lw_at lw_m11 83 rfl) rfl
theorem q2586 : (Jvm.Cond.selects "CellReducer" ({ cls := "CellReducer", name := "from", desc := "(II)I" } : Jvm.MethodName) ({ cls := "CellReducer", name := "from", desc := "(II)I" } : Jvm.MethodName)) ∈ lw_all := lw_g (lw_at lw_m11 84 rfl) rfl
theorem q2587 : (Jvm.Cond.code ({ cls := "CellReducer", name := "from", desc := "(II)I" } : Jvm.MethodName) prog_1_method_62_code (4 : Nat) (Option.some Jvm.ClassFile.FieldType.int)) ∈ lw_all := lw_g (lw_at lw_m11 85 rfl) rfl
theorem q2589 : (Jvm.Cond.instanceMethod ({ cls := "CellReducer", name := "image", desc := "()I" } : Jvm.MethodName)) ∈ lw_all := lw_g (lw_at lw_m11 87 rfl) rfl
theorem q2590 : (Jvm.Cond.selects "CellReducer" ({ cls := "CellReducer", name := "image", desc := "()I" } : Jvm.MethodName) ({ cls := "CellReducer", name := "image", desc := "()I" } : Jvm.MethodName)) ∈ lw_all := lw_g (lw_at lw_m11 88 rfl) rfl
theorem q2591 : (Jvm.Cond.code ({ cls := "CellReducer", name := "image", desc := "()I" } : Jvm.MethodName) prog_1_method_63_code (3 : Nat) (Option.some Jvm.ClassFile.FieldType.int)) ∈ lw_all := lw_g (lw_at lw_m11 89 rfl) rfl
theorem q2592 : (Jvm.Cond.methodLink "CellReducer" (458 : Nat) ({ cls := "java/util/LinkedList", name := "clear", desc := "()V" } : Jvm.MethodName)) ∈ lw_all := lw_g (lw_at lw_m11 90 rfl) rfl
theorem q2596 : (Jvm.Cond.methodLink "CellReducer" (459 : Nat) ({ cls := "java/util/ArrayDeque", name := "clear", desc := "()V" } : Jvm.MethodName)) ∈ lw_all := lw_g (lw_at lw_m11 94 rfl) rfl
theorem q2604 : (Jvm.Cond.instanceMethod ({ cls := "CellReducer", name := "back", desc := "()I" } : Jvm.MethodName)) ∈ lw_all := lw_g (lw_at lw_m11 102 rfl) rfl
theorem q2605 : (Jvm.Cond.selects "CellReducer" ({ cls := "CellReducer", name := "back", desc := "()I" } : Jvm.MethodName) ({ cls := "CellReducer", name := "back", desc := "()I" } : Jvm.MethodName)) ∈ lw_all := lw_g (lw_at lw_m11 103 rfl) rfl
theorem q2606 : (Jvm.Cond.code ({ cls := "CellReducer", name := "back", desc := "()I" } : Jvm.MethodName) prog_1_method_64_code (3 : Nat) (Option.some Jvm.ClassFile.FieldType.int)) ∈ lw_all := lw_g (lw_at lw_m11 104 rfl) rfl
theorem q2608 : (Jvm.Cond.instanceMethod ({ cls := "CellReducer", name := "count", desc := "(I)I" } : Jvm.MethodName)) ∈ lw_all := lw_g (lw_at lw_m11 106 rfl) rfl
theorem q2609 : (Jvm.Cond.selects "CellReducer" ({ cls := "CellReducer", name := "count", desc := "(I)I" } : Jvm.MethodName) ({ cls := "CellReducer", name := "count", desc := "(I)I" } : Jvm.MethodName)) ∈ lw_all := lw_g (lw_at lw_m11 107 rfl) rfl
theorem q2610 : (Jvm.Cond.code ({ cls := "CellReducer", name := "count", desc := "(I)I" } : Jvm.MethodName) prog_1_method_65_code (2 : Nat) (Option.some Jvm.ClassFile.FieldType.int)) ∈ lw_all := lw_g (lw_at lw_m11 108 rfl) rfl
theorem q3121 : (Jvm.Cond.castable "CellReducer" "java/lang/Object") ∈ lw_tbl := lw_at lw_m13 139 rfl
theorem in_X0 : ∀ w ∈ wsX00, w ∈ lw_all := lw_in wsX00 [308, 310, 312, 314, 316, 318, 320, 322, 324, 326, 328, 330, 332, 334, 336, 338, 340, 342, 344, 346, 348, 350, 352, 354, 356] (by decide +kernel) (by decide +kernel)
/-! CellReducer$Cell -/
set_option maxRecDepth 100000
def RX1 : String := "CellReducer$Cell"
def TX1 : u_T := fun k => match k with
  | 0 => ("CellReducer$Cell", "s", "[J", true)
  | 1 => ("CellReducer$Cell", "d", "[J", true)
  | 2 => ("CellReducer$Cell", "column", "[[J", true)
  | _ => ("CellReducer$Cell", "isTurned", "[Z", true)
def tyX1 : Nat → FieldType := fun k => match k with
  | 0 => .array .long
  | 1 => .array .long
  | 2 => .array (.array .long)
  | _ => .array .boolean
abbrev wsX10 : List Cond := u_ws RX1 TX1 4
theorem nmX1 : ∀ a, a < 4 → ∀ b, b < 4 → a ≠ b → (TX1 a).2.1 ≠ (TX1 b).2.1 := by decide +kernel
theorem tyX1_ok : ∀ k, k < 4 → parseFieldDescriptor (TX1 k).2.2.1 = some (tyX1 k) := by decide +kernel
abbrev cX1_init : ByteArray := prog_2_method_1_code
def yX1_init : MethodName := ⟨RX1, "<init>", "()V"⟩
def dkwX1_init_1 : List UInt8 := [197, 0, 18, 2, 181, 0, 20, 42, 6, 188, 4, 181, 0, 23, 177]
abbrev dktX1_init_1 : List UInt8 := dkwX1_init_1 ++ []
def dkwX1_init_0 : List UInt8 := [42, 183, 0, 3, 42, 6, 188, 11, 181, 0, 9, 42, 6, 188, 11, 181, 0, 15, 42, 6, 6]
abbrev dktX1_init_0 : List UInt8 := dkwX1_init_0 ++ dktX1_init_1
theorem dksX1_init_0 : cX1_init.data.toList.drop 0 = dktX1_init_0 := by decide +kernel
theorem dksX1_init_1 : cX1_init.data.toList.drop 21 = dktX1_init_1 := dk_seg dksX1_init_0 21 rfl rfl
theorem dX1_init_0 : decode cX1_init 0 = .ok (.aload_n 0, 1) := dk_42 (dk_at dksX1_init_0 0 rfl rfl)
theorem dX1_init_1 : decode cX1_init 1 = .ok (.invokespecial 3, 3) := dk_183 0 3 (dk_at dksX1_init_0 1 rfl rfl)
theorem dX1_init_4 : decode cX1_init 4 = .ok (.aload_n 0, 1) := dk_42 (dk_at dksX1_init_0 4 rfl rfl)
theorem dX1_init_5 : decode cX1_init 5 = .ok (.iconst 3, 1) := dk_6 (dk_at dksX1_init_0 5 rfl rfl)
theorem dX1_init_6 : decode cX1_init 6 = .ok (.newarray .long, 2) := dk_188_11 (dk_at dksX1_init_0 6 rfl rfl)
theorem dX1_init_8 : decode cX1_init 8 = .ok (.putfield 9, 3) := dk_181 0 9 (dk_at dksX1_init_0 8 rfl rfl)
theorem dX1_init_11 : decode cX1_init 11 = .ok (.aload_n 0, 1) := dk_42 (dk_at dksX1_init_0 11 rfl rfl)
theorem dX1_init_12 : decode cX1_init 12 = .ok (.iconst 3, 1) := dk_6 (dk_at dksX1_init_0 12 rfl rfl)
theorem dX1_init_13 : decode cX1_init 13 = .ok (.newarray .long, 2) := dk_188_11 (dk_at dksX1_init_0 13 rfl rfl)
theorem dX1_init_15 : decode cX1_init 15 = .ok (.putfield 15, 3) := dk_181 0 15 (dk_at dksX1_init_0 15 rfl rfl)
theorem dX1_init_18 : decode cX1_init 18 = .ok (.aload_n 0, 1) := dk_42 (dk_at dksX1_init_0 18 rfl rfl)
theorem dX1_init_19 : decode cX1_init 19 = .ok (.iconst 3, 1) := dk_6 (dk_at dksX1_init_0 19 rfl rfl)
theorem dX1_init_20 : decode cX1_init 20 = .ok (.iconst 3, 1) := dk_6 (dk_at dksX1_init_0 20 rfl rfl)
theorem dX1_init_21 : decode cX1_init 21 = .ok (.multianewarray 18 2, 4) := by decide +kernel
theorem dX1_init_25 : decode cX1_init 25 = .ok (.putfield 20, 3) := dk_181 0 20 (dk_at dksX1_init_1 4 rfl rfl)
theorem dX1_init_28 : decode cX1_init 28 = .ok (.aload_n 0, 1) := dk_42 (dk_at dksX1_init_1 7 rfl rfl)
theorem dX1_init_29 : decode cX1_init 29 = .ok (.iconst 3, 1) := dk_6 (dk_at dksX1_init_1 8 rfl rfl)
theorem dX1_init_30 : decode cX1_init 30 = .ok (.newarray .boolean, 2) := dk_188_4 (dk_at dksX1_init_1 9 rfl rfl)
theorem dX1_init_32 : decode cX1_init 32 = .ok (.putfield 23, 3) := dk_181 0 23 (dk_at dksX1_init_1 11 rfl rfl)
theorem dX1_init_35 : decode cX1_init 35 = .ok (.return_, 1) := dk_177 (dk_at dksX1_init_1 14 rfl rfl)
abbrev cX1_tells : ByteArray := prog_2_method_2_code
def yX1_tells : MethodName := ⟨RX1, "tells", "(JJJJJJ)LCellReducer$Cell;"⟩
def dkwX1_tells_2 : List UInt8 := [182, 0, 27, 176]
abbrev dktX1_tells_2 : List UInt8 := dkwX1_tells_2 ++ []
def dkwX1_tells_1 : List UInt8 := [180, 0, 15, 3, 22, 7, 80, 42, 180, 0, 15, 4, 22, 9, 80, 42, 180, 0, 15, 5, 22, 11, 80, 42]
abbrev dktX1_tells_1 : List UInt8 := dkwX1_tells_1 ++ dktX1_tells_2
def dkwX1_tells_0 : List UInt8 := [42, 180, 0, 9, 3, 31, 80, 42, 180, 0, 9, 4, 33, 80, 42, 180, 0, 9, 5, 22, 5, 80, 42]
abbrev dktX1_tells_0 : List UInt8 := dkwX1_tells_0 ++ dktX1_tells_1
theorem dksX1_tells_0 : cX1_tells.data.toList.drop 0 = dktX1_tells_0 := by decide +kernel
theorem dksX1_tells_1 : cX1_tells.data.toList.drop 23 = dktX1_tells_1 := dk_seg dksX1_tells_0 23 rfl rfl
theorem dksX1_tells_2 : cX1_tells.data.toList.drop 47 = dktX1_tells_2 := dk_seg dksX1_tells_1 24 rfl rfl
theorem dX1_tells_0 : decode cX1_tells 0 = .ok (.aload_n 0, 1) := dk_42 (dk_at dksX1_tells_0 0 rfl rfl)
theorem dX1_tells_1 : decode cX1_tells 1 = .ok (.getfield 9, 3) := dk_180 0 9 (dk_at dksX1_tells_0 1 rfl rfl)
theorem dX1_tells_4 : decode cX1_tells 4 = .ok (.iconst 0, 1) := dk_3 (dk_at dksX1_tells_0 4 rfl rfl)
theorem dX1_tells_5 : decode cX1_tells 5 = .ok (.lload_n 1, 1) := dk_31 (dk_at dksX1_tells_0 5 rfl rfl)
theorem dX1_tells_6 : decode cX1_tells 6 = .ok (.lastore, 1) := dk_80 (dk_at dksX1_tells_0 6 rfl rfl)
theorem dX1_tells_7 : decode cX1_tells 7 = .ok (.aload_n 0, 1) := dk_42 (dk_at dksX1_tells_0 7 rfl rfl)
theorem dX1_tells_8 : decode cX1_tells 8 = .ok (.getfield 9, 3) := dk_180 0 9 (dk_at dksX1_tells_0 8 rfl rfl)
theorem dX1_tells_11 : decode cX1_tells 11 = .ok (.iconst 1, 1) := dk_4 (dk_at dksX1_tells_0 11 rfl rfl)
theorem dX1_tells_12 : decode cX1_tells 12 = .ok (.lload_n 3, 1) := dk_33 (dk_at dksX1_tells_0 12 rfl rfl)
theorem dX1_tells_13 : decode cX1_tells 13 = .ok (.lastore, 1) := dk_80 (dk_at dksX1_tells_0 13 rfl rfl)
theorem dX1_tells_14 : decode cX1_tells 14 = .ok (.aload_n 0, 1) := dk_42 (dk_at dksX1_tells_0 14 rfl rfl)
theorem dX1_tells_15 : decode cX1_tells 15 = .ok (.getfield 9, 3) := dk_180 0 9 (dk_at dksX1_tells_0 15 rfl rfl)
theorem dX1_tells_18 : decode cX1_tells 18 = .ok (.iconst 2, 1) := dk_5 (dk_at dksX1_tells_0 18 rfl rfl)
theorem dX1_tells_19 : decode cX1_tells 19 = .ok (.lload 5, 2) := dk_22 5 (dk_at dksX1_tells_0 19 rfl rfl)
theorem dX1_tells_21 : decode cX1_tells 21 = .ok (.lastore, 1) := dk_80 (dk_at dksX1_tells_0 21 rfl rfl)
theorem dX1_tells_22 : decode cX1_tells 22 = .ok (.aload_n 0, 1) := dk_42 (dk_at dksX1_tells_0 22 rfl rfl)
theorem dX1_tells_23 : decode cX1_tells 23 = .ok (.getfield 15, 3) := dk_180 0 15 (dk_at dksX1_tells_1 0 rfl rfl)
theorem dX1_tells_26 : decode cX1_tells 26 = .ok (.iconst 0, 1) := dk_3 (dk_at dksX1_tells_1 3 rfl rfl)
theorem dX1_tells_27 : decode cX1_tells 27 = .ok (.lload 7, 2) := dk_22 7 (dk_at dksX1_tells_1 4 rfl rfl)
theorem dX1_tells_29 : decode cX1_tells 29 = .ok (.lastore, 1) := dk_80 (dk_at dksX1_tells_1 6 rfl rfl)
theorem dX1_tells_30 : decode cX1_tells 30 = .ok (.aload_n 0, 1) := dk_42 (dk_at dksX1_tells_1 7 rfl rfl)
theorem dX1_tells_31 : decode cX1_tells 31 = .ok (.getfield 15, 3) := dk_180 0 15 (dk_at dksX1_tells_1 8 rfl rfl)
theorem dX1_tells_34 : decode cX1_tells 34 = .ok (.iconst 1, 1) := dk_4 (dk_at dksX1_tells_1 11 rfl rfl)
theorem dX1_tells_35 : decode cX1_tells 35 = .ok (.lload 9, 2) := dk_22 9 (dk_at dksX1_tells_1 12 rfl rfl)
theorem dX1_tells_37 : decode cX1_tells 37 = .ok (.lastore, 1) := dk_80 (dk_at dksX1_tells_1 14 rfl rfl)
theorem dX1_tells_38 : decode cX1_tells 38 = .ok (.aload_n 0, 1) := dk_42 (dk_at dksX1_tells_1 15 rfl rfl)
theorem dX1_tells_39 : decode cX1_tells 39 = .ok (.getfield 15, 3) := dk_180 0 15 (dk_at dksX1_tells_1 16 rfl rfl)
theorem dX1_tells_42 : decode cX1_tells 42 = .ok (.iconst 2, 1) := dk_5 (dk_at dksX1_tells_1 19 rfl rfl)
theorem dX1_tells_43 : decode cX1_tells 43 = .ok (.lload 11, 2) := dk_22 11 (dk_at dksX1_tells_1 20 rfl rfl)
theorem dX1_tells_45 : decode cX1_tells 45 = .ok (.lastore, 1) := dk_80 (dk_at dksX1_tells_1 22 rfl rfl)
theorem dX1_tells_46 : decode cX1_tells 46 = .ok (.aload_n 0, 1) := dk_42 (dk_at dksX1_tells_1 23 rfl rfl)
theorem dX1_tells_47 : decode cX1_tells 47 = .ok (.invokevirtual 27, 3) := dk_182 0 27 (dk_at dksX1_tells_2 0 rfl rfl)
theorem dX1_tells_50 : decode cX1_tells 50 = .ok (.areturn, 1) := dk_176 (dk_at dksX1_tells_2 3 rfl rfl)
abbrev cX1_asItCame : ByteArray := prog_2_method_3_code
def yX1_asItCame : MethodName := ⟨RX1, "asItCame", "()LCellReducer$Cell;"⟩
def dkwX1_asItCame_1 : List UInt8 := [160, 0, 7, 10, 167, 0, 4, 9, 80, 132, 2, 1, 167, 255, 230, 132, 1, 1, 167, 255, 217, 42, 176]
abbrev dktX1_asItCame_1 : List UInt8 := dkwX1_asItCame_1 ++ []
def dkwX1_asItCame_0 : List UInt8 := [3, 60, 27, 6, 162, 0, 40, 3, 61, 28, 6, 162, 0, 27, 42, 180, 0, 20, 27, 50, 28, 27, 28]
abbrev dktX1_asItCame_0 : List UInt8 := dkwX1_asItCame_0 ++ dktX1_asItCame_1
theorem dksX1_asItCame_0 : cX1_asItCame.data.toList.drop 0 = dktX1_asItCame_0 := by decide +kernel
theorem dksX1_asItCame_1 : cX1_asItCame.data.toList.drop 23 = dktX1_asItCame_1 := dk_seg dksX1_asItCame_0 23 rfl rfl
theorem dX1_asItCame_0 : decode cX1_asItCame 0 = .ok (.iconst 0, 1) := dk_3 (dk_at dksX1_asItCame_0 0 rfl rfl)
theorem dX1_asItCame_1 : decode cX1_asItCame 1 = .ok (.istore_n 1, 1) := dk_60 (dk_at dksX1_asItCame_0 1 rfl rfl)
theorem dX1_asItCame_2 : decode cX1_asItCame 2 = .ok (.iload_n 1, 1) := dk_27 (dk_at dksX1_asItCame_0 2 rfl rfl)
theorem dX1_asItCame_3 : decode cX1_asItCame 3 = .ok (.iconst 3, 1) := dk_6 (dk_at dksX1_asItCame_0 3 rfl rfl)
theorem dX1_asItCame_4 : decode cX1_asItCame 4 = .ok (.if_icmp .ge 40, 3) := dk_162 0 40 (dk_at dksX1_asItCame_0 4 rfl rfl)
theorem dX1_asItCame_7 : decode cX1_asItCame 7 = .ok (.iconst 0, 1) := dk_3 (dk_at dksX1_asItCame_0 7 rfl rfl)
theorem dX1_asItCame_8 : decode cX1_asItCame 8 = .ok (.istore_n 2, 1) := dk_61 (dk_at dksX1_asItCame_0 8 rfl rfl)
theorem dX1_asItCame_9 : decode cX1_asItCame 9 = .ok (.iload_n 2, 1) := dk_28 (dk_at dksX1_asItCame_0 9 rfl rfl)
theorem dX1_asItCame_10 : decode cX1_asItCame 10 = .ok (.iconst 3, 1) := dk_6 (dk_at dksX1_asItCame_0 10 rfl rfl)
theorem dX1_asItCame_11 : decode cX1_asItCame 11 = .ok (.if_icmp .ge 27, 3) := dk_162 0 27 (dk_at dksX1_asItCame_0 11 rfl rfl)
theorem dX1_asItCame_14 : decode cX1_asItCame 14 = .ok (.aload_n 0, 1) := dk_42 (dk_at dksX1_asItCame_0 14 rfl rfl)
theorem dX1_asItCame_15 : decode cX1_asItCame 15 = .ok (.getfield 20, 3) := dk_180 0 20 (dk_at dksX1_asItCame_0 15 rfl rfl)
theorem dX1_asItCame_18 : decode cX1_asItCame 18 = .ok (.iload_n 1, 1) := dk_27 (dk_at dksX1_asItCame_0 18 rfl rfl)
theorem dX1_asItCame_19 : decode cX1_asItCame 19 = .ok (.aaload, 1) := dk_50 (dk_at dksX1_asItCame_0 19 rfl rfl)
theorem dX1_asItCame_20 : decode cX1_asItCame 20 = .ok (.iload_n 2, 1) := dk_28 (dk_at dksX1_asItCame_0 20 rfl rfl)
theorem dX1_asItCame_21 : decode cX1_asItCame 21 = .ok (.iload_n 1, 1) := dk_27 (dk_at dksX1_asItCame_0 21 rfl rfl)
theorem dX1_asItCame_22 : decode cX1_asItCame 22 = .ok (.iload_n 2, 1) := dk_28 (dk_at dksX1_asItCame_0 22 rfl rfl)
theorem dX1_asItCame_23 : decode cX1_asItCame 23 = .ok (.if_icmp .ne 7, 3) := dk_160 0 7 (dk_at dksX1_asItCame_1 0 rfl rfl)
theorem dX1_asItCame_26 : decode cX1_asItCame 26 = .ok (.lconst 1, 1) := dk_10 (dk_at dksX1_asItCame_1 3 rfl rfl)
theorem dX1_asItCame_27 : decode cX1_asItCame 27 = .ok (.goto 4, 3) := dk_167 0 4 (dk_at dksX1_asItCame_1 4 rfl rfl)
theorem dX1_asItCame_30 : decode cX1_asItCame 30 = .ok (.lconst 0, 1) := dk_9 (dk_at dksX1_asItCame_1 7 rfl rfl)
theorem dX1_asItCame_31 : decode cX1_asItCame 31 = .ok (.lastore, 1) := dk_80 (dk_at dksX1_asItCame_1 8 rfl rfl)
theorem dX1_asItCame_32 : decode cX1_asItCame 32 = .ok (.iinc 2 1, 3) := dk_132 2 1 (dk_at dksX1_asItCame_1 9 rfl rfl)
theorem dX1_asItCame_35 : decode cX1_asItCame 35 = .ok (.goto (-26), 3) := dk_167 255 230 (dk_at dksX1_asItCame_1 12 rfl rfl)
theorem dX1_asItCame_38 : decode cX1_asItCame 38 = .ok (.iinc 1 1, 3) := dk_132 1 1 (dk_at dksX1_asItCame_1 15 rfl rfl)
theorem dX1_asItCame_41 : decode cX1_asItCame 41 = .ok (.goto (-39), 3) := dk_167 255 217 (dk_at dksX1_asItCame_1 18 rfl rfl)
theorem dX1_asItCame_44 : decode cX1_asItCame 44 = .ok (.aload_n 0, 1) := dk_42 (dk_at dksX1_asItCame_1 21 rfl rfl)
theorem dX1_asItCame_45 : decode cX1_asItCame 45 = .ok (.areturn, 1) := dk_176 (dk_at dksX1_asItCame_1 22 rfl rfl)
abbrev cX1_mayBe : ByteArray := prog_2_method_8_code
def yX1_mayBe : MethodName := ⟨RX1, "mayBe", "()Z"⟩
def dkwX1_mayBe_5 : List UInt8 := [167, 0, 4, 3, 172]
abbrev dktX1_mayBe_5 : List UInt8 := dkwX1_mayBe_5 ++ []
def dkwX1_mayBe_4 : List UInt8 := [101, 9, 148, 157, 0, 5, 3, 172, 132, 1, 1, 167, 255, 202, 42, 182, 0, 53, 9, 148, 158, 0, 7, 4]
abbrev dktX1_mayBe_4 : List UInt8 := dkwX1_mayBe_4 ++ dktX1_mayBe_5
def dkwX1_mayBe_3 : List UInt8 := [42, 180, 0, 9, 27, 5, 96, 6, 112, 47, 105, 42, 180, 0, 15, 27, 47, 42, 180, 0, 15, 27, 47, 105]
abbrev dktX1_mayBe_3 : List UInt8 := dkwX1_mayBe_3 ++ dktX1_mayBe_4
def dkwX1_mayBe_2 : List UInt8 := [167, 255, 212, 3, 60, 27, 6, 162, 0, 55, 20, 0, 41, 42, 180, 0, 9, 27, 4, 96, 6, 112, 47, 105]
abbrev dktX1_mayBe_2 : List UInt8 := dkwX1_mayBe_2 ++ dktX1_mayBe_3
def dkwX1_mayBe_1 : List UInt8 := [180, 0, 15, 27, 47, 20, 0, 49, 20, 0, 51, 184, 0, 45, 154, 0, 5, 3, 172, 132, 1, 1]
abbrev dktX1_mayBe_1 : List UInt8 := dkwX1_mayBe_1 ++ dktX1_mayBe_2
def dkwX1_mayBe_0 : List UInt8 := [3, 60, 27, 6, 162, 0, 45, 42, 180, 0, 9, 27, 47, 10, 20, 0, 43, 184, 0, 45, 153, 0, 21, 42]
abbrev dktX1_mayBe_0 : List UInt8 := dkwX1_mayBe_0 ++ dktX1_mayBe_1
theorem dksX1_mayBe_0 : cX1_mayBe.data.toList.drop 0 = dktX1_mayBe_0 := by decide +kernel
theorem dksX1_mayBe_1 : cX1_mayBe.data.toList.drop 24 = dktX1_mayBe_1 := dk_seg dksX1_mayBe_0 24 rfl rfl
theorem dksX1_mayBe_2 : cX1_mayBe.data.toList.drop 46 = dktX1_mayBe_2 := dk_seg dksX1_mayBe_1 22 rfl rfl
theorem dksX1_mayBe_3 : cX1_mayBe.data.toList.drop 70 = dktX1_mayBe_3 := dk_seg dksX1_mayBe_2 24 rfl rfl
theorem dksX1_mayBe_4 : cX1_mayBe.data.toList.drop 94 = dktX1_mayBe_4 := dk_seg dksX1_mayBe_3 24 rfl rfl
theorem dksX1_mayBe_5 : cX1_mayBe.data.toList.drop 118 = dktX1_mayBe_5 := dk_seg dksX1_mayBe_4 24 rfl rfl
theorem dX1_mayBe_0 : decode cX1_mayBe 0 = .ok (.iconst 0, 1) := dk_3 (dk_at dksX1_mayBe_0 0 rfl rfl)
theorem dX1_mayBe_1 : decode cX1_mayBe 1 = .ok (.istore_n 1, 1) := dk_60 (dk_at dksX1_mayBe_0 1 rfl rfl)
theorem dX1_mayBe_2 : decode cX1_mayBe 2 = .ok (.iload_n 1, 1) := dk_27 (dk_at dksX1_mayBe_0 2 rfl rfl)
theorem dX1_mayBe_3 : decode cX1_mayBe 3 = .ok (.iconst 3, 1) := dk_6 (dk_at dksX1_mayBe_0 3 rfl rfl)
theorem dX1_mayBe_4 : decode cX1_mayBe 4 = .ok (.if_icmp .ge 45, 3) := dk_162 0 45 (dk_at dksX1_mayBe_0 4 rfl rfl)
theorem dX1_mayBe_7 : decode cX1_mayBe 7 = .ok (.aload_n 0, 1) := dk_42 (dk_at dksX1_mayBe_0 7 rfl rfl)
theorem dX1_mayBe_8 : decode cX1_mayBe 8 = .ok (.getfield 9, 3) := dk_180 0 9 (dk_at dksX1_mayBe_0 8 rfl rfl)
theorem dX1_mayBe_11 : decode cX1_mayBe 11 = .ok (.iload_n 1, 1) := dk_27 (dk_at dksX1_mayBe_0 11 rfl rfl)
theorem dX1_mayBe_12 : decode cX1_mayBe 12 = .ok (.laload, 1) := dk_47 (dk_at dksX1_mayBe_0 12 rfl rfl)
theorem dX1_mayBe_13 : decode cX1_mayBe 13 = .ok (.lconst 1, 1) := dk_10 (dk_at dksX1_mayBe_0 13 rfl rfl)
theorem dX1_mayBe_14 : decode cX1_mayBe 14 = .ok (.ldc2_w 43, 3) := dk_20 0 43 (dk_at dksX1_mayBe_0 14 rfl rfl)
theorem dX1_mayBe_17 : decode cX1_mayBe 17 = .ok (.invokestatic 45, 3) := dk_184 0 45 (dk_at dksX1_mayBe_0 17 rfl rfl)
theorem dX1_mayBe_20 : decode cX1_mayBe 20 = .ok (.ifCond .eq 21, 3) := dk_153 0 21 (dk_at dksX1_mayBe_0 20 rfl rfl)
theorem dX1_mayBe_23 : decode cX1_mayBe 23 = .ok (.aload_n 0, 1) := dk_42 (dk_at dksX1_mayBe_0 23 rfl rfl)
theorem dX1_mayBe_24 : decode cX1_mayBe 24 = .ok (.getfield 15, 3) := dk_180 0 15 (dk_at dksX1_mayBe_1 0 rfl rfl)
theorem dX1_mayBe_27 : decode cX1_mayBe 27 = .ok (.iload_n 1, 1) := dk_27 (dk_at dksX1_mayBe_1 3 rfl rfl)
theorem dX1_mayBe_28 : decode cX1_mayBe 28 = .ok (.laload, 1) := dk_47 (dk_at dksX1_mayBe_1 4 rfl rfl)
theorem dX1_mayBe_29 : decode cX1_mayBe 29 = .ok (.ldc2_w 49, 3) := dk_20 0 49 (dk_at dksX1_mayBe_1 5 rfl rfl)
theorem dX1_mayBe_32 : decode cX1_mayBe 32 = .ok (.ldc2_w 51, 3) := dk_20 0 51 (dk_at dksX1_mayBe_1 8 rfl rfl)
theorem dX1_mayBe_35 : decode cX1_mayBe 35 = .ok (.invokestatic 45, 3) := dk_184 0 45 (dk_at dksX1_mayBe_1 11 rfl rfl)
theorem dX1_mayBe_38 : decode cX1_mayBe 38 = .ok (.ifCond .ne 5, 3) := dk_154 0 5 (dk_at dksX1_mayBe_1 14 rfl rfl)
theorem dX1_mayBe_41 : decode cX1_mayBe 41 = .ok (.iconst 0, 1) := dk_3 (dk_at dksX1_mayBe_1 17 rfl rfl)
theorem dX1_mayBe_42 : decode cX1_mayBe 42 = .ok (.ireturn, 1) := dk_172 (dk_at dksX1_mayBe_1 18 rfl rfl)
theorem dX1_mayBe_43 : decode cX1_mayBe 43 = .ok (.iinc 1 1, 3) := dk_132 1 1 (dk_at dksX1_mayBe_1 19 rfl rfl)
theorem dX1_mayBe_46 : decode cX1_mayBe 46 = .ok (.goto (-44), 3) := dk_167 255 212 (dk_at dksX1_mayBe_2 0 rfl rfl)
theorem dX1_mayBe_49 : decode cX1_mayBe 49 = .ok (.iconst 0, 1) := dk_3 (dk_at dksX1_mayBe_2 3 rfl rfl)
theorem dX1_mayBe_50 : decode cX1_mayBe 50 = .ok (.istore_n 1, 1) := dk_60 (dk_at dksX1_mayBe_2 4 rfl rfl)
theorem dX1_mayBe_51 : decode cX1_mayBe 51 = .ok (.iload_n 1, 1) := dk_27 (dk_at dksX1_mayBe_2 5 rfl rfl)
theorem dX1_mayBe_52 : decode cX1_mayBe 52 = .ok (.iconst 3, 1) := dk_6 (dk_at dksX1_mayBe_2 6 rfl rfl)
theorem dX1_mayBe_53 : decode cX1_mayBe 53 = .ok (.if_icmp .ge 55, 3) := dk_162 0 55 (dk_at dksX1_mayBe_2 7 rfl rfl)
theorem dX1_mayBe_56 : decode cX1_mayBe 56 = .ok (.ldc2_w 41, 3) := dk_20 0 41 (dk_at dksX1_mayBe_2 10 rfl rfl)
theorem dX1_mayBe_59 : decode cX1_mayBe 59 = .ok (.aload_n 0, 1) := dk_42 (dk_at dksX1_mayBe_2 13 rfl rfl)
theorem dX1_mayBe_60 : decode cX1_mayBe 60 = .ok (.getfield 9, 3) := dk_180 0 9 (dk_at dksX1_mayBe_2 14 rfl rfl)
theorem dX1_mayBe_63 : decode cX1_mayBe 63 = .ok (.iload_n 1, 1) := dk_27 (dk_at dksX1_mayBe_2 17 rfl rfl)
theorem dX1_mayBe_64 : decode cX1_mayBe 64 = .ok (.iconst 1, 1) := dk_4 (dk_at dksX1_mayBe_2 18 rfl rfl)
theorem dX1_mayBe_65 : decode cX1_mayBe 65 = .ok (.iadd, 1) := dk_96 (dk_at dksX1_mayBe_2 19 rfl rfl)
theorem dX1_mayBe_66 : decode cX1_mayBe 66 = .ok (.iconst 3, 1) := dk_6 (dk_at dksX1_mayBe_2 20 rfl rfl)
theorem dX1_mayBe_67 : decode cX1_mayBe 67 = .ok (.irem, 1) := dk_112 (dk_at dksX1_mayBe_2 21 rfl rfl)
theorem dX1_mayBe_68 : decode cX1_mayBe 68 = .ok (.laload, 1) := dk_47 (dk_at dksX1_mayBe_2 22 rfl rfl)
theorem dX1_mayBe_69 : decode cX1_mayBe 69 = .ok (.lmul, 1) := dk_105 (dk_at dksX1_mayBe_2 23 rfl rfl)
theorem dX1_mayBe_70 : decode cX1_mayBe 70 = .ok (.aload_n 0, 1) := dk_42 (dk_at dksX1_mayBe_3 0 rfl rfl)
theorem dX1_mayBe_71 : decode cX1_mayBe 71 = .ok (.getfield 9, 3) := dk_180 0 9 (dk_at dksX1_mayBe_3 1 rfl rfl)
theorem dX1_mayBe_74 : decode cX1_mayBe 74 = .ok (.iload_n 1, 1) := dk_27 (dk_at dksX1_mayBe_3 4 rfl rfl)
theorem dX1_mayBe_75 : decode cX1_mayBe 75 = .ok (.iconst 2, 1) := dk_5 (dk_at dksX1_mayBe_3 5 rfl rfl)
theorem dX1_mayBe_76 : decode cX1_mayBe 76 = .ok (.iadd, 1) := dk_96 (dk_at dksX1_mayBe_3 6 rfl rfl)
theorem dX1_mayBe_77 : decode cX1_mayBe 77 = .ok (.iconst 3, 1) := dk_6 (dk_at dksX1_mayBe_3 7 rfl rfl)
theorem dX1_mayBe_78 : decode cX1_mayBe 78 = .ok (.irem, 1) := dk_112 (dk_at dksX1_mayBe_3 8 rfl rfl)
theorem dX1_mayBe_79 : decode cX1_mayBe 79 = .ok (.laload, 1) := dk_47 (dk_at dksX1_mayBe_3 9 rfl rfl)
theorem dX1_mayBe_80 : decode cX1_mayBe 80 = .ok (.lmul, 1) := dk_105 (dk_at dksX1_mayBe_3 10 rfl rfl)
theorem dX1_mayBe_81 : decode cX1_mayBe 81 = .ok (.aload_n 0, 1) := dk_42 (dk_at dksX1_mayBe_3 11 rfl rfl)
theorem dX1_mayBe_82 : decode cX1_mayBe 82 = .ok (.getfield 15, 3) := dk_180 0 15 (dk_at dksX1_mayBe_3 12 rfl rfl)
theorem dX1_mayBe_85 : decode cX1_mayBe 85 = .ok (.iload_n 1, 1) := dk_27 (dk_at dksX1_mayBe_3 15 rfl rfl)
theorem dX1_mayBe_86 : decode cX1_mayBe 86 = .ok (.laload, 1) := dk_47 (dk_at dksX1_mayBe_3 16 rfl rfl)
theorem dX1_mayBe_87 : decode cX1_mayBe 87 = .ok (.aload_n 0, 1) := dk_42 (dk_at dksX1_mayBe_3 17 rfl rfl)
theorem dX1_mayBe_88 : decode cX1_mayBe 88 = .ok (.getfield 15, 3) := dk_180 0 15 (dk_at dksX1_mayBe_3 18 rfl rfl)
theorem dX1_mayBe_91 : decode cX1_mayBe 91 = .ok (.iload_n 1, 1) := dk_27 (dk_at dksX1_mayBe_3 21 rfl rfl)
theorem dX1_mayBe_92 : decode cX1_mayBe 92 = .ok (.laload, 1) := dk_47 (dk_at dksX1_mayBe_3 22 rfl rfl)
theorem dX1_mayBe_93 : decode cX1_mayBe 93 = .ok (.lmul, 1) := dk_105 (dk_at dksX1_mayBe_3 23 rfl rfl)
theorem dX1_mayBe_94 : decode cX1_mayBe 94 = .ok (.lsub, 1) := dk_101 (dk_at dksX1_mayBe_4 0 rfl rfl)
theorem dX1_mayBe_95 : decode cX1_mayBe 95 = .ok (.lconst 0, 1) := dk_9 (dk_at dksX1_mayBe_4 1 rfl rfl)
theorem dX1_mayBe_96 : decode cX1_mayBe 96 = .ok (.lcmp, 1) := dk_148 (dk_at dksX1_mayBe_4 2 rfl rfl)
theorem dX1_mayBe_97 : decode cX1_mayBe 97 = .ok (.ifCond .gt 5, 3) := dk_157 0 5 (dk_at dksX1_mayBe_4 3 rfl rfl)
theorem dX1_mayBe_100 : decode cX1_mayBe 100 = .ok (.iconst 0, 1) := dk_3 (dk_at dksX1_mayBe_4 6 rfl rfl)
theorem dX1_mayBe_101 : decode cX1_mayBe 101 = .ok (.ireturn, 1) := dk_172 (dk_at dksX1_mayBe_4 7 rfl rfl)
theorem dX1_mayBe_102 : decode cX1_mayBe 102 = .ok (.iinc 1 1, 3) := dk_132 1 1 (dk_at dksX1_mayBe_4 8 rfl rfl)
theorem dX1_mayBe_105 : decode cX1_mayBe 105 = .ok (.goto (-54), 3) := dk_167 255 202 (dk_at dksX1_mayBe_4 11 rfl rfl)
theorem dX1_mayBe_108 : decode cX1_mayBe 108 = .ok (.aload_n 0, 1) := dk_42 (dk_at dksX1_mayBe_4 14 rfl rfl)
theorem dX1_mayBe_109 : decode cX1_mayBe 109 = .ok (.invokevirtual 53, 3) := dk_182 0 53 (dk_at dksX1_mayBe_4 15 rfl rfl)
theorem dX1_mayBe_112 : decode cX1_mayBe 112 = .ok (.lconst 0, 1) := dk_9 (dk_at dksX1_mayBe_4 18 rfl rfl)
theorem dX1_mayBe_113 : decode cX1_mayBe 113 = .ok (.lcmp, 1) := dk_148 (dk_at dksX1_mayBe_4 19 rfl rfl)
theorem dX1_mayBe_114 : decode cX1_mayBe 114 = .ok (.ifCond .le 7, 3) := dk_158 0 7 (dk_at dksX1_mayBe_4 20 rfl rfl)
theorem dX1_mayBe_117 : decode cX1_mayBe 117 = .ok (.iconst 1, 1) := dk_4 (dk_at dksX1_mayBe_4 23 rfl rfl)
theorem dX1_mayBe_118 : decode cX1_mayBe 118 = .ok (.goto 4, 3) := dk_167 0 4 (dk_at dksX1_mayBe_5 0 rfl rfl)
theorem dX1_mayBe_121 : decode cX1_mayBe 121 = .ok (.iconst 0, 1) := dk_3 (dk_at dksX1_mayBe_5 3 rfl rfl)
theorem dX1_mayBe_122 : decode cX1_mayBe 122 = .ok (.ireturn, 1) := dk_172 (dk_at dksX1_mayBe_5 4 rfl rfl)
abbrev cX1_volume : ByteArray := prog_2_method_7_code
def yX1_volume : MethodName := ⟨RX1, "volume", "()J"⟩
def dkwX1_volume_4 : List UInt8 := [180, 0, 15, 5, 47, 105, 42, 180, 0, 15, 5, 47, 105, 101, 173]
abbrev dktX1_volume_4 : List UInt8 := dkwX1_volume_4 ++ []
def dkwX1_volume_3 : List UInt8 := [4, 47, 42, 180, 0, 15, 4, 47, 105, 42, 180, 0, 15, 4, 47, 105, 101, 42, 180, 0, 9, 5, 47, 42]
abbrev dktX1_volume_3 : List UInt8 := dkwX1_volume_3 ++ dktX1_volume_4
def dkwX1_volume_2 : List UInt8 := [180, 0, 9, 3, 47, 42, 180, 0, 15, 3, 47, 105, 42, 180, 0, 15, 3, 47, 105, 101, 42, 180, 0, 9]
abbrev dktX1_volume_2 : List UInt8 := dkwX1_volume_2 ++ dktX1_volume_3
def dkwX1_volume_1 : List UInt8 := [42, 180, 0, 15, 3, 47, 42, 180, 0, 15, 4, 47, 105, 42, 180, 0, 15, 5, 47, 105, 97, 42]
abbrev dktX1_volume_1 : List UInt8 := dkwX1_volume_1 ++ dktX1_volume_2
def dkwX1_volume_0 : List UInt8 := [20, 0, 41, 42, 180, 0, 9, 3, 47, 105, 42, 180, 0, 9, 4, 47, 105, 42, 180, 0, 9, 5, 47, 105]
abbrev dktX1_volume_0 : List UInt8 := dkwX1_volume_0 ++ dktX1_volume_1
theorem dksX1_volume_0 : cX1_volume.data.toList.drop 0 = dktX1_volume_0 := by decide +kernel
theorem dksX1_volume_1 : cX1_volume.data.toList.drop 24 = dktX1_volume_1 := dk_seg dksX1_volume_0 24 rfl rfl
theorem dksX1_volume_2 : cX1_volume.data.toList.drop 46 = dktX1_volume_2 := dk_seg dksX1_volume_1 22 rfl rfl
theorem dksX1_volume_3 : cX1_volume.data.toList.drop 70 = dktX1_volume_3 := dk_seg dksX1_volume_2 24 rfl rfl
theorem dksX1_volume_4 : cX1_volume.data.toList.drop 94 = dktX1_volume_4 := dk_seg dksX1_volume_3 24 rfl rfl
theorem dX1_volume_0 : decode cX1_volume 0 = .ok (.ldc2_w 41, 3) := dk_20 0 41 (dk_at dksX1_volume_0 0 rfl rfl)
theorem dX1_volume_3 : decode cX1_volume 3 = .ok (.aload_n 0, 1) := dk_42 (dk_at dksX1_volume_0 3 rfl rfl)
theorem dX1_volume_4 : decode cX1_volume 4 = .ok (.getfield 9, 3) := dk_180 0 9 (dk_at dksX1_volume_0 4 rfl rfl)
theorem dX1_volume_7 : decode cX1_volume 7 = .ok (.iconst 0, 1) := dk_3 (dk_at dksX1_volume_0 7 rfl rfl)
theorem dX1_volume_8 : decode cX1_volume 8 = .ok (.laload, 1) := dk_47 (dk_at dksX1_volume_0 8 rfl rfl)
theorem dX1_volume_9 : decode cX1_volume 9 = .ok (.lmul, 1) := dk_105 (dk_at dksX1_volume_0 9 rfl rfl)
theorem dX1_volume_10 : decode cX1_volume 10 = .ok (.aload_n 0, 1) := dk_42 (dk_at dksX1_volume_0 10 rfl rfl)
theorem dX1_volume_11 : decode cX1_volume 11 = .ok (.getfield 9, 3) := dk_180 0 9 (dk_at dksX1_volume_0 11 rfl rfl)
theorem dX1_volume_14 : decode cX1_volume 14 = .ok (.iconst 1, 1) := dk_4 (dk_at dksX1_volume_0 14 rfl rfl)
theorem dX1_volume_15 : decode cX1_volume 15 = .ok (.laload, 1) := dk_47 (dk_at dksX1_volume_0 15 rfl rfl)
theorem dX1_volume_16 : decode cX1_volume 16 = .ok (.lmul, 1) := dk_105 (dk_at dksX1_volume_0 16 rfl rfl)
theorem dX1_volume_17 : decode cX1_volume 17 = .ok (.aload_n 0, 1) := dk_42 (dk_at dksX1_volume_0 17 rfl rfl)
theorem dX1_volume_18 : decode cX1_volume 18 = .ok (.getfield 9, 3) := dk_180 0 9 (dk_at dksX1_volume_0 18 rfl rfl)
theorem dX1_volume_21 : decode cX1_volume 21 = .ok (.iconst 2, 1) := dk_5 (dk_at dksX1_volume_0 21 rfl rfl)
theorem dX1_volume_22 : decode cX1_volume 22 = .ok (.laload, 1) := dk_47 (dk_at dksX1_volume_0 22 rfl rfl)
theorem dX1_volume_23 : decode cX1_volume 23 = .ok (.lmul, 1) := dk_105 (dk_at dksX1_volume_0 23 rfl rfl)
theorem dX1_volume_24 : decode cX1_volume 24 = .ok (.aload_n 0, 1) := dk_42 (dk_at dksX1_volume_1 0 rfl rfl)
theorem dX1_volume_25 : decode cX1_volume 25 = .ok (.getfield 15, 3) := dk_180 0 15 (dk_at dksX1_volume_1 1 rfl rfl)
theorem dX1_volume_28 : decode cX1_volume 28 = .ok (.iconst 0, 1) := dk_3 (dk_at dksX1_volume_1 4 rfl rfl)
theorem dX1_volume_29 : decode cX1_volume 29 = .ok (.laload, 1) := dk_47 (dk_at dksX1_volume_1 5 rfl rfl)
theorem dX1_volume_30 : decode cX1_volume 30 = .ok (.aload_n 0, 1) := dk_42 (dk_at dksX1_volume_1 6 rfl rfl)
theorem dX1_volume_31 : decode cX1_volume 31 = .ok (.getfield 15, 3) := dk_180 0 15 (dk_at dksX1_volume_1 7 rfl rfl)
theorem dX1_volume_34 : decode cX1_volume 34 = .ok (.iconst 1, 1) := dk_4 (dk_at dksX1_volume_1 10 rfl rfl)
theorem dX1_volume_35 : decode cX1_volume 35 = .ok (.laload, 1) := dk_47 (dk_at dksX1_volume_1 11 rfl rfl)
theorem dX1_volume_36 : decode cX1_volume 36 = .ok (.lmul, 1) := dk_105 (dk_at dksX1_volume_1 12 rfl rfl)
theorem dX1_volume_37 : decode cX1_volume 37 = .ok (.aload_n 0, 1) := dk_42 (dk_at dksX1_volume_1 13 rfl rfl)
theorem dX1_volume_38 : decode cX1_volume 38 = .ok (.getfield 15, 3) := dk_180 0 15 (dk_at dksX1_volume_1 14 rfl rfl)
theorem dX1_volume_41 : decode cX1_volume 41 = .ok (.iconst 2, 1) := dk_5 (dk_at dksX1_volume_1 17 rfl rfl)
theorem dX1_volume_42 : decode cX1_volume 42 = .ok (.laload, 1) := dk_47 (dk_at dksX1_volume_1 18 rfl rfl)
theorem dX1_volume_43 : decode cX1_volume 43 = .ok (.lmul, 1) := dk_105 (dk_at dksX1_volume_1 19 rfl rfl)
theorem dX1_volume_44 : decode cX1_volume 44 = .ok (.ladd, 1) := dk_97 (dk_at dksX1_volume_1 20 rfl rfl)
theorem dX1_volume_45 : decode cX1_volume 45 = .ok (.aload_n 0, 1) := dk_42 (dk_at dksX1_volume_1 21 rfl rfl)
theorem dX1_volume_46 : decode cX1_volume 46 = .ok (.getfield 9, 3) := dk_180 0 9 (dk_at dksX1_volume_2 0 rfl rfl)
theorem dX1_volume_49 : decode cX1_volume 49 = .ok (.iconst 0, 1) := dk_3 (dk_at dksX1_volume_2 3 rfl rfl)
theorem dX1_volume_50 : decode cX1_volume 50 = .ok (.laload, 1) := dk_47 (dk_at dksX1_volume_2 4 rfl rfl)
theorem dX1_volume_51 : decode cX1_volume 51 = .ok (.aload_n 0, 1) := dk_42 (dk_at dksX1_volume_2 5 rfl rfl)
theorem dX1_volume_52 : decode cX1_volume 52 = .ok (.getfield 15, 3) := dk_180 0 15 (dk_at dksX1_volume_2 6 rfl rfl)
theorem dX1_volume_55 : decode cX1_volume 55 = .ok (.iconst 0, 1) := dk_3 (dk_at dksX1_volume_2 9 rfl rfl)
theorem dX1_volume_56 : decode cX1_volume 56 = .ok (.laload, 1) := dk_47 (dk_at dksX1_volume_2 10 rfl rfl)
theorem dX1_volume_57 : decode cX1_volume 57 = .ok (.lmul, 1) := dk_105 (dk_at dksX1_volume_2 11 rfl rfl)
theorem dX1_volume_58 : decode cX1_volume 58 = .ok (.aload_n 0, 1) := dk_42 (dk_at dksX1_volume_2 12 rfl rfl)
theorem dX1_volume_59 : decode cX1_volume 59 = .ok (.getfield 15, 3) := dk_180 0 15 (dk_at dksX1_volume_2 13 rfl rfl)
theorem dX1_volume_62 : decode cX1_volume 62 = .ok (.iconst 0, 1) := dk_3 (dk_at dksX1_volume_2 16 rfl rfl)
theorem dX1_volume_63 : decode cX1_volume 63 = .ok (.laload, 1) := dk_47 (dk_at dksX1_volume_2 17 rfl rfl)
theorem dX1_volume_64 : decode cX1_volume 64 = .ok (.lmul, 1) := dk_105 (dk_at dksX1_volume_2 18 rfl rfl)
theorem dX1_volume_65 : decode cX1_volume 65 = .ok (.lsub, 1) := dk_101 (dk_at dksX1_volume_2 19 rfl rfl)
theorem dX1_volume_66 : decode cX1_volume 66 = .ok (.aload_n 0, 1) := dk_42 (dk_at dksX1_volume_2 20 rfl rfl)
theorem dX1_volume_67 : decode cX1_volume 67 = .ok (.getfield 9, 3) := dk_180 0 9 (dk_at dksX1_volume_2 21 rfl rfl)
theorem dX1_volume_70 : decode cX1_volume 70 = .ok (.iconst 1, 1) := dk_4 (dk_at dksX1_volume_3 0 rfl rfl)
theorem dX1_volume_71 : decode cX1_volume 71 = .ok (.laload, 1) := dk_47 (dk_at dksX1_volume_3 1 rfl rfl)
theorem dX1_volume_72 : decode cX1_volume 72 = .ok (.aload_n 0, 1) := dk_42 (dk_at dksX1_volume_3 2 rfl rfl)
theorem dX1_volume_73 : decode cX1_volume 73 = .ok (.getfield 15, 3) := dk_180 0 15 (dk_at dksX1_volume_3 3 rfl rfl)
theorem dX1_volume_76 : decode cX1_volume 76 = .ok (.iconst 1, 1) := dk_4 (dk_at dksX1_volume_3 6 rfl rfl)
theorem dX1_volume_77 : decode cX1_volume 77 = .ok (.laload, 1) := dk_47 (dk_at dksX1_volume_3 7 rfl rfl)
theorem dX1_volume_78 : decode cX1_volume 78 = .ok (.lmul, 1) := dk_105 (dk_at dksX1_volume_3 8 rfl rfl)
theorem dX1_volume_79 : decode cX1_volume 79 = .ok (.aload_n 0, 1) := dk_42 (dk_at dksX1_volume_3 9 rfl rfl)
theorem dX1_volume_80 : decode cX1_volume 80 = .ok (.getfield 15, 3) := dk_180 0 15 (dk_at dksX1_volume_3 10 rfl rfl)
theorem dX1_volume_83 : decode cX1_volume 83 = .ok (.iconst 1, 1) := dk_4 (dk_at dksX1_volume_3 13 rfl rfl)
theorem dX1_volume_84 : decode cX1_volume 84 = .ok (.laload, 1) := dk_47 (dk_at dksX1_volume_3 14 rfl rfl)
theorem dX1_volume_85 : decode cX1_volume 85 = .ok (.lmul, 1) := dk_105 (dk_at dksX1_volume_3 15 rfl rfl)
theorem dX1_volume_86 : decode cX1_volume 86 = .ok (.lsub, 1) := dk_101 (dk_at dksX1_volume_3 16 rfl rfl)
theorem dX1_volume_87 : decode cX1_volume 87 = .ok (.aload_n 0, 1) := dk_42 (dk_at dksX1_volume_3 17 rfl rfl)
theorem dX1_volume_88 : decode cX1_volume 88 = .ok (.getfield 9, 3) := dk_180 0 9 (dk_at dksX1_volume_3 18 rfl rfl)
theorem dX1_volume_91 : decode cX1_volume 91 = .ok (.iconst 2, 1) := dk_5 (dk_at dksX1_volume_3 21 rfl rfl)
theorem dX1_volume_92 : decode cX1_volume 92 = .ok (.laload, 1) := dk_47 (dk_at dksX1_volume_3 22 rfl rfl)
theorem dX1_volume_93 : decode cX1_volume 93 = .ok (.aload_n 0, 1) := dk_42 (dk_at dksX1_volume_3 23 rfl rfl)
theorem dX1_volume_94 : decode cX1_volume 94 = .ok (.getfield 15, 3) := dk_180 0 15 (dk_at dksX1_volume_4 0 rfl rfl)
theorem dX1_volume_97 : decode cX1_volume 97 = .ok (.iconst 2, 1) := dk_5 (dk_at dksX1_volume_4 3 rfl rfl)
theorem dX1_volume_98 : decode cX1_volume 98 = .ok (.laload, 1) := dk_47 (dk_at dksX1_volume_4 4 rfl rfl)
theorem dX1_volume_99 : decode cX1_volume 99 = .ok (.lmul, 1) := dk_105 (dk_at dksX1_volume_4 5 rfl rfl)
theorem dX1_volume_100 : decode cX1_volume 100 = .ok (.aload_n 0, 1) := dk_42 (dk_at dksX1_volume_4 6 rfl rfl)
theorem dX1_volume_101 : decode cX1_volume 101 = .ok (.getfield 15, 3) := dk_180 0 15 (dk_at dksX1_volume_4 7 rfl rfl)
theorem dX1_volume_104 : decode cX1_volume 104 = .ok (.iconst 2, 1) := dk_5 (dk_at dksX1_volume_4 10 rfl rfl)
theorem dX1_volume_105 : decode cX1_volume 105 = .ok (.laload, 1) := dk_47 (dk_at dksX1_volume_4 11 rfl rfl)
theorem dX1_volume_106 : decode cX1_volume 106 = .ok (.lmul, 1) := dk_105 (dk_at dksX1_volume_4 12 rfl rfl)
theorem dX1_volume_107 : decode cX1_volume 107 = .ok (.lsub, 1) := dk_101 (dk_at dksX1_volume_4 13 rfl rfl)
theorem dX1_volume_108 : decode cX1_volume 108 = .ok (.lreturn, 1) := dk_173 (dk_at dksX1_volume_4 14 rfl rfl)
abbrev cX1_takes : ByteArray := prog_2_method_4_code
def yX1_takes : MethodName := ⟨RX1, "takes", "(LCellReducer$Cell;)LCellReducer$Cell;"⟩
def dkwX1_takes_2 : List UInt8 := [184, 0, 31, 132, 2, 1, 167, 255, 206, 42, 176]
abbrev dktX1_takes_2 : List UInt8 := dkwX1_takes_2 ++ []
def dkwX1_takes_1 : List UInt8 := [43, 180, 0, 15, 28, 47, 80, 43, 180, 0, 20, 28, 50, 3, 42, 180, 0, 20, 28, 50, 3, 6]
abbrev dktX1_takes_1 : List UInt8 := dkwX1_takes_1 ++ dktX1_takes_2
def dkwX1_takes_0 : List UInt8 := [3, 61, 28, 6, 162, 0, 51, 42, 180, 0, 9, 28, 43, 180, 0, 9, 28, 47, 80, 42, 180, 0, 15, 28]
abbrev dktX1_takes_0 : List UInt8 := dkwX1_takes_0 ++ dktX1_takes_1
theorem dksX1_takes_0 : cX1_takes.data.toList.drop 0 = dktX1_takes_0 := by decide +kernel
theorem dksX1_takes_1 : cX1_takes.data.toList.drop 24 = dktX1_takes_1 := dk_seg dksX1_takes_0 24 rfl rfl
theorem dksX1_takes_2 : cX1_takes.data.toList.drop 46 = dktX1_takes_2 := dk_seg dksX1_takes_1 22 rfl rfl
theorem dX1_takes_0 : decode cX1_takes 0 = .ok (.iconst 0, 1) := dk_3 (dk_at dksX1_takes_0 0 rfl rfl)
theorem dX1_takes_1 : decode cX1_takes 1 = .ok (.istore_n 2, 1) := dk_61 (dk_at dksX1_takes_0 1 rfl rfl)
theorem dX1_takes_2 : decode cX1_takes 2 = .ok (.iload_n 2, 1) := dk_28 (dk_at dksX1_takes_0 2 rfl rfl)
theorem dX1_takes_3 : decode cX1_takes 3 = .ok (.iconst 3, 1) := dk_6 (dk_at dksX1_takes_0 3 rfl rfl)
theorem dX1_takes_4 : decode cX1_takes 4 = .ok (.if_icmp .ge 51, 3) := dk_162 0 51 (dk_at dksX1_takes_0 4 rfl rfl)
theorem dX1_takes_7 : decode cX1_takes 7 = .ok (.aload_n 0, 1) := dk_42 (dk_at dksX1_takes_0 7 rfl rfl)
theorem dX1_takes_8 : decode cX1_takes 8 = .ok (.getfield 9, 3) := dk_180 0 9 (dk_at dksX1_takes_0 8 rfl rfl)
theorem dX1_takes_11 : decode cX1_takes 11 = .ok (.iload_n 2, 1) := dk_28 (dk_at dksX1_takes_0 11 rfl rfl)
theorem dX1_takes_12 : decode cX1_takes 12 = .ok (.aload_n 1, 1) := dk_43 (dk_at dksX1_takes_0 12 rfl rfl)
theorem dX1_takes_13 : decode cX1_takes 13 = .ok (.getfield 9, 3) := dk_180 0 9 (dk_at dksX1_takes_0 13 rfl rfl)
theorem dX1_takes_16 : decode cX1_takes 16 = .ok (.iload_n 2, 1) := dk_28 (dk_at dksX1_takes_0 16 rfl rfl)
theorem dX1_takes_17 : decode cX1_takes 17 = .ok (.laload, 1) := dk_47 (dk_at dksX1_takes_0 17 rfl rfl)
theorem dX1_takes_18 : decode cX1_takes 18 = .ok (.lastore, 1) := dk_80 (dk_at dksX1_takes_0 18 rfl rfl)
theorem dX1_takes_19 : decode cX1_takes 19 = .ok (.aload_n 0, 1) := dk_42 (dk_at dksX1_takes_0 19 rfl rfl)
theorem dX1_takes_20 : decode cX1_takes 20 = .ok (.getfield 15, 3) := dk_180 0 15 (dk_at dksX1_takes_0 20 rfl rfl)
theorem dX1_takes_23 : decode cX1_takes 23 = .ok (.iload_n 2, 1) := dk_28 (dk_at dksX1_takes_0 23 rfl rfl)
theorem dX1_takes_24 : decode cX1_takes 24 = .ok (.aload_n 1, 1) := dk_43 (dk_at dksX1_takes_1 0 rfl rfl)
theorem dX1_takes_25 : decode cX1_takes 25 = .ok (.getfield 15, 3) := dk_180 0 15 (dk_at dksX1_takes_1 1 rfl rfl)
theorem dX1_takes_28 : decode cX1_takes 28 = .ok (.iload_n 2, 1) := dk_28 (dk_at dksX1_takes_1 4 rfl rfl)
theorem dX1_takes_29 : decode cX1_takes 29 = .ok (.laload, 1) := dk_47 (dk_at dksX1_takes_1 5 rfl rfl)
theorem dX1_takes_30 : decode cX1_takes 30 = .ok (.lastore, 1) := dk_80 (dk_at dksX1_takes_1 6 rfl rfl)
theorem dX1_takes_31 : decode cX1_takes 31 = .ok (.aload_n 1, 1) := dk_43 (dk_at dksX1_takes_1 7 rfl rfl)
theorem dX1_takes_32 : decode cX1_takes 32 = .ok (.getfield 20, 3) := dk_180 0 20 (dk_at dksX1_takes_1 8 rfl rfl)
theorem dX1_takes_35 : decode cX1_takes 35 = .ok (.iload_n 2, 1) := dk_28 (dk_at dksX1_takes_1 11 rfl rfl)
theorem dX1_takes_36 : decode cX1_takes 36 = .ok (.aaload, 1) := dk_50 (dk_at dksX1_takes_1 12 rfl rfl)
theorem dX1_takes_37 : decode cX1_takes 37 = .ok (.iconst 0, 1) := dk_3 (dk_at dksX1_takes_1 13 rfl rfl)
theorem dX1_takes_38 : decode cX1_takes 38 = .ok (.aload_n 0, 1) := dk_42 (dk_at dksX1_takes_1 14 rfl rfl)
theorem dX1_takes_39 : decode cX1_takes 39 = .ok (.getfield 20, 3) := dk_180 0 20 (dk_at dksX1_takes_1 15 rfl rfl)
theorem dX1_takes_42 : decode cX1_takes 42 = .ok (.iload_n 2, 1) := dk_28 (dk_at dksX1_takes_1 18 rfl rfl)
theorem dX1_takes_43 : decode cX1_takes 43 = .ok (.aaload, 1) := dk_50 (dk_at dksX1_takes_1 19 rfl rfl)
theorem dX1_takes_44 : decode cX1_takes 44 = .ok (.iconst 0, 1) := dk_3 (dk_at dksX1_takes_1 20 rfl rfl)
theorem dX1_takes_45 : decode cX1_takes 45 = .ok (.iconst 3, 1) := dk_6 (dk_at dksX1_takes_1 21 rfl rfl)
theorem dX1_takes_46 : decode cX1_takes 46 = .ok (.invokestatic 31, 3) := dk_184 0 31 (dk_at dksX1_takes_2 0 rfl rfl)
theorem dX1_takes_49 : decode cX1_takes 49 = .ok (.iinc 2 1, 3) := dk_132 2 1 (dk_at dksX1_takes_2 3 rfl rfl)
theorem dX1_takes_52 : decode cX1_takes 52 = .ok (.goto (-50), 3) := dk_167 255 206 (dk_at dksX1_takes_2 6 rfl rfl)
theorem dX1_takes_55 : decode cX1_takes 55 = .ok (.aload_n 0, 1) := dk_42 (dk_at dksX1_takes_2 9 rfl rfl)
theorem dX1_takes_56 : decode cX1_takes 56 = .ok (.areturn, 1) := dk_176 (dk_at dksX1_takes_2 10 rfl rfl)
abbrev cX1_six : ByteArray := prog_2_method_5_code
def yX1_six : MethodName := ⟨RX1, "six", "(I)J"⟩
def dkwX1_six_0 : List UInt8 := [27, 6, 162, 0, 12, 42, 180, 0, 9, 27, 47, 167, 0, 11, 42, 180, 0, 15, 27, 6, 100, 47, 173]
abbrev dktX1_six_0 : List UInt8 := dkwX1_six_0 ++ []
theorem dksX1_six_0 : cX1_six.data.toList.drop 0 = dktX1_six_0 := by decide +kernel
theorem dX1_six_0 : decode cX1_six 0 = .ok (.iload_n 1, 1) := dk_27 (dk_at dksX1_six_0 0 rfl rfl)
theorem dX1_six_1 : decode cX1_six 1 = .ok (.iconst 3, 1) := dk_6 (dk_at dksX1_six_0 1 rfl rfl)
theorem dX1_six_2 : decode cX1_six 2 = .ok (.if_icmp .ge 12, 3) := dk_162 0 12 (dk_at dksX1_six_0 2 rfl rfl)
theorem dX1_six_5 : decode cX1_six 5 = .ok (.aload_n 0, 1) := dk_42 (dk_at dksX1_six_0 5 rfl rfl)
theorem dX1_six_6 : decode cX1_six 6 = .ok (.getfield 9, 3) := dk_180 0 9 (dk_at dksX1_six_0 6 rfl rfl)
theorem dX1_six_9 : decode cX1_six 9 = .ok (.iload_n 1, 1) := dk_27 (dk_at dksX1_six_0 9 rfl rfl)
theorem dX1_six_10 : decode cX1_six 10 = .ok (.laload, 1) := dk_47 (dk_at dksX1_six_0 10 rfl rfl)
theorem dX1_six_11 : decode cX1_six 11 = .ok (.goto 11, 3) := dk_167 0 11 (dk_at dksX1_six_0 11 rfl rfl)
theorem dX1_six_14 : decode cX1_six 14 = .ok (.aload_n 0, 1) := dk_42 (dk_at dksX1_six_0 14 rfl rfl)
theorem dX1_six_15 : decode cX1_six 15 = .ok (.getfield 15, 3) := dk_180 0 15 (dk_at dksX1_six_0 15 rfl rfl)
theorem dX1_six_18 : decode cX1_six 18 = .ok (.iload_n 1, 1) := dk_27 (dk_at dksX1_six_0 18 rfl rfl)
theorem dX1_six_19 : decode cX1_six 19 = .ok (.iconst 3, 1) := dk_6 (dk_at dksX1_six_0 19 rfl rfl)
theorem dX1_six_20 : decode cX1_six 20 = .ok (.isub, 1) := dk_100 (dk_at dksX1_six_0 20 rfl rfl)
theorem dX1_six_21 : decode cX1_six 21 = .ok (.laload, 1) := dk_47 (dk_at dksX1_six_0 21 rfl rfl)
theorem dX1_six_22 : decode cX1_six 22 = .ok (.lreturn, 1) := dk_173 (dk_at dksX1_six_0 22 rfl rfl)
abbrev cX1_squareBy : ByteArray := prog_2_method_9_code
def yX1_squareBy : MethodName := ⟨RX1, "squareBy", "(IIJ)J"⟩
def dkwX1_squareBy_1 : List UInt8 := [180, 0, 9, 28, 47, 105, 97, 173]
abbrev dktX1_squareBy_1 : List UInt8 := dkwX1_squareBy_1 ++ []
def dkwX1_squareBy_0 : List UInt8 := [42, 180, 0, 9, 27, 47, 33, 42, 180, 0, 15, 6, 27, 100, 28, 100, 47, 105, 97, 33, 33, 105, 42]
abbrev dktX1_squareBy_0 : List UInt8 := dkwX1_squareBy_0 ++ dktX1_squareBy_1
theorem dksX1_squareBy_0 : cX1_squareBy.data.toList.drop 0 = dktX1_squareBy_0 := by decide +kernel
theorem dksX1_squareBy_1 : cX1_squareBy.data.toList.drop 23 = dktX1_squareBy_1 := dk_seg dksX1_squareBy_0 23 rfl rfl
theorem dX1_squareBy_0 : decode cX1_squareBy 0 = .ok (.aload_n 0, 1) := dk_42 (dk_at dksX1_squareBy_0 0 rfl rfl)
theorem dX1_squareBy_1 : decode cX1_squareBy 1 = .ok (.getfield 9, 3) := dk_180 0 9 (dk_at dksX1_squareBy_0 1 rfl rfl)
theorem dX1_squareBy_4 : decode cX1_squareBy 4 = .ok (.iload_n 1, 1) := dk_27 (dk_at dksX1_squareBy_0 4 rfl rfl)
theorem dX1_squareBy_5 : decode cX1_squareBy 5 = .ok (.laload, 1) := dk_47 (dk_at dksX1_squareBy_0 5 rfl rfl)
theorem dX1_squareBy_6 : decode cX1_squareBy 6 = .ok (.lload_n 3, 1) := dk_33 (dk_at dksX1_squareBy_0 6 rfl rfl)
theorem dX1_squareBy_7 : decode cX1_squareBy 7 = .ok (.aload_n 0, 1) := dk_42 (dk_at dksX1_squareBy_0 7 rfl rfl)
theorem dX1_squareBy_8 : decode cX1_squareBy 8 = .ok (.getfield 15, 3) := dk_180 0 15 (dk_at dksX1_squareBy_0 8 rfl rfl)
theorem dX1_squareBy_11 : decode cX1_squareBy 11 = .ok (.iconst 3, 1) := dk_6 (dk_at dksX1_squareBy_0 11 rfl rfl)
theorem dX1_squareBy_12 : decode cX1_squareBy 12 = .ok (.iload_n 1, 1) := dk_27 (dk_at dksX1_squareBy_0 12 rfl rfl)
theorem dX1_squareBy_13 : decode cX1_squareBy 13 = .ok (.isub, 1) := dk_100 (dk_at dksX1_squareBy_0 13 rfl rfl)
theorem dX1_squareBy_14 : decode cX1_squareBy 14 = .ok (.iload_n 2, 1) := dk_28 (dk_at dksX1_squareBy_0 14 rfl rfl)
theorem dX1_squareBy_15 : decode cX1_squareBy 15 = .ok (.isub, 1) := dk_100 (dk_at dksX1_squareBy_0 15 rfl rfl)
theorem dX1_squareBy_16 : decode cX1_squareBy 16 = .ok (.laload, 1) := dk_47 (dk_at dksX1_squareBy_0 16 rfl rfl)
theorem dX1_squareBy_17 : decode cX1_squareBy 17 = .ok (.lmul, 1) := dk_105 (dk_at dksX1_squareBy_0 17 rfl rfl)
theorem dX1_squareBy_18 : decode cX1_squareBy 18 = .ok (.ladd, 1) := dk_97 (dk_at dksX1_squareBy_0 18 rfl rfl)
theorem dX1_squareBy_19 : decode cX1_squareBy 19 = .ok (.lload_n 3, 1) := dk_33 (dk_at dksX1_squareBy_0 19 rfl rfl)
theorem dX1_squareBy_20 : decode cX1_squareBy 20 = .ok (.lload_n 3, 1) := dk_33 (dk_at dksX1_squareBy_0 20 rfl rfl)
theorem dX1_squareBy_21 : decode cX1_squareBy 21 = .ok (.lmul, 1) := dk_105 (dk_at dksX1_squareBy_0 21 rfl rfl)
theorem dX1_squareBy_22 : decode cX1_squareBy 22 = .ok (.aload_n 0, 1) := dk_42 (dk_at dksX1_squareBy_0 22 rfl rfl)
theorem dX1_squareBy_23 : decode cX1_squareBy 23 = .ok (.getfield 9, 3) := dk_180 0 9 (dk_at dksX1_squareBy_1 0 rfl rfl)
theorem dX1_squareBy_26 : decode cX1_squareBy 26 = .ok (.iload_n 2, 1) := dk_28 (dk_at dksX1_squareBy_1 3 rfl rfl)
theorem dX1_squareBy_27 : decode cX1_squareBy 27 = .ok (.laload, 1) := dk_47 (dk_at dksX1_squareBy_1 4 rfl rfl)
theorem dX1_squareBy_28 : decode cX1_squareBy 28 = .ok (.lmul, 1) := dk_105 (dk_at dksX1_squareBy_1 5 rfl rfl)
theorem dX1_squareBy_29 : decode cX1_squareBy 29 = .ok (.ladd, 1) := dk_97 (dk_at dksX1_squareBy_1 6 rfl rfl)
theorem dX1_squareBy_30 : decode cX1_squareBy 30 = .ok (.lreturn, 1) := dk_173 (dk_at dksX1_squareBy_1 7 rfl rfl)
abbrev cX1_adds : ByteArray := prog_2_method_10_code
def yX1_adds : MethodName := ⟨RX1, "adds", "(IIJ)V"⟩
def dkwX1_adds_4 : List UInt8 := [167, 255, 224, 177]
abbrev dktX1_adds_4 : List UInt8 := dkwX1_adds_4 ++ []
def dkwX1_adds_3 : List UInt8 := [27, 50, 21, 6, 92, 47, 33, 42, 180, 0, 20, 28, 50, 21, 6, 47, 105, 97, 80, 132, 6, 1]
abbrev dktX1_adds_3 : List UInt8 := dkwX1_adds_3 ++ dktX1_adds_4
def dkwX1_adds_2 : List UInt8 := [33, 105, 42, 180, 0, 9, 28, 47, 105, 97, 80, 3, 54, 6, 21, 6, 6, 162, 0, 32, 42, 180, 0, 20]
abbrev dktX1_adds_2 : List UInt8 := dkwX1_adds_2 ++ dktX1_adds_3
def dkwX1_adds_1 : List UInt8 := [28, 92, 47, 33, 42, 180, 0, 15, 27, 47, 105, 97, 80, 42, 180, 0, 15, 21, 5, 92, 47, 20, 0, 61]
abbrev dktX1_adds_1 : List UInt8 := dkwX1_adds_1 ++ dktX1_adds_2
def dkwX1_adds_0 : List UInt8 := [6, 27, 100, 28, 100, 54, 5, 42, 180, 0, 9, 27, 42, 27, 28, 33, 182, 0, 57, 80, 42, 180, 0, 15]
abbrev dktX1_adds_0 : List UInt8 := dkwX1_adds_0 ++ dktX1_adds_1
theorem dksX1_adds_0 : cX1_adds.data.toList.drop 0 = dktX1_adds_0 := by decide +kernel
theorem dksX1_adds_1 : cX1_adds.data.toList.drop 24 = dktX1_adds_1 := dk_seg dksX1_adds_0 24 rfl rfl
theorem dksX1_adds_2 : cX1_adds.data.toList.drop 48 = dktX1_adds_2 := dk_seg dksX1_adds_1 24 rfl rfl
theorem dksX1_adds_3 : cX1_adds.data.toList.drop 72 = dktX1_adds_3 := dk_seg dksX1_adds_2 24 rfl rfl
theorem dksX1_adds_4 : cX1_adds.data.toList.drop 94 = dktX1_adds_4 := dk_seg dksX1_adds_3 22 rfl rfl
theorem dX1_adds_0 : decode cX1_adds 0 = .ok (.iconst 3, 1) := dk_6 (dk_at dksX1_adds_0 0 rfl rfl)
theorem dX1_adds_1 : decode cX1_adds 1 = .ok (.iload_n 1, 1) := dk_27 (dk_at dksX1_adds_0 1 rfl rfl)
theorem dX1_adds_2 : decode cX1_adds 2 = .ok (.isub, 1) := dk_100 (dk_at dksX1_adds_0 2 rfl rfl)
theorem dX1_adds_3 : decode cX1_adds 3 = .ok (.iload_n 2, 1) := dk_28 (dk_at dksX1_adds_0 3 rfl rfl)
theorem dX1_adds_4 : decode cX1_adds 4 = .ok (.isub, 1) := dk_100 (dk_at dksX1_adds_0 4 rfl rfl)
theorem dX1_adds_5 : decode cX1_adds 5 = .ok (.istore 5, 2) := dk_54 5 (dk_at dksX1_adds_0 5 rfl rfl)
theorem dX1_adds_7 : decode cX1_adds 7 = .ok (.aload_n 0, 1) := dk_42 (dk_at dksX1_adds_0 7 rfl rfl)
theorem dX1_adds_8 : decode cX1_adds 8 = .ok (.getfield 9, 3) := dk_180 0 9 (dk_at dksX1_adds_0 8 rfl rfl)
theorem dX1_adds_11 : decode cX1_adds 11 = .ok (.iload_n 1, 1) := dk_27 (dk_at dksX1_adds_0 11 rfl rfl)
theorem dX1_adds_12 : decode cX1_adds 12 = .ok (.aload_n 0, 1) := dk_42 (dk_at dksX1_adds_0 12 rfl rfl)
theorem dX1_adds_13 : decode cX1_adds 13 = .ok (.iload_n 1, 1) := dk_27 (dk_at dksX1_adds_0 13 rfl rfl)
theorem dX1_adds_14 : decode cX1_adds 14 = .ok (.iload_n 2, 1) := dk_28 (dk_at dksX1_adds_0 14 rfl rfl)
theorem dX1_adds_15 : decode cX1_adds 15 = .ok (.lload_n 3, 1) := dk_33 (dk_at dksX1_adds_0 15 rfl rfl)
theorem dX1_adds_16 : decode cX1_adds 16 = .ok (.invokevirtual 57, 3) := dk_182 0 57 (dk_at dksX1_adds_0 16 rfl rfl)
theorem dX1_adds_19 : decode cX1_adds 19 = .ok (.lastore, 1) := dk_80 (dk_at dksX1_adds_0 19 rfl rfl)
theorem dX1_adds_20 : decode cX1_adds 20 = .ok (.aload_n 0, 1) := dk_42 (dk_at dksX1_adds_0 20 rfl rfl)
theorem dX1_adds_21 : decode cX1_adds 21 = .ok (.getfield 15, 3) := dk_180 0 15 (dk_at dksX1_adds_0 21 rfl rfl)
theorem dX1_adds_24 : decode cX1_adds 24 = .ok (.iload_n 2, 1) := dk_28 (dk_at dksX1_adds_1 0 rfl rfl)
theorem dX1_adds_25 : decode cX1_adds 25 = .ok (.dup2, 1) := dk_92 (dk_at dksX1_adds_1 1 rfl rfl)
theorem dX1_adds_26 : decode cX1_adds 26 = .ok (.laload, 1) := dk_47 (dk_at dksX1_adds_1 2 rfl rfl)
theorem dX1_adds_27 : decode cX1_adds 27 = .ok (.lload_n 3, 1) := dk_33 (dk_at dksX1_adds_1 3 rfl rfl)
theorem dX1_adds_28 : decode cX1_adds 28 = .ok (.aload_n 0, 1) := dk_42 (dk_at dksX1_adds_1 4 rfl rfl)
theorem dX1_adds_29 : decode cX1_adds 29 = .ok (.getfield 15, 3) := dk_180 0 15 (dk_at dksX1_adds_1 5 rfl rfl)
theorem dX1_adds_32 : decode cX1_adds 32 = .ok (.iload_n 1, 1) := dk_27 (dk_at dksX1_adds_1 8 rfl rfl)
theorem dX1_adds_33 : decode cX1_adds 33 = .ok (.laload, 1) := dk_47 (dk_at dksX1_adds_1 9 rfl rfl)
theorem dX1_adds_34 : decode cX1_adds 34 = .ok (.lmul, 1) := dk_105 (dk_at dksX1_adds_1 10 rfl rfl)
theorem dX1_adds_35 : decode cX1_adds 35 = .ok (.ladd, 1) := dk_97 (dk_at dksX1_adds_1 11 rfl rfl)
theorem dX1_adds_36 : decode cX1_adds 36 = .ok (.lastore, 1) := dk_80 (dk_at dksX1_adds_1 12 rfl rfl)
theorem dX1_adds_37 : decode cX1_adds 37 = .ok (.aload_n 0, 1) := dk_42 (dk_at dksX1_adds_1 13 rfl rfl)
theorem dX1_adds_38 : decode cX1_adds 38 = .ok (.getfield 15, 3) := dk_180 0 15 (dk_at dksX1_adds_1 14 rfl rfl)
theorem dX1_adds_41 : decode cX1_adds 41 = .ok (.iload 5, 2) := dk_21 5 (dk_at dksX1_adds_1 17 rfl rfl)
theorem dX1_adds_43 : decode cX1_adds 43 = .ok (.dup2, 1) := dk_92 (dk_at dksX1_adds_1 19 rfl rfl)
theorem dX1_adds_44 : decode cX1_adds 44 = .ok (.laload, 1) := dk_47 (dk_at dksX1_adds_1 20 rfl rfl)
theorem dX1_adds_45 : decode cX1_adds 45 = .ok (.ldc2_w 61, 3) := dk_20 0 61 (dk_at dksX1_adds_1 21 rfl rfl)
theorem dX1_adds_48 : decode cX1_adds 48 = .ok (.lload_n 3, 1) := dk_33 (dk_at dksX1_adds_2 0 rfl rfl)
theorem dX1_adds_49 : decode cX1_adds 49 = .ok (.lmul, 1) := dk_105 (dk_at dksX1_adds_2 1 rfl rfl)
theorem dX1_adds_50 : decode cX1_adds 50 = .ok (.aload_n 0, 1) := dk_42 (dk_at dksX1_adds_2 2 rfl rfl)
theorem dX1_adds_51 : decode cX1_adds 51 = .ok (.getfield 9, 3) := dk_180 0 9 (dk_at dksX1_adds_2 3 rfl rfl)
theorem dX1_adds_54 : decode cX1_adds 54 = .ok (.iload_n 2, 1) := dk_28 (dk_at dksX1_adds_2 6 rfl rfl)
theorem dX1_adds_55 : decode cX1_adds 55 = .ok (.laload, 1) := dk_47 (dk_at dksX1_adds_2 7 rfl rfl)
theorem dX1_adds_56 : decode cX1_adds 56 = .ok (.lmul, 1) := dk_105 (dk_at dksX1_adds_2 8 rfl rfl)
theorem dX1_adds_57 : decode cX1_adds 57 = .ok (.ladd, 1) := dk_97 (dk_at dksX1_adds_2 9 rfl rfl)
theorem dX1_adds_58 : decode cX1_adds 58 = .ok (.lastore, 1) := dk_80 (dk_at dksX1_adds_2 10 rfl rfl)
theorem dX1_adds_59 : decode cX1_adds 59 = .ok (.iconst 0, 1) := dk_3 (dk_at dksX1_adds_2 11 rfl rfl)
theorem dX1_adds_60 : decode cX1_adds 60 = .ok (.istore 6, 2) := dk_54 6 (dk_at dksX1_adds_2 12 rfl rfl)
theorem dX1_adds_62 : decode cX1_adds 62 = .ok (.iload 6, 2) := dk_21 6 (dk_at dksX1_adds_2 14 rfl rfl)
theorem dX1_adds_64 : decode cX1_adds 64 = .ok (.iconst 3, 1) := dk_6 (dk_at dksX1_adds_2 16 rfl rfl)
theorem dX1_adds_65 : decode cX1_adds 65 = .ok (.if_icmp .ge 32, 3) := dk_162 0 32 (dk_at dksX1_adds_2 17 rfl rfl)
theorem dX1_adds_68 : decode cX1_adds 68 = .ok (.aload_n 0, 1) := dk_42 (dk_at dksX1_adds_2 20 rfl rfl)
theorem dX1_adds_69 : decode cX1_adds 69 = .ok (.getfield 20, 3) := dk_180 0 20 (dk_at dksX1_adds_2 21 rfl rfl)
theorem dX1_adds_72 : decode cX1_adds 72 = .ok (.iload_n 1, 1) := dk_27 (dk_at dksX1_adds_3 0 rfl rfl)
theorem dX1_adds_73 : decode cX1_adds 73 = .ok (.aaload, 1) := dk_50 (dk_at dksX1_adds_3 1 rfl rfl)
theorem dX1_adds_74 : decode cX1_adds 74 = .ok (.iload 6, 2) := dk_21 6 (dk_at dksX1_adds_3 2 rfl rfl)
theorem dX1_adds_76 : decode cX1_adds 76 = .ok (.dup2, 1) := dk_92 (dk_at dksX1_adds_3 4 rfl rfl)
theorem dX1_adds_77 : decode cX1_adds 77 = .ok (.laload, 1) := dk_47 (dk_at dksX1_adds_3 5 rfl rfl)
theorem dX1_adds_78 : decode cX1_adds 78 = .ok (.lload_n 3, 1) := dk_33 (dk_at dksX1_adds_3 6 rfl rfl)
theorem dX1_adds_79 : decode cX1_adds 79 = .ok (.aload_n 0, 1) := dk_42 (dk_at dksX1_adds_3 7 rfl rfl)
theorem dX1_adds_80 : decode cX1_adds 80 = .ok (.getfield 20, 3) := dk_180 0 20 (dk_at dksX1_adds_3 8 rfl rfl)
theorem dX1_adds_83 : decode cX1_adds 83 = .ok (.iload_n 2, 1) := dk_28 (dk_at dksX1_adds_3 11 rfl rfl)
theorem dX1_adds_84 : decode cX1_adds 84 = .ok (.aaload, 1) := dk_50 (dk_at dksX1_adds_3 12 rfl rfl)
theorem dX1_adds_85 : decode cX1_adds 85 = .ok (.iload 6, 2) := dk_21 6 (dk_at dksX1_adds_3 13 rfl rfl)
theorem dX1_adds_87 : decode cX1_adds 87 = .ok (.laload, 1) := dk_47 (dk_at dksX1_adds_3 15 rfl rfl)
theorem dX1_adds_88 : decode cX1_adds 88 = .ok (.lmul, 1) := dk_105 (dk_at dksX1_adds_3 16 rfl rfl)
theorem dX1_adds_89 : decode cX1_adds 89 = .ok (.ladd, 1) := dk_97 (dk_at dksX1_adds_3 17 rfl rfl)
theorem dX1_adds_90 : decode cX1_adds 90 = .ok (.lastore, 1) := dk_80 (dk_at dksX1_adds_3 18 rfl rfl)
theorem dX1_adds_91 : decode cX1_adds 91 = .ok (.iinc 6 1, 3) := dk_132 6 1 (dk_at dksX1_adds_3 19 rfl rfl)
theorem dX1_adds_94 : decode cX1_adds 94 = .ok (.goto (-32), 3) := dk_167 255 224 (dk_at dksX1_adds_4 0 rfl rfl)
theorem dX1_adds_97 : decode cX1_adds 97 = .ok (.return_, 1) := dk_177 (dk_at dksX1_adds_4 3 rfl rfl)
abbrev cX1_exchanges : ByteArray := prog_2_method_12_code
def yX1_exchanges : MethodName := ⟨RX1, "exchanges", "(II)V"⟩
def dkwX1_exchanges_4 : List UInt8 := [50, 21, 5, 33, 80, 132, 5, 1, 167, 255, 209, 177]
abbrev dktX1_exchanges_4 : List UInt8 := dkwX1_exchanges_4 ++ []
def dkwX1_exchanges_3 : List UInt8 := [66, 42, 180, 0, 20, 27, 50, 21, 5, 42, 180, 0, 20, 28, 50, 21, 5, 47, 80, 42, 180, 0, 20, 28]
abbrev dktX1_exchanges_3 : List UInt8 := dkwX1_exchanges_3 ++ dktX1_exchanges_4
def dkwX1_exchanges_2 : List UInt8 := [180, 0, 15, 28, 33, 80, 3, 54, 5, 21, 5, 6, 162, 0, 47, 42, 180, 0, 20, 27, 50, 21, 5, 47]
abbrev dktX1_exchanges_2 : List UInt8 := dkwX1_exchanges_2 ++ dktX1_exchanges_3
def dkwX1_exchanges_1 : List UInt8 := [33, 80, 42, 180, 0, 15, 27, 47, 66, 42, 180, 0, 15, 27, 42, 180, 0, 15, 28, 47, 80, 42]
abbrev dktX1_exchanges_1 : List UInt8 := dkwX1_exchanges_1 ++ dktX1_exchanges_2
def dkwX1_exchanges_0 : List UInt8 := [42, 180, 0, 9, 27, 47, 66, 42, 180, 0, 9, 27, 42, 180, 0, 9, 28, 47, 80, 42, 180, 0, 9, 28]
abbrev dktX1_exchanges_0 : List UInt8 := dkwX1_exchanges_0 ++ dktX1_exchanges_1
theorem dksX1_exchanges_0 : cX1_exchanges.data.toList.drop 0 = dktX1_exchanges_0 := by decide +kernel
theorem dksX1_exchanges_1 : cX1_exchanges.data.toList.drop 24 = dktX1_exchanges_1 := dk_seg dksX1_exchanges_0 24 rfl rfl
theorem dksX1_exchanges_2 : cX1_exchanges.data.toList.drop 46 = dktX1_exchanges_2 := dk_seg dksX1_exchanges_1 22 rfl rfl
theorem dksX1_exchanges_3 : cX1_exchanges.data.toList.drop 70 = dktX1_exchanges_3 := dk_seg dksX1_exchanges_2 24 rfl rfl
theorem dksX1_exchanges_4 : cX1_exchanges.data.toList.drop 94 = dktX1_exchanges_4 := dk_seg dksX1_exchanges_3 24 rfl rfl
theorem dX1_exchanges_0 : decode cX1_exchanges 0 = .ok (.aload_n 0, 1) := dk_42 (dk_at dksX1_exchanges_0 0 rfl rfl)
theorem dX1_exchanges_1 : decode cX1_exchanges 1 = .ok (.getfield 9, 3) := dk_180 0 9 (dk_at dksX1_exchanges_0 1 rfl rfl)
theorem dX1_exchanges_4 : decode cX1_exchanges 4 = .ok (.iload_n 1, 1) := dk_27 (dk_at dksX1_exchanges_0 4 rfl rfl)
theorem dX1_exchanges_5 : decode cX1_exchanges 5 = .ok (.laload, 1) := dk_47 (dk_at dksX1_exchanges_0 5 rfl rfl)
theorem dX1_exchanges_6 : decode cX1_exchanges 6 = .ok (.lstore_n 3, 1) := dk_66 (dk_at dksX1_exchanges_0 6 rfl rfl)
theorem dX1_exchanges_7 : decode cX1_exchanges 7 = .ok (.aload_n 0, 1) := dk_42 (dk_at dksX1_exchanges_0 7 rfl rfl)
theorem dX1_exchanges_8 : decode cX1_exchanges 8 = .ok (.getfield 9, 3) := dk_180 0 9 (dk_at dksX1_exchanges_0 8 rfl rfl)
theorem dX1_exchanges_11 : decode cX1_exchanges 11 = .ok (.iload_n 1, 1) := dk_27 (dk_at dksX1_exchanges_0 11 rfl rfl)
theorem dX1_exchanges_12 : decode cX1_exchanges 12 = .ok (.aload_n 0, 1) := dk_42 (dk_at dksX1_exchanges_0 12 rfl rfl)
theorem dX1_exchanges_13 : decode cX1_exchanges 13 = .ok (.getfield 9, 3) := dk_180 0 9 (dk_at dksX1_exchanges_0 13 rfl rfl)
theorem dX1_exchanges_16 : decode cX1_exchanges 16 = .ok (.iload_n 2, 1) := dk_28 (dk_at dksX1_exchanges_0 16 rfl rfl)
theorem dX1_exchanges_17 : decode cX1_exchanges 17 = .ok (.laload, 1) := dk_47 (dk_at dksX1_exchanges_0 17 rfl rfl)
theorem dX1_exchanges_18 : decode cX1_exchanges 18 = .ok (.lastore, 1) := dk_80 (dk_at dksX1_exchanges_0 18 rfl rfl)
theorem dX1_exchanges_19 : decode cX1_exchanges 19 = .ok (.aload_n 0, 1) := dk_42 (dk_at dksX1_exchanges_0 19 rfl rfl)
theorem dX1_exchanges_20 : decode cX1_exchanges 20 = .ok (.getfield 9, 3) := dk_180 0 9 (dk_at dksX1_exchanges_0 20 rfl rfl)
theorem dX1_exchanges_23 : decode cX1_exchanges 23 = .ok (.iload_n 2, 1) := dk_28 (dk_at dksX1_exchanges_0 23 rfl rfl)
theorem dX1_exchanges_24 : decode cX1_exchanges 24 = .ok (.lload_n 3, 1) := dk_33 (dk_at dksX1_exchanges_1 0 rfl rfl)
theorem dX1_exchanges_25 : decode cX1_exchanges 25 = .ok (.lastore, 1) := dk_80 (dk_at dksX1_exchanges_1 1 rfl rfl)
theorem dX1_exchanges_26 : decode cX1_exchanges 26 = .ok (.aload_n 0, 1) := dk_42 (dk_at dksX1_exchanges_1 2 rfl rfl)
theorem dX1_exchanges_27 : decode cX1_exchanges 27 = .ok (.getfield 15, 3) := dk_180 0 15 (dk_at dksX1_exchanges_1 3 rfl rfl)
theorem dX1_exchanges_30 : decode cX1_exchanges 30 = .ok (.iload_n 1, 1) := dk_27 (dk_at dksX1_exchanges_1 6 rfl rfl)
theorem dX1_exchanges_31 : decode cX1_exchanges 31 = .ok (.laload, 1) := dk_47 (dk_at dksX1_exchanges_1 7 rfl rfl)
theorem dX1_exchanges_32 : decode cX1_exchanges 32 = .ok (.lstore_n 3, 1) := dk_66 (dk_at dksX1_exchanges_1 8 rfl rfl)
theorem dX1_exchanges_33 : decode cX1_exchanges 33 = .ok (.aload_n 0, 1) := dk_42 (dk_at dksX1_exchanges_1 9 rfl rfl)
theorem dX1_exchanges_34 : decode cX1_exchanges 34 = .ok (.getfield 15, 3) := dk_180 0 15 (dk_at dksX1_exchanges_1 10 rfl rfl)
theorem dX1_exchanges_37 : decode cX1_exchanges 37 = .ok (.iload_n 1, 1) := dk_27 (dk_at dksX1_exchanges_1 13 rfl rfl)
theorem dX1_exchanges_38 : decode cX1_exchanges 38 = .ok (.aload_n 0, 1) := dk_42 (dk_at dksX1_exchanges_1 14 rfl rfl)
theorem dX1_exchanges_39 : decode cX1_exchanges 39 = .ok (.getfield 15, 3) := dk_180 0 15 (dk_at dksX1_exchanges_1 15 rfl rfl)
theorem dX1_exchanges_42 : decode cX1_exchanges 42 = .ok (.iload_n 2, 1) := dk_28 (dk_at dksX1_exchanges_1 18 rfl rfl)
theorem dX1_exchanges_43 : decode cX1_exchanges 43 = .ok (.laload, 1) := dk_47 (dk_at dksX1_exchanges_1 19 rfl rfl)
theorem dX1_exchanges_44 : decode cX1_exchanges 44 = .ok (.lastore, 1) := dk_80 (dk_at dksX1_exchanges_1 20 rfl rfl)
theorem dX1_exchanges_45 : decode cX1_exchanges 45 = .ok (.aload_n 0, 1) := dk_42 (dk_at dksX1_exchanges_1 21 rfl rfl)
theorem dX1_exchanges_46 : decode cX1_exchanges 46 = .ok (.getfield 15, 3) := dk_180 0 15 (dk_at dksX1_exchanges_2 0 rfl rfl)
theorem dX1_exchanges_49 : decode cX1_exchanges 49 = .ok (.iload_n 2, 1) := dk_28 (dk_at dksX1_exchanges_2 3 rfl rfl)
theorem dX1_exchanges_50 : decode cX1_exchanges 50 = .ok (.lload_n 3, 1) := dk_33 (dk_at dksX1_exchanges_2 4 rfl rfl)
theorem dX1_exchanges_51 : decode cX1_exchanges 51 = .ok (.lastore, 1) := dk_80 (dk_at dksX1_exchanges_2 5 rfl rfl)
theorem dX1_exchanges_52 : decode cX1_exchanges 52 = .ok (.iconst 0, 1) := dk_3 (dk_at dksX1_exchanges_2 6 rfl rfl)
theorem dX1_exchanges_53 : decode cX1_exchanges 53 = .ok (.istore 5, 2) := dk_54 5 (dk_at dksX1_exchanges_2 7 rfl rfl)
theorem dX1_exchanges_55 : decode cX1_exchanges 55 = .ok (.iload 5, 2) := dk_21 5 (dk_at dksX1_exchanges_2 9 rfl rfl)
theorem dX1_exchanges_57 : decode cX1_exchanges 57 = .ok (.iconst 3, 1) := dk_6 (dk_at dksX1_exchanges_2 11 rfl rfl)
theorem dX1_exchanges_58 : decode cX1_exchanges 58 = .ok (.if_icmp .ge 47, 3) := dk_162 0 47 (dk_at dksX1_exchanges_2 12 rfl rfl)
theorem dX1_exchanges_61 : decode cX1_exchanges 61 = .ok (.aload_n 0, 1) := dk_42 (dk_at dksX1_exchanges_2 15 rfl rfl)
theorem dX1_exchanges_62 : decode cX1_exchanges 62 = .ok (.getfield 20, 3) := dk_180 0 20 (dk_at dksX1_exchanges_2 16 rfl rfl)
theorem dX1_exchanges_65 : decode cX1_exchanges 65 = .ok (.iload_n 1, 1) := dk_27 (dk_at dksX1_exchanges_2 19 rfl rfl)
theorem dX1_exchanges_66 : decode cX1_exchanges 66 = .ok (.aaload, 1) := dk_50 (dk_at dksX1_exchanges_2 20 rfl rfl)
theorem dX1_exchanges_67 : decode cX1_exchanges 67 = .ok (.iload 5, 2) := dk_21 5 (dk_at dksX1_exchanges_2 21 rfl rfl)
theorem dX1_exchanges_69 : decode cX1_exchanges 69 = .ok (.laload, 1) := dk_47 (dk_at dksX1_exchanges_2 23 rfl rfl)
theorem dX1_exchanges_70 : decode cX1_exchanges 70 = .ok (.lstore_n 3, 1) := dk_66 (dk_at dksX1_exchanges_3 0 rfl rfl)
theorem dX1_exchanges_71 : decode cX1_exchanges 71 = .ok (.aload_n 0, 1) := dk_42 (dk_at dksX1_exchanges_3 1 rfl rfl)
theorem dX1_exchanges_72 : decode cX1_exchanges 72 = .ok (.getfield 20, 3) := dk_180 0 20 (dk_at dksX1_exchanges_3 2 rfl rfl)
theorem dX1_exchanges_75 : decode cX1_exchanges 75 = .ok (.iload_n 1, 1) := dk_27 (dk_at dksX1_exchanges_3 5 rfl rfl)
theorem dX1_exchanges_76 : decode cX1_exchanges 76 = .ok (.aaload, 1) := dk_50 (dk_at dksX1_exchanges_3 6 rfl rfl)
theorem dX1_exchanges_77 : decode cX1_exchanges 77 = .ok (.iload 5, 2) := dk_21 5 (dk_at dksX1_exchanges_3 7 rfl rfl)
theorem dX1_exchanges_79 : decode cX1_exchanges 79 = .ok (.aload_n 0, 1) := dk_42 (dk_at dksX1_exchanges_3 9 rfl rfl)
theorem dX1_exchanges_80 : decode cX1_exchanges 80 = .ok (.getfield 20, 3) := dk_180 0 20 (dk_at dksX1_exchanges_3 10 rfl rfl)
theorem dX1_exchanges_83 : decode cX1_exchanges 83 = .ok (.iload_n 2, 1) := dk_28 (dk_at dksX1_exchanges_3 13 rfl rfl)
theorem dX1_exchanges_84 : decode cX1_exchanges 84 = .ok (.aaload, 1) := dk_50 (dk_at dksX1_exchanges_3 14 rfl rfl)
theorem dX1_exchanges_85 : decode cX1_exchanges 85 = .ok (.iload 5, 2) := dk_21 5 (dk_at dksX1_exchanges_3 15 rfl rfl)
theorem dX1_exchanges_87 : decode cX1_exchanges 87 = .ok (.laload, 1) := dk_47 (dk_at dksX1_exchanges_3 17 rfl rfl)
theorem dX1_exchanges_88 : decode cX1_exchanges 88 = .ok (.lastore, 1) := dk_80 (dk_at dksX1_exchanges_3 18 rfl rfl)
theorem dX1_exchanges_89 : decode cX1_exchanges 89 = .ok (.aload_n 0, 1) := dk_42 (dk_at dksX1_exchanges_3 19 rfl rfl)
theorem dX1_exchanges_90 : decode cX1_exchanges 90 = .ok (.getfield 20, 3) := dk_180 0 20 (dk_at dksX1_exchanges_3 20 rfl rfl)
theorem dX1_exchanges_93 : decode cX1_exchanges 93 = .ok (.iload_n 2, 1) := dk_28 (dk_at dksX1_exchanges_3 23 rfl rfl)
theorem dX1_exchanges_94 : decode cX1_exchanges 94 = .ok (.aaload, 1) := dk_50 (dk_at dksX1_exchanges_4 0 rfl rfl)
theorem dX1_exchanges_95 : decode cX1_exchanges 95 = .ok (.iload 5, 2) := dk_21 5 (dk_at dksX1_exchanges_4 1 rfl rfl)
theorem dX1_exchanges_97 : decode cX1_exchanges 97 = .ok (.lload_n 3, 1) := dk_33 (dk_at dksX1_exchanges_4 3 rfl rfl)
theorem dX1_exchanges_98 : decode cX1_exchanges 98 = .ok (.lastore, 1) := dk_80 (dk_at dksX1_exchanges_4 4 rfl rfl)
theorem dX1_exchanges_99 : decode cX1_exchanges 99 = .ok (.iinc 5 1, 3) := dk_132 5 1 (dk_at dksX1_exchanges_4 5 rfl rfl)
theorem dX1_exchanges_102 : decode cX1_exchanges 102 = .ok (.goto (-47), 3) := dk_167 255 209 (dk_at dksX1_exchanges_4 8 rfl rfl)
theorem dX1_exchanges_105 : decode cX1_exchanges 105 = .ok (.return_, 1) := dk_177 (dk_at dksX1_exchanges_4 11 rfl rfl)
abbrev cX1_turns : ByteArray := prog_2_method_11_code
def yX1_turns : MethodName := ⟨RX1, "turns", "(I)V"⟩
def dkwX1_turns_2 : List UInt8 := [28, 47, 117, 80, 132, 2, 1, 167, 255, 204, 177]
abbrev dktX1_turns_2 : List UInt8 := dkwX1_turns_2 ++ []
def dkwX1_turns_1 : List UInt8 := [167, 0, 10, 42, 180, 0, 15, 28, 47, 117, 80, 42, 180, 0, 20, 27, 50, 28, 42, 180, 0, 20, 27, 50]
abbrev dktX1_turns_1 : List UInt8 := dkwX1_turns_1 ++ dktX1_turns_2
def dkwX1_turns_0 : List UInt8 := [3, 61, 28, 6, 162, 0, 53, 42, 180, 0, 15, 28, 28, 27, 160, 0, 12, 42, 180, 0, 15, 28, 47]
abbrev dktX1_turns_0 : List UInt8 := dkwX1_turns_0 ++ dktX1_turns_1
theorem dksX1_turns_0 : cX1_turns.data.toList.drop 0 = dktX1_turns_0 := by decide +kernel
theorem dksX1_turns_1 : cX1_turns.data.toList.drop 23 = dktX1_turns_1 := dk_seg dksX1_turns_0 23 rfl rfl
theorem dksX1_turns_2 : cX1_turns.data.toList.drop 47 = dktX1_turns_2 := dk_seg dksX1_turns_1 24 rfl rfl
theorem dX1_turns_0 : decode cX1_turns 0 = .ok (.iconst 0, 1) := dk_3 (dk_at dksX1_turns_0 0 rfl rfl)
theorem dX1_turns_1 : decode cX1_turns 1 = .ok (.istore_n 2, 1) := dk_61 (dk_at dksX1_turns_0 1 rfl rfl)
theorem dX1_turns_2 : decode cX1_turns 2 = .ok (.iload_n 2, 1) := dk_28 (dk_at dksX1_turns_0 2 rfl rfl)
theorem dX1_turns_3 : decode cX1_turns 3 = .ok (.iconst 3, 1) := dk_6 (dk_at dksX1_turns_0 3 rfl rfl)
theorem dX1_turns_4 : decode cX1_turns 4 = .ok (.if_icmp .ge 53, 3) := dk_162 0 53 (dk_at dksX1_turns_0 4 rfl rfl)
theorem dX1_turns_7 : decode cX1_turns 7 = .ok (.aload_n 0, 1) := dk_42 (dk_at dksX1_turns_0 7 rfl rfl)
theorem dX1_turns_8 : decode cX1_turns 8 = .ok (.getfield 15, 3) := dk_180 0 15 (dk_at dksX1_turns_0 8 rfl rfl)
theorem dX1_turns_11 : decode cX1_turns 11 = .ok (.iload_n 2, 1) := dk_28 (dk_at dksX1_turns_0 11 rfl rfl)
theorem dX1_turns_12 : decode cX1_turns 12 = .ok (.iload_n 2, 1) := dk_28 (dk_at dksX1_turns_0 12 rfl rfl)
theorem dX1_turns_13 : decode cX1_turns 13 = .ok (.iload_n 1, 1) := dk_27 (dk_at dksX1_turns_0 13 rfl rfl)
theorem dX1_turns_14 : decode cX1_turns 14 = .ok (.if_icmp .ne 12, 3) := dk_160 0 12 (dk_at dksX1_turns_0 14 rfl rfl)
theorem dX1_turns_17 : decode cX1_turns 17 = .ok (.aload_n 0, 1) := dk_42 (dk_at dksX1_turns_0 17 rfl rfl)
theorem dX1_turns_18 : decode cX1_turns 18 = .ok (.getfield 15, 3) := dk_180 0 15 (dk_at dksX1_turns_0 18 rfl rfl)
theorem dX1_turns_21 : decode cX1_turns 21 = .ok (.iload_n 2, 1) := dk_28 (dk_at dksX1_turns_0 21 rfl rfl)
theorem dX1_turns_22 : decode cX1_turns 22 = .ok (.laload, 1) := dk_47 (dk_at dksX1_turns_0 22 rfl rfl)
theorem dX1_turns_23 : decode cX1_turns 23 = .ok (.goto 10, 3) := dk_167 0 10 (dk_at dksX1_turns_1 0 rfl rfl)
theorem dX1_turns_26 : decode cX1_turns 26 = .ok (.aload_n 0, 1) := dk_42 (dk_at dksX1_turns_1 3 rfl rfl)
theorem dX1_turns_27 : decode cX1_turns 27 = .ok (.getfield 15, 3) := dk_180 0 15 (dk_at dksX1_turns_1 4 rfl rfl)
theorem dX1_turns_30 : decode cX1_turns 30 = .ok (.iload_n 2, 1) := dk_28 (dk_at dksX1_turns_1 7 rfl rfl)
theorem dX1_turns_31 : decode cX1_turns 31 = .ok (.laload, 1) := dk_47 (dk_at dksX1_turns_1 8 rfl rfl)
theorem dX1_turns_32 : decode cX1_turns 32 = .ok (.lneg, 1) := dk_117 (dk_at dksX1_turns_1 9 rfl rfl)
theorem dX1_turns_33 : decode cX1_turns 33 = .ok (.lastore, 1) := dk_80 (dk_at dksX1_turns_1 10 rfl rfl)
theorem dX1_turns_34 : decode cX1_turns 34 = .ok (.aload_n 0, 1) := dk_42 (dk_at dksX1_turns_1 11 rfl rfl)
theorem dX1_turns_35 : decode cX1_turns 35 = .ok (.getfield 20, 3) := dk_180 0 20 (dk_at dksX1_turns_1 12 rfl rfl)
theorem dX1_turns_38 : decode cX1_turns 38 = .ok (.iload_n 1, 1) := dk_27 (dk_at dksX1_turns_1 15 rfl rfl)
theorem dX1_turns_39 : decode cX1_turns 39 = .ok (.aaload, 1) := dk_50 (dk_at dksX1_turns_1 16 rfl rfl)
theorem dX1_turns_40 : decode cX1_turns 40 = .ok (.iload_n 2, 1) := dk_28 (dk_at dksX1_turns_1 17 rfl rfl)
theorem dX1_turns_41 : decode cX1_turns 41 = .ok (.aload_n 0, 1) := dk_42 (dk_at dksX1_turns_1 18 rfl rfl)
theorem dX1_turns_42 : decode cX1_turns 42 = .ok (.getfield 20, 3) := dk_180 0 20 (dk_at dksX1_turns_1 19 rfl rfl)
theorem dX1_turns_45 : decode cX1_turns 45 = .ok (.iload_n 1, 1) := dk_27 (dk_at dksX1_turns_1 22 rfl rfl)
theorem dX1_turns_46 : decode cX1_turns 46 = .ok (.aaload, 1) := dk_50 (dk_at dksX1_turns_1 23 rfl rfl)
theorem dX1_turns_47 : decode cX1_turns 47 = .ok (.iload_n 2, 1) := dk_28 (dk_at dksX1_turns_2 0 rfl rfl)
theorem dX1_turns_48 : decode cX1_turns 48 = .ok (.laload, 1) := dk_47 (dk_at dksX1_turns_2 1 rfl rfl)
theorem dX1_turns_49 : decode cX1_turns 49 = .ok (.lneg, 1) := dk_117 (dk_at dksX1_turns_2 2 rfl rfl)
theorem dX1_turns_50 : decode cX1_turns 50 = .ok (.lastore, 1) := dk_80 (dk_at dksX1_turns_2 3 rfl rfl)
theorem dX1_turns_51 : decode cX1_turns 51 = .ok (.iinc 2 1, 3) := dk_132 2 1 (dk_at dksX1_turns_2 4 rfl rfl)
theorem dX1_turns_54 : decode cX1_turns 54 = .ok (.goto (-52), 3) := dk_167 255 204 (dk_at dksX1_turns_2 7 rfl rfl)
theorem dX1_turns_57 : decode cX1_turns 57 = .ok (.return_, 1) := dk_177 (dk_at dksX1_turns_2 10 rfl rfl)
abbrev cX1_applies : ByteArray := prog_2_method_17_code
def yX1_applies : MethodName := ⟨RX1, "applies", "(I)Z"⟩
def dkwX1_applies_15 : List UInt8 := [167, 0, 4, 3, 172]
abbrev dktX1_applies_15 : List UInt8 := dkwX1_applies_15 ++ []
def dkwX1_applies_14 : List UInt8 := [3, 47, 42, 180, 0, 15, 4, 47, 97, 105, 42, 180, 0, 15, 5, 47, 97, 9, 148, 158, 0, 7, 4]
abbrev dktX1_applies_14 : List UInt8 := dkwX1_applies_14 ++ dktX1_applies_15
def dkwX1_applies_13 : List UInt8 := [182, 0, 86, 9, 148, 155, 0, 41, 42, 182, 0, 86, 9, 148, 154, 0, 36, 20, 0, 61, 42, 180, 0, 9]
abbrev dktX1_applies_13 : List UInt8 := dkwX1_applies_13 ++ dktX1_applies_14
def dkwX1_applies_12 : List UInt8 := [180, 0, 9, 3, 47, 42, 180, 0, 15, 3, 47, 42, 180, 0, 15, 4, 47, 182, 0, 82, 172, 42]
abbrev dktX1_applies_12 : List UInt8 := dkwX1_applies_12 ++ dktX1_applies_13
def dkwX1_applies_11 : List UInt8 := [180, 0, 15, 3, 47, 42, 180, 0, 15, 5, 47, 182, 0, 82, 172, 42, 42, 180, 0, 15, 5, 47, 42]
abbrev dktX1_applies_11 : List UInt8 := dkwX1_applies_11 ++ dktX1_applies_12
def dkwX1_applies_10 : List UInt8 := [42, 180, 0, 15, 5, 47, 182, 0, 82, 172, 42, 42, 180, 0, 15, 4, 47, 42, 180, 0, 9, 3, 47, 42]
abbrev dktX1_applies_10 : List UInt8 := dkwX1_applies_10 ++ dktX1_applies_11
def dkwX1_applies_9 : List UInt8 := [167, 0, 4, 3, 172, 42, 42, 180, 0, 15, 3, 47, 42, 180, 0, 9, 4, 47, 42, 180, 0, 15, 4, 47]
abbrev dktX1_applies_9 : List UInt8 := dkwX1_applies_9 ++ dktX1_applies_10
def dkwX1_applies_8 : List UInt8 := [167, 0, 4, 3, 172, 42, 182, 0, 75, 9, 148, 157, 0, 15, 42, 4, 182, 0, 78, 153, 0, 7, 4]
abbrev dktX1_applies_8 : List UInt8 := dkwX1_applies_8 ++ dktX1_applies_9
def dkwX1_applies_7 : List UInt8 := [167, 0, 4, 3, 172, 42, 182, 0, 75, 9, 148, 158, 0, 15, 42, 6, 182, 0, 78, 154, 0, 7, 4]
abbrev dktX1_applies_7 : List UInt8 := dkwX1_applies_7 ++ dktX1_applies_8
def dkwX1_applies_6 : List UInt8 := [180, 0, 15, 4, 47, 184, 0, 69, 42, 180, 0, 15, 5, 47, 184, 0, 69, 148, 158, 0, 7, 4]
abbrev dktX1_applies_6 : List UInt8 := dkwX1_applies_6 ++ dktX1_applies_7
def dkwX1_applies_5 : List UInt8 := [47, 148, 157, 0, 41, 42, 180, 0, 9, 4, 47, 42, 180, 0, 9, 5, 47, 148, 154, 0, 29, 42]
abbrev dktX1_applies_5 : List UInt8 := dkwX1_applies_5 ++ dktX1_applies_6
def dkwX1_applies_4 : List UInt8 := [184, 0, 69, 148, 158, 0, 7, 4, 167, 0, 4, 3, 172, 42, 180, 0, 9, 4, 47, 42, 180, 0, 9, 5]
abbrev dktX1_applies_4 : List UInt8 := dkwX1_applies_4 ++ dktX1_applies_5
def dkwX1_applies_3 : List UInt8 := [180, 0, 9, 4, 47, 148, 154, 0, 29, 42, 180, 0, 15, 3, 47, 184, 0, 69, 42, 180, 0, 15, 4, 47]
abbrev dktX1_applies_3 : List UInt8 := dkwX1_applies_3 ++ dktX1_applies_4
def dkwX1_applies_2 : List UInt8 := [42, 180, 0, 9, 3, 47, 42, 180, 0, 9, 4, 47, 148, 157, 0, 41, 42, 180, 0, 9, 3, 47, 42]
abbrev dktX1_applies_2 : List UInt8 := dkwX1_applies_2 ++ dktX1_applies_3
def dkwX1_applies_1 : List UInt8 := [170, 0, 0, 0, 0, 1, 40, 0, 0, 0, 1, 0, 0, 0, 7, 0, 0, 0, 43, 0, 0, 0, 103, 0, 0, 0, 163, 0, 0, 0, 186, 0, 0, 0, 209, 0, 0, 0, 238, 0, 0, 1, 11]
abbrev dktX1_applies_1 : List UInt8 := dkwX1_applies_1 ++ dktX1_applies_2
def dkwX1_applies_0 : List UInt8 := [27]
abbrev dktX1_applies_0 : List UInt8 := dkwX1_applies_0 ++ dktX1_applies_1
theorem dksX1_applies_0 : cX1_applies.data.toList.drop 0 = dktX1_applies_0 := by decide +kernel
theorem dksX1_applies_1 : cX1_applies.data.toList.drop 1 = dktX1_applies_1 := dk_seg dksX1_applies_0 1 rfl rfl
theorem dksX1_applies_2 : cX1_applies.data.toList.drop 44 = dktX1_applies_2 := dk_seg dksX1_applies_1 43 rfl rfl
theorem dksX1_applies_3 : cX1_applies.data.toList.drop 67 = dktX1_applies_3 := dk_seg dksX1_applies_2 23 rfl rfl
theorem dksX1_applies_4 : cX1_applies.data.toList.drop 91 = dktX1_applies_4 := dk_seg dksX1_applies_3 24 rfl rfl
theorem dksX1_applies_5 : cX1_applies.data.toList.drop 115 = dktX1_applies_5 := dk_seg dksX1_applies_4 24 rfl rfl
theorem dksX1_applies_6 : cX1_applies.data.toList.drop 137 = dktX1_applies_6 := dk_seg dksX1_applies_5 22 rfl rfl
theorem dksX1_applies_7 : cX1_applies.data.toList.drop 159 = dktX1_applies_7 := dk_seg dksX1_applies_6 22 rfl rfl
theorem dksX1_applies_8 : cX1_applies.data.toList.drop 182 = dktX1_applies_8 := dk_seg dksX1_applies_7 23 rfl rfl
theorem dksX1_applies_9 : cX1_applies.data.toList.drop 205 = dktX1_applies_9 := dk_seg dksX1_applies_8 23 rfl rfl
theorem dksX1_applies_10 : cX1_applies.data.toList.drop 229 = dktX1_applies_10 := dk_seg dksX1_applies_9 24 rfl rfl
theorem dksX1_applies_11 : cX1_applies.data.toList.drop 253 = dktX1_applies_11 := dk_seg dksX1_applies_10 24 rfl rfl
theorem dksX1_applies_12 : cX1_applies.data.toList.drop 276 = dktX1_applies_12 := dk_seg dksX1_applies_11 23 rfl rfl
theorem dksX1_applies_13 : cX1_applies.data.toList.drop 298 = dktX1_applies_13 := dk_seg dksX1_applies_12 22 rfl rfl
theorem dksX1_applies_14 : cX1_applies.data.toList.drop 322 = dktX1_applies_14 := dk_seg dksX1_applies_13 24 rfl rfl
theorem dksX1_applies_15 : cX1_applies.data.toList.drop 345 = dktX1_applies_15 := dk_seg dksX1_applies_14 23 rfl rfl
theorem dX1_applies_0 : decode cX1_applies 0 = .ok (.iload_n 1, 1) := dk_27 (dk_at dksX1_applies_0 0 rfl rfl)
theorem dX1_applies_1 : decode cX1_applies 1 = .ok (.tableswitch 296 1 7 #[43, 103, 163, 186, 209, 238, 267], 43) := by decide +kernel
theorem dX1_applies_44 : decode cX1_applies 44 = .ok (.aload_n 0, 1) := dk_42 (dk_at dksX1_applies_2 0 rfl rfl)
theorem dX1_applies_45 : decode cX1_applies 45 = .ok (.getfield 9, 3) := dk_180 0 9 (dk_at dksX1_applies_2 1 rfl rfl)
theorem dX1_applies_48 : decode cX1_applies 48 = .ok (.iconst 0, 1) := dk_3 (dk_at dksX1_applies_2 4 rfl rfl)
theorem dX1_applies_49 : decode cX1_applies 49 = .ok (.laload, 1) := dk_47 (dk_at dksX1_applies_2 5 rfl rfl)
theorem dX1_applies_50 : decode cX1_applies 50 = .ok (.aload_n 0, 1) := dk_42 (dk_at dksX1_applies_2 6 rfl rfl)
theorem dX1_applies_51 : decode cX1_applies 51 = .ok (.getfield 9, 3) := dk_180 0 9 (dk_at dksX1_applies_2 7 rfl rfl)
theorem dX1_applies_54 : decode cX1_applies 54 = .ok (.iconst 1, 1) := dk_4 (dk_at dksX1_applies_2 10 rfl rfl)
theorem dX1_applies_55 : decode cX1_applies 55 = .ok (.laload, 1) := dk_47 (dk_at dksX1_applies_2 11 rfl rfl)
theorem dX1_applies_56 : decode cX1_applies 56 = .ok (.lcmp, 1) := dk_148 (dk_at dksX1_applies_2 12 rfl rfl)
theorem dX1_applies_57 : decode cX1_applies 57 = .ok (.ifCond .gt 41, 3) := dk_157 0 41 (dk_at dksX1_applies_2 13 rfl rfl)
theorem dX1_applies_60 : decode cX1_applies 60 = .ok (.aload_n 0, 1) := dk_42 (dk_at dksX1_applies_2 16 rfl rfl)
theorem dX1_applies_61 : decode cX1_applies 61 = .ok (.getfield 9, 3) := dk_180 0 9 (dk_at dksX1_applies_2 17 rfl rfl)
theorem dX1_applies_64 : decode cX1_applies 64 = .ok (.iconst 0, 1) := dk_3 (dk_at dksX1_applies_2 20 rfl rfl)
theorem dX1_applies_65 : decode cX1_applies 65 = .ok (.laload, 1) := dk_47 (dk_at dksX1_applies_2 21 rfl rfl)
theorem dX1_applies_66 : decode cX1_applies 66 = .ok (.aload_n 0, 1) := dk_42 (dk_at dksX1_applies_2 22 rfl rfl)
theorem dX1_applies_67 : decode cX1_applies 67 = .ok (.getfield 9, 3) := dk_180 0 9 (dk_at dksX1_applies_3 0 rfl rfl)
theorem dX1_applies_70 : decode cX1_applies 70 = .ok (.iconst 1, 1) := dk_4 (dk_at dksX1_applies_3 3 rfl rfl)
theorem dX1_applies_71 : decode cX1_applies 71 = .ok (.laload, 1) := dk_47 (dk_at dksX1_applies_3 4 rfl rfl)
theorem dX1_applies_72 : decode cX1_applies 72 = .ok (.lcmp, 1) := dk_148 (dk_at dksX1_applies_3 5 rfl rfl)
theorem dX1_applies_73 : decode cX1_applies 73 = .ok (.ifCond .ne 29, 3) := dk_154 0 29 (dk_at dksX1_applies_3 6 rfl rfl)
theorem dX1_applies_76 : decode cX1_applies 76 = .ok (.aload_n 0, 1) := dk_42 (dk_at dksX1_applies_3 9 rfl rfl)
theorem dX1_applies_77 : decode cX1_applies 77 = .ok (.getfield 15, 3) := dk_180 0 15 (dk_at dksX1_applies_3 10 rfl rfl)
theorem dX1_applies_80 : decode cX1_applies 80 = .ok (.iconst 0, 1) := dk_3 (dk_at dksX1_applies_3 13 rfl rfl)
theorem dX1_applies_81 : decode cX1_applies 81 = .ok (.laload, 1) := dk_47 (dk_at dksX1_applies_3 14 rfl rfl)
theorem dX1_applies_82 : decode cX1_applies 82 = .ok (.invokestatic 69, 3) := dk_184 0 69 (dk_at dksX1_applies_3 15 rfl rfl)
theorem dX1_applies_85 : decode cX1_applies 85 = .ok (.aload_n 0, 1) := dk_42 (dk_at dksX1_applies_3 18 rfl rfl)
theorem dX1_applies_86 : decode cX1_applies 86 = .ok (.getfield 15, 3) := dk_180 0 15 (dk_at dksX1_applies_3 19 rfl rfl)
theorem dX1_applies_89 : decode cX1_applies 89 = .ok (.iconst 1, 1) := dk_4 (dk_at dksX1_applies_3 22 rfl rfl)
theorem dX1_applies_90 : decode cX1_applies 90 = .ok (.laload, 1) := dk_47 (dk_at dksX1_applies_3 23 rfl rfl)
theorem dX1_applies_91 : decode cX1_applies 91 = .ok (.invokestatic 69, 3) := dk_184 0 69 (dk_at dksX1_applies_4 0 rfl rfl)
theorem dX1_applies_94 : decode cX1_applies 94 = .ok (.lcmp, 1) := dk_148 (dk_at dksX1_applies_4 3 rfl rfl)
theorem dX1_applies_95 : decode cX1_applies 95 = .ok (.ifCond .le 7, 3) := dk_158 0 7 (dk_at dksX1_applies_4 4 rfl rfl)
theorem dX1_applies_98 : decode cX1_applies 98 = .ok (.iconst 1, 1) := dk_4 (dk_at dksX1_applies_4 7 rfl rfl)
theorem dX1_applies_99 : decode cX1_applies 99 = .ok (.goto 4, 3) := dk_167 0 4 (dk_at dksX1_applies_4 8 rfl rfl)
theorem dX1_applies_102 : decode cX1_applies 102 = .ok (.iconst 0, 1) := dk_3 (dk_at dksX1_applies_4 11 rfl rfl)
theorem dX1_applies_103 : decode cX1_applies 103 = .ok (.ireturn, 1) := dk_172 (dk_at dksX1_applies_4 12 rfl rfl)
theorem dX1_applies_104 : decode cX1_applies 104 = .ok (.aload_n 0, 1) := dk_42 (dk_at dksX1_applies_4 13 rfl rfl)
theorem dX1_applies_105 : decode cX1_applies 105 = .ok (.getfield 9, 3) := dk_180 0 9 (dk_at dksX1_applies_4 14 rfl rfl)
theorem dX1_applies_108 : decode cX1_applies 108 = .ok (.iconst 1, 1) := dk_4 (dk_at dksX1_applies_4 17 rfl rfl)
theorem dX1_applies_109 : decode cX1_applies 109 = .ok (.laload, 1) := dk_47 (dk_at dksX1_applies_4 18 rfl rfl)
theorem dX1_applies_110 : decode cX1_applies 110 = .ok (.aload_n 0, 1) := dk_42 (dk_at dksX1_applies_4 19 rfl rfl)
theorem dX1_applies_111 : decode cX1_applies 111 = .ok (.getfield 9, 3) := dk_180 0 9 (dk_at dksX1_applies_4 20 rfl rfl)
theorem dX1_applies_114 : decode cX1_applies 114 = .ok (.iconst 2, 1) := dk_5 (dk_at dksX1_applies_4 23 rfl rfl)
theorem dX1_applies_115 : decode cX1_applies 115 = .ok (.laload, 1) := dk_47 (dk_at dksX1_applies_5 0 rfl rfl)
theorem dX1_applies_116 : decode cX1_applies 116 = .ok (.lcmp, 1) := dk_148 (dk_at dksX1_applies_5 1 rfl rfl)
theorem dX1_applies_117 : decode cX1_applies 117 = .ok (.ifCond .gt 41, 3) := dk_157 0 41 (dk_at dksX1_applies_5 2 rfl rfl)
theorem dX1_applies_120 : decode cX1_applies 120 = .ok (.aload_n 0, 1) := dk_42 (dk_at dksX1_applies_5 5 rfl rfl)
theorem dX1_applies_121 : decode cX1_applies 121 = .ok (.getfield 9, 3) := dk_180 0 9 (dk_at dksX1_applies_5 6 rfl rfl)
theorem dX1_applies_124 : decode cX1_applies 124 = .ok (.iconst 1, 1) := dk_4 (dk_at dksX1_applies_5 9 rfl rfl)
theorem dX1_applies_125 : decode cX1_applies 125 = .ok (.laload, 1) := dk_47 (dk_at dksX1_applies_5 10 rfl rfl)
theorem dX1_applies_126 : decode cX1_applies 126 = .ok (.aload_n 0, 1) := dk_42 (dk_at dksX1_applies_5 11 rfl rfl)
theorem dX1_applies_127 : decode cX1_applies 127 = .ok (.getfield 9, 3) := dk_180 0 9 (dk_at dksX1_applies_5 12 rfl rfl)
theorem dX1_applies_130 : decode cX1_applies 130 = .ok (.iconst 2, 1) := dk_5 (dk_at dksX1_applies_5 15 rfl rfl)
theorem dX1_applies_131 : decode cX1_applies 131 = .ok (.laload, 1) := dk_47 (dk_at dksX1_applies_5 16 rfl rfl)
theorem dX1_applies_132 : decode cX1_applies 132 = .ok (.lcmp, 1) := dk_148 (dk_at dksX1_applies_5 17 rfl rfl)
theorem dX1_applies_133 : decode cX1_applies 133 = .ok (.ifCond .ne 29, 3) := dk_154 0 29 (dk_at dksX1_applies_5 18 rfl rfl)
theorem dX1_applies_136 : decode cX1_applies 136 = .ok (.aload_n 0, 1) := dk_42 (dk_at dksX1_applies_5 21 rfl rfl)
theorem dX1_applies_137 : decode cX1_applies 137 = .ok (.getfield 15, 3) := dk_180 0 15 (dk_at dksX1_applies_6 0 rfl rfl)
theorem dX1_applies_140 : decode cX1_applies 140 = .ok (.iconst 1, 1) := dk_4 (dk_at dksX1_applies_6 3 rfl rfl)
theorem dX1_applies_141 : decode cX1_applies 141 = .ok (.laload, 1) := dk_47 (dk_at dksX1_applies_6 4 rfl rfl)
theorem dX1_applies_142 : decode cX1_applies 142 = .ok (.invokestatic 69, 3) := dk_184 0 69 (dk_at dksX1_applies_6 5 rfl rfl)
theorem dX1_applies_145 : decode cX1_applies 145 = .ok (.aload_n 0, 1) := dk_42 (dk_at dksX1_applies_6 8 rfl rfl)
theorem dX1_applies_146 : decode cX1_applies 146 = .ok (.getfield 15, 3) := dk_180 0 15 (dk_at dksX1_applies_6 9 rfl rfl)
theorem dX1_applies_149 : decode cX1_applies 149 = .ok (.iconst 2, 1) := dk_5 (dk_at dksX1_applies_6 12 rfl rfl)
theorem dX1_applies_150 : decode cX1_applies 150 = .ok (.laload, 1) := dk_47 (dk_at dksX1_applies_6 13 rfl rfl)
theorem dX1_applies_151 : decode cX1_applies 151 = .ok (.invokestatic 69, 3) := dk_184 0 69 (dk_at dksX1_applies_6 14 rfl rfl)
theorem dX1_applies_154 : decode cX1_applies 154 = .ok (.lcmp, 1) := dk_148 (dk_at dksX1_applies_6 17 rfl rfl)
theorem dX1_applies_155 : decode cX1_applies 155 = .ok (.ifCond .le 7, 3) := dk_158 0 7 (dk_at dksX1_applies_6 18 rfl rfl)
theorem dX1_applies_158 : decode cX1_applies 158 = .ok (.iconst 1, 1) := dk_4 (dk_at dksX1_applies_6 21 rfl rfl)
theorem dX1_applies_159 : decode cX1_applies 159 = .ok (.goto 4, 3) := dk_167 0 4 (dk_at dksX1_applies_7 0 rfl rfl)
theorem dX1_applies_162 : decode cX1_applies 162 = .ok (.iconst 0, 1) := dk_3 (dk_at dksX1_applies_7 3 rfl rfl)
theorem dX1_applies_163 : decode cX1_applies 163 = .ok (.ireturn, 1) := dk_172 (dk_at dksX1_applies_7 4 rfl rfl)
theorem dX1_applies_164 : decode cX1_applies 164 = .ok (.aload_n 0, 1) := dk_42 (dk_at dksX1_applies_7 5 rfl rfl)
theorem dX1_applies_165 : decode cX1_applies 165 = .ok (.invokevirtual 75, 3) := dk_182 0 75 (dk_at dksX1_applies_7 6 rfl rfl)
theorem dX1_applies_168 : decode cX1_applies 168 = .ok (.lconst 0, 1) := dk_9 (dk_at dksX1_applies_7 9 rfl rfl)
theorem dX1_applies_169 : decode cX1_applies 169 = .ok (.lcmp, 1) := dk_148 (dk_at dksX1_applies_7 10 rfl rfl)
theorem dX1_applies_170 : decode cX1_applies 170 = .ok (.ifCond .le 15, 3) := dk_158 0 15 (dk_at dksX1_applies_7 11 rfl rfl)
theorem dX1_applies_173 : decode cX1_applies 173 = .ok (.aload_n 0, 1) := dk_42 (dk_at dksX1_applies_7 14 rfl rfl)
theorem dX1_applies_174 : decode cX1_applies 174 = .ok (.iconst 3, 1) := dk_6 (dk_at dksX1_applies_7 15 rfl rfl)
theorem dX1_applies_175 : decode cX1_applies 175 = .ok (.invokevirtual 78, 3) := dk_182 0 78 (dk_at dksX1_applies_7 16 rfl rfl)
theorem dX1_applies_178 : decode cX1_applies 178 = .ok (.ifCond .ne 7, 3) := dk_154 0 7 (dk_at dksX1_applies_7 19 rfl rfl)
theorem dX1_applies_181 : decode cX1_applies 181 = .ok (.iconst 1, 1) := dk_4 (dk_at dksX1_applies_7 22 rfl rfl)
theorem dX1_applies_182 : decode cX1_applies 182 = .ok (.goto 4, 3) := dk_167 0 4 (dk_at dksX1_applies_8 0 rfl rfl)
theorem dX1_applies_185 : decode cX1_applies 185 = .ok (.iconst 0, 1) := dk_3 (dk_at dksX1_applies_8 3 rfl rfl)
theorem dX1_applies_186 : decode cX1_applies 186 = .ok (.ireturn, 1) := dk_172 (dk_at dksX1_applies_8 4 rfl rfl)
theorem dX1_applies_187 : decode cX1_applies 187 = .ok (.aload_n 0, 1) := dk_42 (dk_at dksX1_applies_8 5 rfl rfl)
theorem dX1_applies_188 : decode cX1_applies 188 = .ok (.invokevirtual 75, 3) := dk_182 0 75 (dk_at dksX1_applies_8 6 rfl rfl)
theorem dX1_applies_191 : decode cX1_applies 191 = .ok (.lconst 0, 1) := dk_9 (dk_at dksX1_applies_8 9 rfl rfl)
theorem dX1_applies_192 : decode cX1_applies 192 = .ok (.lcmp, 1) := dk_148 (dk_at dksX1_applies_8 10 rfl rfl)
theorem dX1_applies_193 : decode cX1_applies 193 = .ok (.ifCond .gt 15, 3) := dk_157 0 15 (dk_at dksX1_applies_8 11 rfl rfl)
theorem dX1_applies_196 : decode cX1_applies 196 = .ok (.aload_n 0, 1) := dk_42 (dk_at dksX1_applies_8 14 rfl rfl)
theorem dX1_applies_197 : decode cX1_applies 197 = .ok (.iconst 1, 1) := dk_4 (dk_at dksX1_applies_8 15 rfl rfl)
theorem dX1_applies_198 : decode cX1_applies 198 = .ok (.invokevirtual 78, 3) := dk_182 0 78 (dk_at dksX1_applies_8 16 rfl rfl)
theorem dX1_applies_201 : decode cX1_applies 201 = .ok (.ifCond .eq 7, 3) := dk_153 0 7 (dk_at dksX1_applies_8 19 rfl rfl)
theorem dX1_applies_204 : decode cX1_applies 204 = .ok (.iconst 1, 1) := dk_4 (dk_at dksX1_applies_8 22 rfl rfl)
theorem dX1_applies_205 : decode cX1_applies 205 = .ok (.goto 4, 3) := dk_167 0 4 (dk_at dksX1_applies_9 0 rfl rfl)
theorem dX1_applies_208 : decode cX1_applies 208 = .ok (.iconst 0, 1) := dk_3 (dk_at dksX1_applies_9 3 rfl rfl)
theorem dX1_applies_209 : decode cX1_applies 209 = .ok (.ireturn, 1) := dk_172 (dk_at dksX1_applies_9 4 rfl rfl)
theorem dX1_applies_210 : decode cX1_applies 210 = .ok (.aload_n 0, 1) := dk_42 (dk_at dksX1_applies_9 5 rfl rfl)
theorem dX1_applies_211 : decode cX1_applies 211 = .ok (.aload_n 0, 1) := dk_42 (dk_at dksX1_applies_9 6 rfl rfl)
theorem dX1_applies_212 : decode cX1_applies 212 = .ok (.getfield 15, 3) := dk_180 0 15 (dk_at dksX1_applies_9 7 rfl rfl)
theorem dX1_applies_215 : decode cX1_applies 215 = .ok (.iconst 0, 1) := dk_3 (dk_at dksX1_applies_9 10 rfl rfl)
theorem dX1_applies_216 : decode cX1_applies 216 = .ok (.laload, 1) := dk_47 (dk_at dksX1_applies_9 11 rfl rfl)
theorem dX1_applies_217 : decode cX1_applies 217 = .ok (.aload_n 0, 1) := dk_42 (dk_at dksX1_applies_9 12 rfl rfl)
theorem dX1_applies_218 : decode cX1_applies 218 = .ok (.getfield 9, 3) := dk_180 0 9 (dk_at dksX1_applies_9 13 rfl rfl)
theorem dX1_applies_221 : decode cX1_applies 221 = .ok (.iconst 1, 1) := dk_4 (dk_at dksX1_applies_9 16 rfl rfl)
theorem dX1_applies_222 : decode cX1_applies 222 = .ok (.laload, 1) := dk_47 (dk_at dksX1_applies_9 17 rfl rfl)
theorem dX1_applies_223 : decode cX1_applies 223 = .ok (.aload_n 0, 1) := dk_42 (dk_at dksX1_applies_9 18 rfl rfl)
theorem dX1_applies_224 : decode cX1_applies 224 = .ok (.getfield 15, 3) := dk_180 0 15 (dk_at dksX1_applies_9 19 rfl rfl)
theorem dX1_applies_227 : decode cX1_applies 227 = .ok (.iconst 1, 1) := dk_4 (dk_at dksX1_applies_9 22 rfl rfl)
theorem dX1_applies_228 : decode cX1_applies 228 = .ok (.laload, 1) := dk_47 (dk_at dksX1_applies_9 23 rfl rfl)
theorem dX1_applies_229 : decode cX1_applies 229 = .ok (.aload_n 0, 1) := dk_42 (dk_at dksX1_applies_10 0 rfl rfl)
theorem dX1_applies_230 : decode cX1_applies 230 = .ok (.getfield 15, 3) := dk_180 0 15 (dk_at dksX1_applies_10 1 rfl rfl)
theorem dX1_applies_233 : decode cX1_applies 233 = .ok (.iconst 2, 1) := dk_5 (dk_at dksX1_applies_10 4 rfl rfl)
theorem dX1_applies_234 : decode cX1_applies 234 = .ok (.laload, 1) := dk_47 (dk_at dksX1_applies_10 5 rfl rfl)
theorem dX1_applies_235 : decode cX1_applies 235 = .ok (.invokevirtual 82, 3) := dk_182 0 82 (dk_at dksX1_applies_10 6 rfl rfl)
theorem dX1_applies_238 : decode cX1_applies 238 = .ok (.ireturn, 1) := dk_172 (dk_at dksX1_applies_10 9 rfl rfl)
theorem dX1_applies_239 : decode cX1_applies 239 = .ok (.aload_n 0, 1) := dk_42 (dk_at dksX1_applies_10 10 rfl rfl)
theorem dX1_applies_240 : decode cX1_applies 240 = .ok (.aload_n 0, 1) := dk_42 (dk_at dksX1_applies_10 11 rfl rfl)
theorem dX1_applies_241 : decode cX1_applies 241 = .ok (.getfield 15, 3) := dk_180 0 15 (dk_at dksX1_applies_10 12 rfl rfl)
theorem dX1_applies_244 : decode cX1_applies 244 = .ok (.iconst 1, 1) := dk_4 (dk_at dksX1_applies_10 15 rfl rfl)
theorem dX1_applies_245 : decode cX1_applies 245 = .ok (.laload, 1) := dk_47 (dk_at dksX1_applies_10 16 rfl rfl)
theorem dX1_applies_246 : decode cX1_applies 246 = .ok (.aload_n 0, 1) := dk_42 (dk_at dksX1_applies_10 17 rfl rfl)
theorem dX1_applies_247 : decode cX1_applies 247 = .ok (.getfield 9, 3) := dk_180 0 9 (dk_at dksX1_applies_10 18 rfl rfl)
theorem dX1_applies_250 : decode cX1_applies 250 = .ok (.iconst 0, 1) := dk_3 (dk_at dksX1_applies_10 21 rfl rfl)
theorem dX1_applies_251 : decode cX1_applies 251 = .ok (.laload, 1) := dk_47 (dk_at dksX1_applies_10 22 rfl rfl)
theorem dX1_applies_252 : decode cX1_applies 252 = .ok (.aload_n 0, 1) := dk_42 (dk_at dksX1_applies_10 23 rfl rfl)
theorem dX1_applies_253 : decode cX1_applies 253 = .ok (.getfield 15, 3) := dk_180 0 15 (dk_at dksX1_applies_11 0 rfl rfl)
theorem dX1_applies_256 : decode cX1_applies 256 = .ok (.iconst 0, 1) := dk_3 (dk_at dksX1_applies_11 3 rfl rfl)
theorem dX1_applies_257 : decode cX1_applies 257 = .ok (.laload, 1) := dk_47 (dk_at dksX1_applies_11 4 rfl rfl)
theorem dX1_applies_258 : decode cX1_applies 258 = .ok (.aload_n 0, 1) := dk_42 (dk_at dksX1_applies_11 5 rfl rfl)
theorem dX1_applies_259 : decode cX1_applies 259 = .ok (.getfield 15, 3) := dk_180 0 15 (dk_at dksX1_applies_11 6 rfl rfl)
theorem dX1_applies_262 : decode cX1_applies 262 = .ok (.iconst 2, 1) := dk_5 (dk_at dksX1_applies_11 9 rfl rfl)
theorem dX1_applies_263 : decode cX1_applies 263 = .ok (.laload, 1) := dk_47 (dk_at dksX1_applies_11 10 rfl rfl)
theorem dX1_applies_264 : decode cX1_applies 264 = .ok (.invokevirtual 82, 3) := dk_182 0 82 (dk_at dksX1_applies_11 11 rfl rfl)
theorem dX1_applies_267 : decode cX1_applies 267 = .ok (.ireturn, 1) := dk_172 (dk_at dksX1_applies_11 14 rfl rfl)
theorem dX1_applies_268 : decode cX1_applies 268 = .ok (.aload_n 0, 1) := dk_42 (dk_at dksX1_applies_11 15 rfl rfl)
theorem dX1_applies_269 : decode cX1_applies 269 = .ok (.aload_n 0, 1) := dk_42 (dk_at dksX1_applies_11 16 rfl rfl)
theorem dX1_applies_270 : decode cX1_applies 270 = .ok (.getfield 15, 3) := dk_180 0 15 (dk_at dksX1_applies_11 17 rfl rfl)
theorem dX1_applies_273 : decode cX1_applies 273 = .ok (.iconst 2, 1) := dk_5 (dk_at dksX1_applies_11 20 rfl rfl)
theorem dX1_applies_274 : decode cX1_applies 274 = .ok (.laload, 1) := dk_47 (dk_at dksX1_applies_11 21 rfl rfl)
theorem dX1_applies_275 : decode cX1_applies 275 = .ok (.aload_n 0, 1) := dk_42 (dk_at dksX1_applies_11 22 rfl rfl)
theorem dX1_applies_276 : decode cX1_applies 276 = .ok (.getfield 9, 3) := dk_180 0 9 (dk_at dksX1_applies_12 0 rfl rfl)
theorem dX1_applies_279 : decode cX1_applies 279 = .ok (.iconst 0, 1) := dk_3 (dk_at dksX1_applies_12 3 rfl rfl)
theorem dX1_applies_280 : decode cX1_applies 280 = .ok (.laload, 1) := dk_47 (dk_at dksX1_applies_12 4 rfl rfl)
theorem dX1_applies_281 : decode cX1_applies 281 = .ok (.aload_n 0, 1) := dk_42 (dk_at dksX1_applies_12 5 rfl rfl)
theorem dX1_applies_282 : decode cX1_applies 282 = .ok (.getfield 15, 3) := dk_180 0 15 (dk_at dksX1_applies_12 6 rfl rfl)
theorem dX1_applies_285 : decode cX1_applies 285 = .ok (.iconst 0, 1) := dk_3 (dk_at dksX1_applies_12 9 rfl rfl)
theorem dX1_applies_286 : decode cX1_applies 286 = .ok (.laload, 1) := dk_47 (dk_at dksX1_applies_12 10 rfl rfl)
theorem dX1_applies_287 : decode cX1_applies 287 = .ok (.aload_n 0, 1) := dk_42 (dk_at dksX1_applies_12 11 rfl rfl)
theorem dX1_applies_288 : decode cX1_applies 288 = .ok (.getfield 15, 3) := dk_180 0 15 (dk_at dksX1_applies_12 12 rfl rfl)
theorem dX1_applies_291 : decode cX1_applies 291 = .ok (.iconst 1, 1) := dk_4 (dk_at dksX1_applies_12 15 rfl rfl)
theorem dX1_applies_292 : decode cX1_applies 292 = .ok (.laload, 1) := dk_47 (dk_at dksX1_applies_12 16 rfl rfl)
theorem dX1_applies_293 : decode cX1_applies 293 = .ok (.invokevirtual 82, 3) := dk_182 0 82 (dk_at dksX1_applies_12 17 rfl rfl)
theorem dX1_applies_296 : decode cX1_applies 296 = .ok (.ireturn, 1) := dk_172 (dk_at dksX1_applies_12 20 rfl rfl)
theorem dX1_applies_297 : decode cX1_applies 297 = .ok (.aload_n 0, 1) := dk_42 (dk_at dksX1_applies_12 21 rfl rfl)
theorem dX1_applies_298 : decode cX1_applies 298 = .ok (.invokevirtual 86, 3) := dk_182 0 86 (dk_at dksX1_applies_13 0 rfl rfl)
theorem dX1_applies_301 : decode cX1_applies 301 = .ok (.lconst 0, 1) := dk_9 (dk_at dksX1_applies_13 3 rfl rfl)
theorem dX1_applies_302 : decode cX1_applies 302 = .ok (.lcmp, 1) := dk_148 (dk_at dksX1_applies_13 4 rfl rfl)
theorem dX1_applies_303 : decode cX1_applies 303 = .ok (.ifCond .lt 41, 3) := dk_155 0 41 (dk_at dksX1_applies_13 5 rfl rfl)
theorem dX1_applies_306 : decode cX1_applies 306 = .ok (.aload_n 0, 1) := dk_42 (dk_at dksX1_applies_13 8 rfl rfl)
theorem dX1_applies_307 : decode cX1_applies 307 = .ok (.invokevirtual 86, 3) := dk_182 0 86 (dk_at dksX1_applies_13 9 rfl rfl)
theorem dX1_applies_310 : decode cX1_applies 310 = .ok (.lconst 0, 1) := dk_9 (dk_at dksX1_applies_13 12 rfl rfl)
theorem dX1_applies_311 : decode cX1_applies 311 = .ok (.lcmp, 1) := dk_148 (dk_at dksX1_applies_13 13 rfl rfl)
theorem dX1_applies_312 : decode cX1_applies 312 = .ok (.ifCond .ne 36, 3) := dk_154 0 36 (dk_at dksX1_applies_13 14 rfl rfl)
theorem dX1_applies_315 : decode cX1_applies 315 = .ok (.ldc2_w 61, 3) := dk_20 0 61 (dk_at dksX1_applies_13 17 rfl rfl)
theorem dX1_applies_318 : decode cX1_applies 318 = .ok (.aload_n 0, 1) := dk_42 (dk_at dksX1_applies_13 20 rfl rfl)
theorem dX1_applies_319 : decode cX1_applies 319 = .ok (.getfield 9, 3) := dk_180 0 9 (dk_at dksX1_applies_13 21 rfl rfl)
theorem dX1_applies_322 : decode cX1_applies 322 = .ok (.iconst 0, 1) := dk_3 (dk_at dksX1_applies_14 0 rfl rfl)
theorem dX1_applies_323 : decode cX1_applies 323 = .ok (.laload, 1) := dk_47 (dk_at dksX1_applies_14 1 rfl rfl)
theorem dX1_applies_324 : decode cX1_applies 324 = .ok (.aload_n 0, 1) := dk_42 (dk_at dksX1_applies_14 2 rfl rfl)
theorem dX1_applies_325 : decode cX1_applies 325 = .ok (.getfield 15, 3) := dk_180 0 15 (dk_at dksX1_applies_14 3 rfl rfl)
theorem dX1_applies_328 : decode cX1_applies 328 = .ok (.iconst 1, 1) := dk_4 (dk_at dksX1_applies_14 6 rfl rfl)
theorem dX1_applies_329 : decode cX1_applies 329 = .ok (.laload, 1) := dk_47 (dk_at dksX1_applies_14 7 rfl rfl)
theorem dX1_applies_330 : decode cX1_applies 330 = .ok (.ladd, 1) := dk_97 (dk_at dksX1_applies_14 8 rfl rfl)
theorem dX1_applies_331 : decode cX1_applies 331 = .ok (.lmul, 1) := dk_105 (dk_at dksX1_applies_14 9 rfl rfl)
theorem dX1_applies_332 : decode cX1_applies 332 = .ok (.aload_n 0, 1) := dk_42 (dk_at dksX1_applies_14 10 rfl rfl)
theorem dX1_applies_333 : decode cX1_applies 333 = .ok (.getfield 15, 3) := dk_180 0 15 (dk_at dksX1_applies_14 11 rfl rfl)
theorem dX1_applies_336 : decode cX1_applies 336 = .ok (.iconst 2, 1) := dk_5 (dk_at dksX1_applies_14 14 rfl rfl)
theorem dX1_applies_337 : decode cX1_applies 337 = .ok (.laload, 1) := dk_47 (dk_at dksX1_applies_14 15 rfl rfl)
theorem dX1_applies_338 : decode cX1_applies 338 = .ok (.ladd, 1) := dk_97 (dk_at dksX1_applies_14 16 rfl rfl)
theorem dX1_applies_339 : decode cX1_applies 339 = .ok (.lconst 0, 1) := dk_9 (dk_at dksX1_applies_14 17 rfl rfl)
theorem dX1_applies_340 : decode cX1_applies 340 = .ok (.lcmp, 1) := dk_148 (dk_at dksX1_applies_14 18 rfl rfl)
theorem dX1_applies_341 : decode cX1_applies 341 = .ok (.ifCond .le 7, 3) := dk_158 0 7 (dk_at dksX1_applies_14 19 rfl rfl)
theorem dX1_applies_344 : decode cX1_applies 344 = .ok (.iconst 1, 1) := dk_4 (dk_at dksX1_applies_14 22 rfl rfl)
theorem dX1_applies_345 : decode cX1_applies 345 = .ok (.goto 4, 3) := dk_167 0 4 (dk_at dksX1_applies_15 0 rfl rfl)
theorem dX1_applies_348 : decode cX1_applies 348 = .ok (.iconst 0, 1) := dk_3 (dk_at dksX1_applies_15 3 rfl rfl)
theorem dX1_applies_349 : decode cX1_applies 349 = .ok (.ireturn, 1) := dk_172 (dk_at dksX1_applies_15 4 rfl rfl)
abbrev cX1_sign : ByteArray := prog_2_method_13_code
def yX1_sign : MethodName := ⟨RX1, "sign", "()J"⟩
def dkwX1_sign_1 : List UInt8 := [47, 184, 0, 63, 104, 133, 173]
abbrev dktX1_sign_1 : List UInt8 := dkwX1_sign_1 ++ []
def dkwX1_sign_0 : List UInt8 := [42, 180, 0, 15, 3, 47, 184, 0, 63, 42, 180, 0, 15, 4, 47, 184, 0, 63, 104, 42, 180, 0, 15, 5]
abbrev dktX1_sign_0 : List UInt8 := dkwX1_sign_0 ++ dktX1_sign_1
theorem dksX1_sign_0 : cX1_sign.data.toList.drop 0 = dktX1_sign_0 := by decide +kernel
theorem dksX1_sign_1 : cX1_sign.data.toList.drop 24 = dktX1_sign_1 := dk_seg dksX1_sign_0 24 rfl rfl
theorem dX1_sign_0 : decode cX1_sign 0 = .ok (.aload_n 0, 1) := dk_42 (dk_at dksX1_sign_0 0 rfl rfl)
theorem dX1_sign_1 : decode cX1_sign 1 = .ok (.getfield 15, 3) := dk_180 0 15 (dk_at dksX1_sign_0 1 rfl rfl)
theorem dX1_sign_4 : decode cX1_sign 4 = .ok (.iconst 0, 1) := dk_3 (dk_at dksX1_sign_0 4 rfl rfl)
theorem dX1_sign_5 : decode cX1_sign 5 = .ok (.laload, 1) := dk_47 (dk_at dksX1_sign_0 5 rfl rfl)
theorem dX1_sign_6 : decode cX1_sign 6 = .ok (.invokestatic 63, 3) := dk_184 0 63 (dk_at dksX1_sign_0 6 rfl rfl)
theorem dX1_sign_9 : decode cX1_sign 9 = .ok (.aload_n 0, 1) := dk_42 (dk_at dksX1_sign_0 9 rfl rfl)
theorem dX1_sign_10 : decode cX1_sign 10 = .ok (.getfield 15, 3) := dk_180 0 15 (dk_at dksX1_sign_0 10 rfl rfl)
theorem dX1_sign_13 : decode cX1_sign 13 = .ok (.iconst 1, 1) := dk_4 (dk_at dksX1_sign_0 13 rfl rfl)
theorem dX1_sign_14 : decode cX1_sign 14 = .ok (.laload, 1) := dk_47 (dk_at dksX1_sign_0 14 rfl rfl)
theorem dX1_sign_15 : decode cX1_sign 15 = .ok (.invokestatic 63, 3) := dk_184 0 63 (dk_at dksX1_sign_0 15 rfl rfl)
theorem dX1_sign_18 : decode cX1_sign 18 = .ok (.imul, 1) := dk_104 (dk_at dksX1_sign_0 18 rfl rfl)
theorem dX1_sign_19 : decode cX1_sign 19 = .ok (.aload_n 0, 1) := dk_42 (dk_at dksX1_sign_0 19 rfl rfl)
theorem dX1_sign_20 : decode cX1_sign 20 = .ok (.getfield 15, 3) := dk_180 0 15 (dk_at dksX1_sign_0 20 rfl rfl)
theorem dX1_sign_23 : decode cX1_sign 23 = .ok (.iconst 2, 1) := dk_5 (dk_at dksX1_sign_0 23 rfl rfl)
theorem dX1_sign_24 : decode cX1_sign 24 = .ok (.laload, 1) := dk_47 (dk_at dksX1_sign_1 0 rfl rfl)
theorem dX1_sign_25 : decode cX1_sign 25 = .ok (.invokestatic 63, 3) := dk_184 0 63 (dk_at dksX1_sign_1 1 rfl rfl)
theorem dX1_sign_28 : decode cX1_sign 28 = .ok (.imul, 1) := dk_104 (dk_at dksX1_sign_1 4 rfl rfl)
theorem dX1_sign_29 : decode cX1_sign 29 = .ok (.i2l, 1) := dk_133 (dk_at dksX1_sign_1 5 rfl rfl)
theorem dX1_sign_30 : decode cX1_sign 30 = .ok (.lreturn, 1) := dk_173 (dk_at dksX1_sign_1 6 rfl rfl)
abbrev cX1_areAbove : ByteArray := prog_2_method_14_code
def yX1_areAbove : MethodName := ⟨RX1, "areAbove", "(I)Z"⟩
def dkwX1_areAbove_1 : List UInt8 := [167, 0, 4, 3, 96, 61, 132, 3, 1, 167, 255, 229, 28, 27, 161, 0, 7, 4, 167, 0, 4, 3, 172]
abbrev dktX1_areAbove_1 : List UInt8 := dkwX1_areAbove_1 ++ []
def dkwX1_areAbove_0 : List UInt8 := [3, 61, 3, 62, 29, 6, 162, 0, 28, 28, 42, 180, 0, 15, 29, 47, 9, 148, 158, 0, 7, 4]
abbrev dktX1_areAbove_0 : List UInt8 := dkwX1_areAbove_0 ++ dktX1_areAbove_1
theorem dksX1_areAbove_0 : cX1_areAbove.data.toList.drop 0 = dktX1_areAbove_0 := by decide +kernel
theorem dksX1_areAbove_1 : cX1_areAbove.data.toList.drop 22 = dktX1_areAbove_1 := dk_seg dksX1_areAbove_0 22 rfl rfl
theorem dX1_areAbove_0 : decode cX1_areAbove 0 = .ok (.iconst 0, 1) := dk_3 (dk_at dksX1_areAbove_0 0 rfl rfl)
theorem dX1_areAbove_1 : decode cX1_areAbove 1 = .ok (.istore_n 2, 1) := dk_61 (dk_at dksX1_areAbove_0 1 rfl rfl)
theorem dX1_areAbove_2 : decode cX1_areAbove 2 = .ok (.iconst 0, 1) := dk_3 (dk_at dksX1_areAbove_0 2 rfl rfl)
theorem dX1_areAbove_3 : decode cX1_areAbove 3 = .ok (.istore_n 3, 1) := dk_62 (dk_at dksX1_areAbove_0 3 rfl rfl)
theorem dX1_areAbove_4 : decode cX1_areAbove 4 = .ok (.iload_n 3, 1) := dk_29 (dk_at dksX1_areAbove_0 4 rfl rfl)
theorem dX1_areAbove_5 : decode cX1_areAbove 5 = .ok (.iconst 3, 1) := dk_6 (dk_at dksX1_areAbove_0 5 rfl rfl)
theorem dX1_areAbove_6 : decode cX1_areAbove 6 = .ok (.if_icmp .ge 28, 3) := dk_162 0 28 (dk_at dksX1_areAbove_0 6 rfl rfl)
theorem dX1_areAbove_9 : decode cX1_areAbove 9 = .ok (.iload_n 2, 1) := dk_28 (dk_at dksX1_areAbove_0 9 rfl rfl)
theorem dX1_areAbove_10 : decode cX1_areAbove 10 = .ok (.aload_n 0, 1) := dk_42 (dk_at dksX1_areAbove_0 10 rfl rfl)
theorem dX1_areAbove_11 : decode cX1_areAbove 11 = .ok (.getfield 15, 3) := dk_180 0 15 (dk_at dksX1_areAbove_0 11 rfl rfl)
theorem dX1_areAbove_14 : decode cX1_areAbove 14 = .ok (.iload_n 3, 1) := dk_29 (dk_at dksX1_areAbove_0 14 rfl rfl)
theorem dX1_areAbove_15 : decode cX1_areAbove 15 = .ok (.laload, 1) := dk_47 (dk_at dksX1_areAbove_0 15 rfl rfl)
theorem dX1_areAbove_16 : decode cX1_areAbove 16 = .ok (.lconst 0, 1) := dk_9 (dk_at dksX1_areAbove_0 16 rfl rfl)
theorem dX1_areAbove_17 : decode cX1_areAbove 17 = .ok (.lcmp, 1) := dk_148 (dk_at dksX1_areAbove_0 17 rfl rfl)
theorem dX1_areAbove_18 : decode cX1_areAbove 18 = .ok (.ifCond .le 7, 3) := dk_158 0 7 (dk_at dksX1_areAbove_0 18 rfl rfl)
theorem dX1_areAbove_21 : decode cX1_areAbove 21 = .ok (.iconst 1, 1) := dk_4 (dk_at dksX1_areAbove_0 21 rfl rfl)
theorem dX1_areAbove_22 : decode cX1_areAbove 22 = .ok (.goto 4, 3) := dk_167 0 4 (dk_at dksX1_areAbove_1 0 rfl rfl)
theorem dX1_areAbove_25 : decode cX1_areAbove 25 = .ok (.iconst 0, 1) := dk_3 (dk_at dksX1_areAbove_1 3 rfl rfl)
theorem dX1_areAbove_26 : decode cX1_areAbove 26 = .ok (.iadd, 1) := dk_96 (dk_at dksX1_areAbove_1 4 rfl rfl)
theorem dX1_areAbove_27 : decode cX1_areAbove 27 = .ok (.istore_n 2, 1) := dk_61 (dk_at dksX1_areAbove_1 5 rfl rfl)
theorem dX1_areAbove_28 : decode cX1_areAbove 28 = .ok (.iinc 3 1, 3) := dk_132 3 1 (dk_at dksX1_areAbove_1 6 rfl rfl)
theorem dX1_areAbove_31 : decode cX1_areAbove 31 = .ok (.goto (-27), 3) := dk_167 255 229 (dk_at dksX1_areAbove_1 9 rfl rfl)
theorem dX1_areAbove_34 : decode cX1_areAbove 34 = .ok (.iload_n 2, 1) := dk_28 (dk_at dksX1_areAbove_1 12 rfl rfl)
theorem dX1_areAbove_35 : decode cX1_areAbove 35 = .ok (.iload_n 1, 1) := dk_27 (dk_at dksX1_areAbove_1 13 rfl rfl)
theorem dX1_areAbove_36 : decode cX1_areAbove 36 = .ok (.if_icmp .lt 7, 3) := dk_161 0 7 (dk_at dksX1_areAbove_1 14 rfl rfl)
theorem dX1_areAbove_39 : decode cX1_areAbove 39 = .ok (.iconst 1, 1) := dk_4 (dk_at dksX1_areAbove_1 17 rfl rfl)
theorem dX1_areAbove_40 : decode cX1_areAbove 40 = .ok (.goto 4, 3) := dk_167 0 4 (dk_at dksX1_areAbove_1 18 rfl rfl)
theorem dX1_areAbove_43 : decode cX1_areAbove 43 = .ok (.iconst 0, 1) := dk_3 (dk_at dksX1_areAbove_1 21 rfl rfl)
theorem dX1_areAbove_44 : decode cX1_areAbove 44 = .ok (.ireturn, 1) := dk_172 (dk_at dksX1_areAbove_1 22 rfl rfl)
abbrev cX1_isOver : ByteArray := prog_2_method_15_code
def yX1_isOver : MethodName := ⟨RX1, "isOver", "(JJJJ)Z"⟩
def dkwX1_isOver_1 : List UInt8 := [155, 0, 17, 31, 33, 117, 148, 154, 0, 14, 22, 7, 9, 148, 156, 0, 7, 4, 167, 0, 4, 3, 172]
abbrev dktX1_isOver_1 : List UInt8 := dkwX1_isOver_1 ++ []
def dkwX1_isOver_0 : List UInt8 := [31, 184, 0, 69, 33, 148, 157, 0, 35, 31, 33, 148, 154, 0, 15, 20, 0, 61, 22, 5, 105, 22, 7, 148]
abbrev dktX1_isOver_0 : List UInt8 := dkwX1_isOver_0 ++ dktX1_isOver_1
theorem dksX1_isOver_0 : cX1_isOver.data.toList.drop 0 = dktX1_isOver_0 := by decide +kernel
theorem dksX1_isOver_1 : cX1_isOver.data.toList.drop 24 = dktX1_isOver_1 := dk_seg dksX1_isOver_0 24 rfl rfl
theorem dX1_isOver_0 : decode cX1_isOver 0 = .ok (.lload_n 1, 1) := dk_31 (dk_at dksX1_isOver_0 0 rfl rfl)
theorem dX1_isOver_1 : decode cX1_isOver 1 = .ok (.invokestatic 69, 3) := dk_184 0 69 (dk_at dksX1_isOver_0 1 rfl rfl)
theorem dX1_isOver_4 : decode cX1_isOver 4 = .ok (.lload_n 3, 1) := dk_33 (dk_at dksX1_isOver_0 4 rfl rfl)
theorem dX1_isOver_5 : decode cX1_isOver 5 = .ok (.lcmp, 1) := dk_148 (dk_at dksX1_isOver_0 5 rfl rfl)
theorem dX1_isOver_6 : decode cX1_isOver 6 = .ok (.ifCond .gt 35, 3) := dk_157 0 35 (dk_at dksX1_isOver_0 6 rfl rfl)
theorem dX1_isOver_9 : decode cX1_isOver 9 = .ok (.lload_n 1, 1) := dk_31 (dk_at dksX1_isOver_0 9 rfl rfl)
theorem dX1_isOver_10 : decode cX1_isOver 10 = .ok (.lload_n 3, 1) := dk_33 (dk_at dksX1_isOver_0 10 rfl rfl)
theorem dX1_isOver_11 : decode cX1_isOver 11 = .ok (.lcmp, 1) := dk_148 (dk_at dksX1_isOver_0 11 rfl rfl)
theorem dX1_isOver_12 : decode cX1_isOver 12 = .ok (.ifCond .ne 15, 3) := dk_154 0 15 (dk_at dksX1_isOver_0 12 rfl rfl)
theorem dX1_isOver_15 : decode cX1_isOver 15 = .ok (.ldc2_w 61, 3) := dk_20 0 61 (dk_at dksX1_isOver_0 15 rfl rfl)
theorem dX1_isOver_18 : decode cX1_isOver 18 = .ok (.lload 5, 2) := dk_22 5 (dk_at dksX1_isOver_0 18 rfl rfl)
theorem dX1_isOver_20 : decode cX1_isOver 20 = .ok (.lmul, 1) := dk_105 (dk_at dksX1_isOver_0 20 rfl rfl)
theorem dX1_isOver_21 : decode cX1_isOver 21 = .ok (.lload 7, 2) := dk_22 7 (dk_at dksX1_isOver_0 21 rfl rfl)
theorem dX1_isOver_23 : decode cX1_isOver 23 = .ok (.lcmp, 1) := dk_148 (dk_at dksX1_isOver_0 23 rfl rfl)
theorem dX1_isOver_24 : decode cX1_isOver 24 = .ok (.ifCond .lt 17, 3) := dk_155 0 17 (dk_at dksX1_isOver_1 0 rfl rfl)
theorem dX1_isOver_27 : decode cX1_isOver 27 = .ok (.lload_n 1, 1) := dk_31 (dk_at dksX1_isOver_1 3 rfl rfl)
theorem dX1_isOver_28 : decode cX1_isOver 28 = .ok (.lload_n 3, 1) := dk_33 (dk_at dksX1_isOver_1 4 rfl rfl)
theorem dX1_isOver_29 : decode cX1_isOver 29 = .ok (.lneg, 1) := dk_117 (dk_at dksX1_isOver_1 5 rfl rfl)
theorem dX1_isOver_30 : decode cX1_isOver 30 = .ok (.lcmp, 1) := dk_148 (dk_at dksX1_isOver_1 6 rfl rfl)
theorem dX1_isOver_31 : decode cX1_isOver 31 = .ok (.ifCond .ne 14, 3) := dk_154 0 14 (dk_at dksX1_isOver_1 7 rfl rfl)
theorem dX1_isOver_34 : decode cX1_isOver 34 = .ok (.lload 7, 2) := dk_22 7 (dk_at dksX1_isOver_1 10 rfl rfl)
theorem dX1_isOver_36 : decode cX1_isOver 36 = .ok (.lconst 0, 1) := dk_9 (dk_at dksX1_isOver_1 12 rfl rfl)
theorem dX1_isOver_37 : decode cX1_isOver 37 = .ok (.lcmp, 1) := dk_148 (dk_at dksX1_isOver_1 13 rfl rfl)
theorem dX1_isOver_38 : decode cX1_isOver 38 = .ok (.ifCond .ge 7, 3) := dk_156 0 7 (dk_at dksX1_isOver_1 14 rfl rfl)
theorem dX1_isOver_41 : decode cX1_isOver 41 = .ok (.iconst 1, 1) := dk_4 (dk_at dksX1_isOver_1 17 rfl rfl)
theorem dX1_isOver_42 : decode cX1_isOver 42 = .ok (.goto 4, 3) := dk_167 0 4 (dk_at dksX1_isOver_1 18 rfl rfl)
theorem dX1_isOver_45 : decode cX1_isOver 45 = .ok (.iconst 0, 1) := dk_3 (dk_at dksX1_isOver_1 21 rfl rfl)
theorem dX1_isOver_46 : decode cX1_isOver 46 = .ok (.ireturn, 1) := dk_172 (dk_at dksX1_isOver_1 22 rfl rfl)
abbrev cX1_sum : ByteArray := prog_2_method_16_code
def yX1_sum : MethodName := ⟨RX1, "sum", "()J"⟩
def dkwX1_sum_1 : List UInt8 := [3, 47, 97, 42, 180, 0, 9, 4, 47, 97, 173]
abbrev dktX1_sum_1 : List UInt8 := dkwX1_sum_1 ++ []
def dkwX1_sum_0 : List UInt8 := [42, 180, 0, 15, 3, 47, 42, 180, 0, 15, 4, 47, 97, 42, 180, 0, 15, 5, 47, 97, 42, 180, 0, 9]
abbrev dktX1_sum_0 : List UInt8 := dkwX1_sum_0 ++ dktX1_sum_1
theorem dksX1_sum_0 : cX1_sum.data.toList.drop 0 = dktX1_sum_0 := by decide +kernel
theorem dksX1_sum_1 : cX1_sum.data.toList.drop 24 = dktX1_sum_1 := dk_seg dksX1_sum_0 24 rfl rfl
theorem dX1_sum_0 : decode cX1_sum 0 = .ok (.aload_n 0, 1) := dk_42 (dk_at dksX1_sum_0 0 rfl rfl)
theorem dX1_sum_1 : decode cX1_sum 1 = .ok (.getfield 15, 3) := dk_180 0 15 (dk_at dksX1_sum_0 1 rfl rfl)
theorem dX1_sum_4 : decode cX1_sum 4 = .ok (.iconst 0, 1) := dk_3 (dk_at dksX1_sum_0 4 rfl rfl)
theorem dX1_sum_5 : decode cX1_sum 5 = .ok (.laload, 1) := dk_47 (dk_at dksX1_sum_0 5 rfl rfl)
theorem dX1_sum_6 : decode cX1_sum 6 = .ok (.aload_n 0, 1) := dk_42 (dk_at dksX1_sum_0 6 rfl rfl)
theorem dX1_sum_7 : decode cX1_sum 7 = .ok (.getfield 15, 3) := dk_180 0 15 (dk_at dksX1_sum_0 7 rfl rfl)
theorem dX1_sum_10 : decode cX1_sum 10 = .ok (.iconst 1, 1) := dk_4 (dk_at dksX1_sum_0 10 rfl rfl)
theorem dX1_sum_11 : decode cX1_sum 11 = .ok (.laload, 1) := dk_47 (dk_at dksX1_sum_0 11 rfl rfl)
theorem dX1_sum_12 : decode cX1_sum 12 = .ok (.ladd, 1) := dk_97 (dk_at dksX1_sum_0 12 rfl rfl)
theorem dX1_sum_13 : decode cX1_sum 13 = .ok (.aload_n 0, 1) := dk_42 (dk_at dksX1_sum_0 13 rfl rfl)
theorem dX1_sum_14 : decode cX1_sum 14 = .ok (.getfield 15, 3) := dk_180 0 15 (dk_at dksX1_sum_0 14 rfl rfl)
theorem dX1_sum_17 : decode cX1_sum 17 = .ok (.iconst 2, 1) := dk_5 (dk_at dksX1_sum_0 17 rfl rfl)
theorem dX1_sum_18 : decode cX1_sum 18 = .ok (.laload, 1) := dk_47 (dk_at dksX1_sum_0 18 rfl rfl)
theorem dX1_sum_19 : decode cX1_sum 19 = .ok (.ladd, 1) := dk_97 (dk_at dksX1_sum_0 19 rfl rfl)
theorem dX1_sum_20 : decode cX1_sum 20 = .ok (.aload_n 0, 1) := dk_42 (dk_at dksX1_sum_0 20 rfl rfl)
theorem dX1_sum_21 : decode cX1_sum 21 = .ok (.getfield 9, 3) := dk_180 0 9 (dk_at dksX1_sum_0 21 rfl rfl)
theorem dX1_sum_24 : decode cX1_sum 24 = .ok (.iconst 0, 1) := dk_3 (dk_at dksX1_sum_1 0 rfl rfl)
theorem dX1_sum_25 : decode cX1_sum 25 = .ok (.laload, 1) := dk_47 (dk_at dksX1_sum_1 1 rfl rfl)
theorem dX1_sum_26 : decode cX1_sum 26 = .ok (.ladd, 1) := dk_97 (dk_at dksX1_sum_1 2 rfl rfl)
theorem dX1_sum_27 : decode cX1_sum 27 = .ok (.aload_n 0, 1) := dk_42 (dk_at dksX1_sum_1 3 rfl rfl)
theorem dX1_sum_28 : decode cX1_sum 28 = .ok (.getfield 9, 3) := dk_180 0 9 (dk_at dksX1_sum_1 4 rfl rfl)
theorem dX1_sum_31 : decode cX1_sum 31 = .ok (.iconst 1, 1) := dk_4 (dk_at dksX1_sum_1 7 rfl rfl)
theorem dX1_sum_32 : decode cX1_sum 32 = .ok (.laload, 1) := dk_47 (dk_at dksX1_sum_1 8 rfl rfl)
theorem dX1_sum_33 : decode cX1_sum 33 = .ok (.ladd, 1) := dk_97 (dk_at dksX1_sum_1 9 rfl rfl)
theorem dX1_sum_34 : decode cX1_sum 34 = .ok (.lreturn, 1) := dk_173 (dk_at dksX1_sum_1 10 rfl rfl)
abbrev cX1_steps : ByteArray := prog_2_method_22_code
def yX1_steps : MethodName := ⟨RX1, "steps", "()I"⟩
def dkwX1_steps_1 : List UInt8 := [132, 1, 1, 167, 255, 232, 3, 172]
abbrev dktX1_steps_1 : List UInt8 := dkwX1_steps_1 ++ []
def dkwX1_steps_0 : List UInt8 := [4, 60, 27, 16, 8, 163, 0, 24, 42, 27, 182, 0, 113, 153, 0, 10, 42, 27, 182, 0, 116, 27, 172]
abbrev dktX1_steps_0 : List UInt8 := dkwX1_steps_0 ++ dktX1_steps_1
theorem dksX1_steps_0 : cX1_steps.data.toList.drop 0 = dktX1_steps_0 := by decide +kernel
theorem dksX1_steps_1 : cX1_steps.data.toList.drop 23 = dktX1_steps_1 := dk_seg dksX1_steps_0 23 rfl rfl
theorem dX1_steps_0 : decode cX1_steps 0 = .ok (.iconst 1, 1) := dk_4 (dk_at dksX1_steps_0 0 rfl rfl)
theorem dX1_steps_1 : decode cX1_steps 1 = .ok (.istore_n 1, 1) := dk_60 (dk_at dksX1_steps_0 1 rfl rfl)
theorem dX1_steps_2 : decode cX1_steps 2 = .ok (.iload_n 1, 1) := dk_27 (dk_at dksX1_steps_0 2 rfl rfl)
theorem dX1_steps_3 : decode cX1_steps 3 = .ok (.bipush 8, 2) := dk_16 8 (dk_at dksX1_steps_0 3 rfl rfl)
theorem dX1_steps_5 : decode cX1_steps 5 = .ok (.if_icmp .gt 24, 3) := dk_163 0 24 (dk_at dksX1_steps_0 5 rfl rfl)
theorem dX1_steps_8 : decode cX1_steps 8 = .ok (.aload_n 0, 1) := dk_42 (dk_at dksX1_steps_0 8 rfl rfl)
theorem dX1_steps_9 : decode cX1_steps 9 = .ok (.iload_n 1, 1) := dk_27 (dk_at dksX1_steps_0 9 rfl rfl)
theorem dX1_steps_10 : decode cX1_steps 10 = .ok (.invokevirtual 113, 3) := dk_182 0 113 (dk_at dksX1_steps_0 10 rfl rfl)
theorem dX1_steps_13 : decode cX1_steps 13 = .ok (.ifCond .eq 10, 3) := dk_153 0 10 (dk_at dksX1_steps_0 13 rfl rfl)
theorem dX1_steps_16 : decode cX1_steps 16 = .ok (.aload_n 0, 1) := dk_42 (dk_at dksX1_steps_0 16 rfl rfl)
theorem dX1_steps_17 : decode cX1_steps 17 = .ok (.iload_n 1, 1) := dk_27 (dk_at dksX1_steps_0 17 rfl rfl)
theorem dX1_steps_18 : decode cX1_steps 18 = .ok (.invokevirtual 116, 3) := dk_182 0 116 (dk_at dksX1_steps_0 18 rfl rfl)
theorem dX1_steps_21 : decode cX1_steps 21 = .ok (.iload_n 1, 1) := dk_27 (dk_at dksX1_steps_0 21 rfl rfl)
theorem dX1_steps_22 : decode cX1_steps 22 = .ok (.ireturn, 1) := dk_172 (dk_at dksX1_steps_0 22 rfl rfl)
theorem dX1_steps_23 : decode cX1_steps 23 = .ok (.iinc 1 1, 3) := dk_132 1 1 (dk_at dksX1_steps_1 0 rfl rfl)
theorem dX1_steps_26 : decode cX1_steps 26 = .ok (.goto (-24), 3) := dk_167 255 232 (dk_at dksX1_steps_1 3 rfl rfl)
theorem dX1_steps_29 : decode cX1_steps 29 = .ok (.iconst 0, 1) := dk_3 (dk_at dksX1_steps_1 6 rfl rfl)
theorem dX1_steps_30 : decode cX1_steps 30 = .ok (.ireturn, 1) := dk_172 (dk_at dksX1_steps_1 7 rfl rfl)
abbrev cX1_goes : ByteArray := prog_2_method_20_code
def yX1_goes : MethodName := ⟨RX1, "goes", "(I)V"⟩
def dkwX1_goes_6 : List UInt8 := [167, 0, 17, 42, 5, 3, 10, 182, 0, 109, 42, 5, 4, 10, 182, 0, 109, 177]
abbrev dktX1_goes_6 : List UInt8 := dkwX1_goes_6 ++ []
def dkwX1_goes_5 : List UInt8 := [184, 0, 106, 182, 0, 109, 167, 0, 35, 42, 4, 3, 42, 180, 0, 15, 5, 47, 184, 0, 106, 182, 0, 109]
abbrev dktX1_goes_5 : List UInt8 := dkwX1_goes_5 ++ dktX1_goes_6
def dkwX1_goes_4 : List UInt8 := [180, 0, 15, 3, 47, 184, 0, 106, 182, 0, 109, 167, 0, 53, 42, 5, 3, 42, 180, 0, 15, 4, 47]
abbrev dktX1_goes_4 : List UInt8 := dkwX1_goes_4 ++ dktX1_goes_5
def dkwX1_goes_3 : List UInt8 := [167, 0, 87, 42, 3, 182, 0, 102, 167, 0, 79, 42, 4, 182, 0, 102, 167, 0, 71, 42, 5, 4, 42]
abbrev dktX1_goes_3 : List UInt8 := dkwX1_goes_3 ++ dktX1_goes_4
def dkwX1_goes_2 : List UInt8 := [42, 3, 4, 182, 0, 95, 42, 182, 0, 99, 167, 0, 100, 42, 4, 5, 182, 0, 95, 42, 182, 0, 99]
abbrev dktX1_goes_2 : List UInt8 := dkwX1_goes_2 ++ dktX1_goes_3
def dkwX1_goes_1 : List UInt8 := [170, 0, 0, 0, 0, 0, 139, 0, 0, 0, 1, 0, 0, 0, 7, 0, 0, 0, 43, 0, 0, 0, 56, 0, 0, 0, 69, 0, 0, 0, 77, 0, 0, 0, 85, 0, 0, 0, 103, 0, 0, 0, 121]
abbrev dktX1_goes_1 : List UInt8 := dkwX1_goes_1 ++ dktX1_goes_2
def dkwX1_goes_0 : List UInt8 := [27]
abbrev dktX1_goes_0 : List UInt8 := dkwX1_goes_0 ++ dktX1_goes_1
theorem dksX1_goes_0 : cX1_goes.data.toList.drop 0 = dktX1_goes_0 := by decide +kernel
theorem dksX1_goes_1 : cX1_goes.data.toList.drop 1 = dktX1_goes_1 := dk_seg dksX1_goes_0 1 rfl rfl
theorem dksX1_goes_2 : cX1_goes.data.toList.drop 44 = dktX1_goes_2 := dk_seg dksX1_goes_1 43 rfl rfl
theorem dksX1_goes_3 : cX1_goes.data.toList.drop 67 = dktX1_goes_3 := dk_seg dksX1_goes_2 23 rfl rfl
theorem dksX1_goes_4 : cX1_goes.data.toList.drop 90 = dktX1_goes_4 := dk_seg dksX1_goes_3 23 rfl rfl
theorem dksX1_goes_5 : cX1_goes.data.toList.drop 113 = dktX1_goes_5 := dk_seg dksX1_goes_4 23 rfl rfl
theorem dksX1_goes_6 : cX1_goes.data.toList.drop 137 = dktX1_goes_6 := dk_seg dksX1_goes_5 24 rfl rfl
theorem dX1_goes_0 : decode cX1_goes 0 = .ok (.iload_n 1, 1) := dk_27 (dk_at dksX1_goes_0 0 rfl rfl)
theorem dX1_goes_1 : decode cX1_goes 1 = .ok (.tableswitch 139 1 7 #[43, 56, 69, 77, 85, 103, 121], 43) := by decide +kernel
theorem dX1_goes_44 : decode cX1_goes 44 = .ok (.aload_n 0, 1) := dk_42 (dk_at dksX1_goes_2 0 rfl rfl)
theorem dX1_goes_45 : decode cX1_goes 45 = .ok (.iconst 0, 1) := dk_3 (dk_at dksX1_goes_2 1 rfl rfl)
theorem dX1_goes_46 : decode cX1_goes 46 = .ok (.iconst 1, 1) := dk_4 (dk_at dksX1_goes_2 2 rfl rfl)
theorem dX1_goes_47 : decode cX1_goes 47 = .ok (.invokevirtual 95, 3) := dk_182 0 95 (dk_at dksX1_goes_2 3 rfl rfl)
theorem dX1_goes_50 : decode cX1_goes 50 = .ok (.aload_n 0, 1) := dk_42 (dk_at dksX1_goes_2 6 rfl rfl)
theorem dX1_goes_51 : decode cX1_goes 51 = .ok (.invokevirtual 99, 3) := dk_182 0 99 (dk_at dksX1_goes_2 7 rfl rfl)
theorem dX1_goes_54 : decode cX1_goes 54 = .ok (.goto 100, 3) := dk_167 0 100 (dk_at dksX1_goes_2 10 rfl rfl)
theorem dX1_goes_57 : decode cX1_goes 57 = .ok (.aload_n 0, 1) := dk_42 (dk_at dksX1_goes_2 13 rfl rfl)
theorem dX1_goes_58 : decode cX1_goes 58 = .ok (.iconst 1, 1) := dk_4 (dk_at dksX1_goes_2 14 rfl rfl)
theorem dX1_goes_59 : decode cX1_goes 59 = .ok (.iconst 2, 1) := dk_5 (dk_at dksX1_goes_2 15 rfl rfl)
theorem dX1_goes_60 : decode cX1_goes 60 = .ok (.invokevirtual 95, 3) := dk_182 0 95 (dk_at dksX1_goes_2 16 rfl rfl)
theorem dX1_goes_63 : decode cX1_goes 63 = .ok (.aload_n 0, 1) := dk_42 (dk_at dksX1_goes_2 19 rfl rfl)
theorem dX1_goes_64 : decode cX1_goes 64 = .ok (.invokevirtual 99, 3) := dk_182 0 99 (dk_at dksX1_goes_2 20 rfl rfl)
theorem dX1_goes_67 : decode cX1_goes 67 = .ok (.goto 87, 3) := dk_167 0 87 (dk_at dksX1_goes_3 0 rfl rfl)
theorem dX1_goes_70 : decode cX1_goes 70 = .ok (.aload_n 0, 1) := dk_42 (dk_at dksX1_goes_3 3 rfl rfl)
theorem dX1_goes_71 : decode cX1_goes 71 = .ok (.iconst 0, 1) := dk_3 (dk_at dksX1_goes_3 4 rfl rfl)
theorem dX1_goes_72 : decode cX1_goes 72 = .ok (.invokevirtual 102, 3) := dk_182 0 102 (dk_at dksX1_goes_3 5 rfl rfl)
theorem dX1_goes_75 : decode cX1_goes 75 = .ok (.goto 79, 3) := dk_167 0 79 (dk_at dksX1_goes_3 8 rfl rfl)
theorem dX1_goes_78 : decode cX1_goes 78 = .ok (.aload_n 0, 1) := dk_42 (dk_at dksX1_goes_3 11 rfl rfl)
theorem dX1_goes_79 : decode cX1_goes 79 = .ok (.iconst 1, 1) := dk_4 (dk_at dksX1_goes_3 12 rfl rfl)
theorem dX1_goes_80 : decode cX1_goes 80 = .ok (.invokevirtual 102, 3) := dk_182 0 102 (dk_at dksX1_goes_3 13 rfl rfl)
theorem dX1_goes_83 : decode cX1_goes 83 = .ok (.goto 71, 3) := dk_167 0 71 (dk_at dksX1_goes_3 16 rfl rfl)
theorem dX1_goes_86 : decode cX1_goes 86 = .ok (.aload_n 0, 1) := dk_42 (dk_at dksX1_goes_3 19 rfl rfl)
theorem dX1_goes_87 : decode cX1_goes 87 = .ok (.iconst 2, 1) := dk_5 (dk_at dksX1_goes_3 20 rfl rfl)
theorem dX1_goes_88 : decode cX1_goes 88 = .ok (.iconst 1, 1) := dk_4 (dk_at dksX1_goes_3 21 rfl rfl)
theorem dX1_goes_89 : decode cX1_goes 89 = .ok (.aload_n 0, 1) := dk_42 (dk_at dksX1_goes_3 22 rfl rfl)
theorem dX1_goes_90 : decode cX1_goes 90 = .ok (.getfield 15, 3) := dk_180 0 15 (dk_at dksX1_goes_4 0 rfl rfl)
theorem dX1_goes_93 : decode cX1_goes 93 = .ok (.iconst 0, 1) := dk_3 (dk_at dksX1_goes_4 3 rfl rfl)
theorem dX1_goes_94 : decode cX1_goes 94 = .ok (.laload, 1) := dk_47 (dk_at dksX1_goes_4 4 rfl rfl)
theorem dX1_goes_95 : decode cX1_goes 95 = .ok (.invokestatic 106, 3) := dk_184 0 106 (dk_at dksX1_goes_4 5 rfl rfl)
theorem dX1_goes_98 : decode cX1_goes 98 = .ok (.invokevirtual 109, 3) := dk_182 0 109 (dk_at dksX1_goes_4 8 rfl rfl)
theorem dX1_goes_101 : decode cX1_goes 101 = .ok (.goto 53, 3) := dk_167 0 53 (dk_at dksX1_goes_4 11 rfl rfl)
theorem dX1_goes_104 : decode cX1_goes 104 = .ok (.aload_n 0, 1) := dk_42 (dk_at dksX1_goes_4 14 rfl rfl)
theorem dX1_goes_105 : decode cX1_goes 105 = .ok (.iconst 2, 1) := dk_5 (dk_at dksX1_goes_4 15 rfl rfl)
theorem dX1_goes_106 : decode cX1_goes 106 = .ok (.iconst 0, 1) := dk_3 (dk_at dksX1_goes_4 16 rfl rfl)
theorem dX1_goes_107 : decode cX1_goes 107 = .ok (.aload_n 0, 1) := dk_42 (dk_at dksX1_goes_4 17 rfl rfl)
theorem dX1_goes_108 : decode cX1_goes 108 = .ok (.getfield 15, 3) := dk_180 0 15 (dk_at dksX1_goes_4 18 rfl rfl)
theorem dX1_goes_111 : decode cX1_goes 111 = .ok (.iconst 1, 1) := dk_4 (dk_at dksX1_goes_4 21 rfl rfl)
theorem dX1_goes_112 : decode cX1_goes 112 = .ok (.laload, 1) := dk_47 (dk_at dksX1_goes_4 22 rfl rfl)
theorem dX1_goes_113 : decode cX1_goes 113 = .ok (.invokestatic 106, 3) := dk_184 0 106 (dk_at dksX1_goes_5 0 rfl rfl)
theorem dX1_goes_116 : decode cX1_goes 116 = .ok (.invokevirtual 109, 3) := dk_182 0 109 (dk_at dksX1_goes_5 3 rfl rfl)
theorem dX1_goes_119 : decode cX1_goes 119 = .ok (.goto 35, 3) := dk_167 0 35 (dk_at dksX1_goes_5 6 rfl rfl)
theorem dX1_goes_122 : decode cX1_goes 122 = .ok (.aload_n 0, 1) := dk_42 (dk_at dksX1_goes_5 9 rfl rfl)
theorem dX1_goes_123 : decode cX1_goes 123 = .ok (.iconst 1, 1) := dk_4 (dk_at dksX1_goes_5 10 rfl rfl)
theorem dX1_goes_124 : decode cX1_goes 124 = .ok (.iconst 0, 1) := dk_3 (dk_at dksX1_goes_5 11 rfl rfl)
theorem dX1_goes_125 : decode cX1_goes 125 = .ok (.aload_n 0, 1) := dk_42 (dk_at dksX1_goes_5 12 rfl rfl)
theorem dX1_goes_126 : decode cX1_goes 126 = .ok (.getfield 15, 3) := dk_180 0 15 (dk_at dksX1_goes_5 13 rfl rfl)
theorem dX1_goes_129 : decode cX1_goes 129 = .ok (.iconst 2, 1) := dk_5 (dk_at dksX1_goes_5 16 rfl rfl)
theorem dX1_goes_130 : decode cX1_goes 130 = .ok (.laload, 1) := dk_47 (dk_at dksX1_goes_5 17 rfl rfl)
theorem dX1_goes_131 : decode cX1_goes 131 = .ok (.invokestatic 106, 3) := dk_184 0 106 (dk_at dksX1_goes_5 18 rfl rfl)
theorem dX1_goes_134 : decode cX1_goes 134 = .ok (.invokevirtual 109, 3) := dk_182 0 109 (dk_at dksX1_goes_5 21 rfl rfl)
theorem dX1_goes_137 : decode cX1_goes 137 = .ok (.goto 17, 3) := dk_167 0 17 (dk_at dksX1_goes_6 0 rfl rfl)
theorem dX1_goes_140 : decode cX1_goes 140 = .ok (.aload_n 0, 1) := dk_42 (dk_at dksX1_goes_6 3 rfl rfl)
theorem dX1_goes_141 : decode cX1_goes 141 = .ok (.iconst 2, 1) := dk_5 (dk_at dksX1_goes_6 4 rfl rfl)
theorem dX1_goes_142 : decode cX1_goes 142 = .ok (.iconst 0, 1) := dk_3 (dk_at dksX1_goes_6 5 rfl rfl)
theorem dX1_goes_143 : decode cX1_goes 143 = .ok (.lconst 1, 1) := dk_10 (dk_at dksX1_goes_6 6 rfl rfl)
theorem dX1_goes_144 : decode cX1_goes 144 = .ok (.invokevirtual 109, 3) := dk_182 0 109 (dk_at dksX1_goes_6 7 rfl rfl)
theorem dX1_goes_147 : decode cX1_goes 147 = .ok (.aload_n 0, 1) := dk_42 (dk_at dksX1_goes_6 10 rfl rfl)
theorem dX1_goes_148 : decode cX1_goes 148 = .ok (.iconst 2, 1) := dk_5 (dk_at dksX1_goes_6 11 rfl rfl)
theorem dX1_goes_149 : decode cX1_goes 149 = .ok (.iconst 1, 1) := dk_4 (dk_at dksX1_goes_6 12 rfl rfl)
theorem dX1_goes_150 : decode cX1_goes 150 = .ok (.lconst 1, 1) := dk_10 (dk_at dksX1_goes_6 13 rfl rfl)
theorem dX1_goes_151 : decode cX1_goes 151 = .ok (.invokevirtual 109, 3) := dk_182 0 109 (dk_at dksX1_goes_6 14 rfl rfl)
theorem dX1_goes_154 : decode cX1_goes 154 = .ok (.return_, 1) := dk_177 (dk_at dksX1_goes_6 17 rfl rfl)
abbrev cX1_turnsAll : ByteArray := prog_2_method_21_code
def yX1_turnsAll : MethodName := ⟨RX1, "turnsAll", "()V"⟩
def dkwX1_turnsAll_0 : List UInt8 := [42, 3, 182, 0, 89, 42, 4, 182, 0, 89, 42, 5, 182, 0, 89, 177]
abbrev dktX1_turnsAll_0 : List UInt8 := dkwX1_turnsAll_0 ++ []
theorem dksX1_turnsAll_0 : cX1_turnsAll.data.toList.drop 0 = dktX1_turnsAll_0 := by decide +kernel
theorem dX1_turnsAll_0 : decode cX1_turnsAll 0 = .ok (.aload_n 0, 1) := dk_42 (dk_at dksX1_turnsAll_0 0 rfl rfl)
theorem dX1_turnsAll_1 : decode cX1_turnsAll 1 = .ok (.iconst 0, 1) := dk_3 (dk_at dksX1_turnsAll_0 1 rfl rfl)
theorem dX1_turnsAll_2 : decode cX1_turnsAll 2 = .ok (.invokevirtual 89, 3) := dk_182 0 89 (dk_at dksX1_turnsAll_0 2 rfl rfl)
theorem dX1_turnsAll_5 : decode cX1_turnsAll 5 = .ok (.aload_n 0, 1) := dk_42 (dk_at dksX1_turnsAll_0 5 rfl rfl)
theorem dX1_turnsAll_6 : decode cX1_turnsAll 6 = .ok (.iconst 1, 1) := dk_4 (dk_at dksX1_turnsAll_0 6 rfl rfl)
theorem dX1_turnsAll_7 : decode cX1_turnsAll 7 = .ok (.invokevirtual 89, 3) := dk_182 0 89 (dk_at dksX1_turnsAll_0 7 rfl rfl)
theorem dX1_turnsAll_10 : decode cX1_turnsAll 10 = .ok (.aload_n 0, 1) := dk_42 (dk_at dksX1_turnsAll_0 10 rfl rfl)
theorem dX1_turnsAll_11 : decode cX1_turnsAll 11 = .ok (.iconst 2, 1) := dk_5 (dk_at dksX1_turnsAll_0 11 rfl rfl)
theorem dX1_turnsAll_12 : decode cX1_turnsAll 12 = .ok (.invokevirtual 89, 3) := dk_182 0 89 (dk_at dksX1_turnsAll_0 12 rfl rfl)
theorem dX1_turnsAll_15 : decode cX1_turnsAll 15 = .ok (.return_, 1) := dk_177 (dk_at dksX1_turnsAll_0 15 rfl rfl)
abbrev cX1_turnsBy : ByteArray := prog_2_method_18_code
def yX1_turnsBy : MethodName := ⟨RX1, "turnsBy", "(Z)V"⟩
def dkwX1_turnsBy_6 : List UInt8 := [132, 4, 1, 167, 255, 231, 177]
abbrev dktX1_turnsBy_6 : List UInt8 := dkwX1_turnsBy_6 ++ []
def dkwX1_turnsBy_5 : List UInt8 := [54, 4, 21, 4, 6, 162, 0, 25, 42, 180, 0, 23, 21, 4, 51, 153, 0, 9, 42, 21, 4, 182, 0, 89]
abbrev dktX1_turnsBy_5 : List UInt8 := dkwX1_turnsBy_5 ++ dktX1_turnsBy_6
def dkwX1_turnsBy_4 : List UInt8 := [167, 0, 4, 29, 62, 132, 4, 1, 167, 255, 162, 28, 4, 160, 0, 10, 42, 180, 0, 23, 29, 4, 84, 3]
abbrev dktX1_turnsBy_4 : List UInt8 := dkwX1_turnsBy_4 ++ dktX1_turnsBy_5
def dkwX1_turnsBy_3 : List UInt8 := [153, 0, 7, 4, 167, 0, 4, 3, 96, 61, 42, 180, 0, 15, 21, 4, 47, 9, 148, 154, 0, 8, 21, 4]
abbrev dktX1_turnsBy_3 : List UInt8 := dkwX1_turnsBy_3 ++ dktX1_turnsBy_4
def dkwX1_turnsBy_2 : List UInt8 := [21, 4, 47, 9, 148, 156, 0, 7, 4, 167, 0, 4, 3, 84, 28, 42, 180, 0, 23, 21, 4, 51]
abbrev dktX1_turnsBy_2 : List UInt8 := dkwX1_turnsBy_2 ++ dktX1_turnsBy_3
def dkwX1_turnsBy_1 : List UInt8 := [180, 0, 15, 21, 4, 47, 9, 148, 158, 0, 7, 4, 167, 0, 24, 3, 167, 0, 20, 42, 180, 0, 15]
abbrev dktX1_turnsBy_1 : List UInt8 := dkwX1_turnsBy_1 ++ dktX1_turnsBy_2
def dkwX1_turnsBy_0 : List UInt8 := [3, 61, 2, 62, 3, 54, 4, 21, 4, 6, 162, 0, 94, 42, 180, 0, 23, 21, 4, 27, 153, 0, 23, 42]
abbrev dktX1_turnsBy_0 : List UInt8 := dkwX1_turnsBy_0 ++ dktX1_turnsBy_1
theorem dksX1_turnsBy_0 : cX1_turnsBy.data.toList.drop 0 = dktX1_turnsBy_0 := by decide +kernel
theorem dksX1_turnsBy_1 : cX1_turnsBy.data.toList.drop 24 = dktX1_turnsBy_1 := dk_seg dksX1_turnsBy_0 24 rfl rfl
theorem dksX1_turnsBy_2 : cX1_turnsBy.data.toList.drop 47 = dktX1_turnsBy_2 := dk_seg dksX1_turnsBy_1 23 rfl rfl
theorem dksX1_turnsBy_3 : cX1_turnsBy.data.toList.drop 69 = dktX1_turnsBy_3 := dk_seg dksX1_turnsBy_2 22 rfl rfl
theorem dksX1_turnsBy_4 : cX1_turnsBy.data.toList.drop 93 = dktX1_turnsBy_4 := dk_seg dksX1_turnsBy_3 24 rfl rfl
theorem dksX1_turnsBy_5 : cX1_turnsBy.data.toList.drop 117 = dktX1_turnsBy_5 := dk_seg dksX1_turnsBy_4 24 rfl rfl
theorem dksX1_turnsBy_6 : cX1_turnsBy.data.toList.drop 141 = dktX1_turnsBy_6 := dk_seg dksX1_turnsBy_5 24 rfl rfl
theorem dX1_turnsBy_0 : decode cX1_turnsBy 0 = .ok (.iconst 0, 1) := dk_3 (dk_at dksX1_turnsBy_0 0 rfl rfl)
theorem dX1_turnsBy_1 : decode cX1_turnsBy 1 = .ok (.istore_n 2, 1) := dk_61 (dk_at dksX1_turnsBy_0 1 rfl rfl)
theorem dX1_turnsBy_2 : decode cX1_turnsBy 2 = .ok (.iconst (-1), 1) := dk_2 (dk_at dksX1_turnsBy_0 2 rfl rfl)
theorem dX1_turnsBy_3 : decode cX1_turnsBy 3 = .ok (.istore_n 3, 1) := dk_62 (dk_at dksX1_turnsBy_0 3 rfl rfl)
theorem dX1_turnsBy_4 : decode cX1_turnsBy 4 = .ok (.iconst 0, 1) := dk_3 (dk_at dksX1_turnsBy_0 4 rfl rfl)
theorem dX1_turnsBy_5 : decode cX1_turnsBy 5 = .ok (.istore 4, 2) := dk_54 4 (dk_at dksX1_turnsBy_0 5 rfl rfl)
theorem dX1_turnsBy_7 : decode cX1_turnsBy 7 = .ok (.iload 4, 2) := dk_21 4 (dk_at dksX1_turnsBy_0 7 rfl rfl)
theorem dX1_turnsBy_9 : decode cX1_turnsBy 9 = .ok (.iconst 3, 1) := dk_6 (dk_at dksX1_turnsBy_0 9 rfl rfl)
theorem dX1_turnsBy_10 : decode cX1_turnsBy 10 = .ok (.if_icmp .ge 94, 3) := dk_162 0 94 (dk_at dksX1_turnsBy_0 10 rfl rfl)
theorem dX1_turnsBy_13 : decode cX1_turnsBy 13 = .ok (.aload_n 0, 1) := dk_42 (dk_at dksX1_turnsBy_0 13 rfl rfl)
theorem dX1_turnsBy_14 : decode cX1_turnsBy 14 = .ok (.getfield 23, 3) := dk_180 0 23 (dk_at dksX1_turnsBy_0 14 rfl rfl)
theorem dX1_turnsBy_17 : decode cX1_turnsBy 17 = .ok (.iload 4, 2) := dk_21 4 (dk_at dksX1_turnsBy_0 17 rfl rfl)
theorem dX1_turnsBy_19 : decode cX1_turnsBy 19 = .ok (.iload_n 1, 1) := dk_27 (dk_at dksX1_turnsBy_0 19 rfl rfl)
theorem dX1_turnsBy_20 : decode cX1_turnsBy 20 = .ok (.ifCond .eq 23, 3) := dk_153 0 23 (dk_at dksX1_turnsBy_0 20 rfl rfl)
theorem dX1_turnsBy_23 : decode cX1_turnsBy 23 = .ok (.aload_n 0, 1) := dk_42 (dk_at dksX1_turnsBy_0 23 rfl rfl)
theorem dX1_turnsBy_24 : decode cX1_turnsBy 24 = .ok (.getfield 15, 3) := dk_180 0 15 (dk_at dksX1_turnsBy_1 0 rfl rfl)
theorem dX1_turnsBy_27 : decode cX1_turnsBy 27 = .ok (.iload 4, 2) := dk_21 4 (dk_at dksX1_turnsBy_1 3 rfl rfl)
theorem dX1_turnsBy_29 : decode cX1_turnsBy 29 = .ok (.laload, 1) := dk_47 (dk_at dksX1_turnsBy_1 5 rfl rfl)
theorem dX1_turnsBy_30 : decode cX1_turnsBy 30 = .ok (.lconst 0, 1) := dk_9 (dk_at dksX1_turnsBy_1 6 rfl rfl)
theorem dX1_turnsBy_31 : decode cX1_turnsBy 31 = .ok (.lcmp, 1) := dk_148 (dk_at dksX1_turnsBy_1 7 rfl rfl)
theorem dX1_turnsBy_32 : decode cX1_turnsBy 32 = .ok (.ifCond .le 7, 3) := dk_158 0 7 (dk_at dksX1_turnsBy_1 8 rfl rfl)
theorem dX1_turnsBy_35 : decode cX1_turnsBy 35 = .ok (.iconst 1, 1) := dk_4 (dk_at dksX1_turnsBy_1 11 rfl rfl)
theorem dX1_turnsBy_36 : decode cX1_turnsBy 36 = .ok (.goto 24, 3) := dk_167 0 24 (dk_at dksX1_turnsBy_1 12 rfl rfl)
theorem dX1_turnsBy_39 : decode cX1_turnsBy 39 = .ok (.iconst 0, 1) := dk_3 (dk_at dksX1_turnsBy_1 15 rfl rfl)
theorem dX1_turnsBy_40 : decode cX1_turnsBy 40 = .ok (.goto 20, 3) := dk_167 0 20 (dk_at dksX1_turnsBy_1 16 rfl rfl)
theorem dX1_turnsBy_43 : decode cX1_turnsBy 43 = .ok (.aload_n 0, 1) := dk_42 (dk_at dksX1_turnsBy_1 19 rfl rfl)
theorem dX1_turnsBy_44 : decode cX1_turnsBy 44 = .ok (.getfield 15, 3) := dk_180 0 15 (dk_at dksX1_turnsBy_1 20 rfl rfl)
theorem dX1_turnsBy_47 : decode cX1_turnsBy 47 = .ok (.iload 4, 2) := dk_21 4 (dk_at dksX1_turnsBy_2 0 rfl rfl)
theorem dX1_turnsBy_49 : decode cX1_turnsBy 49 = .ok (.laload, 1) := dk_47 (dk_at dksX1_turnsBy_2 2 rfl rfl)
theorem dX1_turnsBy_50 : decode cX1_turnsBy 50 = .ok (.lconst 0, 1) := dk_9 (dk_at dksX1_turnsBy_2 3 rfl rfl)
theorem dX1_turnsBy_51 : decode cX1_turnsBy 51 = .ok (.lcmp, 1) := dk_148 (dk_at dksX1_turnsBy_2 4 rfl rfl)
theorem dX1_turnsBy_52 : decode cX1_turnsBy 52 = .ok (.ifCond .ge 7, 3) := dk_156 0 7 (dk_at dksX1_turnsBy_2 5 rfl rfl)
theorem dX1_turnsBy_55 : decode cX1_turnsBy 55 = .ok (.iconst 1, 1) := dk_4 (dk_at dksX1_turnsBy_2 8 rfl rfl)
theorem dX1_turnsBy_56 : decode cX1_turnsBy 56 = .ok (.goto 4, 3) := dk_167 0 4 (dk_at dksX1_turnsBy_2 9 rfl rfl)
theorem dX1_turnsBy_59 : decode cX1_turnsBy 59 = .ok (.iconst 0, 1) := dk_3 (dk_at dksX1_turnsBy_2 12 rfl rfl)
theorem dX1_turnsBy_60 : decode cX1_turnsBy 60 = .ok (.bastore, 1) := dk_84 (dk_at dksX1_turnsBy_2 13 rfl rfl)
theorem dX1_turnsBy_61 : decode cX1_turnsBy 61 = .ok (.iload_n 2, 1) := dk_28 (dk_at dksX1_turnsBy_2 14 rfl rfl)
theorem dX1_turnsBy_62 : decode cX1_turnsBy 62 = .ok (.aload_n 0, 1) := dk_42 (dk_at dksX1_turnsBy_2 15 rfl rfl)
theorem dX1_turnsBy_63 : decode cX1_turnsBy 63 = .ok (.getfield 23, 3) := dk_180 0 23 (dk_at dksX1_turnsBy_2 16 rfl rfl)
theorem dX1_turnsBy_66 : decode cX1_turnsBy 66 = .ok (.iload 4, 2) := dk_21 4 (dk_at dksX1_turnsBy_2 19 rfl rfl)
theorem dX1_turnsBy_68 : decode cX1_turnsBy 68 = .ok (.baload, 1) := dk_51 (dk_at dksX1_turnsBy_2 21 rfl rfl)
theorem dX1_turnsBy_69 : decode cX1_turnsBy 69 = .ok (.ifCond .eq 7, 3) := dk_153 0 7 (dk_at dksX1_turnsBy_3 0 rfl rfl)
theorem dX1_turnsBy_72 : decode cX1_turnsBy 72 = .ok (.iconst 1, 1) := dk_4 (dk_at dksX1_turnsBy_3 3 rfl rfl)
theorem dX1_turnsBy_73 : decode cX1_turnsBy 73 = .ok (.goto 4, 3) := dk_167 0 4 (dk_at dksX1_turnsBy_3 4 rfl rfl)
theorem dX1_turnsBy_76 : decode cX1_turnsBy 76 = .ok (.iconst 0, 1) := dk_3 (dk_at dksX1_turnsBy_3 7 rfl rfl)
theorem dX1_turnsBy_77 : decode cX1_turnsBy 77 = .ok (.iadd, 1) := dk_96 (dk_at dksX1_turnsBy_3 8 rfl rfl)
theorem dX1_turnsBy_78 : decode cX1_turnsBy 78 = .ok (.istore_n 2, 1) := dk_61 (dk_at dksX1_turnsBy_3 9 rfl rfl)
theorem dX1_turnsBy_79 : decode cX1_turnsBy 79 = .ok (.aload_n 0, 1) := dk_42 (dk_at dksX1_turnsBy_3 10 rfl rfl)
theorem dX1_turnsBy_80 : decode cX1_turnsBy 80 = .ok (.getfield 15, 3) := dk_180 0 15 (dk_at dksX1_turnsBy_3 11 rfl rfl)
theorem dX1_turnsBy_83 : decode cX1_turnsBy 83 = .ok (.iload 4, 2) := dk_21 4 (dk_at dksX1_turnsBy_3 14 rfl rfl)
theorem dX1_turnsBy_85 : decode cX1_turnsBy 85 = .ok (.laload, 1) := dk_47 (dk_at dksX1_turnsBy_3 16 rfl rfl)
theorem dX1_turnsBy_86 : decode cX1_turnsBy 86 = .ok (.lconst 0, 1) := dk_9 (dk_at dksX1_turnsBy_3 17 rfl rfl)
theorem dX1_turnsBy_87 : decode cX1_turnsBy 87 = .ok (.lcmp, 1) := dk_148 (dk_at dksX1_turnsBy_3 18 rfl rfl)
theorem dX1_turnsBy_88 : decode cX1_turnsBy 88 = .ok (.ifCond .ne 8, 3) := dk_154 0 8 (dk_at dksX1_turnsBy_3 19 rfl rfl)
theorem dX1_turnsBy_91 : decode cX1_turnsBy 91 = .ok (.iload 4, 2) := dk_21 4 (dk_at dksX1_turnsBy_3 22 rfl rfl)
theorem dX1_turnsBy_93 : decode cX1_turnsBy 93 = .ok (.goto 4, 3) := dk_167 0 4 (dk_at dksX1_turnsBy_4 0 rfl rfl)
theorem dX1_turnsBy_96 : decode cX1_turnsBy 96 = .ok (.iload_n 3, 1) := dk_29 (dk_at dksX1_turnsBy_4 3 rfl rfl)
theorem dX1_turnsBy_97 : decode cX1_turnsBy 97 = .ok (.istore_n 3, 1) := dk_62 (dk_at dksX1_turnsBy_4 4 rfl rfl)
theorem dX1_turnsBy_98 : decode cX1_turnsBy 98 = .ok (.iinc 4 1, 3) := dk_132 4 1 (dk_at dksX1_turnsBy_4 5 rfl rfl)
theorem dX1_turnsBy_101 : decode cX1_turnsBy 101 = .ok (.goto (-94), 3) := dk_167 255 162 (dk_at dksX1_turnsBy_4 8 rfl rfl)
theorem dX1_turnsBy_104 : decode cX1_turnsBy 104 = .ok (.iload_n 2, 1) := dk_28 (dk_at dksX1_turnsBy_4 11 rfl rfl)
theorem dX1_turnsBy_105 : decode cX1_turnsBy 105 = .ok (.iconst 1, 1) := dk_4 (dk_at dksX1_turnsBy_4 12 rfl rfl)
theorem dX1_turnsBy_106 : decode cX1_turnsBy 106 = .ok (.if_icmp .ne 10, 3) := dk_160 0 10 (dk_at dksX1_turnsBy_4 13 rfl rfl)
theorem dX1_turnsBy_109 : decode cX1_turnsBy 109 = .ok (.aload_n 0, 1) := dk_42 (dk_at dksX1_turnsBy_4 16 rfl rfl)
theorem dX1_turnsBy_110 : decode cX1_turnsBy 110 = .ok (.getfield 23, 3) := dk_180 0 23 (dk_at dksX1_turnsBy_4 17 rfl rfl)
theorem dX1_turnsBy_113 : decode cX1_turnsBy 113 = .ok (.iload_n 3, 1) := dk_29 (dk_at dksX1_turnsBy_4 20 rfl rfl)
theorem dX1_turnsBy_114 : decode cX1_turnsBy 114 = .ok (.iconst 1, 1) := dk_4 (dk_at dksX1_turnsBy_4 21 rfl rfl)
theorem dX1_turnsBy_115 : decode cX1_turnsBy 115 = .ok (.bastore, 1) := dk_84 (dk_at dksX1_turnsBy_4 22 rfl rfl)
theorem dX1_turnsBy_116 : decode cX1_turnsBy 116 = .ok (.iconst 0, 1) := dk_3 (dk_at dksX1_turnsBy_4 23 rfl rfl)
theorem dX1_turnsBy_117 : decode cX1_turnsBy 117 = .ok (.istore 4, 2) := dk_54 4 (dk_at dksX1_turnsBy_5 0 rfl rfl)
theorem dX1_turnsBy_119 : decode cX1_turnsBy 119 = .ok (.iload 4, 2) := dk_21 4 (dk_at dksX1_turnsBy_5 2 rfl rfl)
theorem dX1_turnsBy_121 : decode cX1_turnsBy 121 = .ok (.iconst 3, 1) := dk_6 (dk_at dksX1_turnsBy_5 4 rfl rfl)
theorem dX1_turnsBy_122 : decode cX1_turnsBy 122 = .ok (.if_icmp .ge 25, 3) := dk_162 0 25 (dk_at dksX1_turnsBy_5 5 rfl rfl)
theorem dX1_turnsBy_125 : decode cX1_turnsBy 125 = .ok (.aload_n 0, 1) := dk_42 (dk_at dksX1_turnsBy_5 8 rfl rfl)
theorem dX1_turnsBy_126 : decode cX1_turnsBy 126 = .ok (.getfield 23, 3) := dk_180 0 23 (dk_at dksX1_turnsBy_5 9 rfl rfl)
theorem dX1_turnsBy_129 : decode cX1_turnsBy 129 = .ok (.iload 4, 2) := dk_21 4 (dk_at dksX1_turnsBy_5 12 rfl rfl)
theorem dX1_turnsBy_131 : decode cX1_turnsBy 131 = .ok (.baload, 1) := dk_51 (dk_at dksX1_turnsBy_5 14 rfl rfl)
theorem dX1_turnsBy_132 : decode cX1_turnsBy 132 = .ok (.ifCond .eq 9, 3) := dk_153 0 9 (dk_at dksX1_turnsBy_5 15 rfl rfl)
theorem dX1_turnsBy_135 : decode cX1_turnsBy 135 = .ok (.aload_n 0, 1) := dk_42 (dk_at dksX1_turnsBy_5 18 rfl rfl)
theorem dX1_turnsBy_136 : decode cX1_turnsBy 136 = .ok (.iload 4, 2) := dk_21 4 (dk_at dksX1_turnsBy_5 19 rfl rfl)
theorem dX1_turnsBy_138 : decode cX1_turnsBy 138 = .ok (.invokevirtual 89, 3) := dk_182 0 89 (dk_at dksX1_turnsBy_5 21 rfl rfl)
theorem dX1_turnsBy_141 : decode cX1_turnsBy 141 = .ok (.iinc 4 1, 3) := dk_132 4 1 (dk_at dksX1_turnsBy_6 0 rfl rfl)
theorem dX1_turnsBy_144 : decode cX1_turnsBy 144 = .ok (.goto (-25), 3) := dk_167 255 231 (dk_at dksX1_turnsBy_6 3 rfl rfl)
theorem dX1_turnsBy_147 : decode cX1_turnsBy 147 = .ok (.return_, 1) := dk_177 (dk_at dksX1_turnsBy_6 6 rfl rfl)
abbrev cX1_less : ByteArray := prog_2_method_19_code
def yX1_less : MethodName := ⟨RX1, "less", "(J)J"⟩
def dkwX1_less_0 : List UInt8 := [30, 9, 148, 158, 0, 9, 20, 0, 93, 167, 0, 4, 10, 173]
abbrev dktX1_less_0 : List UInt8 := dkwX1_less_0 ++ []
theorem dksX1_less_0 : cX1_less.data.toList.drop 0 = dktX1_less_0 := by decide +kernel
theorem dX1_less_0 : decode cX1_less 0 = .ok (.lload_n 0, 1) := dk_30 (dk_at dksX1_less_0 0 rfl rfl)
theorem dX1_less_1 : decode cX1_less 1 = .ok (.lconst 0, 1) := dk_9 (dk_at dksX1_less_0 1 rfl rfl)
theorem dX1_less_2 : decode cX1_less 2 = .ok (.lcmp, 1) := dk_148 (dk_at dksX1_less_0 2 rfl rfl)
theorem dX1_less_3 : decode cX1_less 3 = .ok (.ifCond .le 9, 3) := dk_158 0 9 (dk_at dksX1_less_0 3 rfl rfl)
theorem dX1_less_6 : decode cX1_less 6 = .ok (.ldc2_w 93, 3) := dk_20 0 93 (dk_at dksX1_less_0 6 rfl rfl)
theorem dX1_less_9 : decode cX1_less 9 = .ok (.goto 4, 3) := dk_167 0 4 (dk_at dksX1_less_0 9 rfl rfl)
theorem dX1_less_12 : decode cX1_less 12 = .ok (.lconst 1, 1) := dk_10 (dk_at dksX1_less_0 12 rfl rfl)
theorem dX1_less_13 : decode cX1_less 13 = .ok (.lreturn, 1) := dk_173 (dk_at dksX1_less_0 13 rfl rfl)
abbrev cX1_normalOf : ByteArray := prog_2_method_23_code
def yX1_normalOf : MethodName := ⟨RX1, "normalOf", "(LCellReducer$Cell;)I"⟩
def dkwX1_normalOf_1 : List UInt8 := [28, 172]
abbrev dktX1_normalOf_1 : List UInt8 := dkwX1_normalOf_1 ++ []
def dkwX1_normalOf_0 : List UInt8 := [42, 43, 182, 0, 119, 182, 0, 27, 87, 3, 61, 42, 182, 0, 123, 158, 0, 9, 132, 2, 1, 167, 255, 246]
abbrev dktX1_normalOf_0 : List UInt8 := dkwX1_normalOf_0 ++ dktX1_normalOf_1
theorem dksX1_normalOf_0 : cX1_normalOf.data.toList.drop 0 = dktX1_normalOf_0 := by decide +kernel
theorem dksX1_normalOf_1 : cX1_normalOf.data.toList.drop 24 = dktX1_normalOf_1 := dk_seg dksX1_normalOf_0 24 rfl rfl
theorem dX1_normalOf_0 : decode cX1_normalOf 0 = .ok (.aload_n 0, 1) := dk_42 (dk_at dksX1_normalOf_0 0 rfl rfl)
theorem dX1_normalOf_1 : decode cX1_normalOf 1 = .ok (.aload_n 1, 1) := dk_43 (dk_at dksX1_normalOf_0 1 rfl rfl)
theorem dX1_normalOf_2 : decode cX1_normalOf 2 = .ok (.invokevirtual 119, 3) := dk_182 0 119 (dk_at dksX1_normalOf_0 2 rfl rfl)
theorem dX1_normalOf_5 : decode cX1_normalOf 5 = .ok (.invokevirtual 27, 3) := dk_182 0 27 (dk_at dksX1_normalOf_0 5 rfl rfl)
theorem dX1_normalOf_8 : decode cX1_normalOf 8 = .ok (.pop, 1) := dk_87 (dk_at dksX1_normalOf_0 8 rfl rfl)
theorem dX1_normalOf_9 : decode cX1_normalOf 9 = .ok (.iconst 0, 1) := dk_3 (dk_at dksX1_normalOf_0 9 rfl rfl)
theorem dX1_normalOf_10 : decode cX1_normalOf 10 = .ok (.istore_n 2, 1) := dk_61 (dk_at dksX1_normalOf_0 10 rfl rfl)
theorem dX1_normalOf_11 : decode cX1_normalOf 11 = .ok (.aload_n 0, 1) := dk_42 (dk_at dksX1_normalOf_0 11 rfl rfl)
theorem dX1_normalOf_12 : decode cX1_normalOf 12 = .ok (.invokevirtual 123, 3) := dk_182 0 123 (dk_at dksX1_normalOf_0 12 rfl rfl)
theorem dX1_normalOf_15 : decode cX1_normalOf 15 = .ok (.ifCond .le 9, 3) := dk_158 0 9 (dk_at dksX1_normalOf_0 15 rfl rfl)
theorem dX1_normalOf_18 : decode cX1_normalOf 18 = .ok (.iinc 2 1, 3) := dk_132 2 1 (dk_at dksX1_normalOf_0 18 rfl rfl)
theorem dX1_normalOf_21 : decode cX1_normalOf 21 = .ok (.goto (-10), 3) := dk_167 255 246 (dk_at dksX1_normalOf_0 21 rfl rfl)
theorem dX1_normalOf_24 : decode cX1_normalOf 24 = .ok (.iload_n 2, 1) := dk_28 (dk_at dksX1_normalOf_1 0 rfl rfl)
theorem dX1_normalOf_25 : decode cX1_normalOf 25 = .ok (.ireturn, 1) := dk_172 (dk_at dksX1_normalOf_1 1 rfl rfl)
abbrev cX1_isLike : ByteArray := prog_2_method_6_code
def yX1_isLike : MethodName := ⟨RX1, "isLike", "(LCellReducer$Cell;)Z"⟩
def dkwX1_isLike_1 : List UInt8 := [132, 2, 1, 167, 255, 231, 4, 172]
abbrev dktX1_isLike_1 : List UInt8 := dkwX1_isLike_1 ++ []
def dkwX1_isLike_0 : List UInt8 := [3, 61, 28, 16, 6, 162, 0, 25, 42, 28, 182, 0, 37, 43, 28, 182, 0, 37, 148, 153, 0, 5, 3, 172]
abbrev dktX1_isLike_0 : List UInt8 := dkwX1_isLike_0 ++ dktX1_isLike_1
theorem dksX1_isLike_0 : cX1_isLike.data.toList.drop 0 = dktX1_isLike_0 := by decide +kernel
theorem dksX1_isLike_1 : cX1_isLike.data.toList.drop 24 = dktX1_isLike_1 := dk_seg dksX1_isLike_0 24 rfl rfl
theorem dX1_isLike_0 : decode cX1_isLike 0 = .ok (.iconst 0, 1) := dk_3 (dk_at dksX1_isLike_0 0 rfl rfl)
theorem dX1_isLike_1 : decode cX1_isLike 1 = .ok (.istore_n 2, 1) := dk_61 (dk_at dksX1_isLike_0 1 rfl rfl)
theorem dX1_isLike_2 : decode cX1_isLike 2 = .ok (.iload_n 2, 1) := dk_28 (dk_at dksX1_isLike_0 2 rfl rfl)
theorem dX1_isLike_3 : decode cX1_isLike 3 = .ok (.bipush 6, 2) := dk_16 6 (dk_at dksX1_isLike_0 3 rfl rfl)
theorem dX1_isLike_5 : decode cX1_isLike 5 = .ok (.if_icmp .ge 25, 3) := dk_162 0 25 (dk_at dksX1_isLike_0 5 rfl rfl)
theorem dX1_isLike_8 : decode cX1_isLike 8 = .ok (.aload_n 0, 1) := dk_42 (dk_at dksX1_isLike_0 8 rfl rfl)
theorem dX1_isLike_9 : decode cX1_isLike 9 = .ok (.iload_n 2, 1) := dk_28 (dk_at dksX1_isLike_0 9 rfl rfl)
theorem dX1_isLike_10 : decode cX1_isLike 10 = .ok (.invokevirtual 37, 3) := dk_182 0 37 (dk_at dksX1_isLike_0 10 rfl rfl)
theorem dX1_isLike_13 : decode cX1_isLike 13 = .ok (.aload_n 1, 1) := dk_43 (dk_at dksX1_isLike_0 13 rfl rfl)
theorem dX1_isLike_14 : decode cX1_isLike 14 = .ok (.iload_n 2, 1) := dk_28 (dk_at dksX1_isLike_0 14 rfl rfl)
theorem dX1_isLike_15 : decode cX1_isLike 15 = .ok (.invokevirtual 37, 3) := dk_182 0 37 (dk_at dksX1_isLike_0 15 rfl rfl)
theorem dX1_isLike_18 : decode cX1_isLike 18 = .ok (.lcmp, 1) := dk_148 (dk_at dksX1_isLike_0 18 rfl rfl)
theorem dX1_isLike_19 : decode cX1_isLike 19 = .ok (.ifCond .eq 5, 3) := dk_153 0 5 (dk_at dksX1_isLike_0 19 rfl rfl)
theorem dX1_isLike_22 : decode cX1_isLike 22 = .ok (.iconst 0, 1) := dk_3 (dk_at dksX1_isLike_0 22 rfl rfl)
theorem dX1_isLike_23 : decode cX1_isLike 23 = .ok (.ireturn, 1) := dk_172 (dk_at dksX1_isLike_0 23 rfl rfl)
theorem dX1_isLike_24 : decode cX1_isLike 24 = .ok (.iinc 2 1, 3) := dk_132 2 1 (dk_at dksX1_isLike_1 0 rfl rfl)
theorem dX1_isLike_27 : decode cX1_isLike 27 = .ok (.goto (-25), 3) := dk_167 255 231 (dk_at dksX1_isLike_1 3 rfl rfl)
theorem dX1_isLike_30 : decode cX1_isLike 30 = .ok (.iconst 1, 1) := dk_4 (dk_at dksX1_isLike_1 6 rfl rfl)
theorem dX1_isLike_31 : decode cX1_isLike 31 = .ok (.ireturn, 1) := dk_172 (dk_at dksX1_isLike_1 7 rfl rfl)
abbrev cX1_twice : ByteArray := prog_2_method_24_code
def yX1_twice : MethodName := ⟨RX1, "twice", "([J[J)J"⟩
def dkwX1_twice_3 : List UInt8 := [132, 5, 1, 167, 255, 186, 33, 173]
abbrev dktX1_twice_3 : List UInt8 := dkwX1_twice_3 ++ []
def dkwX1_twice_2 : List UInt8 := [167, 0, 15, 42, 180, 0, 15, 6, 21, 5, 100, 21, 6, 100, 47, 105, 97, 66, 132, 6, 1, 167, 255, 201]
abbrev dktX1_twice_2 : List UInt8 := dkwX1_twice_2 ++ dktX1_twice_3
def dkwX1_twice_1 : List UInt8 := [47, 44, 21, 6, 47, 105, 21, 5, 21, 6, 160, 0, 17, 20, 0, 61, 42, 180, 0, 9, 21, 5, 47, 105]
abbrev dktX1_twice_1 : List UInt8 := dkwX1_twice_1 ++ dktX1_twice_2
def dkwX1_twice_0 : List UInt8 := [9, 66, 3, 54, 5, 21, 5, 6, 162, 0, 70, 3, 54, 6, 21, 6, 6, 162, 0, 55, 33, 43, 21, 5]
abbrev dktX1_twice_0 : List UInt8 := dkwX1_twice_0 ++ dktX1_twice_1
theorem dksX1_twice_0 : cX1_twice.data.toList.drop 0 = dktX1_twice_0 := by decide +kernel
theorem dksX1_twice_1 : cX1_twice.data.toList.drop 24 = dktX1_twice_1 := dk_seg dksX1_twice_0 24 rfl rfl
theorem dksX1_twice_2 : cX1_twice.data.toList.drop 48 = dktX1_twice_2 := dk_seg dksX1_twice_1 24 rfl rfl
theorem dksX1_twice_3 : cX1_twice.data.toList.drop 72 = dktX1_twice_3 := dk_seg dksX1_twice_2 24 rfl rfl
theorem dX1_twice_0 : decode cX1_twice 0 = .ok (.lconst 0, 1) := dk_9 (dk_at dksX1_twice_0 0 rfl rfl)
theorem dX1_twice_1 : decode cX1_twice 1 = .ok (.lstore_n 3, 1) := dk_66 (dk_at dksX1_twice_0 1 rfl rfl)
theorem dX1_twice_2 : decode cX1_twice 2 = .ok (.iconst 0, 1) := dk_3 (dk_at dksX1_twice_0 2 rfl rfl)
theorem dX1_twice_3 : decode cX1_twice 3 = .ok (.istore 5, 2) := dk_54 5 (dk_at dksX1_twice_0 3 rfl rfl)
theorem dX1_twice_5 : decode cX1_twice 5 = .ok (.iload 5, 2) := dk_21 5 (dk_at dksX1_twice_0 5 rfl rfl)
theorem dX1_twice_7 : decode cX1_twice 7 = .ok (.iconst 3, 1) := dk_6 (dk_at dksX1_twice_0 7 rfl rfl)
theorem dX1_twice_8 : decode cX1_twice 8 = .ok (.if_icmp .ge 70, 3) := dk_162 0 70 (dk_at dksX1_twice_0 8 rfl rfl)
theorem dX1_twice_11 : decode cX1_twice 11 = .ok (.iconst 0, 1) := dk_3 (dk_at dksX1_twice_0 11 rfl rfl)
theorem dX1_twice_12 : decode cX1_twice 12 = .ok (.istore 6, 2) := dk_54 6 (dk_at dksX1_twice_0 12 rfl rfl)
theorem dX1_twice_14 : decode cX1_twice 14 = .ok (.iload 6, 2) := dk_21 6 (dk_at dksX1_twice_0 14 rfl rfl)
theorem dX1_twice_16 : decode cX1_twice 16 = .ok (.iconst 3, 1) := dk_6 (dk_at dksX1_twice_0 16 rfl rfl)
theorem dX1_twice_17 : decode cX1_twice 17 = .ok (.if_icmp .ge 55, 3) := dk_162 0 55 (dk_at dksX1_twice_0 17 rfl rfl)
theorem dX1_twice_20 : decode cX1_twice 20 = .ok (.lload_n 3, 1) := dk_33 (dk_at dksX1_twice_0 20 rfl rfl)
theorem dX1_twice_21 : decode cX1_twice 21 = .ok (.aload_n 1, 1) := dk_43 (dk_at dksX1_twice_0 21 rfl rfl)
theorem dX1_twice_22 : decode cX1_twice 22 = .ok (.iload 5, 2) := dk_21 5 (dk_at dksX1_twice_0 22 rfl rfl)
theorem dX1_twice_24 : decode cX1_twice 24 = .ok (.laload, 1) := dk_47 (dk_at dksX1_twice_1 0 rfl rfl)
theorem dX1_twice_25 : decode cX1_twice 25 = .ok (.aload_n 2, 1) := dk_44 (dk_at dksX1_twice_1 1 rfl rfl)
theorem dX1_twice_26 : decode cX1_twice 26 = .ok (.iload 6, 2) := dk_21 6 (dk_at dksX1_twice_1 2 rfl rfl)
theorem dX1_twice_28 : decode cX1_twice 28 = .ok (.laload, 1) := dk_47 (dk_at dksX1_twice_1 4 rfl rfl)
theorem dX1_twice_29 : decode cX1_twice 29 = .ok (.lmul, 1) := dk_105 (dk_at dksX1_twice_1 5 rfl rfl)
theorem dX1_twice_30 : decode cX1_twice 30 = .ok (.iload 5, 2) := dk_21 5 (dk_at dksX1_twice_1 6 rfl rfl)
theorem dX1_twice_32 : decode cX1_twice 32 = .ok (.iload 6, 2) := dk_21 6 (dk_at dksX1_twice_1 8 rfl rfl)
theorem dX1_twice_34 : decode cX1_twice 34 = .ok (.if_icmp .ne 17, 3) := dk_160 0 17 (dk_at dksX1_twice_1 10 rfl rfl)
theorem dX1_twice_37 : decode cX1_twice 37 = .ok (.ldc2_w 61, 3) := dk_20 0 61 (dk_at dksX1_twice_1 13 rfl rfl)
theorem dX1_twice_40 : decode cX1_twice 40 = .ok (.aload_n 0, 1) := dk_42 (dk_at dksX1_twice_1 16 rfl rfl)
theorem dX1_twice_41 : decode cX1_twice 41 = .ok (.getfield 9, 3) := dk_180 0 9 (dk_at dksX1_twice_1 17 rfl rfl)
theorem dX1_twice_44 : decode cX1_twice 44 = .ok (.iload 5, 2) := dk_21 5 (dk_at dksX1_twice_1 20 rfl rfl)
theorem dX1_twice_46 : decode cX1_twice 46 = .ok (.laload, 1) := dk_47 (dk_at dksX1_twice_1 22 rfl rfl)
theorem dX1_twice_47 : decode cX1_twice 47 = .ok (.lmul, 1) := dk_105 (dk_at dksX1_twice_1 23 rfl rfl)
theorem dX1_twice_48 : decode cX1_twice 48 = .ok (.goto 15, 3) := dk_167 0 15 (dk_at dksX1_twice_2 0 rfl rfl)
theorem dX1_twice_51 : decode cX1_twice 51 = .ok (.aload_n 0, 1) := dk_42 (dk_at dksX1_twice_2 3 rfl rfl)
theorem dX1_twice_52 : decode cX1_twice 52 = .ok (.getfield 15, 3) := dk_180 0 15 (dk_at dksX1_twice_2 4 rfl rfl)
theorem dX1_twice_55 : decode cX1_twice 55 = .ok (.iconst 3, 1) := dk_6 (dk_at dksX1_twice_2 7 rfl rfl)
theorem dX1_twice_56 : decode cX1_twice 56 = .ok (.iload 5, 2) := dk_21 5 (dk_at dksX1_twice_2 8 rfl rfl)
theorem dX1_twice_58 : decode cX1_twice 58 = .ok (.isub, 1) := dk_100 (dk_at dksX1_twice_2 10 rfl rfl)
theorem dX1_twice_59 : decode cX1_twice 59 = .ok (.iload 6, 2) := dk_21 6 (dk_at dksX1_twice_2 11 rfl rfl)
theorem dX1_twice_61 : decode cX1_twice 61 = .ok (.isub, 1) := dk_100 (dk_at dksX1_twice_2 13 rfl rfl)
theorem dX1_twice_62 : decode cX1_twice 62 = .ok (.laload, 1) := dk_47 (dk_at dksX1_twice_2 14 rfl rfl)
theorem dX1_twice_63 : decode cX1_twice 63 = .ok (.lmul, 1) := dk_105 (dk_at dksX1_twice_2 15 rfl rfl)
theorem dX1_twice_64 : decode cX1_twice 64 = .ok (.ladd, 1) := dk_97 (dk_at dksX1_twice_2 16 rfl rfl)
theorem dX1_twice_65 : decode cX1_twice 65 = .ok (.lstore_n 3, 1) := dk_66 (dk_at dksX1_twice_2 17 rfl rfl)
theorem dX1_twice_66 : decode cX1_twice 66 = .ok (.iinc 6 1, 3) := dk_132 6 1 (dk_at dksX1_twice_2 18 rfl rfl)
theorem dX1_twice_69 : decode cX1_twice 69 = .ok (.goto (-55), 3) := dk_167 255 201 (dk_at dksX1_twice_2 21 rfl rfl)
theorem dX1_twice_72 : decode cX1_twice 72 = .ok (.iinc 5 1, 3) := dk_132 5 1 (dk_at dksX1_twice_3 0 rfl rfl)
theorem dX1_twice_75 : decode cX1_twice 75 = .ok (.goto (-70), 3) := dk_167 255 186 (dk_at dksX1_twice_3 3 rfl rfl)
theorem dX1_twice_78 : decode cX1_twice 78 = .ok (.lload_n 3, 1) := dk_33 (dk_at dksX1_twice_3 6 rfl rfl)
theorem dX1_twice_79 : decode cX1_twice 79 = .ok (.lreturn, 1) := dk_173 (dk_at dksX1_twice_3 7 rfl rfl)
abbrev cX1_puts : ByteArray := prog_2_method_25_code
def yX1_puts : MethodName := ⟨RX1, "puts", "(LCellReducer$Cell;[J[J[J)LCellReducer$Cell;"⟩
def dkwX1_puts_2 : List UInt8 := [44, 45, 182, 0, 127, 182, 0, 131, 176]
abbrev dktX1_puts_2 : List UInt8 := dkwX1_puts_2 ++ []
def dkwX1_puts_1 : List UInt8 := [25, 4, 182, 0, 127, 20, 0, 61, 109, 43, 45, 25, 4, 182, 0, 127, 43, 44, 25, 4, 182, 0, 127, 43]
abbrev dktX1_puts_1 : List UInt8 := dkwX1_puts_1 ++ dktX1_puts_2
def dkwX1_puts_0 : List UInt8 := [42, 43, 44, 44, 182, 0, 127, 20, 0, 61, 109, 43, 45, 45, 182, 0, 127, 20, 0, 61, 109, 43, 25, 4]
abbrev dktX1_puts_0 : List UInt8 := dkwX1_puts_0 ++ dktX1_puts_1
theorem dksX1_puts_0 : cX1_puts.data.toList.drop 0 = dktX1_puts_0 := by decide +kernel
theorem dksX1_puts_1 : cX1_puts.data.toList.drop 24 = dktX1_puts_1 := dk_seg dksX1_puts_0 24 rfl rfl
theorem dksX1_puts_2 : cX1_puts.data.toList.drop 48 = dktX1_puts_2 := dk_seg dksX1_puts_1 24 rfl rfl
theorem dX1_puts_0 : decode cX1_puts 0 = .ok (.aload_n 0, 1) := dk_42 (dk_at dksX1_puts_0 0 rfl rfl)
theorem dX1_puts_1 : decode cX1_puts 1 = .ok (.aload_n 1, 1) := dk_43 (dk_at dksX1_puts_0 1 rfl rfl)
theorem dX1_puts_2 : decode cX1_puts 2 = .ok (.aload_n 2, 1) := dk_44 (dk_at dksX1_puts_0 2 rfl rfl)
theorem dX1_puts_3 : decode cX1_puts 3 = .ok (.aload_n 2, 1) := dk_44 (dk_at dksX1_puts_0 3 rfl rfl)
theorem dX1_puts_4 : decode cX1_puts 4 = .ok (.invokevirtual 127, 3) := dk_182 0 127 (dk_at dksX1_puts_0 4 rfl rfl)
theorem dX1_puts_7 : decode cX1_puts 7 = .ok (.ldc2_w 61, 3) := dk_20 0 61 (dk_at dksX1_puts_0 7 rfl rfl)
theorem dX1_puts_10 : decode cX1_puts 10 = .ok (.ldiv, 1) := dk_109 (dk_at dksX1_puts_0 10 rfl rfl)
theorem dX1_puts_11 : decode cX1_puts 11 = .ok (.aload_n 1, 1) := dk_43 (dk_at dksX1_puts_0 11 rfl rfl)
theorem dX1_puts_12 : decode cX1_puts 12 = .ok (.aload_n 3, 1) := dk_45 (dk_at dksX1_puts_0 12 rfl rfl)
theorem dX1_puts_13 : decode cX1_puts 13 = .ok (.aload_n 3, 1) := dk_45 (dk_at dksX1_puts_0 13 rfl rfl)
theorem dX1_puts_14 : decode cX1_puts 14 = .ok (.invokevirtual 127, 3) := dk_182 0 127 (dk_at dksX1_puts_0 14 rfl rfl)
theorem dX1_puts_17 : decode cX1_puts 17 = .ok (.ldc2_w 61, 3) := dk_20 0 61 (dk_at dksX1_puts_0 17 rfl rfl)
theorem dX1_puts_20 : decode cX1_puts 20 = .ok (.ldiv, 1) := dk_109 (dk_at dksX1_puts_0 20 rfl rfl)
theorem dX1_puts_21 : decode cX1_puts 21 = .ok (.aload_n 1, 1) := dk_43 (dk_at dksX1_puts_0 21 rfl rfl)
theorem dX1_puts_22 : decode cX1_puts 22 = .ok (.aload 4, 2) := dk_25 4 (dk_at dksX1_puts_0 22 rfl rfl)
theorem dX1_puts_24 : decode cX1_puts 24 = .ok (.aload 4, 2) := dk_25 4 (dk_at dksX1_puts_1 0 rfl rfl)
theorem dX1_puts_26 : decode cX1_puts 26 = .ok (.invokevirtual 127, 3) := dk_182 0 127 (dk_at dksX1_puts_1 2 rfl rfl)
theorem dX1_puts_29 : decode cX1_puts 29 = .ok (.ldc2_w 61, 3) := dk_20 0 61 (dk_at dksX1_puts_1 5 rfl rfl)
theorem dX1_puts_32 : decode cX1_puts 32 = .ok (.ldiv, 1) := dk_109 (dk_at dksX1_puts_1 8 rfl rfl)
theorem dX1_puts_33 : decode cX1_puts 33 = .ok (.aload_n 1, 1) := dk_43 (dk_at dksX1_puts_1 9 rfl rfl)
theorem dX1_puts_34 : decode cX1_puts 34 = .ok (.aload_n 3, 1) := dk_45 (dk_at dksX1_puts_1 10 rfl rfl)
theorem dX1_puts_35 : decode cX1_puts 35 = .ok (.aload 4, 2) := dk_25 4 (dk_at dksX1_puts_1 11 rfl rfl)
theorem dX1_puts_37 : decode cX1_puts 37 = .ok (.invokevirtual 127, 3) := dk_182 0 127 (dk_at dksX1_puts_1 13 rfl rfl)
theorem dX1_puts_40 : decode cX1_puts 40 = .ok (.aload_n 1, 1) := dk_43 (dk_at dksX1_puts_1 16 rfl rfl)
theorem dX1_puts_41 : decode cX1_puts 41 = .ok (.aload_n 2, 1) := dk_44 (dk_at dksX1_puts_1 17 rfl rfl)
theorem dX1_puts_42 : decode cX1_puts 42 = .ok (.aload 4, 2) := dk_25 4 (dk_at dksX1_puts_1 18 rfl rfl)
theorem dX1_puts_44 : decode cX1_puts 44 = .ok (.invokevirtual 127, 3) := dk_182 0 127 (dk_at dksX1_puts_1 20 rfl rfl)
theorem dX1_puts_47 : decode cX1_puts 47 = .ok (.aload_n 1, 1) := dk_43 (dk_at dksX1_puts_1 23 rfl rfl)
theorem dX1_puts_48 : decode cX1_puts 48 = .ok (.aload_n 2, 1) := dk_44 (dk_at dksX1_puts_2 0 rfl rfl)
theorem dX1_puts_49 : decode cX1_puts 49 = .ok (.aload_n 3, 1) := dk_45 (dk_at dksX1_puts_2 1 rfl rfl)
theorem dX1_puts_50 : decode cX1_puts 50 = .ok (.invokevirtual 127, 3) := dk_182 0 127 (dk_at dksX1_puts_2 2 rfl rfl)
theorem dX1_puts_53 : decode cX1_puts 53 = .ok (.invokevirtual 131, 3) := dk_182 0 131 (dk_at dksX1_puts_2 5 rfl rfl)
theorem dX1_puts_56 : decode cX1_puts 56 = .ok (.areturn, 1) := dk_176 (dk_at dksX1_puts_2 8 rfl rfl)
theorem q104 : (Jvm.Cond.initialized "CellReducer$Cell") ∈ lw_all := lw_g (lw_at lw_m1 2 rfl) rfl
theorem q171 : (Jvm.Cond.instantiable "CellReducer$Cell" (4 : Nat)) ∈ lw_all := lw_g (lw_at lw_m1 69 rfl) rfl
theorem q173 : (Jvm.Cond.instanceMethod ({ cls := "CellReducer$Cell", name := "<init>", desc := "()V" } : Jvm.MethodName)) ∈ lw_all := lw_g (lw_at lw_m1 71 rfl) rfl
theorem q174 : (Jvm.Cond.code ({ cls := "CellReducer$Cell", name := "<init>", desc := "()V" } : Jvm.MethodName) prog_2_method_1_code (1 : Nat) (Option.none : Option Jvm.ClassFile.FieldType)) ∈ lw_all := lw_g (lw_at lw_m1 72 rfl) rfl
theorem q175 : (Jvm.Cond.methodLink "CellReducer$Cell" (3 : Nat) ({ cls := "java/lang/Object", name := "<init>", desc := "()V" } : Jvm.MethodName)) ∈ lw_all := lw_g (lw_at lw_m1 73 rfl) rfl
theorem q176 : (Jvm.Cond.classLink "CellReducer$Cell" (18 : Nat) "[[J") ∈ lw_all := lw_g (lw_at lw_m1 74 rfl) rfl
theorem q178 : (Jvm.Cond.fieldLink "CellReducer$Cell" (9 : Nat) "CellReducer$Cell" "s" "[J") ∈ lw_all := lw_g (lw_at lw_m1 76 rfl) rfl
theorem q180 : (Jvm.Cond.fieldLink "CellReducer$Cell" (15 : Nat) "CellReducer$Cell" "d" "[J") ∈ lw_all := lw_g (lw_at lw_m1 78 rfl) rfl
theorem q182 : (Jvm.Cond.fieldLink "CellReducer$Cell" (20 : Nat) "CellReducer$Cell" "column" "[[J") ∈ lw_all := lw_g (lw_at lw_m1 80 rfl) rfl
theorem q184 : (Jvm.Cond.fieldLink "CellReducer$Cell" (23 : Nat) "CellReducer$Cell" "isTurned" "[Z") ∈ lw_all := lw_g (lw_at lw_m1 82 rfl) rfl
theorem q185 : (Jvm.Cond.laysFinal "CellReducer$Cell" "CellReducer$Cell" "s" "[J") ∈ lw_all := lw_g (lw_at lw_m1 83 rfl) rfl
theorem q186 : (Jvm.Cond.soleField "CellReducer$Cell" "s") ∈ lw_all := lw_g (lw_at lw_m1 84 rfl) rfl
theorem q187 : (Jvm.Cond.laysFinal "CellReducer$Cell" "CellReducer$Cell" "d" "[J") ∈ lw_all := lw_g (lw_at lw_m1 85 rfl) rfl
theorem q188 : (Jvm.Cond.soleField "CellReducer$Cell" "d") ∈ lw_all := lw_g (lw_at lw_m1 86 rfl) rfl
theorem q189 : (Jvm.Cond.laysFinal "CellReducer$Cell" "CellReducer$Cell" "column" "[[J") ∈ lw_all := lw_g (lw_at lw_m1 87 rfl) rfl
theorem q190 : (Jvm.Cond.soleField "CellReducer$Cell" "column") ∈ lw_all := lw_g (lw_at lw_m1 88 rfl) rfl
theorem q191 : (Jvm.Cond.laysFinal "CellReducer$Cell" "CellReducer$Cell" "isTurned" "[Z") ∈ lw_all := lw_g (lw_at lw_m1 89 rfl) rfl
theorem q192 : (Jvm.Cond.soleField "CellReducer$Cell" "isTurned") ∈ lw_all := lw_g (lw_at lw_m1 90 rfl) rfl
theorem q193 : (Jvm.Cond.superclass "CellReducer$Cell" "java/lang/Object") ∈ lw_all := lw_g (lw_at lw_m1 91 rfl) rfl
theorem q365 : (Jvm.Cond.instanceMethod ({ cls := "CellReducer$Cell", name := "tells", desc := "(JJJJJJ)LCellReducer$Cell;" } : Jvm.MethodName)) ∈ lw_all := lw_g (lw_at lw_m2 23 rfl) rfl
theorem q366 : (Jvm.Cond.selects "CellReducer$Cell" ({ cls := "CellReducer$Cell", name := "tells", desc := "(JJJJJJ)LCellReducer$Cell;" } : Jvm.MethodName) ({ cls := "CellReducer$Cell", name := "tells", desc := "(JJJJJJ)LCellReducer$Cell;" } : Jvm.MethodName)) ∈ lw_all := lw_g (lw_at lw_m2 24 rfl) rfl
theorem q367 : (Jvm.Cond.code ({ cls := "CellReducer$Cell", name := "tells", desc := "(JJJJJJ)LCellReducer$Cell;" } : Jvm.MethodName) prog_2_method_2_code (13 : Nat) (Option.some (Jvm.ClassFile.FieldType.object "CellReducer$Cell"))) ∈ lw_all := lw_g (lw_at lw_m2 25 rfl) rfl
theorem q368 : (Jvm.Cond.methodLink "CellReducer$Cell" (27 : Nat) ({ cls := "CellReducer$Cell", name := "asItCame", desc := "()LCellReducer$Cell;" } : Jvm.MethodName)) ∈ lw_all := lw_g (lw_at lw_m2 26 rfl) rfl
theorem q369 : (Jvm.Cond.instanceMethod ({ cls := "CellReducer$Cell", name := "asItCame", desc := "()LCellReducer$Cell;" } : Jvm.MethodName)) ∈ lw_all := lw_g (lw_at lw_m2 27 rfl) rfl
theorem q370 : (Jvm.Cond.selects "CellReducer$Cell" ({ cls := "CellReducer$Cell", name := "asItCame", desc := "()LCellReducer$Cell;" } : Jvm.MethodName) ({ cls := "CellReducer$Cell", name := "asItCame", desc := "()LCellReducer$Cell;" } : Jvm.MethodName)) ∈ lw_all := lw_g (lw_at lw_m2 28 rfl) rfl
theorem q371 : (Jvm.Cond.code ({ cls := "CellReducer$Cell", name := "asItCame", desc := "()LCellReducer$Cell;" } : Jvm.MethodName) prog_2_method_3_code (3 : Nat) (Option.some (Jvm.ClassFile.FieldType.object "CellReducer$Cell"))) ∈ lw_all := lw_g (lw_at lw_m2 29 rfl) rfl
theorem q377 : (Jvm.Cond.instanceMethod ({ cls := "CellReducer$Cell", name := "mayBe", desc := "()Z" } : Jvm.MethodName)) ∈ lw_all := lw_g (lw_at lw_m2 35 rfl) rfl
theorem q378 : (Jvm.Cond.selects "CellReducer$Cell" ({ cls := "CellReducer$Cell", name := "mayBe", desc := "()Z" } : Jvm.MethodName) ({ cls := "CellReducer$Cell", name := "mayBe", desc := "()Z" } : Jvm.MethodName)) ∈ lw_all := lw_g (lw_at lw_m2 36 rfl) rfl
theorem q379 : (Jvm.Cond.code ({ cls := "CellReducer$Cell", name := "mayBe", desc := "()Z" } : Jvm.MethodName) prog_2_method_8_code (2 : Nat) (Option.some Jvm.ClassFile.FieldType.boolean)) ∈ lw_all := lw_g (lw_at lw_m2 37 rfl) rfl
theorem q380 : (Jvm.Cond.constantLong "CellReducer$Cell" (43 : Nat) (100000 : Int64)) ∈ lw_all := lw_g (lw_at lw_m2 38 rfl) rfl
theorem q381 : (Jvm.Cond.methodLinkNest "CellReducer$Cell" (45 : Nat) ({ cls := "CellReducer", name := "isIn", desc := "(JJJ)Z" } : Jvm.MethodName) "CellReducer") ∈ lw_tbl := lw_at lw_m2 39 rfl
theorem q384 : (Jvm.Cond.constantLong "CellReducer$Cell" (49 : Nat) (-200000 : Int64)) ∈ lw_all := lw_g (lw_at lw_m2 42 rfl) rfl
theorem q385 : (Jvm.Cond.constantLong "CellReducer$Cell" (51 : Nat) (200000 : Int64)) ∈ lw_all := lw_g (lw_at lw_m2 43 rfl) rfl
theorem q386 : (Jvm.Cond.constantLong "CellReducer$Cell" (41 : Nat) (4 : Int64)) ∈ lw_all := lw_g (lw_at lw_m2 44 rfl) rfl
theorem q387 : (Jvm.Cond.methodLink "CellReducer$Cell" (53 : Nat) ({ cls := "CellReducer$Cell", name := "volume", desc := "()J" } : Jvm.MethodName)) ∈ lw_all := lw_g (lw_at lw_m2 45 rfl) rfl
theorem q388 : (Jvm.Cond.instanceMethod ({ cls := "CellReducer$Cell", name := "volume", desc := "()J" } : Jvm.MethodName)) ∈ lw_all := lw_g (lw_at lw_m2 46 rfl) rfl
theorem q389 : (Jvm.Cond.selects "CellReducer$Cell" ({ cls := "CellReducer$Cell", name := "volume", desc := "()J" } : Jvm.MethodName) ({ cls := "CellReducer$Cell", name := "volume", desc := "()J" } : Jvm.MethodName)) ∈ lw_all := lw_g (lw_at lw_m2 47 rfl) rfl
theorem q390 : (Jvm.Cond.code ({ cls := "CellReducer$Cell", name := "volume", desc := "()J" } : Jvm.MethodName) prog_2_method_7_code (1 : Nat) (Option.some Jvm.ClassFile.FieldType.long)) ∈ lw_all := lw_g (lw_at lw_m2 48 rfl) rfl
theorem q392 : (Jvm.Cond.instanceMethod ({ cls := "CellReducer$Cell", name := "takes", desc := "(LCellReducer$Cell;)LCellReducer$Cell;" } : Jvm.MethodName)) ∈ lw_all := lw_g (lw_at lw_m2 50 rfl) rfl
theorem q393 : (Jvm.Cond.selects "CellReducer$Cell" ({ cls := "CellReducer$Cell", name := "takes", desc := "(LCellReducer$Cell;)LCellReducer$Cell;" } : Jvm.MethodName) ({ cls := "CellReducer$Cell", name := "takes", desc := "(LCellReducer$Cell;)LCellReducer$Cell;" } : Jvm.MethodName)) ∈ lw_all := lw_g (lw_at lw_m2 51 rfl) rfl
theorem q394 : (Jvm.Cond.code ({ cls := "CellReducer$Cell", name := "takes", desc := "(LCellReducer$Cell;)LCellReducer$Cell;" } : Jvm.MethodName) prog_2_method_4_code (3 : Nat) (Option.some (Jvm.ClassFile.FieldType.object "CellReducer$Cell"))) ∈ lw_all := lw_g (lw_at lw_m2 52 rfl) rfl
theorem q395 : (Jvm.Cond.methodLink "CellReducer$Cell" (31 : Nat) ({ cls := "java/lang/System", name := "arraycopy", desc := "(Ljava/lang/Object;ILjava/lang/Object;II)V" } : Jvm.MethodName)) ∈ lw_all := lw_g (lw_at lw_m2 53 rfl) rfl
theorem q410 : (Jvm.Cond.instanceMethod ({ cls := "CellReducer$Cell", name := "six", desc := "(I)J" } : Jvm.MethodName)) ∈ lw_all := lw_g (lw_at lw_m2 68 rfl) rfl
theorem q411 : (Jvm.Cond.selects "CellReducer$Cell" ({ cls := "CellReducer$Cell", name := "six", desc := "(I)J" } : Jvm.MethodName) ({ cls := "CellReducer$Cell", name := "six", desc := "(I)J" } : Jvm.MethodName)) ∈ lw_all := lw_g (lw_at lw_m2 69 rfl) rfl
theorem q412 : (Jvm.Cond.code ({ cls := "CellReducer$Cell", name := "six", desc := "(I)J" } : Jvm.MethodName) prog_2_method_5_code (2 : Nat) (Option.some Jvm.ClassFile.FieldType.long)) ∈ lw_all := lw_g (lw_at lw_m2 70 rfl) rfl
theorem q433 : (Jvm.Cond.instanceMethod ({ cls := "CellReducer$Cell", name := "squareBy", desc := "(IIJ)J" } : Jvm.MethodName)) ∈ lw_all := lw_g (lw_at lw_m2 91 rfl) rfl
theorem q434 : (Jvm.Cond.selects "CellReducer$Cell" ({ cls := "CellReducer$Cell", name := "squareBy", desc := "(IIJ)J" } : Jvm.MethodName) ({ cls := "CellReducer$Cell", name := "squareBy", desc := "(IIJ)J" } : Jvm.MethodName)) ∈ lw_all := lw_g (lw_at lw_m2 92 rfl) rfl
theorem q435 : (Jvm.Cond.code ({ cls := "CellReducer$Cell", name := "squareBy", desc := "(IIJ)J" } : Jvm.MethodName) prog_2_method_9_code (5 : Nat) (Option.some Jvm.ClassFile.FieldType.long)) ∈ lw_all := lw_g (lw_at lw_m2 93 rfl) rfl
theorem q442 : (Jvm.Cond.instanceMethod ({ cls := "CellReducer$Cell", name := "adds", desc := "(IIJ)V" } : Jvm.MethodName)) ∈ lw_all := lw_g (lw_at lw_m2 100 rfl) rfl
theorem q443 : (Jvm.Cond.selects "CellReducer$Cell" ({ cls := "CellReducer$Cell", name := "adds", desc := "(IIJ)V" } : Jvm.MethodName) ({ cls := "CellReducer$Cell", name := "adds", desc := "(IIJ)V" } : Jvm.MethodName)) ∈ lw_all := lw_g (lw_at lw_m2 101 rfl) rfl
theorem q444 : (Jvm.Cond.code ({ cls := "CellReducer$Cell", name := "adds", desc := "(IIJ)V" } : Jvm.MethodName) prog_2_method_10_code (7 : Nat) (Option.none : Option Jvm.ClassFile.FieldType)) ∈ lw_all := lw_g (lw_at lw_m2 102 rfl) rfl
theorem q445 : (Jvm.Cond.methodLink "CellReducer$Cell" (57 : Nat) ({ cls := "CellReducer$Cell", name := "squareBy", desc := "(IIJ)J" } : Jvm.MethodName)) ∈ lw_all := lw_g (lw_at lw_m2 103 rfl) rfl
theorem q446 : (Jvm.Cond.constantLong "CellReducer$Cell" (61 : Nat) (2 : Int64)) ∈ lw_all := lw_g (lw_at lw_m2 104 rfl) rfl
theorem q452 : (Jvm.Cond.instanceMethod ({ cls := "CellReducer$Cell", name := "exchanges", desc := "(II)V" } : Jvm.MethodName)) ∈ lw_all := lw_g (lw_at lw_m2 110 rfl) rfl
theorem q453 : (Jvm.Cond.selects "CellReducer$Cell" ({ cls := "CellReducer$Cell", name := "exchanges", desc := "(II)V" } : Jvm.MethodName) ({ cls := "CellReducer$Cell", name := "exchanges", desc := "(II)V" } : Jvm.MethodName)) ∈ lw_all := lw_g (lw_at lw_m2 111 rfl) rfl
theorem q454 : (Jvm.Cond.code ({ cls := "CellReducer$Cell", name := "exchanges", desc := "(II)V" } : Jvm.MethodName) prog_2_method_12_code (6 : Nat) (Option.none : Option Jvm.ClassFile.FieldType)) ∈ lw_all := lw_g (lw_at lw_m2 112 rfl) rfl
theorem q456 : (Jvm.Cond.instanceMethod ({ cls := "CellReducer$Cell", name := "turns", desc := "(I)V" } : Jvm.MethodName)) ∈ lw_all := lw_g (lw_at lw_m2 114 rfl) rfl
theorem q457 : (Jvm.Cond.selects "CellReducer$Cell" ({ cls := "CellReducer$Cell", name := "turns", desc := "(I)V" } : Jvm.MethodName) ({ cls := "CellReducer$Cell", name := "turns", desc := "(I)V" } : Jvm.MethodName)) ∈ lw_all := lw_g (lw_at lw_m2 115 rfl) rfl
theorem q458 : (Jvm.Cond.code ({ cls := "CellReducer$Cell", name := "turns", desc := "(I)V" } : Jvm.MethodName) prog_2_method_11_code (3 : Nat) (Option.none : Option Jvm.ClassFile.FieldType)) ∈ lw_all := lw_g (lw_at lw_m2 116 rfl) rfl
theorem q464 : (Jvm.Cond.instanceMethod ({ cls := "CellReducer$Cell", name := "applies", desc := "(I)Z" } : Jvm.MethodName)) ∈ lw_all := lw_g (lw_at lw_m2 122 rfl) rfl
theorem q465 : (Jvm.Cond.selects "CellReducer$Cell" ({ cls := "CellReducer$Cell", name := "applies", desc := "(I)Z" } : Jvm.MethodName) ({ cls := "CellReducer$Cell", name := "applies", desc := "(I)Z" } : Jvm.MethodName)) ∈ lw_all := lw_g (lw_at lw_m2 123 rfl) rfl
theorem q466 : (Jvm.Cond.code ({ cls := "CellReducer$Cell", name := "applies", desc := "(I)Z" } : Jvm.MethodName) prog_2_method_17_code (2 : Nat) (Option.some Jvm.ClassFile.FieldType.boolean)) ∈ lw_all := lw_g (lw_at lw_m2 124 rfl) rfl
theorem q467 : (Jvm.Cond.methodLink "CellReducer$Cell" (69 : Nat) ({ cls := "java/lang/Math", name := "abs", desc := "(J)J" } : Jvm.MethodName)) ∈ lw_all := lw_g (lw_at lw_m2 125 rfl) rfl
theorem q470 : (Jvm.Cond.methodLink "CellReducer$Cell" (75 : Nat) ({ cls := "CellReducer$Cell", name := "sign", desc := "()J" } : Jvm.MethodName)) ∈ lw_all := lw_g (lw_at lw_m2 128 rfl) rfl
theorem q471 : (Jvm.Cond.privateMethod ({ cls := "CellReducer$Cell", name := "sign", desc := "()J" } : Jvm.MethodName)) ∈ lw_tbl := lw_at lw_m2 129 rfl
theorem q472 : (Jvm.Cond.instanceMethod ({ cls := "CellReducer$Cell", name := "sign", desc := "()J" } : Jvm.MethodName)) ∈ lw_all := lw_g (lw_at lw_m2 130 rfl) rfl
theorem q473 : (Jvm.Cond.code ({ cls := "CellReducer$Cell", name := "sign", desc := "()J" } : Jvm.MethodName) prog_2_method_13_code (1 : Nat) (Option.some Jvm.ClassFile.FieldType.long)) ∈ lw_all := lw_g (lw_at lw_m2 131 rfl) rfl
theorem q474 : (Jvm.Cond.methodLink "CellReducer$Cell" (63 : Nat) ({ cls := "java/lang/Long", name := "signum", desc := "(J)I" } : Jvm.MethodName)) ∈ lw_all := lw_g (lw_at lw_m2 132 rfl) rfl
theorem q477 : (Jvm.Cond.methodLink "CellReducer$Cell" (78 : Nat) ({ cls := "CellReducer$Cell", name := "areAbove", desc := "(I)Z" } : Jvm.MethodName)) ∈ lw_all := lw_g (lw_at lw_m2 135 rfl) rfl
theorem q478 : (Jvm.Cond.privateMethod ({ cls := "CellReducer$Cell", name := "areAbove", desc := "(I)Z" } : Jvm.MethodName)) ∈ lw_tbl := lw_at lw_m2 136 rfl
theorem q479 : (Jvm.Cond.instanceMethod ({ cls := "CellReducer$Cell", name := "areAbove", desc := "(I)Z" } : Jvm.MethodName)) ∈ lw_all := lw_g (lw_at lw_m2 137 rfl) rfl
theorem q480 : (Jvm.Cond.code ({ cls := "CellReducer$Cell", name := "areAbove", desc := "(I)Z" } : Jvm.MethodName) prog_2_method_14_code (4 : Nat) (Option.some Jvm.ClassFile.FieldType.boolean)) ∈ lw_all := lw_g (lw_at lw_m2 138 rfl) rfl
theorem q481 : (Jvm.Cond.methodLink "CellReducer$Cell" (82 : Nat) ({ cls := "CellReducer$Cell", name := "isOver", desc := "(JJJJ)Z" } : Jvm.MethodName)) ∈ lw_all := lw_g (lw_at lw_m2 139 rfl) rfl
theorem q482 : (Jvm.Cond.privateMethod ({ cls := "CellReducer$Cell", name := "isOver", desc := "(JJJJ)Z" } : Jvm.MethodName)) ∈ lw_tbl := lw_at lw_m2 140 rfl
theorem q483 : (Jvm.Cond.instanceMethod ({ cls := "CellReducer$Cell", name := "isOver", desc := "(JJJJ)Z" } : Jvm.MethodName)) ∈ lw_all := lw_g (lw_at lw_m2 141 rfl) rfl
theorem q484 : (Jvm.Cond.code ({ cls := "CellReducer$Cell", name := "isOver", desc := "(JJJJ)Z" } : Jvm.MethodName) prog_2_method_15_code (9 : Nat) (Option.some Jvm.ClassFile.FieldType.boolean)) ∈ lw_all := lw_g (lw_at lw_m2 142 rfl) rfl
theorem q485 : (Jvm.Cond.methodLink "CellReducer$Cell" (86 : Nat) ({ cls := "CellReducer$Cell", name := "sum", desc := "()J" } : Jvm.MethodName)) ∈ lw_all := lw_g (lw_at lw_m2 143 rfl) rfl
theorem q486 : (Jvm.Cond.privateMethod ({ cls := "CellReducer$Cell", name := "sum", desc := "()J" } : Jvm.MethodName)) ∈ lw_tbl := lw_at lw_m2 144 rfl
theorem q487 : (Jvm.Cond.instanceMethod ({ cls := "CellReducer$Cell", name := "sum", desc := "()J" } : Jvm.MethodName)) ∈ lw_all := lw_g (lw_at lw_m2 145 rfl) rfl
theorem q488 : (Jvm.Cond.code ({ cls := "CellReducer$Cell", name := "sum", desc := "()J" } : Jvm.MethodName) prog_2_method_16_code (1 : Nat) (Option.some Jvm.ClassFile.FieldType.long)) ∈ lw_all := lw_g (lw_at lw_m2 146 rfl) rfl
theorem q494 : (Jvm.Cond.instanceMethod ({ cls := "CellReducer$Cell", name := "steps", desc := "()I" } : Jvm.MethodName)) ∈ lw_all := lw_g (lw_at lw_m2 152 rfl) rfl
theorem q495 : (Jvm.Cond.selects "CellReducer$Cell" ({ cls := "CellReducer$Cell", name := "steps", desc := "()I" } : Jvm.MethodName) ({ cls := "CellReducer$Cell", name := "steps", desc := "()I" } : Jvm.MethodName)) ∈ lw_all := lw_g (lw_at lw_m2 153 rfl) rfl
theorem q496 : (Jvm.Cond.code ({ cls := "CellReducer$Cell", name := "steps", desc := "()I" } : Jvm.MethodName) prog_2_method_22_code (2 : Nat) (Option.some Jvm.ClassFile.FieldType.int)) ∈ lw_all := lw_g (lw_at lw_m2 154 rfl) rfl
theorem q497 : (Jvm.Cond.methodLink "CellReducer$Cell" (113 : Nat) ({ cls := "CellReducer$Cell", name := "applies", desc := "(I)Z" } : Jvm.MethodName)) ∈ lw_all := lw_g (lw_at lw_m2 155 rfl) rfl
theorem q498 : (Jvm.Cond.methodLink "CellReducer$Cell" (116 : Nat) ({ cls := "CellReducer$Cell", name := "goes", desc := "(I)V" } : Jvm.MethodName)) ∈ lw_all := lw_g (lw_at lw_m2 156 rfl) rfl
theorem q499 : (Jvm.Cond.privateMethod ({ cls := "CellReducer$Cell", name := "goes", desc := "(I)V" } : Jvm.MethodName)) ∈ lw_tbl := lw_at lw_m2 157 rfl
theorem q500 : (Jvm.Cond.instanceMethod ({ cls := "CellReducer$Cell", name := "goes", desc := "(I)V" } : Jvm.MethodName)) ∈ lw_all := lw_g (lw_at lw_m2 158 rfl) rfl
theorem q501 : (Jvm.Cond.code ({ cls := "CellReducer$Cell", name := "goes", desc := "(I)V" } : Jvm.MethodName) prog_2_method_20_code (2 : Nat) (Option.none : Option Jvm.ClassFile.FieldType)) ∈ lw_all := lw_g (lw_at lw_m2 159 rfl) rfl
theorem q502 : (Jvm.Cond.methodLink "CellReducer$Cell" (95 : Nat) ({ cls := "CellReducer$Cell", name := "exchanges", desc := "(II)V" } : Jvm.MethodName)) ∈ lw_all := lw_g (lw_at lw_m2 160 rfl) rfl
theorem q503 : (Jvm.Cond.methodLink "CellReducer$Cell" (99 : Nat) ({ cls := "CellReducer$Cell", name := "turnsAll", desc := "()V" } : Jvm.MethodName)) ∈ lw_all := lw_g (lw_at lw_m2 161 rfl) rfl
theorem q504 : (Jvm.Cond.privateMethod ({ cls := "CellReducer$Cell", name := "turnsAll", desc := "()V" } : Jvm.MethodName)) ∈ lw_tbl := lw_at lw_m2 162 rfl
theorem q505 : (Jvm.Cond.instanceMethod ({ cls := "CellReducer$Cell", name := "turnsAll", desc := "()V" } : Jvm.MethodName)) ∈ lw_all := lw_g (lw_at lw_m2 163 rfl) rfl
theorem q506 : (Jvm.Cond.code ({ cls := "CellReducer$Cell", name := "turnsAll", desc := "()V" } : Jvm.MethodName) prog_2_method_21_code (1 : Nat) (Option.none : Option Jvm.ClassFile.FieldType)) ∈ lw_all := lw_g (lw_at lw_m2 164 rfl) rfl
theorem q507 : (Jvm.Cond.methodLink "CellReducer$Cell" (89 : Nat) ({ cls := "CellReducer$Cell", name := "turns", desc := "(I)V" } : Jvm.MethodName)) ∈ lw_all := lw_g (lw_at lw_m2 165 rfl) rfl
theorem q508 : (Jvm.Cond.methodLink "CellReducer$Cell" (102 : Nat) ({ cls := "CellReducer$Cell", name := "turnsBy", desc := "(Z)V" } : Jvm.MethodName)) ∈ lw_all := lw_g (lw_at lw_m2 166 rfl) rfl
theorem q509 : (Jvm.Cond.privateMethod ({ cls := "CellReducer$Cell", name := "turnsBy", desc := "(Z)V" } : Jvm.MethodName)) ∈ lw_tbl := lw_at lw_m2 167 rfl
theorem q510 : (Jvm.Cond.instanceMethod ({ cls := "CellReducer$Cell", name := "turnsBy", desc := "(Z)V" } : Jvm.MethodName)) ∈ lw_all := lw_g (lw_at lw_m2 168 rfl) rfl
theorem q511 : (Jvm.Cond.code ({ cls := "CellReducer$Cell", name := "turnsBy", desc := "(Z)V" } : Jvm.MethodName) prog_2_method_18_code (5 : Nat) (Option.none : Option Jvm.ClassFile.FieldType)) ∈ lw_all := lw_g (lw_at lw_m2 169 rfl) rfl
theorem q512 : (Jvm.Cond.methodLink "CellReducer$Cell" (106 : Nat) ({ cls := "CellReducer$Cell", name := "less", desc := "(J)J" } : Jvm.MethodName)) ∈ lw_all := lw_g (lw_at lw_m2 170 rfl) rfl
theorem q513 : (Jvm.Cond.static ({ cls := "CellReducer$Cell", name := "less", desc := "(J)J" } : Jvm.MethodName)) ∈ lw_all := lw_g (lw_at lw_m2 171 rfl) rfl
theorem q514 : (Jvm.Cond.code ({ cls := "CellReducer$Cell", name := "less", desc := "(J)J" } : Jvm.MethodName) prog_2_method_19_code (2 : Nat) (Option.some Jvm.ClassFile.FieldType.long)) ∈ lw_all := lw_g (lw_at lw_m2 172 rfl) rfl
theorem q515 : (Jvm.Cond.constantLong "CellReducer$Cell" (93 : Nat) (-1 : Int64)) ∈ lw_all := lw_g (lw_at lw_m2 173 rfl) rfl
theorem q516 : (Jvm.Cond.methodLink "CellReducer$Cell" (109 : Nat) ({ cls := "CellReducer$Cell", name := "adds", desc := "(IIJ)V" } : Jvm.MethodName)) ∈ lw_all := lw_g (lw_at lw_m2 174 rfl) rfl
theorem q591 : (Jvm.Cond.instanceMethod ({ cls := "CellReducer$Cell", name := "normalOf", desc := "(LCellReducer$Cell;)I" } : Jvm.MethodName)) ∈ lw_all := lw_g (lw_at lw_m3 9 rfl) rfl
theorem q592 : (Jvm.Cond.selects "CellReducer$Cell" ({ cls := "CellReducer$Cell", name := "normalOf", desc := "(LCellReducer$Cell;)I" } : Jvm.MethodName) ({ cls := "CellReducer$Cell", name := "normalOf", desc := "(LCellReducer$Cell;)I" } : Jvm.MethodName)) ∈ lw_all := lw_g (lw_at lw_m3 10 rfl) rfl
theorem q593 : (Jvm.Cond.code ({ cls := "CellReducer$Cell", name := "normalOf", desc := "(LCellReducer$Cell;)I" } : Jvm.MethodName) prog_2_method_23_code (3 : Nat) (Option.some Jvm.ClassFile.FieldType.int)) ∈ lw_all := lw_g (lw_at lw_m3 11 rfl) rfl
theorem q594 : (Jvm.Cond.methodLink "CellReducer$Cell" (119 : Nat) ({ cls := "CellReducer$Cell", name := "takes", desc := "(LCellReducer$Cell;)LCellReducer$Cell;" } : Jvm.MethodName)) ∈ lw_all := lw_g (lw_at lw_m3 12 rfl) rfl
theorem q595 : (Jvm.Cond.methodLink "CellReducer$Cell" (123 : Nat) ({ cls := "CellReducer$Cell", name := "steps", desc := "()I" } : Jvm.MethodName)) ∈ lw_all := lw_g (lw_at lw_m3 13 rfl) rfl
theorem q875 : (Jvm.Cond.selects "CellReducer$Cell" ({ cls := "java/lang/Object", name := "getClass", desc := "()Ljava/lang/Class;" } : Jvm.MethodName) ({ cls := "java/lang/Object", name := "getClass", desc := "()Ljava/lang/Class;" } : Jvm.MethodName)) ∈ lw_all := lw_g (lw_at lw_m4 53 rfl) rfl
theorem q1350 : (Jvm.Cond.instanceMethod ({ cls := "CellReducer$Cell", name := "isLike", desc := "(LCellReducer$Cell;)Z" } : Jvm.MethodName)) ∈ lw_all := lw_g (lw_at lw_m6 48 rfl) rfl
theorem q1351 : (Jvm.Cond.selects "CellReducer$Cell" ({ cls := "CellReducer$Cell", name := "isLike", desc := "(LCellReducer$Cell;)Z" } : Jvm.MethodName) ({ cls := "CellReducer$Cell", name := "isLike", desc := "(LCellReducer$Cell;)Z" } : Jvm.MethodName)) ∈ lw_all := lw_g (lw_at lw_m6 49 rfl) rfl
theorem q1352 : (Jvm.Cond.code ({ cls := "CellReducer$Cell", name := "isLike", desc := "(LCellReducer$Cell;)Z" } : Jvm.MethodName) prog_2_method_6_code (3 : Nat) (Option.some Jvm.ClassFile.FieldType.boolean)) ∈ lw_all := lw_g (lw_at lw_m6 50 rfl) rfl
theorem q1353 : (Jvm.Cond.methodLink "CellReducer$Cell" (37 : Nat) ({ cls := "CellReducer$Cell", name := "six", desc := "(I)J" } : Jvm.MethodName)) ∈ lw_all := lw_g (lw_at lw_m6 51 rfl) rfl
theorem q1373 : (Jvm.Cond.instanceMethod ({ cls := "CellReducer$Cell", name := "twice", desc := "([J[J)J" } : Jvm.MethodName)) ∈ lw_all := lw_g (lw_at lw_m6 71 rfl) rfl
theorem q1374 : (Jvm.Cond.selects "CellReducer$Cell" ({ cls := "CellReducer$Cell", name := "twice", desc := "([J[J)J" } : Jvm.MethodName) ({ cls := "CellReducer$Cell", name := "twice", desc := "([J[J)J" } : Jvm.MethodName)) ∈ lw_all := lw_g (lw_at lw_m6 72 rfl) rfl
theorem q1375 : (Jvm.Cond.code ({ cls := "CellReducer$Cell", name := "twice", desc := "([J[J)J" } : Jvm.MethodName) prog_2_method_24_code (7 : Nat) (Option.some Jvm.ClassFile.FieldType.long)) ∈ lw_all := lw_g (lw_at lw_m6 73 rfl) rfl
theorem q1377 : (Jvm.Cond.instanceMethod ({ cls := "CellReducer$Cell", name := "puts", desc := "(LCellReducer$Cell;[J[J[J)LCellReducer$Cell;" } : Jvm.MethodName)) ∈ lw_all := lw_g (lw_at lw_m6 75 rfl) rfl
theorem q1378 : (Jvm.Cond.selects "CellReducer$Cell" ({ cls := "CellReducer$Cell", name := "puts", desc := "(LCellReducer$Cell;[J[J[J)LCellReducer$Cell;" } : Jvm.MethodName) ({ cls := "CellReducer$Cell", name := "puts", desc := "(LCellReducer$Cell;[J[J[J)LCellReducer$Cell;" } : Jvm.MethodName)) ∈ lw_all := lw_g (lw_at lw_m6 76 rfl) rfl
theorem q1379 : (Jvm.Cond.code ({ cls := "CellReducer$Cell", name := "puts", desc := "(LCellReducer$Cell;[J[J[J)LCellReducer$Cell;" } : Jvm.MethodName) prog_2_method_25_code (5 : Nat) (Option.some (Jvm.ClassFile.FieldType.object "CellReducer$Cell"))) ∈ lw_all := lw_g (lw_at lw_m6 77 rfl) rfl
theorem q1380 : (Jvm.Cond.methodLink "CellReducer$Cell" (127 : Nat) ({ cls := "CellReducer$Cell", name := "twice", desc := "([J[J)J" } : Jvm.MethodName)) ∈ lw_all := lw_g (lw_at lw_m6 78 rfl) rfl
theorem q1381 : (Jvm.Cond.methodLink "CellReducer$Cell" (131 : Nat) ({ cls := "CellReducer$Cell", name := "tells", desc := "(JJJJJJ)LCellReducer$Cell;" } : Jvm.MethodName)) ∈ lw_all := lw_g (lw_at lw_m6 79 rfl) rfl
theorem q1475 : (Jvm.Cond.selects "CellReducer$Cell" ({ cls := "java/lang/Object", name := "equals", desc := "(Ljava/lang/Object;)Z" } : Jvm.MethodName) ({ cls := "java/lang/Object", name := "equals", desc := "(Ljava/lang/Object;)Z" } : Jvm.MethodName)) ∈ lw_all := lw_g (lw_at lw_m6 173 rfl) rfl
theorem q3120 : (Jvm.Cond.castable "CellReducer$Cell" "java/lang/Object") ∈ lw_tbl := lw_at lw_m13 138 rfl
theorem in_X1 : ∀ w ∈ wsX10, w ∈ lw_all := lw_in wsX10 [185, 187, 189, 191] (by decide +kernel) (by decide +kernel)
/-! CellReducer$Reader -/
set_option maxRecDepth 100000
def RX3 : String := "CellReducer$Reader"
def TX3 : u_T := fun k => match k with
  | 0 => ("CellReducer$Reader", "told", "[[J", true)
  | 1 => ("CellReducer$Reader", "begins", "[I", true)
  | 2 => ("CellReducer$Reader", "isVectors", "[Z", true)
  | 3 => ("CellReducer$Reader", "parts", "I", false)
  | 4 => ("CellReducer$Reader", "at", "I", false)
  | _ => ("CellReducer$Reader", "this$0", "LCellReducer;", true)
def tyX3 : Nat → FieldType := fun k => match k with
  | 0 => .array (.array .long)
  | 1 => .array .int
  | 2 => .array .boolean
  | 3 => .int
  | 4 => .int
  | _ => .object "CellReducer"
abbrev wsX30 : List Cond := u_ws RX3 TX3 6
theorem nmX3 : ∀ a, a < 6 → ∀ b, b < 6 → a ≠ b → (TX3 a).2.1 ≠ (TX3 b).2.1 := by decide +kernel
theorem tyX3_ok : ∀ k, k < 6 → parseFieldDescriptor (TX3 k).2.2.1 = some (tyX3 k) := by decide +kernel
abbrev cX3_init : ByteArray := prog_4_method_1_code
def yX3_init : MethodName := ⟨RX3, "<init>", "(LCellReducer;)V"⟩
def dkwX3_init_1 : List UInt8 := [188, 10, 181, 0, 20, 42, 16, 12, 188, 4, 181, 0, 24, 177]
abbrev dktX3_init_1 : List UInt8 := dkwX3_init_1 ++ []
def dkwX3_init_0 : List UInt8 := [42, 43, 181, 0, 3, 42, 183, 0, 9, 42, 16, 12, 16, 9, 197, 0, 15, 2, 181, 0, 17, 42, 16, 12]
abbrev dktX3_init_0 : List UInt8 := dkwX3_init_0 ++ dktX3_init_1
theorem dksX3_init_0 : cX3_init.data.toList.drop 0 = dktX3_init_0 := by decide +kernel
theorem dksX3_init_1 : cX3_init.data.toList.drop 24 = dktX3_init_1 := dk_seg dksX3_init_0 24 rfl rfl
theorem dX3_init_0 : decode cX3_init 0 = .ok (.aload_n 0, 1) := dk_42 (dk_at dksX3_init_0 0 rfl rfl)
theorem dX3_init_1 : decode cX3_init 1 = .ok (.aload_n 1, 1) := dk_43 (dk_at dksX3_init_0 1 rfl rfl)
theorem dX3_init_2 : decode cX3_init 2 = .ok (.putfield 3, 3) := dk_181 0 3 (dk_at dksX3_init_0 2 rfl rfl)
theorem dX3_init_5 : decode cX3_init 5 = .ok (.aload_n 0, 1) := dk_42 (dk_at dksX3_init_0 5 rfl rfl)
theorem dX3_init_6 : decode cX3_init 6 = .ok (.invokespecial 9, 3) := dk_183 0 9 (dk_at dksX3_init_0 6 rfl rfl)
theorem dX3_init_9 : decode cX3_init 9 = .ok (.aload_n 0, 1) := dk_42 (dk_at dksX3_init_0 9 rfl rfl)
theorem dX3_init_10 : decode cX3_init 10 = .ok (.bipush 12, 2) := dk_16 12 (dk_at dksX3_init_0 10 rfl rfl)
theorem dX3_init_12 : decode cX3_init 12 = .ok (.bipush 9, 2) := dk_16 9 (dk_at dksX3_init_0 12 rfl rfl)
theorem dX3_init_14 : decode cX3_init 14 = .ok (.multianewarray 15 2, 4) := by decide +kernel
theorem dX3_init_18 : decode cX3_init 18 = .ok (.putfield 17, 3) := dk_181 0 17 (dk_at dksX3_init_0 18 rfl rfl)
theorem dX3_init_21 : decode cX3_init 21 = .ok (.aload_n 0, 1) := dk_42 (dk_at dksX3_init_0 21 rfl rfl)
theorem dX3_init_22 : decode cX3_init 22 = .ok (.bipush 12, 2) := dk_16 12 (dk_at dksX3_init_0 22 rfl rfl)
theorem dX3_init_24 : decode cX3_init 24 = .ok (.newarray .int, 2) := dk_188_10 (dk_at dksX3_init_1 0 rfl rfl)
theorem dX3_init_26 : decode cX3_init 26 = .ok (.putfield 20, 3) := dk_181 0 20 (dk_at dksX3_init_1 2 rfl rfl)
theorem dX3_init_29 : decode cX3_init 29 = .ok (.aload_n 0, 1) := dk_42 (dk_at dksX3_init_1 5 rfl rfl)
theorem dX3_init_30 : decode cX3_init 30 = .ok (.bipush 12, 2) := dk_16 12 (dk_at dksX3_init_1 6 rfl rfl)
theorem dX3_init_32 : decode cX3_init 32 = .ok (.newarray .boolean, 2) := dk_188_4 (dk_at dksX3_init_1 8 rfl rfl)
theorem dX3_init_34 : decode cX3_init 34 = .ok (.putfield 24, 3) := dk_181 0 24 (dk_at dksX3_init_1 10 rfl rfl)
theorem dX3_init_37 : decode cX3_init 37 = .ok (.return_, 1) := dk_177 (dk_at dksX3_init_1 13 rfl rfl)
abbrev cX3_whole : ByteArray := prog_4_method_7_code
def yX3_whole : MethodName := ⟨RX3, "whole", "()LCellReducer$Reader;"⟩
def dkwX3_whole_1 : List UInt8 := [42, 182, 0, 72, 167, 255, 232, 42, 176]
abbrev dktX3_whole_1 : List UInt8 := dkwX3_whole_1 ++ []
def dkwX3_whole_0 : List UInt8 := [42, 182, 0, 72, 42, 180, 0, 28, 42, 180, 0, 3, 180, 0, 32, 162, 0, 16, 42, 16, 59, 182, 0, 52]
abbrev dktX3_whole_0 : List UInt8 := dkwX3_whole_0 ++ dktX3_whole_1
theorem dksX3_whole_0 : cX3_whole.data.toList.drop 0 = dktX3_whole_0 := by decide +kernel
theorem dksX3_whole_1 : cX3_whole.data.toList.drop 24 = dktX3_whole_1 := dk_seg dksX3_whole_0 24 rfl rfl
theorem dX3_whole_0 : decode cX3_whole 0 = .ok (.aload_n 0, 1) := dk_42 (dk_at dksX3_whole_0 0 rfl rfl)
theorem dX3_whole_1 : decode cX3_whole 1 = .ok (.invokevirtual 72, 3) := dk_182 0 72 (dk_at dksX3_whole_0 1 rfl rfl)
theorem dX3_whole_4 : decode cX3_whole 4 = .ok (.aload_n 0, 1) := dk_42 (dk_at dksX3_whole_0 4 rfl rfl)
theorem dX3_whole_5 : decode cX3_whole 5 = .ok (.getfield 28, 3) := dk_180 0 28 (dk_at dksX3_whole_0 5 rfl rfl)
theorem dX3_whole_8 : decode cX3_whole 8 = .ok (.aload_n 0, 1) := dk_42 (dk_at dksX3_whole_0 8 rfl rfl)
theorem dX3_whole_9 : decode cX3_whole 9 = .ok (.getfield 3, 3) := dk_180 0 3 (dk_at dksX3_whole_0 9 rfl rfl)
theorem dX3_whole_12 : decode cX3_whole 12 = .ok (.getfield 32, 3) := dk_180 0 32 (dk_at dksX3_whole_0 12 rfl rfl)
theorem dX3_whole_15 : decode cX3_whole 15 = .ok (.if_icmp .ge 16, 3) := dk_162 0 16 (dk_at dksX3_whole_0 15 rfl rfl)
theorem dX3_whole_18 : decode cX3_whole 18 = .ok (.aload_n 0, 1) := dk_42 (dk_at dksX3_whole_0 18 rfl rfl)
theorem dX3_whole_19 : decode cX3_whole 19 = .ok (.bipush 59, 2) := dk_16 59 (dk_at dksX3_whole_0 19 rfl rfl)
theorem dX3_whole_21 : decode cX3_whole 21 = .ok (.invokevirtual 52, 3) := dk_182 0 52 (dk_at dksX3_whole_0 21 rfl rfl)
theorem dX3_whole_24 : decode cX3_whole 24 = .ok (.aload_n 0, 1) := dk_42 (dk_at dksX3_whole_1 0 rfl rfl)
theorem dX3_whole_25 : decode cX3_whole 25 = .ok (.invokevirtual 72, 3) := dk_182 0 72 (dk_at dksX3_whole_1 1 rfl rfl)
theorem dX3_whole_28 : decode cX3_whole 28 = .ok (.goto (-24), 3) := dk_167 255 232 (dk_at dksX3_whole_1 4 rfl rfl)
theorem dX3_whole_31 : decode cX3_whole 31 = .ok (.aload_n 0, 1) := dk_42 (dk_at dksX3_whole_1 7 rfl rfl)
theorem dX3_whole_32 : decode cX3_whole 32 = .ok (.areturn, 1) := dk_176 (dk_at dksX3_whole_1 8 rfl rfl)
abbrev cX3_part : ByteArray := prog_4_method_6_code
def yX3_part : MethodName := ⟨RX3, "part", "()V"⟩
def dkwX3_part_4 : List UInt8 := [180, 0, 65, 4, 96, 181, 0, 65, 177]
abbrev dktX3_part_4 : List UInt8 := dkwX3_part_4 ++ []
def dkwX3_part_3 : List UInt8 := [180, 0, 17, 42, 180, 0, 65, 50, 27, 42, 182, 0, 68, 80, 132, 1, 1, 167, 255, 215, 42, 89]
abbrev dktX3_part_3 : List UInt8 := dkwX3_part_3 ++ dktX3_part_4
def dkwX3_part_2 : List UInt8 := [27, 42, 180, 0, 24, 42, 180, 0, 65, 51, 153, 0, 8, 16, 9, 167, 0, 5, 16, 6, 162, 0, 24, 42]
abbrev dktX3_part_2 : List UInt8 := dkwX3_part_2 ++ dktX3_part_3
def dkwX3_part_1 : List UInt8 := [182, 0, 43, 84, 42, 180, 0, 24, 42, 180, 0, 65, 51, 154, 0, 9, 42, 16, 103, 182, 0, 52, 3, 60]
abbrev dktX3_part_1 : List UInt8 := dkwX3_part_1 ++ dktX3_part_2
def dkwX3_part_0 : List UInt8 := [42, 180, 0, 20, 42, 180, 0, 65, 42, 180, 0, 28, 79, 42, 180, 0, 24, 42, 180, 0, 65, 42, 16, 118]
abbrev dktX3_part_0 : List UInt8 := dkwX3_part_0 ++ dktX3_part_1
theorem dksX3_part_0 : cX3_part.data.toList.drop 0 = dktX3_part_0 := by decide +kernel
theorem dksX3_part_1 : cX3_part.data.toList.drop 24 = dktX3_part_1 := dk_seg dksX3_part_0 24 rfl rfl
theorem dksX3_part_2 : cX3_part.data.toList.drop 48 = dktX3_part_2 := dk_seg dksX3_part_1 24 rfl rfl
theorem dksX3_part_3 : cX3_part.data.toList.drop 72 = dktX3_part_3 := dk_seg dksX3_part_2 24 rfl rfl
theorem dksX3_part_4 : cX3_part.data.toList.drop 94 = dktX3_part_4 := dk_seg dksX3_part_3 22 rfl rfl
theorem dX3_part_0 : decode cX3_part 0 = .ok (.aload_n 0, 1) := dk_42 (dk_at dksX3_part_0 0 rfl rfl)
theorem dX3_part_1 : decode cX3_part 1 = .ok (.getfield 20, 3) := dk_180 0 20 (dk_at dksX3_part_0 1 rfl rfl)
theorem dX3_part_4 : decode cX3_part 4 = .ok (.aload_n 0, 1) := dk_42 (dk_at dksX3_part_0 4 rfl rfl)
theorem dX3_part_5 : decode cX3_part 5 = .ok (.getfield 65, 3) := dk_180 0 65 (dk_at dksX3_part_0 5 rfl rfl)
theorem dX3_part_8 : decode cX3_part 8 = .ok (.aload_n 0, 1) := dk_42 (dk_at dksX3_part_0 8 rfl rfl)
theorem dX3_part_9 : decode cX3_part 9 = .ok (.getfield 28, 3) := dk_180 0 28 (dk_at dksX3_part_0 9 rfl rfl)
theorem dX3_part_12 : decode cX3_part 12 = .ok (.iastore, 1) := dk_79 (dk_at dksX3_part_0 12 rfl rfl)
theorem dX3_part_13 : decode cX3_part 13 = .ok (.aload_n 0, 1) := dk_42 (dk_at dksX3_part_0 13 rfl rfl)
theorem dX3_part_14 : decode cX3_part 14 = .ok (.getfield 24, 3) := dk_180 0 24 (dk_at dksX3_part_0 14 rfl rfl)
theorem dX3_part_17 : decode cX3_part 17 = .ok (.aload_n 0, 1) := dk_42 (dk_at dksX3_part_0 17 rfl rfl)
theorem dX3_part_18 : decode cX3_part 18 = .ok (.getfield 65, 3) := dk_180 0 65 (dk_at dksX3_part_0 18 rfl rfl)
theorem dX3_part_21 : decode cX3_part 21 = .ok (.aload_n 0, 1) := dk_42 (dk_at dksX3_part_0 21 rfl rfl)
theorem dX3_part_22 : decode cX3_part 22 = .ok (.bipush 118, 2) := dk_16 118 (dk_at dksX3_part_0 22 rfl rfl)
theorem dX3_part_24 : decode cX3_part 24 = .ok (.invokevirtual 43, 3) := dk_182 0 43 (dk_at dksX3_part_1 0 rfl rfl)
theorem dX3_part_27 : decode cX3_part 27 = .ok (.bastore, 1) := dk_84 (dk_at dksX3_part_1 3 rfl rfl)
theorem dX3_part_28 : decode cX3_part 28 = .ok (.aload_n 0, 1) := dk_42 (dk_at dksX3_part_1 4 rfl rfl)
theorem dX3_part_29 : decode cX3_part 29 = .ok (.getfield 24, 3) := dk_180 0 24 (dk_at dksX3_part_1 5 rfl rfl)
theorem dX3_part_32 : decode cX3_part 32 = .ok (.aload_n 0, 1) := dk_42 (dk_at dksX3_part_1 8 rfl rfl)
theorem dX3_part_33 : decode cX3_part 33 = .ok (.getfield 65, 3) := dk_180 0 65 (dk_at dksX3_part_1 9 rfl rfl)
theorem dX3_part_36 : decode cX3_part 36 = .ok (.baload, 1) := dk_51 (dk_at dksX3_part_1 12 rfl rfl)
theorem dX3_part_37 : decode cX3_part 37 = .ok (.ifCond .ne 9, 3) := dk_154 0 9 (dk_at dksX3_part_1 13 rfl rfl)
theorem dX3_part_40 : decode cX3_part 40 = .ok (.aload_n 0, 1) := dk_42 (dk_at dksX3_part_1 16 rfl rfl)
theorem dX3_part_41 : decode cX3_part 41 = .ok (.bipush 103, 2) := dk_16 103 (dk_at dksX3_part_1 17 rfl rfl)
theorem dX3_part_43 : decode cX3_part 43 = .ok (.invokevirtual 52, 3) := dk_182 0 52 (dk_at dksX3_part_1 19 rfl rfl)
theorem dX3_part_46 : decode cX3_part 46 = .ok (.iconst 0, 1) := dk_3 (dk_at dksX3_part_1 22 rfl rfl)
theorem dX3_part_47 : decode cX3_part 47 = .ok (.istore_n 1, 1) := dk_60 (dk_at dksX3_part_1 23 rfl rfl)
theorem dX3_part_48 : decode cX3_part 48 = .ok (.iload_n 1, 1) := dk_27 (dk_at dksX3_part_2 0 rfl rfl)
theorem dX3_part_49 : decode cX3_part 49 = .ok (.aload_n 0, 1) := dk_42 (dk_at dksX3_part_2 1 rfl rfl)
theorem dX3_part_50 : decode cX3_part 50 = .ok (.getfield 24, 3) := dk_180 0 24 (dk_at dksX3_part_2 2 rfl rfl)
theorem dX3_part_53 : decode cX3_part 53 = .ok (.aload_n 0, 1) := dk_42 (dk_at dksX3_part_2 5 rfl rfl)
theorem dX3_part_54 : decode cX3_part 54 = .ok (.getfield 65, 3) := dk_180 0 65 (dk_at dksX3_part_2 6 rfl rfl)
theorem dX3_part_57 : decode cX3_part 57 = .ok (.baload, 1) := dk_51 (dk_at dksX3_part_2 9 rfl rfl)
theorem dX3_part_58 : decode cX3_part 58 = .ok (.ifCond .eq 8, 3) := dk_153 0 8 (dk_at dksX3_part_2 10 rfl rfl)
theorem dX3_part_61 : decode cX3_part 61 = .ok (.bipush 9, 2) := dk_16 9 (dk_at dksX3_part_2 13 rfl rfl)
theorem dX3_part_63 : decode cX3_part 63 = .ok (.goto 5, 3) := dk_167 0 5 (dk_at dksX3_part_2 15 rfl rfl)
theorem dX3_part_66 : decode cX3_part 66 = .ok (.bipush 6, 2) := dk_16 6 (dk_at dksX3_part_2 18 rfl rfl)
theorem dX3_part_68 : decode cX3_part 68 = .ok (.if_icmp .ge 24, 3) := dk_162 0 24 (dk_at dksX3_part_2 20 rfl rfl)
theorem dX3_part_71 : decode cX3_part 71 = .ok (.aload_n 0, 1) := dk_42 (dk_at dksX3_part_2 23 rfl rfl)
theorem dX3_part_72 : decode cX3_part 72 = .ok (.getfield 17, 3) := dk_180 0 17 (dk_at dksX3_part_3 0 rfl rfl)
theorem dX3_part_75 : decode cX3_part 75 = .ok (.aload_n 0, 1) := dk_42 (dk_at dksX3_part_3 3 rfl rfl)
theorem dX3_part_76 : decode cX3_part 76 = .ok (.getfield 65, 3) := dk_180 0 65 (dk_at dksX3_part_3 4 rfl rfl)
theorem dX3_part_79 : decode cX3_part 79 = .ok (.aaload, 1) := dk_50 (dk_at dksX3_part_3 7 rfl rfl)
theorem dX3_part_80 : decode cX3_part 80 = .ok (.iload_n 1, 1) := dk_27 (dk_at dksX3_part_3 8 rfl rfl)
theorem dX3_part_81 : decode cX3_part 81 = .ok (.aload_n 0, 1) := dk_42 (dk_at dksX3_part_3 9 rfl rfl)
theorem dX3_part_82 : decode cX3_part 82 = .ok (.invokevirtual 68, 3) := dk_182 0 68 (dk_at dksX3_part_3 10 rfl rfl)
theorem dX3_part_85 : decode cX3_part 85 = .ok (.lastore, 1) := dk_80 (dk_at dksX3_part_3 13 rfl rfl)
theorem dX3_part_86 : decode cX3_part 86 = .ok (.iinc 1 1, 3) := dk_132 1 1 (dk_at dksX3_part_3 14 rfl rfl)
theorem dX3_part_89 : decode cX3_part 89 = .ok (.goto (-41), 3) := dk_167 255 215 (dk_at dksX3_part_3 17 rfl rfl)
theorem dX3_part_92 : decode cX3_part 92 = .ok (.aload_n 0, 1) := dk_42 (dk_at dksX3_part_3 20 rfl rfl)
theorem dX3_part_93 : decode cX3_part 93 = .ok (.dup, 1) := dk_89 (dk_at dksX3_part_3 21 rfl rfl)
theorem dX3_part_94 : decode cX3_part 94 = .ok (.getfield 65, 3) := dk_180 0 65 (dk_at dksX3_part_4 0 rfl rfl)
theorem dX3_part_97 : decode cX3_part 97 = .ok (.iconst 1, 1) := dk_4 (dk_at dksX3_part_4 3 rfl rfl)
theorem dX3_part_98 : decode cX3_part 98 = .ok (.iadd, 1) := dk_96 (dk_at dksX3_part_4 4 rfl rfl)
theorem dX3_part_99 : decode cX3_part 99 = .ok (.putfield 65, 3) := dk_181 0 65 (dk_at dksX3_part_4 5 rfl rfl)
theorem dX3_part_102 : decode cX3_part 102 = .ok (.return_, 1) := dk_177 (dk_at dksX3_part_4 8 rfl rfl)
abbrev cX3_take : ByteArray := prog_4_method_3_code
def yX3_take : MethodName := ⟨RX3, "take", "(I)Z"⟩
def dkwX3_take_0 : List UInt8 := [42, 182, 0, 39, 27, 159, 0, 5, 3, 172, 42, 89, 180, 0, 28, 4, 96, 181, 0, 28, 4, 172]
abbrev dktX3_take_0 : List UInt8 := dkwX3_take_0 ++ []
theorem dksX3_take_0 : cX3_take.data.toList.drop 0 = dktX3_take_0 := by decide +kernel
theorem dX3_take_0 : decode cX3_take 0 = .ok (.aload_n 0, 1) := dk_42 (dk_at dksX3_take_0 0 rfl rfl)
theorem dX3_take_1 : decode cX3_take 1 = .ok (.invokevirtual 39, 3) := dk_182 0 39 (dk_at dksX3_take_0 1 rfl rfl)
theorem dX3_take_4 : decode cX3_take 4 = .ok (.iload_n 1, 1) := dk_27 (dk_at dksX3_take_0 4 rfl rfl)
theorem dX3_take_5 : decode cX3_take 5 = .ok (.if_icmp .eq 5, 3) := dk_159 0 5 (dk_at dksX3_take_0 5 rfl rfl)
theorem dX3_take_8 : decode cX3_take 8 = .ok (.iconst 0, 1) := dk_3 (dk_at dksX3_take_0 8 rfl rfl)
theorem dX3_take_9 : decode cX3_take 9 = .ok (.ireturn, 1) := dk_172 (dk_at dksX3_take_0 9 rfl rfl)
theorem dX3_take_10 : decode cX3_take 10 = .ok (.aload_n 0, 1) := dk_42 (dk_at dksX3_take_0 10 rfl rfl)
theorem dX3_take_11 : decode cX3_take 11 = .ok (.dup, 1) := dk_89 (dk_at dksX3_take_0 11 rfl rfl)
theorem dX3_take_12 : decode cX3_take 12 = .ok (.getfield 28, 3) := dk_180 0 28 (dk_at dksX3_take_0 12 rfl rfl)
theorem dX3_take_15 : decode cX3_take 15 = .ok (.iconst 1, 1) := dk_4 (dk_at dksX3_take_0 15 rfl rfl)
theorem dX3_take_16 : decode cX3_take 16 = .ok (.iadd, 1) := dk_96 (dk_at dksX3_take_0 16 rfl rfl)
theorem dX3_take_17 : decode cX3_take 17 = .ok (.putfield 28, 3) := dk_181 0 28 (dk_at dksX3_take_0 17 rfl rfl)
theorem dX3_take_20 : decode cX3_take 20 = .ok (.iconst 1, 1) := dk_4 (dk_at dksX3_take_0 20 rfl rfl)
theorem dX3_take_21 : decode cX3_take 21 = .ok (.ireturn, 1) := dk_172 (dk_at dksX3_take_0 21 rfl rfl)
abbrev cX3_peek : ByteArray := prog_4_method_2_code
def yX3_peek : MethodName := ⟨RX3, "peek", "()I"⟩
def dkwX3_peek_1 : List UInt8 := [180, 0, 28, 51, 167, 0, 4, 2, 172]
abbrev dktX3_peek_1 : List UInt8 := dkwX3_peek_1 ++ []
def dkwX3_peek_0 : List UInt8 := [42, 180, 0, 28, 42, 180, 0, 3, 180, 0, 32, 162, 0, 18, 42, 180, 0, 3, 180, 0, 35, 42]
abbrev dktX3_peek_0 : List UInt8 := dkwX3_peek_0 ++ dktX3_peek_1
theorem dksX3_peek_0 : cX3_peek.data.toList.drop 0 = dktX3_peek_0 := by decide +kernel
theorem dksX3_peek_1 : cX3_peek.data.toList.drop 22 = dktX3_peek_1 := dk_seg dksX3_peek_0 22 rfl rfl
theorem dX3_peek_0 : decode cX3_peek 0 = .ok (.aload_n 0, 1) := dk_42 (dk_at dksX3_peek_0 0 rfl rfl)
theorem dX3_peek_1 : decode cX3_peek 1 = .ok (.getfield 28, 3) := dk_180 0 28 (dk_at dksX3_peek_0 1 rfl rfl)
theorem dX3_peek_4 : decode cX3_peek 4 = .ok (.aload_n 0, 1) := dk_42 (dk_at dksX3_peek_0 4 rfl rfl)
theorem dX3_peek_5 : decode cX3_peek 5 = .ok (.getfield 3, 3) := dk_180 0 3 (dk_at dksX3_peek_0 5 rfl rfl)
theorem dX3_peek_8 : decode cX3_peek 8 = .ok (.getfield 32, 3) := dk_180 0 32 (dk_at dksX3_peek_0 8 rfl rfl)
theorem dX3_peek_11 : decode cX3_peek 11 = .ok (.if_icmp .ge 18, 3) := dk_162 0 18 (dk_at dksX3_peek_0 11 rfl rfl)
theorem dX3_peek_14 : decode cX3_peek 14 = .ok (.aload_n 0, 1) := dk_42 (dk_at dksX3_peek_0 14 rfl rfl)
theorem dX3_peek_15 : decode cX3_peek 15 = .ok (.getfield 3, 3) := dk_180 0 3 (dk_at dksX3_peek_0 15 rfl rfl)
theorem dX3_peek_18 : decode cX3_peek 18 = .ok (.getfield 35, 3) := dk_180 0 35 (dk_at dksX3_peek_0 18 rfl rfl)
theorem dX3_peek_21 : decode cX3_peek 21 = .ok (.aload_n 0, 1) := dk_42 (dk_at dksX3_peek_0 21 rfl rfl)
theorem dX3_peek_22 : decode cX3_peek 22 = .ok (.getfield 28, 3) := dk_180 0 28 (dk_at dksX3_peek_1 0 rfl rfl)
theorem dX3_peek_25 : decode cX3_peek 25 = .ok (.baload, 1) := dk_51 (dk_at dksX3_peek_1 3 rfl rfl)
theorem dX3_peek_26 : decode cX3_peek 26 = .ok (.goto 4, 3) := dk_167 0 4 (dk_at dksX3_peek_1 4 rfl rfl)
theorem dX3_peek_29 : decode cX3_peek 29 = .ok (.iconst (-1), 1) := dk_2 (dk_at dksX3_peek_1 7 rfl rfl)
theorem dX3_peek_30 : decode cX3_peek 30 = .ok (.ireturn, 1) := dk_172 (dk_at dksX3_peek_1 8 rfl rfl)
abbrev cX3_must : ByteArray := prog_4_method_4_code
def yX3_must : MethodName := ⟨RX3, "must", "(I)V"⟩
def dkwX3_must_1 : List UInt8 := [177]
abbrev dktX3_must_1 : List UInt8 := dkwX3_must_1 ++ []
def dkwX3_must_0 : List UInt8 := [42, 27, 182, 0, 43, 154, 0, 19, 187, 0, 47, 89, 17, 252, 24, 42, 180, 0, 28, 100, 183, 0, 49, 191]
abbrev dktX3_must_0 : List UInt8 := dkwX3_must_0 ++ dktX3_must_1
theorem dksX3_must_0 : cX3_must.data.toList.drop 0 = dktX3_must_0 := by decide +kernel
theorem dksX3_must_1 : cX3_must.data.toList.drop 24 = dktX3_must_1 := dk_seg dksX3_must_0 24 rfl rfl
theorem dX3_must_0 : decode cX3_must 0 = .ok (.aload_n 0, 1) := dk_42 (dk_at dksX3_must_0 0 rfl rfl)
theorem dX3_must_1 : decode cX3_must 1 = .ok (.iload_n 1, 1) := dk_27 (dk_at dksX3_must_0 1 rfl rfl)
theorem dX3_must_2 : decode cX3_must 2 = .ok (.invokevirtual 43, 3) := dk_182 0 43 (dk_at dksX3_must_0 2 rfl rfl)
theorem dX3_must_5 : decode cX3_must 5 = .ok (.ifCond .ne 19, 3) := dk_154 0 19 (dk_at dksX3_must_0 5 rfl rfl)
theorem dX3_must_8 : decode cX3_must 8 = .ok (.new 47, 3) := dk_187 0 47 (dk_at dksX3_must_0 8 rfl rfl)
theorem dX3_must_11 : decode cX3_must 11 = .ok (.dup, 1) := dk_89 (dk_at dksX3_must_0 11 rfl rfl)
theorem dX3_must_12 : decode cX3_must 12 = .ok (.sipush (-1000), 3) := dk_17 252 24 (dk_at dksX3_must_0 12 rfl rfl)
theorem dX3_must_15 : decode cX3_must 15 = .ok (.aload_n 0, 1) := dk_42 (dk_at dksX3_must_0 15 rfl rfl)
theorem dX3_must_16 : decode cX3_must 16 = .ok (.getfield 28, 3) := dk_180 0 28 (dk_at dksX3_must_0 16 rfl rfl)
theorem dX3_must_19 : decode cX3_must 19 = .ok (.isub, 1) := dk_100 (dk_at dksX3_must_0 19 rfl rfl)
theorem dX3_must_20 : decode cX3_must 20 = .ok (.invokespecial 49, 3) := dk_183 0 49 (dk_at dksX3_must_0 20 rfl rfl)
theorem dX3_must_23 : decode cX3_must 23 = .ok (.athrow, 1) := dk_191 (dk_at dksX3_must_0 23 rfl rfl)
theorem dX3_must_24 : decode cX3_must 24 = .ok (.return_, 1) := dk_177 (dk_at dksX3_must_1 0 rfl rfl)
abbrev cX3_number : ByteArray := prog_4_method_5_code
def yX3_number : MethodName := ⟨RX3, "number", "()J"⟩
def dkwX3_number_4 : List UInt8 := [89, 17, 252, 24, 42, 180, 0, 28, 100, 183, 0, 49, 191, 27, 153, 0, 8, 33, 117, 167, 0, 4, 33, 173]
abbrev dktX3_number_4 : List UInt8 := dkwX3_number_4 ++ []
def dkwX3_number_3 : List UInt8 := [42, 89, 180, 0, 28, 4, 96, 181, 0, 28, 167, 255, 195, 42, 180, 0, 28, 28, 160, 0, 19, 187, 0, 47]
abbrev dktX3_number_3 : List UInt8 := dkwX3_number_3 ++ dktX3_number_4
def dkwX3_number_2 : List UInt8 := [20, 0, 63, 33, 105, 42, 180, 0, 3, 180, 0, 35, 42, 180, 0, 28, 51, 133, 97, 20, 0, 55, 101, 66]
abbrev dktX3_number_2 : List UInt8 := dkwX3_number_2 ++ dktX3_number_3
def dkwX3_number_1 : List UInt8 := [28, 100, 8, 162, 0, 57, 42, 182, 0, 39, 133, 20, 0, 55, 20, 0, 57, 184, 0, 59, 153, 0, 40]
abbrev dktX3_number_1 : List UInt8 := dkwX3_number_1 ++ dktX3_number_2
def dkwX3_number_0 : List UInt8 := [42, 16, 32, 182, 0, 52, 42, 16, 45, 182, 0, 43, 60, 42, 180, 0, 28, 61, 9, 66, 42, 180, 0, 28]
abbrev dktX3_number_0 : List UInt8 := dkwX3_number_0 ++ dktX3_number_1
theorem dksX3_number_0 : cX3_number.data.toList.drop 0 = dktX3_number_0 := by decide +kernel
theorem dksX3_number_1 : cX3_number.data.toList.drop 24 = dktX3_number_1 := dk_seg dksX3_number_0 24 rfl rfl
theorem dksX3_number_2 : cX3_number.data.toList.drop 47 = dktX3_number_2 := dk_seg dksX3_number_1 23 rfl rfl
theorem dksX3_number_3 : cX3_number.data.toList.drop 71 = dktX3_number_3 := dk_seg dksX3_number_2 24 rfl rfl
theorem dksX3_number_4 : cX3_number.data.toList.drop 95 = dktX3_number_4 := dk_seg dksX3_number_3 24 rfl rfl
theorem dX3_number_0 : decode cX3_number 0 = .ok (.aload_n 0, 1) := dk_42 (dk_at dksX3_number_0 0 rfl rfl)
theorem dX3_number_1 : decode cX3_number 1 = .ok (.bipush 32, 2) := dk_16 32 (dk_at dksX3_number_0 1 rfl rfl)
theorem dX3_number_3 : decode cX3_number 3 = .ok (.invokevirtual 52, 3) := dk_182 0 52 (dk_at dksX3_number_0 3 rfl rfl)
theorem dX3_number_6 : decode cX3_number 6 = .ok (.aload_n 0, 1) := dk_42 (dk_at dksX3_number_0 6 rfl rfl)
theorem dX3_number_7 : decode cX3_number 7 = .ok (.bipush 45, 2) := dk_16 45 (dk_at dksX3_number_0 7 rfl rfl)
theorem dX3_number_9 : decode cX3_number 9 = .ok (.invokevirtual 43, 3) := dk_182 0 43 (dk_at dksX3_number_0 9 rfl rfl)
theorem dX3_number_12 : decode cX3_number 12 = .ok (.istore_n 1, 1) := dk_60 (dk_at dksX3_number_0 12 rfl rfl)
theorem dX3_number_13 : decode cX3_number 13 = .ok (.aload_n 0, 1) := dk_42 (dk_at dksX3_number_0 13 rfl rfl)
theorem dX3_number_14 : decode cX3_number 14 = .ok (.getfield 28, 3) := dk_180 0 28 (dk_at dksX3_number_0 14 rfl rfl)
theorem dX3_number_17 : decode cX3_number 17 = .ok (.istore_n 2, 1) := dk_61 (dk_at dksX3_number_0 17 rfl rfl)
theorem dX3_number_18 : decode cX3_number 18 = .ok (.lconst 0, 1) := dk_9 (dk_at dksX3_number_0 18 rfl rfl)
theorem dX3_number_19 : decode cX3_number 19 = .ok (.lstore_n 3, 1) := dk_66 (dk_at dksX3_number_0 19 rfl rfl)
theorem dX3_number_20 : decode cX3_number 20 = .ok (.aload_n 0, 1) := dk_42 (dk_at dksX3_number_0 20 rfl rfl)
theorem dX3_number_21 : decode cX3_number 21 = .ok (.getfield 28, 3) := dk_180 0 28 (dk_at dksX3_number_0 21 rfl rfl)
theorem dX3_number_24 : decode cX3_number 24 = .ok (.iload_n 2, 1) := dk_28 (dk_at dksX3_number_1 0 rfl rfl)
theorem dX3_number_25 : decode cX3_number 25 = .ok (.isub, 1) := dk_100 (dk_at dksX3_number_1 1 rfl rfl)
theorem dX3_number_26 : decode cX3_number 26 = .ok (.iconst 5, 1) := dk_8 (dk_at dksX3_number_1 2 rfl rfl)
theorem dX3_number_27 : decode cX3_number 27 = .ok (.if_icmp .ge 57, 3) := dk_162 0 57 (dk_at dksX3_number_1 3 rfl rfl)
theorem dX3_number_30 : decode cX3_number 30 = .ok (.aload_n 0, 1) := dk_42 (dk_at dksX3_number_1 6 rfl rfl)
theorem dX3_number_31 : decode cX3_number 31 = .ok (.invokevirtual 39, 3) := dk_182 0 39 (dk_at dksX3_number_1 7 rfl rfl)
theorem dX3_number_34 : decode cX3_number 34 = .ok (.i2l, 1) := dk_133 (dk_at dksX3_number_1 10 rfl rfl)
theorem dX3_number_35 : decode cX3_number 35 = .ok (.ldc2_w 55, 3) := dk_20 0 55 (dk_at dksX3_number_1 11 rfl rfl)
theorem dX3_number_38 : decode cX3_number 38 = .ok (.ldc2_w 57, 3) := dk_20 0 57 (dk_at dksX3_number_1 14 rfl rfl)
theorem dX3_number_41 : decode cX3_number 41 = .ok (.invokestatic 59, 3) := dk_184 0 59 (dk_at dksX3_number_1 17 rfl rfl)
theorem dX3_number_44 : decode cX3_number 44 = .ok (.ifCond .eq 40, 3) := dk_153 0 40 (dk_at dksX3_number_1 20 rfl rfl)
theorem dX3_number_47 : decode cX3_number 47 = .ok (.ldc2_w 63, 3) := dk_20 0 63 (dk_at dksX3_number_2 0 rfl rfl)
theorem dX3_number_50 : decode cX3_number 50 = .ok (.lload_n 3, 1) := dk_33 (dk_at dksX3_number_2 3 rfl rfl)
theorem dX3_number_51 : decode cX3_number 51 = .ok (.lmul, 1) := dk_105 (dk_at dksX3_number_2 4 rfl rfl)
theorem dX3_number_52 : decode cX3_number 52 = .ok (.aload_n 0, 1) := dk_42 (dk_at dksX3_number_2 5 rfl rfl)
theorem dX3_number_53 : decode cX3_number 53 = .ok (.getfield 3, 3) := dk_180 0 3 (dk_at dksX3_number_2 6 rfl rfl)
theorem dX3_number_56 : decode cX3_number 56 = .ok (.getfield 35, 3) := dk_180 0 35 (dk_at dksX3_number_2 9 rfl rfl)
theorem dX3_number_59 : decode cX3_number 59 = .ok (.aload_n 0, 1) := dk_42 (dk_at dksX3_number_2 12 rfl rfl)
theorem dX3_number_60 : decode cX3_number 60 = .ok (.getfield 28, 3) := dk_180 0 28 (dk_at dksX3_number_2 13 rfl rfl)
theorem dX3_number_63 : decode cX3_number 63 = .ok (.baload, 1) := dk_51 (dk_at dksX3_number_2 16 rfl rfl)
theorem dX3_number_64 : decode cX3_number 64 = .ok (.i2l, 1) := dk_133 (dk_at dksX3_number_2 17 rfl rfl)
theorem dX3_number_65 : decode cX3_number 65 = .ok (.ladd, 1) := dk_97 (dk_at dksX3_number_2 18 rfl rfl)
theorem dX3_number_66 : decode cX3_number 66 = .ok (.ldc2_w 55, 3) := dk_20 0 55 (dk_at dksX3_number_2 19 rfl rfl)
theorem dX3_number_69 : decode cX3_number 69 = .ok (.lsub, 1) := dk_101 (dk_at dksX3_number_2 22 rfl rfl)
theorem dX3_number_70 : decode cX3_number 70 = .ok (.lstore_n 3, 1) := dk_66 (dk_at dksX3_number_2 23 rfl rfl)
theorem dX3_number_71 : decode cX3_number 71 = .ok (.aload_n 0, 1) := dk_42 (dk_at dksX3_number_3 0 rfl rfl)
theorem dX3_number_72 : decode cX3_number 72 = .ok (.dup, 1) := dk_89 (dk_at dksX3_number_3 1 rfl rfl)
theorem dX3_number_73 : decode cX3_number 73 = .ok (.getfield 28, 3) := dk_180 0 28 (dk_at dksX3_number_3 2 rfl rfl)
theorem dX3_number_76 : decode cX3_number 76 = .ok (.iconst 1, 1) := dk_4 (dk_at dksX3_number_3 5 rfl rfl)
theorem dX3_number_77 : decode cX3_number 77 = .ok (.iadd, 1) := dk_96 (dk_at dksX3_number_3 6 rfl rfl)
theorem dX3_number_78 : decode cX3_number 78 = .ok (.putfield 28, 3) := dk_181 0 28 (dk_at dksX3_number_3 7 rfl rfl)
theorem dX3_number_81 : decode cX3_number 81 = .ok (.goto (-61), 3) := dk_167 255 195 (dk_at dksX3_number_3 10 rfl rfl)
theorem dX3_number_84 : decode cX3_number 84 = .ok (.aload_n 0, 1) := dk_42 (dk_at dksX3_number_3 13 rfl rfl)
theorem dX3_number_85 : decode cX3_number 85 = .ok (.getfield 28, 3) := dk_180 0 28 (dk_at dksX3_number_3 14 rfl rfl)
theorem dX3_number_88 : decode cX3_number 88 = .ok (.iload_n 2, 1) := dk_28 (dk_at dksX3_number_3 17 rfl rfl)
theorem dX3_number_89 : decode cX3_number 89 = .ok (.if_icmp .ne 19, 3) := dk_160 0 19 (dk_at dksX3_number_3 18 rfl rfl)
theorem dX3_number_92 : decode cX3_number 92 = .ok (.new 47, 3) := dk_187 0 47 (dk_at dksX3_number_3 21 rfl rfl)
theorem dX3_number_95 : decode cX3_number 95 = .ok (.dup, 1) := dk_89 (dk_at dksX3_number_4 0 rfl rfl)
theorem dX3_number_96 : decode cX3_number 96 = .ok (.sipush (-1000), 3) := dk_17 252 24 (dk_at dksX3_number_4 1 rfl rfl)
theorem dX3_number_99 : decode cX3_number 99 = .ok (.aload_n 0, 1) := dk_42 (dk_at dksX3_number_4 4 rfl rfl)
theorem dX3_number_100 : decode cX3_number 100 = .ok (.getfield 28, 3) := dk_180 0 28 (dk_at dksX3_number_4 5 rfl rfl)
theorem dX3_number_103 : decode cX3_number 103 = .ok (.isub, 1) := dk_100 (dk_at dksX3_number_4 8 rfl rfl)
theorem dX3_number_104 : decode cX3_number 104 = .ok (.invokespecial 49, 3) := dk_183 0 49 (dk_at dksX3_number_4 9 rfl rfl)
theorem dX3_number_107 : decode cX3_number 107 = .ok (.athrow, 1) := dk_191 (dk_at dksX3_number_4 12 rfl rfl)
theorem dX3_number_108 : decode cX3_number 108 = .ok (.iload_n 1, 1) := dk_27 (dk_at dksX3_number_4 13 rfl rfl)
theorem dX3_number_109 : decode cX3_number 109 = .ok (.ifCond .eq 8, 3) := dk_153 0 8 (dk_at dksX3_number_4 14 rfl rfl)
theorem dX3_number_112 : decode cX3_number 112 = .ok (.lload_n 3, 1) := dk_33 (dk_at dksX3_number_4 17 rfl rfl)
theorem dX3_number_113 : decode cX3_number 113 = .ok (.lneg, 1) := dk_117 (dk_at dksX3_number_4 18 rfl rfl)
theorem dX3_number_114 : decode cX3_number 114 = .ok (.goto 4, 3) := dk_167 0 4 (dk_at dksX3_number_4 19 rfl rfl)
theorem dX3_number_117 : decode cX3_number 117 = .ok (.lload_n 3, 1) := dk_33 (dk_at dksX3_number_4 22 rfl rfl)
theorem dX3_number_118 : decode cX3_number 118 = .ok (.lreturn, 1) := dk_173 (dk_at dksX3_number_4 23 rfl rfl)
abbrev cX3_tries : ByteArray := prog_4_method_9_code
def yX3_tries : MethodName := ⟨RX3, "tries", "(I)V"⟩
def dkwX3_tries_5 : List UInt8 := [87, 177]
abbrev dktX3_tries_5 : List UInt8 := dkwX3_tries_5 ++ []
def dkwX3_tries_4 : List UInt8 := [180, 0, 75, 44, 3, 47, 44, 4, 47, 44, 5, 47, 44, 6, 47, 44, 7, 47, 44, 8, 47, 182, 0, 85]
abbrev dktX3_tries_4 : List UInt8 := dkwX3_tries_4 ++ dktX3_tries_5
def dkwX3_tries_3 : List UInt8 := [20, 0, 83, 42, 44, 3, 6, 182, 0, 79, 105, 182, 0, 85, 87, 167, 0, 32, 42, 180, 0, 3]
abbrev dktX3_tries_3 : List UInt8 := dkwX3_tries_3 ++ dktX3_tries_4
def dkwX3_tries_2 : List UInt8 := [20, 0, 83, 42, 44, 6, 16, 6, 182, 0, 79, 105, 20, 0, 83, 42, 44, 3, 16, 6, 182, 0, 79, 105]
abbrev dktX3_tries_2 : List UInt8 := dkwX3_tries_2 ++ dktX3_tries_3
def dkwX3_tries_1 : List UInt8 := [44, 3, 3, 182, 0, 79, 42, 44, 6, 6, 182, 0, 79, 42, 44, 16, 6, 16, 6, 182, 0, 79]
abbrev dktX3_tries_1 : List UInt8 := dkwX3_tries_1 ++ dktX3_tries_2
def dkwX3_tries_0 : List UInt8 := [42, 180, 0, 17, 27, 50, 77, 42, 180, 0, 24, 27, 51, 153, 0, 75, 42, 180, 0, 3, 180, 0, 75, 42]
abbrev dktX3_tries_0 : List UInt8 := dkwX3_tries_0 ++ dktX3_tries_1
theorem dksX3_tries_0 : cX3_tries.data.toList.drop 0 = dktX3_tries_0 := by decide +kernel
theorem dksX3_tries_1 : cX3_tries.data.toList.drop 24 = dktX3_tries_1 := dk_seg dksX3_tries_0 24 rfl rfl
theorem dksX3_tries_2 : cX3_tries.data.toList.drop 46 = dktX3_tries_2 := dk_seg dksX3_tries_1 22 rfl rfl
theorem dksX3_tries_3 : cX3_tries.data.toList.drop 70 = dktX3_tries_3 := dk_seg dksX3_tries_2 24 rfl rfl
theorem dksX3_tries_4 : cX3_tries.data.toList.drop 92 = dktX3_tries_4 := dk_seg dksX3_tries_3 22 rfl rfl
theorem dksX3_tries_5 : cX3_tries.data.toList.drop 116 = dktX3_tries_5 := dk_seg dksX3_tries_4 24 rfl rfl
theorem dX3_tries_0 : decode cX3_tries 0 = .ok (.aload_n 0, 1) := dk_42 (dk_at dksX3_tries_0 0 rfl rfl)
theorem dX3_tries_1 : decode cX3_tries 1 = .ok (.getfield 17, 3) := dk_180 0 17 (dk_at dksX3_tries_0 1 rfl rfl)
theorem dX3_tries_4 : decode cX3_tries 4 = .ok (.iload_n 1, 1) := dk_27 (dk_at dksX3_tries_0 4 rfl rfl)
theorem dX3_tries_5 : decode cX3_tries 5 = .ok (.aaload, 1) := dk_50 (dk_at dksX3_tries_0 5 rfl rfl)
theorem dX3_tries_6 : decode cX3_tries 6 = .ok (.astore_n 2, 1) := dk_77 (dk_at dksX3_tries_0 6 rfl rfl)
theorem dX3_tries_7 : decode cX3_tries 7 = .ok (.aload_n 0, 1) := dk_42 (dk_at dksX3_tries_0 7 rfl rfl)
theorem dX3_tries_8 : decode cX3_tries 8 = .ok (.getfield 24, 3) := dk_180 0 24 (dk_at dksX3_tries_0 8 rfl rfl)
theorem dX3_tries_11 : decode cX3_tries 11 = .ok (.iload_n 1, 1) := dk_27 (dk_at dksX3_tries_0 11 rfl rfl)
theorem dX3_tries_12 : decode cX3_tries 12 = .ok (.baload, 1) := dk_51 (dk_at dksX3_tries_0 12 rfl rfl)
theorem dX3_tries_13 : decode cX3_tries 13 = .ok (.ifCond .eq 75, 3) := dk_153 0 75 (dk_at dksX3_tries_0 13 rfl rfl)
theorem dX3_tries_16 : decode cX3_tries 16 = .ok (.aload_n 0, 1) := dk_42 (dk_at dksX3_tries_0 16 rfl rfl)
theorem dX3_tries_17 : decode cX3_tries 17 = .ok (.getfield 3, 3) := dk_180 0 3 (dk_at dksX3_tries_0 17 rfl rfl)
theorem dX3_tries_20 : decode cX3_tries 20 = .ok (.getfield 75, 3) := dk_180 0 75 (dk_at dksX3_tries_0 20 rfl rfl)
theorem dX3_tries_23 : decode cX3_tries 23 = .ok (.aload_n 0, 1) := dk_42 (dk_at dksX3_tries_0 23 rfl rfl)
theorem dX3_tries_24 : decode cX3_tries 24 = .ok (.aload_n 2, 1) := dk_44 (dk_at dksX3_tries_1 0 rfl rfl)
theorem dX3_tries_25 : decode cX3_tries 25 = .ok (.iconst 0, 1) := dk_3 (dk_at dksX3_tries_1 1 rfl rfl)
theorem dX3_tries_26 : decode cX3_tries 26 = .ok (.iconst 0, 1) := dk_3 (dk_at dksX3_tries_1 2 rfl rfl)
theorem dX3_tries_27 : decode cX3_tries 27 = .ok (.invokevirtual 79, 3) := dk_182 0 79 (dk_at dksX3_tries_1 3 rfl rfl)
theorem dX3_tries_30 : decode cX3_tries 30 = .ok (.aload_n 0, 1) := dk_42 (dk_at dksX3_tries_1 6 rfl rfl)
theorem dX3_tries_31 : decode cX3_tries 31 = .ok (.aload_n 2, 1) := dk_44 (dk_at dksX3_tries_1 7 rfl rfl)
theorem dX3_tries_32 : decode cX3_tries 32 = .ok (.iconst 3, 1) := dk_6 (dk_at dksX3_tries_1 8 rfl rfl)
theorem dX3_tries_33 : decode cX3_tries 33 = .ok (.iconst 3, 1) := dk_6 (dk_at dksX3_tries_1 9 rfl rfl)
theorem dX3_tries_34 : decode cX3_tries 34 = .ok (.invokevirtual 79, 3) := dk_182 0 79 (dk_at dksX3_tries_1 10 rfl rfl)
theorem dX3_tries_37 : decode cX3_tries 37 = .ok (.aload_n 0, 1) := dk_42 (dk_at dksX3_tries_1 13 rfl rfl)
theorem dX3_tries_38 : decode cX3_tries 38 = .ok (.aload_n 2, 1) := dk_44 (dk_at dksX3_tries_1 14 rfl rfl)
theorem dX3_tries_39 : decode cX3_tries 39 = .ok (.bipush 6, 2) := dk_16 6 (dk_at dksX3_tries_1 15 rfl rfl)
theorem dX3_tries_41 : decode cX3_tries 41 = .ok (.bipush 6, 2) := dk_16 6 (dk_at dksX3_tries_1 17 rfl rfl)
theorem dX3_tries_43 : decode cX3_tries 43 = .ok (.invokevirtual 79, 3) := dk_182 0 79 (dk_at dksX3_tries_1 19 rfl rfl)
theorem dX3_tries_46 : decode cX3_tries 46 = .ok (.ldc2_w 83, 3) := dk_20 0 83 (dk_at dksX3_tries_2 0 rfl rfl)
theorem dX3_tries_49 : decode cX3_tries 49 = .ok (.aload_n 0, 1) := dk_42 (dk_at dksX3_tries_2 3 rfl rfl)
theorem dX3_tries_50 : decode cX3_tries 50 = .ok (.aload_n 2, 1) := dk_44 (dk_at dksX3_tries_2 4 rfl rfl)
theorem dX3_tries_51 : decode cX3_tries 51 = .ok (.iconst 3, 1) := dk_6 (dk_at dksX3_tries_2 5 rfl rfl)
theorem dX3_tries_52 : decode cX3_tries 52 = .ok (.bipush 6, 2) := dk_16 6 (dk_at dksX3_tries_2 6 rfl rfl)
theorem dX3_tries_54 : decode cX3_tries 54 = .ok (.invokevirtual 79, 3) := dk_182 0 79 (dk_at dksX3_tries_2 8 rfl rfl)
theorem dX3_tries_57 : decode cX3_tries 57 = .ok (.lmul, 1) := dk_105 (dk_at dksX3_tries_2 11 rfl rfl)
theorem dX3_tries_58 : decode cX3_tries 58 = .ok (.ldc2_w 83, 3) := dk_20 0 83 (dk_at dksX3_tries_2 12 rfl rfl)
theorem dX3_tries_61 : decode cX3_tries 61 = .ok (.aload_n 0, 1) := dk_42 (dk_at dksX3_tries_2 15 rfl rfl)
theorem dX3_tries_62 : decode cX3_tries 62 = .ok (.aload_n 2, 1) := dk_44 (dk_at dksX3_tries_2 16 rfl rfl)
theorem dX3_tries_63 : decode cX3_tries 63 = .ok (.iconst 0, 1) := dk_3 (dk_at dksX3_tries_2 17 rfl rfl)
theorem dX3_tries_64 : decode cX3_tries 64 = .ok (.bipush 6, 2) := dk_16 6 (dk_at dksX3_tries_2 18 rfl rfl)
theorem dX3_tries_66 : decode cX3_tries 66 = .ok (.invokevirtual 79, 3) := dk_182 0 79 (dk_at dksX3_tries_2 20 rfl rfl)
theorem dX3_tries_69 : decode cX3_tries 69 = .ok (.lmul, 1) := dk_105 (dk_at dksX3_tries_2 23 rfl rfl)
theorem dX3_tries_70 : decode cX3_tries 70 = .ok (.ldc2_w 83, 3) := dk_20 0 83 (dk_at dksX3_tries_3 0 rfl rfl)
theorem dX3_tries_73 : decode cX3_tries 73 = .ok (.aload_n 0, 1) := dk_42 (dk_at dksX3_tries_3 3 rfl rfl)
theorem dX3_tries_74 : decode cX3_tries 74 = .ok (.aload_n 2, 1) := dk_44 (dk_at dksX3_tries_3 4 rfl rfl)
theorem dX3_tries_75 : decode cX3_tries 75 = .ok (.iconst 0, 1) := dk_3 (dk_at dksX3_tries_3 5 rfl rfl)
theorem dX3_tries_76 : decode cX3_tries 76 = .ok (.iconst 3, 1) := dk_6 (dk_at dksX3_tries_3 6 rfl rfl)
theorem dX3_tries_77 : decode cX3_tries 77 = .ok (.invokevirtual 79, 3) := dk_182 0 79 (dk_at dksX3_tries_3 7 rfl rfl)
theorem dX3_tries_80 : decode cX3_tries 80 = .ok (.lmul, 1) := dk_105 (dk_at dksX3_tries_3 10 rfl rfl)
theorem dX3_tries_81 : decode cX3_tries 81 = .ok (.invokevirtual 85, 3) := dk_182 0 85 (dk_at dksX3_tries_3 11 rfl rfl)
theorem dX3_tries_84 : decode cX3_tries 84 = .ok (.pop, 1) := dk_87 (dk_at dksX3_tries_3 14 rfl rfl)
theorem dX3_tries_85 : decode cX3_tries 85 = .ok (.goto 32, 3) := dk_167 0 32 (dk_at dksX3_tries_3 15 rfl rfl)
theorem dX3_tries_88 : decode cX3_tries 88 = .ok (.aload_n 0, 1) := dk_42 (dk_at dksX3_tries_3 18 rfl rfl)
theorem dX3_tries_89 : decode cX3_tries 89 = .ok (.getfield 3, 3) := dk_180 0 3 (dk_at dksX3_tries_3 19 rfl rfl)
theorem dX3_tries_92 : decode cX3_tries 92 = .ok (.getfield 75, 3) := dk_180 0 75 (dk_at dksX3_tries_4 0 rfl rfl)
theorem dX3_tries_95 : decode cX3_tries 95 = .ok (.aload_n 2, 1) := dk_44 (dk_at dksX3_tries_4 3 rfl rfl)
theorem dX3_tries_96 : decode cX3_tries 96 = .ok (.iconst 0, 1) := dk_3 (dk_at dksX3_tries_4 4 rfl rfl)
theorem dX3_tries_97 : decode cX3_tries 97 = .ok (.laload, 1) := dk_47 (dk_at dksX3_tries_4 5 rfl rfl)
theorem dX3_tries_98 : decode cX3_tries 98 = .ok (.aload_n 2, 1) := dk_44 (dk_at dksX3_tries_4 6 rfl rfl)
theorem dX3_tries_99 : decode cX3_tries 99 = .ok (.iconst 1, 1) := dk_4 (dk_at dksX3_tries_4 7 rfl rfl)
theorem dX3_tries_100 : decode cX3_tries 100 = .ok (.laload, 1) := dk_47 (dk_at dksX3_tries_4 8 rfl rfl)
theorem dX3_tries_101 : decode cX3_tries 101 = .ok (.aload_n 2, 1) := dk_44 (dk_at dksX3_tries_4 9 rfl rfl)
theorem dX3_tries_102 : decode cX3_tries 102 = .ok (.iconst 2, 1) := dk_5 (dk_at dksX3_tries_4 10 rfl rfl)
theorem dX3_tries_103 : decode cX3_tries 103 = .ok (.laload, 1) := dk_47 (dk_at dksX3_tries_4 11 rfl rfl)
theorem dX3_tries_104 : decode cX3_tries 104 = .ok (.aload_n 2, 1) := dk_44 (dk_at dksX3_tries_4 12 rfl rfl)
theorem dX3_tries_105 : decode cX3_tries 105 = .ok (.iconst 3, 1) := dk_6 (dk_at dksX3_tries_4 13 rfl rfl)
theorem dX3_tries_106 : decode cX3_tries 106 = .ok (.laload, 1) := dk_47 (dk_at dksX3_tries_4 14 rfl rfl)
theorem dX3_tries_107 : decode cX3_tries 107 = .ok (.aload_n 2, 1) := dk_44 (dk_at dksX3_tries_4 15 rfl rfl)
theorem dX3_tries_108 : decode cX3_tries 108 = .ok (.iconst 4, 1) := dk_7 (dk_at dksX3_tries_4 16 rfl rfl)
theorem dX3_tries_109 : decode cX3_tries 109 = .ok (.laload, 1) := dk_47 (dk_at dksX3_tries_4 17 rfl rfl)
theorem dX3_tries_110 : decode cX3_tries 110 = .ok (.aload_n 2, 1) := dk_44 (dk_at dksX3_tries_4 18 rfl rfl)
theorem dX3_tries_111 : decode cX3_tries 111 = .ok (.iconst 5, 1) := dk_8 (dk_at dksX3_tries_4 19 rfl rfl)
theorem dX3_tries_112 : decode cX3_tries 112 = .ok (.laload, 1) := dk_47 (dk_at dksX3_tries_4 20 rfl rfl)
theorem dX3_tries_113 : decode cX3_tries 113 = .ok (.invokevirtual 85, 3) := dk_182 0 85 (dk_at dksX3_tries_4 21 rfl rfl)
theorem dX3_tries_116 : decode cX3_tries 116 = .ok (.pop, 1) := dk_87 (dk_at dksX3_tries_5 0 rfl rfl)
theorem dX3_tries_117 : decode cX3_tries 117 = .ok (.return_, 1) := dk_177 (dk_at dksX3_tries_5 1 rfl rfl)
abbrev cX3_product : ByteArray := prog_4_method_8_code
def yX3_product : MethodName := ⟨RX3, "product", "([JII)J"⟩
def dkwX3_product_1 : List UInt8 := [43, 29, 5, 96, 47, 105, 97, 173]
abbrev dktX3_product_1 : List UInt8 := dkwX3_product_1 ++ []
def dkwX3_product_0 : List UInt8 := [43, 28, 47, 43, 29, 47, 105, 43, 28, 4, 96, 47, 43, 29, 4, 96, 47, 105, 97, 43, 28, 5, 96, 47]
abbrev dktX3_product_0 : List UInt8 := dkwX3_product_0 ++ dktX3_product_1
theorem dksX3_product_0 : cX3_product.data.toList.drop 0 = dktX3_product_0 := by decide +kernel
theorem dksX3_product_1 : cX3_product.data.toList.drop 24 = dktX3_product_1 := dk_seg dksX3_product_0 24 rfl rfl
theorem dX3_product_0 : decode cX3_product 0 = .ok (.aload_n 1, 1) := dk_43 (dk_at dksX3_product_0 0 rfl rfl)
theorem dX3_product_1 : decode cX3_product 1 = .ok (.iload_n 2, 1) := dk_28 (dk_at dksX3_product_0 1 rfl rfl)
theorem dX3_product_2 : decode cX3_product 2 = .ok (.laload, 1) := dk_47 (dk_at dksX3_product_0 2 rfl rfl)
theorem dX3_product_3 : decode cX3_product 3 = .ok (.aload_n 1, 1) := dk_43 (dk_at dksX3_product_0 3 rfl rfl)
theorem dX3_product_4 : decode cX3_product 4 = .ok (.iload_n 3, 1) := dk_29 (dk_at dksX3_product_0 4 rfl rfl)
theorem dX3_product_5 : decode cX3_product 5 = .ok (.laload, 1) := dk_47 (dk_at dksX3_product_0 5 rfl rfl)
theorem dX3_product_6 : decode cX3_product 6 = .ok (.lmul, 1) := dk_105 (dk_at dksX3_product_0 6 rfl rfl)
theorem dX3_product_7 : decode cX3_product 7 = .ok (.aload_n 1, 1) := dk_43 (dk_at dksX3_product_0 7 rfl rfl)
theorem dX3_product_8 : decode cX3_product 8 = .ok (.iload_n 2, 1) := dk_28 (dk_at dksX3_product_0 8 rfl rfl)
theorem dX3_product_9 : decode cX3_product 9 = .ok (.iconst 1, 1) := dk_4 (dk_at dksX3_product_0 9 rfl rfl)
theorem dX3_product_10 : decode cX3_product 10 = .ok (.iadd, 1) := dk_96 (dk_at dksX3_product_0 10 rfl rfl)
theorem dX3_product_11 : decode cX3_product 11 = .ok (.laload, 1) := dk_47 (dk_at dksX3_product_0 11 rfl rfl)
theorem dX3_product_12 : decode cX3_product 12 = .ok (.aload_n 1, 1) := dk_43 (dk_at dksX3_product_0 12 rfl rfl)
theorem dX3_product_13 : decode cX3_product 13 = .ok (.iload_n 3, 1) := dk_29 (dk_at dksX3_product_0 13 rfl rfl)
theorem dX3_product_14 : decode cX3_product 14 = .ok (.iconst 1, 1) := dk_4 (dk_at dksX3_product_0 14 rfl rfl)
theorem dX3_product_15 : decode cX3_product 15 = .ok (.iadd, 1) := dk_96 (dk_at dksX3_product_0 15 rfl rfl)
theorem dX3_product_16 : decode cX3_product 16 = .ok (.laload, 1) := dk_47 (dk_at dksX3_product_0 16 rfl rfl)
theorem dX3_product_17 : decode cX3_product 17 = .ok (.lmul, 1) := dk_105 (dk_at dksX3_product_0 17 rfl rfl)
theorem dX3_product_18 : decode cX3_product 18 = .ok (.ladd, 1) := dk_97 (dk_at dksX3_product_0 18 rfl rfl)
theorem dX3_product_19 : decode cX3_product 19 = .ok (.aload_n 1, 1) := dk_43 (dk_at dksX3_product_0 19 rfl rfl)
theorem dX3_product_20 : decode cX3_product 20 = .ok (.iload_n 2, 1) := dk_28 (dk_at dksX3_product_0 20 rfl rfl)
theorem dX3_product_21 : decode cX3_product 21 = .ok (.iconst 2, 1) := dk_5 (dk_at dksX3_product_0 21 rfl rfl)
theorem dX3_product_22 : decode cX3_product 22 = .ok (.iadd, 1) := dk_96 (dk_at dksX3_product_0 22 rfl rfl)
theorem dX3_product_23 : decode cX3_product 23 = .ok (.laload, 1) := dk_47 (dk_at dksX3_product_0 23 rfl rfl)
theorem dX3_product_24 : decode cX3_product 24 = .ok (.aload_n 1, 1) := dk_43 (dk_at dksX3_product_1 0 rfl rfl)
theorem dX3_product_25 : decode cX3_product 25 = .ok (.iload_n 3, 1) := dk_29 (dk_at dksX3_product_1 1 rfl rfl)
theorem dX3_product_26 : decode cX3_product 26 = .ok (.iconst 2, 1) := dk_5 (dk_at dksX3_product_1 2 rfl rfl)
theorem dX3_product_27 : decode cX3_product 27 = .ok (.iadd, 1) := dk_96 (dk_at dksX3_product_1 3 rfl rfl)
theorem dX3_product_28 : decode cX3_product 28 = .ok (.laload, 1) := dk_47 (dk_at dksX3_product_1 4 rfl rfl)
theorem dX3_product_29 : decode cX3_product 29 = .ok (.lmul, 1) := dk_105 (dk_at dksX3_product_1 5 rfl rfl)
theorem dX3_product_30 : decode cX3_product 30 = .ok (.ladd, 1) := dk_97 (dk_at dksX3_product_1 6 rfl rfl)
theorem dX3_product_31 : decode cX3_product 31 = .ok (.lreturn, 1) := dk_173 (dk_at dksX3_product_1 7 rfl rfl)
theorem q159 : (Jvm.Cond.initialized "CellReducer$Reader") ∈ lw_all := lw_g (lw_at lw_m1 57 rfl) rfl
theorem q285 : (Jvm.Cond.fieldLinkNest "CellReducer$Reader" (75 : Nat) "CellReducer" "tried" "LCellReducer$Cell;" "CellReducer") ∈ lw_tbl := lw_at lw_m1 183 rfl
theorem q298 : (Jvm.Cond.fieldLinkNest "CellReducer$Reader" (35 : Nat) "CellReducer" "tape" "[B" "CellReducer") ∈ lw_tbl := lw_at lw_m1 196 rfl
theorem q300 : (Jvm.Cond.fieldLinkNest "CellReducer$Reader" (32 : Nat) "CellReducer" "length" "I" "CellReducer") ∈ lw_tbl := lw_at lw_m1 198 rfl
theorem q877 : (Jvm.Cond.selects "CellReducer$Reader" ({ cls := "java/lang/Object", name := "getClass", desc := "()Ljava/lang/Class;" } : Jvm.MethodName) ({ cls := "java/lang/Object", name := "getClass", desc := "()Ljava/lang/Class;" } : Jvm.MethodName)) ∈ lw_all := lw_g (lw_at lw_m4 55 rfl) rfl
theorem q1477 : (Jvm.Cond.selects "CellReducer$Reader" ({ cls := "java/lang/Object", name := "equals", desc := "(Ljava/lang/Object;)Z" } : Jvm.MethodName) ({ cls := "java/lang/Object", name := "equals", desc := "(Ljava/lang/Object;)Z" } : Jvm.MethodName)) ∈ lw_all := lw_g (lw_at lw_m6 175 rfl) rfl
theorem q2367 : (Jvm.Cond.instantiable "CellReducer$Reader" (6 : Nat)) ∈ lw_all := lw_g (lw_at lw_m10 105 rfl) rfl
theorem q2369 : (Jvm.Cond.instanceMethod ({ cls := "CellReducer$Reader", name := "<init>", desc := "(LCellReducer;)V" } : Jvm.MethodName)) ∈ lw_all := lw_g (lw_at lw_m10 107 rfl) rfl
theorem q2370 : (Jvm.Cond.code ({ cls := "CellReducer$Reader", name := "<init>", desc := "(LCellReducer;)V" } : Jvm.MethodName) prog_4_method_1_code (2 : Nat) (Option.none : Option Jvm.ClassFile.FieldType)) ∈ lw_all := lw_g (lw_at lw_m10 108 rfl) rfl
theorem q2371 : (Jvm.Cond.methodLink "CellReducer$Reader" (9 : Nat) ({ cls := "java/lang/Object", name := "<init>", desc := "()V" } : Jvm.MethodName)) ∈ lw_all := lw_g (lw_at lw_m10 109 rfl) rfl
theorem q2372 : (Jvm.Cond.classLink "CellReducer$Reader" (15 : Nat) "[[J") ∈ lw_all := lw_g (lw_at lw_m10 110 rfl) rfl
theorem q2373 : (Jvm.Cond.fieldLink "CellReducer$Reader" (17 : Nat) "CellReducer$Reader" "told" "[[J") ∈ lw_all := lw_g (lw_at lw_m10 111 rfl) rfl
theorem q2374 : (Jvm.Cond.fieldLink "CellReducer$Reader" (20 : Nat) "CellReducer$Reader" "begins" "[I") ∈ lw_all := lw_g (lw_at lw_m10 112 rfl) rfl
theorem q2376 : (Jvm.Cond.fieldLink "CellReducer$Reader" (24 : Nat) "CellReducer$Reader" "isVectors" "[Z") ∈ lw_all := lw_g (lw_at lw_m10 114 rfl) rfl
theorem q2377 : (Jvm.Cond.fieldLink "CellReducer$Reader" (65 : Nat) "CellReducer$Reader" "parts" "I") ∈ lw_all := lw_g (lw_at lw_m10 115 rfl) rfl
theorem q2379 : (Jvm.Cond.fieldLink "CellReducer$Reader" (28 : Nat) "CellReducer$Reader" "at" "I") ∈ lw_all := lw_g (lw_at lw_m10 117 rfl) rfl
theorem q2380 : (Jvm.Cond.fieldLink "CellReducer$Reader" (3 : Nat) "CellReducer$Reader" "this$0" "LCellReducer;") ∈ lw_all := lw_g (lw_at lw_m10 118 rfl) rfl
theorem q2381 : (Jvm.Cond.laysFinal "CellReducer$Reader" "CellReducer$Reader" "told" "[[J") ∈ lw_all := lw_g (lw_at lw_m10 119 rfl) rfl
theorem q2382 : (Jvm.Cond.soleField "CellReducer$Reader" "told") ∈ lw_all := lw_g (lw_at lw_m10 120 rfl) rfl
theorem q2383 : (Jvm.Cond.laysFinal "CellReducer$Reader" "CellReducer$Reader" "begins" "[I") ∈ lw_all := lw_g (lw_at lw_m10 121 rfl) rfl
theorem q2384 : (Jvm.Cond.soleField "CellReducer$Reader" "begins") ∈ lw_all := lw_g (lw_at lw_m10 122 rfl) rfl
theorem q2385 : (Jvm.Cond.laysFinal "CellReducer$Reader" "CellReducer$Reader" "isVectors" "[Z") ∈ lw_all := lw_g (lw_at lw_m10 123 rfl) rfl
theorem q2386 : (Jvm.Cond.soleField "CellReducer$Reader" "isVectors") ∈ lw_all := lw_g (lw_at lw_m10 124 rfl) rfl
theorem q2387 : (Jvm.Cond.lays "CellReducer$Reader" "CellReducer$Reader" "parts" "I") ∈ lw_all := lw_g (lw_at lw_m10 125 rfl) rfl
theorem q2388 : (Jvm.Cond.soleField "CellReducer$Reader" "parts") ∈ lw_all := lw_g (lw_at lw_m10 126 rfl) rfl
theorem q2389 : (Jvm.Cond.lays "CellReducer$Reader" "CellReducer$Reader" "at" "I") ∈ lw_all := lw_g (lw_at lw_m10 127 rfl) rfl
theorem q2390 : (Jvm.Cond.soleField "CellReducer$Reader" "at") ∈ lw_all := lw_g (lw_at lw_m10 128 rfl) rfl
theorem q2391 : (Jvm.Cond.laysFinal "CellReducer$Reader" "CellReducer$Reader" "this$0" "LCellReducer;") ∈ lw_all := lw_g (lw_at lw_m10 129 rfl) rfl
theorem q2392 : (Jvm.Cond.soleField "CellReducer$Reader" "this$0") ∈ lw_all := lw_g (lw_at lw_m10 130 rfl) rfl
theorem q2393 : (Jvm.Cond.superclass "CellReducer$Reader" "java/lang/Object") ∈ lw_all := lw_g (lw_at lw_m10 131 rfl) rfl
theorem q2395 : (Jvm.Cond.instanceMethod ({ cls := "CellReducer$Reader", name := "whole", desc := "()LCellReducer$Reader;" } : Jvm.MethodName)) ∈ lw_all := lw_g (lw_at lw_m10 133 rfl) rfl
theorem q2396 : (Jvm.Cond.selects "CellReducer$Reader" ({ cls := "CellReducer$Reader", name := "whole", desc := "()LCellReducer$Reader;" } : Jvm.MethodName) ({ cls := "CellReducer$Reader", name := "whole", desc := "()LCellReducer$Reader;" } : Jvm.MethodName)) ∈ lw_all := lw_g (lw_at lw_m10 134 rfl) rfl
theorem q2397 : (Jvm.Cond.code ({ cls := "CellReducer$Reader", name := "whole", desc := "()LCellReducer$Reader;" } : Jvm.MethodName) prog_4_method_7_code (1 : Nat) (Option.some (Jvm.ClassFile.FieldType.object "CellReducer$Reader"))) ∈ lw_all := lw_g (lw_at lw_m10 135 rfl) rfl
theorem q2398 : (Jvm.Cond.methodLink "CellReducer$Reader" (72 : Nat) ({ cls := "CellReducer$Reader", name := "part", desc := "()V" } : Jvm.MethodName)) ∈ lw_all := lw_g (lw_at lw_m10 136 rfl) rfl
theorem q2399 : (Jvm.Cond.privateMethod ({ cls := "CellReducer$Reader", name := "part", desc := "()V" } : Jvm.MethodName)) ∈ lw_tbl := lw_at lw_m10 137 rfl
theorem q2400 : (Jvm.Cond.instanceMethod ({ cls := "CellReducer$Reader", name := "part", desc := "()V" } : Jvm.MethodName)) ∈ lw_all := lw_g (lw_at lw_m10 138 rfl) rfl
theorem q2401 : (Jvm.Cond.code ({ cls := "CellReducer$Reader", name := "part", desc := "()V" } : Jvm.MethodName) prog_4_method_6_code (2 : Nat) (Option.none : Option Jvm.ClassFile.FieldType)) ∈ lw_all := lw_g (lw_at lw_m10 139 rfl) rfl
theorem q2402 : (Jvm.Cond.methodLink "CellReducer$Reader" (43 : Nat) ({ cls := "CellReducer$Reader", name := "take", desc := "(I)Z" } : Jvm.MethodName)) ∈ lw_all := lw_g (lw_at lw_m10 140 rfl) rfl
theorem q2403 : (Jvm.Cond.privateMethod ({ cls := "CellReducer$Reader", name := "take", desc := "(I)Z" } : Jvm.MethodName)) ∈ lw_tbl := lw_at lw_m10 141 rfl
theorem q2404 : (Jvm.Cond.instanceMethod ({ cls := "CellReducer$Reader", name := "take", desc := "(I)Z" } : Jvm.MethodName)) ∈ lw_all := lw_g (lw_at lw_m10 142 rfl) rfl
theorem q2405 : (Jvm.Cond.code ({ cls := "CellReducer$Reader", name := "take", desc := "(I)Z" } : Jvm.MethodName) prog_4_method_3_code (2 : Nat) (Option.some Jvm.ClassFile.FieldType.boolean)) ∈ lw_all := lw_g (lw_at lw_m10 143 rfl) rfl
theorem q2406 : (Jvm.Cond.methodLink "CellReducer$Reader" (39 : Nat) ({ cls := "CellReducer$Reader", name := "peek", desc := "()I" } : Jvm.MethodName)) ∈ lw_all := lw_g (lw_at lw_m10 144 rfl) rfl
theorem q2407 : (Jvm.Cond.privateMethod ({ cls := "CellReducer$Reader", name := "peek", desc := "()I" } : Jvm.MethodName)) ∈ lw_tbl := lw_at lw_m10 145 rfl
theorem q2408 : (Jvm.Cond.instanceMethod ({ cls := "CellReducer$Reader", name := "peek", desc := "()I" } : Jvm.MethodName)) ∈ lw_all := lw_g (lw_at lw_m10 146 rfl) rfl
theorem q2409 : (Jvm.Cond.code ({ cls := "CellReducer$Reader", name := "peek", desc := "()I" } : Jvm.MethodName) prog_4_method_2_code (1 : Nat) (Option.some Jvm.ClassFile.FieldType.int)) ∈ lw_all := lw_g (lw_at lw_m10 147 rfl) rfl
theorem q2410 : (Jvm.Cond.methodLink "CellReducer$Reader" (52 : Nat) ({ cls := "CellReducer$Reader", name := "must", desc := "(I)V" } : Jvm.MethodName)) ∈ lw_all := lw_g (lw_at lw_m10 148 rfl) rfl
theorem q2411 : (Jvm.Cond.privateMethod ({ cls := "CellReducer$Reader", name := "must", desc := "(I)V" } : Jvm.MethodName)) ∈ lw_tbl := lw_at lw_m10 149 rfl
theorem q2412 : (Jvm.Cond.instanceMethod ({ cls := "CellReducer$Reader", name := "must", desc := "(I)V" } : Jvm.MethodName)) ∈ lw_all := lw_g (lw_at lw_m10 150 rfl) rfl
theorem q2413 : (Jvm.Cond.code ({ cls := "CellReducer$Reader", name := "must", desc := "(I)V" } : Jvm.MethodName) prog_4_method_4_code (2 : Nat) (Option.none : Option Jvm.ClassFile.FieldType)) ∈ lw_all := lw_g (lw_at lw_m10 151 rfl) rfl
theorem q2414 : (Jvm.Cond.classLink "CellReducer$Reader" (47 : Nat) "CellReducer$Fault") ∈ lw_all := lw_g (lw_at lw_m10 152 rfl) rfl
theorem q2423 : (Jvm.Cond.methodLink "CellReducer$Reader" (49 : Nat) ({ cls := "CellReducer$Fault", name := "<init>", desc := "(I)V" } : Jvm.MethodName)) ∈ lw_all := lw_g (lw_at lw_m10 161 rfl) rfl
theorem q2438 : (Jvm.Cond.methodLink "CellReducer$Reader" (68 : Nat) ({ cls := "CellReducer$Reader", name := "number", desc := "()J" } : Jvm.MethodName)) ∈ lw_all := lw_g (lw_at lw_m10 176 rfl) rfl
theorem q2439 : (Jvm.Cond.privateMethod ({ cls := "CellReducer$Reader", name := "number", desc := "()J" } : Jvm.MethodName)) ∈ lw_tbl := lw_at lw_m10 177 rfl
theorem q2440 : (Jvm.Cond.instanceMethod ({ cls := "CellReducer$Reader", name := "number", desc := "()J" } : Jvm.MethodName)) ∈ lw_all := lw_g (lw_at lw_m10 178 rfl) rfl
theorem q2441 : (Jvm.Cond.code ({ cls := "CellReducer$Reader", name := "number", desc := "()J" } : Jvm.MethodName) prog_4_method_5_code (5 : Nat) (Option.some Jvm.ClassFile.FieldType.long)) ∈ lw_all := lw_g (lw_at lw_m10 179 rfl) rfl
theorem q2442 : (Jvm.Cond.constantLong "CellReducer$Reader" (55 : Nat) (48 : Int64)) ∈ lw_all := lw_g (lw_at lw_m10 180 rfl) rfl
theorem q2443 : (Jvm.Cond.constantLong "CellReducer$Reader" (57 : Nat) (57 : Int64)) ∈ lw_all := lw_g (lw_at lw_m10 181 rfl) rfl
theorem q2444 : (Jvm.Cond.methodLinkNest "CellReducer$Reader" (59 : Nat) ({ cls := "CellReducer", name := "isIn", desc := "(JJJ)Z" } : Jvm.MethodName) "CellReducer") ∈ lw_tbl := lw_at lw_m10 182 rfl
theorem q2445 : (Jvm.Cond.constantLong "CellReducer$Reader" (63 : Nat) (10 : Int64)) ∈ lw_all := lw_g (lw_at lw_m10 183 rfl) rfl
theorem q2447 : (Jvm.Cond.instanceMethod ({ cls := "CellReducer$Reader", name := "tries", desc := "(I)V" } : Jvm.MethodName)) ∈ lw_all := lw_g (lw_at lw_m10 185 rfl) rfl
theorem q2448 : (Jvm.Cond.selects "CellReducer$Reader" ({ cls := "CellReducer$Reader", name := "tries", desc := "(I)V" } : Jvm.MethodName) ({ cls := "CellReducer$Reader", name := "tries", desc := "(I)V" } : Jvm.MethodName)) ∈ lw_all := lw_g (lw_at lw_m10 186 rfl) rfl
theorem q2449 : (Jvm.Cond.code ({ cls := "CellReducer$Reader", name := "tries", desc := "(I)V" } : Jvm.MethodName) prog_4_method_9_code (3 : Nat) (Option.none : Option Jvm.ClassFile.FieldType)) ∈ lw_all := lw_g (lw_at lw_m10 187 rfl) rfl
theorem q2450 : (Jvm.Cond.methodLink "CellReducer$Reader" (79 : Nat) ({ cls := "CellReducer$Reader", name := "product", desc := "([JII)J" } : Jvm.MethodName)) ∈ lw_all := lw_g (lw_at lw_m10 188 rfl) rfl
theorem q2451 : (Jvm.Cond.privateMethod ({ cls := "CellReducer$Reader", name := "product", desc := "([JII)J" } : Jvm.MethodName)) ∈ lw_tbl := lw_at lw_m10 189 rfl
theorem q2452 : (Jvm.Cond.instanceMethod ({ cls := "CellReducer$Reader", name := "product", desc := "([JII)J" } : Jvm.MethodName)) ∈ lw_all := lw_g (lw_at lw_m10 190 rfl) rfl
theorem q2453 : (Jvm.Cond.code ({ cls := "CellReducer$Reader", name := "product", desc := "([JII)J" } : Jvm.MethodName) prog_4_method_8_code (4 : Nat) (Option.some Jvm.ClassFile.FieldType.long)) ∈ lw_all := lw_g (lw_at lw_m10 191 rfl) rfl
theorem q2454 : (Jvm.Cond.constantLong "CellReducer$Reader" (83 : Nat) (2 : Int64)) ∈ lw_all := lw_g (lw_at lw_m10 192 rfl) rfl
theorem q2455 : (Jvm.Cond.methodLink "CellReducer$Reader" (85 : Nat) ({ cls := "CellReducer$Cell", name := "tells", desc := "(JJJJJJ)LCellReducer$Cell;" } : Jvm.MethodName)) ∈ lw_all := lw_g (lw_at lw_m10 193 rfl) rfl
theorem q3147 : (Jvm.Cond.castable "CellReducer$Reader" "java/lang/Object") ∈ lw_tbl := lw_at lw_m13 165 rfl
theorem in_X3 : ∀ w ∈ wsX30, w ∈ lw_all := lw_in wsX30 [2381, 2383, 2385, 2387, 2389, 2391] (by decide +kernel) (by decide +kernel)
/-! CellReducer$Fault -/
set_option maxRecDepth 100000
def RX4 : String := "CellReducer$Fault"
def TX4 : u_T := fun k => match k with
  | 0 => ("java/lang/Throwable", "cause", "Ljava/lang/Throwable;", false)
  | 1 => ("java/lang/Throwable", "stackTrace", "[Ljava/lang/StackTraceElement;", false)
  | 2 => ("java/lang/Throwable", "suppressedExceptions", "Ljava/util/List;", false)
  | 3 => ("java/lang/Throwable", "detailMessage", "Ljava/lang/String;", false)
  | 4 => ("java/lang/Throwable", "backtrace", "Ljava/lang/Object;", false)
  | 5 => ("java/lang/Throwable", "depth", "I", false)
  | _ => ("CellReducer$Fault", "code", "I", true)
def tyX4 : Nat → FieldType := fun k => match k with
  | 0 => .object "java/lang/Throwable"
  | 1 => .array (.object "java/lang/StackTraceElement")
  | 2 => .object "java/util/List"
  | 3 => .object "java/lang/String"
  | 4 => .object "java/lang/Object"
  | 5 => .int
  | _ => .int
abbrev wsX40 : List Cond := u_ws RX4 TX4 7
theorem nmX4 : ∀ a, a < 7 → ∀ b, b < 7 → a ≠ b → (TX4 a).2.1 ≠ (TX4 b).2.1 := by decide +kernel
theorem tyX4_ok : ∀ k, k < 7 → parseFieldDescriptor (TX4 k).2.2.1 = some (tyX4 k) := by decide +kernel
abbrev cX4_init : ByteArray := prog_3_method_1_code
def yX4_init : MethodName := ⟨RX4, "<init>", "(I)V"⟩
def dkwX4_init_0 : List UInt8 := [42, 1, 1, 3, 3, 183, 0, 1, 42, 27, 181, 0, 7, 177]
abbrev dktX4_init_0 : List UInt8 := dkwX4_init_0 ++ []
theorem dksX4_init_0 : cX4_init.data.toList.drop 0 = dktX4_init_0 := by decide +kernel
theorem dX4_init_0 : decode cX4_init 0 = .ok (.aload_n 0, 1) := dk_42 (dk_at dksX4_init_0 0 rfl rfl)
theorem dX4_init_1 : decode cX4_init 1 = .ok (.aconst_null, 1) := dk_1 (dk_at dksX4_init_0 1 rfl rfl)
theorem dX4_init_2 : decode cX4_init 2 = .ok (.aconst_null, 1) := dk_1 (dk_at dksX4_init_0 2 rfl rfl)
theorem dX4_init_3 : decode cX4_init 3 = .ok (.iconst 0, 1) := dk_3 (dk_at dksX4_init_0 3 rfl rfl)
theorem dX4_init_4 : decode cX4_init 4 = .ok (.iconst 0, 1) := dk_3 (dk_at dksX4_init_0 4 rfl rfl)
theorem dX4_init_5 : decode cX4_init 5 = .ok (.invokespecial 1, 3) := dk_183 0 1 (dk_at dksX4_init_0 5 rfl rfl)
theorem dX4_init_8 : decode cX4_init 8 = .ok (.aload_n 0, 1) := dk_42 (dk_at dksX4_init_0 8 rfl rfl)
theorem dX4_init_9 : decode cX4_init 9 = .ok (.iload_n 1, 1) := dk_27 (dk_at dksX4_init_0 9 rfl rfl)
theorem dX4_init_10 : decode cX4_init 10 = .ok (.putfield 7, 3) := dk_181 0 7 (dk_at dksX4_init_0 10 rfl rfl)
theorem dX4_init_13 : decode cX4_init 13 = .ok (.return_, 1) := dk_177 (dk_at dksX4_init_0 13 rfl rfl)
theorem q160 : (Jvm.Cond.initialized "CellReducer$Fault") ∈ lw_all := lw_g (lw_at lw_m1 58 rfl) rfl
theorem q823 : (Jvm.Cond.selects "CellReducer$Fault" ({ cls := "java/lang/Throwable", name := "fillInStackTrace", desc := "()Ljava/lang/Throwable;" } : Jvm.MethodName) ({ cls := "java/lang/Throwable", name := "fillInStackTrace", desc := "()Ljava/lang/Throwable;" } : Jvm.MethodName)) ∈ lw_all := lw_g (lw_at lw_m4 1 rfl) rfl
theorem q863 : (Jvm.Cond.selects "CellReducer$Fault" ({ cls := "java/lang/Throwable", name := "toString", desc := "()Ljava/lang/String;" } : Jvm.MethodName) ({ cls := "java/lang/Throwable", name := "toString", desc := "()Ljava/lang/String;" } : Jvm.MethodName)) ∈ lw_all := lw_g (lw_at lw_m4 41 rfl) rfl
theorem q876 : (Jvm.Cond.selects "CellReducer$Fault" ({ cls := "java/lang/Object", name := "getClass", desc := "()Ljava/lang/Class;" } : Jvm.MethodName) ({ cls := "java/lang/Object", name := "getClass", desc := "()Ljava/lang/Class;" } : Jvm.MethodName)) ∈ lw_all := lw_g (lw_at lw_m4 54 rfl) rfl
theorem q907 : (Jvm.Cond.selects "CellReducer$Fault" ({ cls := "java/lang/Throwable", name := "getLocalizedMessage", desc := "()Ljava/lang/String;" } : Jvm.MethodName) ({ cls := "java/lang/Throwable", name := "getLocalizedMessage", desc := "()Ljava/lang/String;" } : Jvm.MethodName)) ∈ lw_all := lw_g (lw_at lw_m4 85 rfl) rfl
theorem q918 : (Jvm.Cond.selects "CellReducer$Fault" ({ cls := "java/lang/Throwable", name := "getMessage", desc := "()Ljava/lang/String;" } : Jvm.MethodName) ({ cls := "java/lang/Throwable", name := "getMessage", desc := "()Ljava/lang/String;" } : Jvm.MethodName)) ∈ lw_all := lw_g (lw_at lw_m4 96 rfl) rfl
theorem q1476 : (Jvm.Cond.selects "CellReducer$Fault" ({ cls := "java/lang/Object", name := "equals", desc := "(Ljava/lang/Object;)Z" } : Jvm.MethodName) ({ cls := "java/lang/Object", name := "equals", desc := "(Ljava/lang/Object;)Z" } : Jvm.MethodName)) ∈ lw_all := lw_g (lw_at lw_m6 174 rfl) rfl
theorem q2415 : (Jvm.Cond.instantiable "CellReducer$Fault" (7 : Nat)) ∈ lw_all := lw_g (lw_at lw_m10 153 rfl) rfl
theorem q2416 : (Jvm.Cond.castable "CellReducer$Fault" "CellReducer$Fault") ∈ lw_tbl := lw_at lw_m10 154 rfl
theorem q2417 : (Jvm.Cond.selects "CellReducer$Fault" ({ cls := "java/lang/Throwable", name := "fillInStackTrace", desc := "(I)Ljava/lang/Throwable;" } : Jvm.MethodName) ({ cls := "java/lang/Throwable", name := "fillInStackTrace", desc := "(I)Ljava/lang/Throwable;" } : Jvm.MethodName)) ∈ lw_all := lw_g (lw_at lw_m10 155 rfl) rfl
theorem q2418 : (Jvm.Cond.lays "CellReducer$Fault" "java/lang/Throwable" "cause" "Ljava/lang/Throwable;") ∈ lw_all := lw_g (lw_at lw_m10 156 rfl) rfl
theorem q2419 : (Jvm.Cond.lays "CellReducer$Fault" "java/lang/Throwable" "stackTrace" "[Ljava/lang/StackTraceElement;") ∈ lw_all := lw_g (lw_at lw_m10 157 rfl) rfl
theorem q2420 : (Jvm.Cond.lays "CellReducer$Fault" "java/lang/Throwable" "suppressedExceptions" "Ljava/util/List;") ∈ lw_all := lw_g (lw_at lw_m10 158 rfl) rfl
theorem q2421 : (Jvm.Cond.lays "CellReducer$Fault" "java/lang/Throwable" "detailMessage" "Ljava/lang/String;") ∈ lw_all := lw_g (lw_at lw_m10 159 rfl) rfl
theorem q2422 : (Jvm.Cond.lays "CellReducer$Fault" "java/lang/Throwable" "backtrace" "Ljava/lang/Object;") ∈ lw_all := lw_g (lw_at lw_m10 160 rfl) rfl
theorem q2424 : (Jvm.Cond.instanceMethod ({ cls := "CellReducer$Fault", name := "<init>", desc := "(I)V" } : Jvm.MethodName)) ∈ lw_all := lw_g (lw_at lw_m10 162 rfl) rfl
theorem q2425 : (Jvm.Cond.code ({ cls := "CellReducer$Fault", name := "<init>", desc := "(I)V" } : Jvm.MethodName) prog_3_method_1_code (2 : Nat) (Option.none : Option Jvm.ClassFile.FieldType)) ∈ lw_all := lw_g (lw_at lw_m10 163 rfl) rfl
theorem q2426 : (Jvm.Cond.methodLink "CellReducer$Fault" (1 : Nat) ({ cls := "java/lang/Exception", name := "<init>", desc := "(Ljava/lang/String;Ljava/lang/Throwable;ZZ)V" } : Jvm.MethodName)) ∈ lw_all := lw_g (lw_at lw_m10 164 rfl) rfl
theorem q2432 : (Jvm.Cond.fieldLink "CellReducer$Fault" (7 : Nat) "CellReducer$Fault" "code" "I") ∈ lw_all := lw_g (lw_at lw_m10 170 rfl) rfl
theorem q2434 : (Jvm.Cond.laysFinal "CellReducer$Fault" "CellReducer$Fault" "code" "I") ∈ lw_all := lw_g (lw_at lw_m10 172 rfl) rfl
theorem q2435 : (Jvm.Cond.soleField "CellReducer$Fault" "code") ∈ lw_all := lw_g (lw_at lw_m10 173 rfl) rfl
theorem q2436 : (Jvm.Cond.lays "CellReducer$Fault" "java/lang/Throwable" "depth" "I") ∈ lw_all := lw_g (lw_at lw_m10 174 rfl) rfl
theorem q2437 : (Jvm.Cond.superclass "CellReducer$Fault" "java/lang/Exception") ∈ lw_all := lw_g (lw_at lw_m10 175 rfl) rfl
theorem q3148 : (Jvm.Cond.castable "CellReducer$Fault" "java/lang/Object") ∈ lw_tbl := lw_at lw_m13 166 rfl
theorem in_X4 : ∀ w ∈ wsX40, w ∈ lw_all := lw_in wsX40 [2418, 2419, 2420, 2421, 2422, 2436, 2434] (by decide +kernel) (by decide +kernel)
/-! the law's own entry -/
set_option maxRecDepth 100000
abbrev cL_law : ByteArray := code
def dkwL_law_55 : List UInt8 := [167, 250, 120, 4, 172]
abbrev dktL_law_55 : List UInt8 := dkwL_law_55 ++ []
def dkwL_law_54 : List UInt8 := [4, 96, 46, 182, 0, 178, 44, 42, 29, 4, 96, 46, 182, 0, 181, 159, 0, 5, 3, 172, 132, 3, 7]
abbrev dktL_law_54 : List UInt8 := dkwL_law_54 ++ dktL_law_55
def dkwL_law_53 : List UInt8 := [182, 0, 173, 159, 0, 41, 3, 172, 43, 182, 0, 174, 44, 182, 0, 177, 159, 0, 28, 3, 172, 43, 42, 29]
abbrev dktL_law_53 : List UInt8 := dkwL_law_53 ++ dktL_law_54
def dkwL_law_52 : List UInt8 := [159, 0, 67, 3, 172, 43, 182, 0, 166, 44, 182, 0, 169, 159, 0, 54, 3, 172, 43, 182, 0, 170, 44]
abbrev dktL_law_52 : List UInt8 := dkwL_law_52 ++ dktL_law_53
def dkwL_law_51 : List UInt8 := [96, 46, 42, 29, 5, 96, 46, 182, 0, 162, 44, 42, 29, 4, 96, 46, 42, 29, 5, 96, 46, 182, 0, 165]
abbrev dktL_law_51 : List UInt8 := dkwL_law_51 ++ dktL_law_52
def dkwL_law_50 : List UInt8 := [96, 46, 42, 29, 6, 96, 46, 42, 29, 7, 96, 46, 182, 0, 161, 159, 0, 100, 3, 172, 43, 42, 29, 4]
abbrev dktL_law_50 : List UInt8 := dkwL_law_50 ++ dktL_law_51
def dkwL_law_49 : List UInt8 := [96, 46, 42, 29, 6, 96, 46, 42, 29, 7, 96, 46, 182, 0, 158, 44, 42, 29, 4, 96, 46, 42, 29, 5]
abbrev dktL_law_49 : List UInt8 := dkwL_law_49 ++ dktL_law_50
def dkwL_law_48 : List UInt8 := [46, 42, 29, 5, 96, 46, 182, 0, 157, 148, 153, 0, 153, 3, 172, 43, 42, 29, 4, 96, 46, 42, 29, 5]
abbrev dktL_law_48 : List UInt8 := dkwL_law_48 ++ dktL_law_49
def dkwL_law_47 : List UInt8 := [159, 0, 187, 3, 172, 43, 42, 29, 4, 96, 46, 42, 29, 5, 96, 46, 182, 0, 154, 44, 42, 29, 4, 96]
abbrev dktL_law_47 : List UInt8 := dkwL_law_47 ++ dktL_law_48
def dkwL_law_46 : List UInt8 := [29, 6, 96, 46, 133, 16, 32, 121, 42, 29, 7, 96, 46, 133, 20, 0, 147, 127, 129, 182, 0, 153]
abbrev dktL_law_46 : List UInt8 := dkwL_law_46 ++ dktL_law_47
def dkwL_law_45 : List UInt8 := [7, 96, 46, 133, 20, 0, 147, 127, 129, 182, 0, 149, 44, 42, 29, 4, 96, 46, 42, 29, 5, 96, 46, 42]
abbrev dktL_law_45 : List UInt8 := dkwL_law_45 ++ dktL_law_46
def dkwL_law_44 : List UInt8 := [3, 172, 43, 42, 29, 4, 96, 46, 42, 29, 5, 96, 46, 42, 29, 6, 96, 46, 133, 16, 32, 121, 42, 29]
abbrev dktL_law_44 : List UInt8 := dkwL_law_44 ++ dktL_law_45
def dkwL_law_43 : List UInt8 := [29, 5, 96, 46, 182, 0, 143, 44, 42, 29, 4, 96, 46, 42, 29, 5, 96, 46, 182, 0, 146, 159, 1, 4]
abbrev dktL_law_43 : List UInt8 := dkwL_law_43 ++ dktL_law_44
def dkwL_law_42 : List UInt8 := [182, 0, 139, 44, 42, 29, 4, 96, 46, 182, 0, 142, 159, 1, 37, 3, 172, 43, 42, 29, 4, 96, 46, 42]
abbrev dktL_law_42 : List UInt8 := dkwL_law_42 ++ dktL_law_43
def dkwL_law_41 : List UInt8 := [29, 4, 96, 46, 42, 29, 5, 96, 46, 182, 0, 138, 159, 1, 60, 3, 172, 43, 42, 29, 4, 96, 46]
abbrev dktL_law_41 : List UInt8 := dkwL_law_41 ++ dktL_law_42
def dkwL_law_40 : List UInt8 := [182, 0, 134, 159, 1, 93, 3, 172, 43, 42, 29, 4, 96, 46, 42, 29, 5, 96, 46, 182, 0, 135, 44, 42]
abbrev dktL_law_40 : List UInt8 := dkwL_law_40 ++ dktL_law_41
def dkwL_law_39 : List UInt8 := [182, 0, 127, 44, 42, 29, 4, 96, 46, 182, 0, 130, 159, 1, 106, 3, 172, 43, 182, 0, 131, 44]
abbrev dktL_law_39 : List UInt8 := dkwL_law_39 ++ dktL_law_40
def dkwL_law_38 : List UInt8 := [159, 1, 142, 3, 172, 43, 182, 0, 123, 44, 182, 0, 126, 159, 1, 129, 3, 172, 43, 42, 29, 4, 96, 46]
abbrev dktL_law_38 : List UInt8 := dkwL_law_38 ++ dktL_law_39
def dkwL_law_37 : List UInt8 := [159, 1, 165, 3, 172, 43, 42, 29, 4, 96, 46, 182, 0, 119, 44, 42, 29, 4, 96, 46, 182, 0, 122]
abbrev dktL_law_37 : List UInt8 := dkwL_law_37 ++ dktL_law_38
def dkwL_law_36 : List UInt8 := [159, 1, 188, 3, 172, 43, 42, 29, 4, 96, 46, 182, 0, 115, 44, 42, 29, 4, 96, 46, 182, 0, 118]
abbrev dktL_law_36 : List UInt8 := dkwL_law_36 ++ dktL_law_37
def dkwL_law_35 : List UInt8 := [159, 1, 211, 3, 172, 43, 42, 29, 4, 96, 46, 182, 0, 111, 44, 42, 29, 4, 96, 46, 182, 0, 114]
abbrev dktL_law_35 : List UInt8 := dkwL_law_35 ++ dktL_law_36
def dkwL_law_34 : List UInt8 := [148, 153, 1, 234, 3, 172, 43, 42, 29, 4, 96, 46, 182, 0, 107, 44, 42, 29, 4, 96, 46, 182, 0, 110]
abbrev dktL_law_34 : List UInt8 := dkwL_law_34 ++ dktL_law_35
def dkwL_law_33 : List UInt8 := [96, 46, 42, 29, 5, 96, 46, 182, 0, 103, 44, 42, 29, 4, 96, 46, 42, 29, 5, 96, 46, 182, 0, 106]
abbrev dktL_law_33 : List UInt8 := dkwL_law_33 ++ dktL_law_34
def dkwL_law_32 : List UInt8 := [96, 46, 42, 29, 5, 96, 46, 42, 29, 6, 96, 46, 182, 0, 102, 159, 2, 12, 3, 172, 43, 42, 29, 4]
abbrev dktL_law_32 : List UInt8 := dkwL_law_32 ++ dktL_law_33
def dkwL_law_31 : List UInt8 := [172, 43, 42, 29, 4, 96, 46, 42, 29, 5, 96, 46, 42, 29, 6, 96, 46, 182, 0, 99, 44, 42, 29, 4]
abbrev dktL_law_31 : List UInt8 := dkwL_law_31 ++ dktL_law_32
def dkwL_law_30 : List UInt8 := [44, 42, 29, 4, 96, 46, 42, 29, 5, 96, 46, 42, 29, 6, 96, 46, 182, 0, 98, 148, 153, 2, 55, 3]
abbrev dktL_law_30 : List UInt8 := dkwL_law_30 ++ dktL_law_31
def dkwL_law_29 : List UInt8 := [153, 2, 99, 3, 172, 43, 42, 29, 4, 96, 46, 42, 29, 5, 96, 46, 42, 29, 6, 96, 46, 182, 0, 95]
abbrev dktL_law_29 : List UInt8 := dkwL_law_29 ++ dktL_law_30
def dkwL_law_28 : List UInt8 := [159, 2, 123, 3, 172, 43, 42, 29, 4, 96, 46, 182, 0, 90, 44, 42, 29, 4, 96, 46, 182, 0, 94, 148]
abbrev dktL_law_28 : List UInt8 := dkwL_law_28 ++ dktL_law_29
def dkwL_law_27 : List UInt8 := [182, 0, 86, 44, 42, 29, 4, 96, 46, 42, 29, 5, 96, 46, 42, 29, 6, 96, 46, 182, 0, 89]
abbrev dktL_law_27 : List UInt8 := dkwL_law_27 ++ dktL_law_28
def dkwL_law_26 : List UInt8 := [182, 0, 85, 159, 2, 166, 3, 172, 43, 42, 29, 4, 96, 46, 42, 29, 5, 96, 46, 42, 29, 6, 96, 46]
abbrev dktL_law_26 : List UInt8 := dkwL_law_26 ++ dktL_law_27
def dkwL_law_25 : List UInt8 := [182, 0, 81, 159, 2, 189, 3, 172, 43, 42, 29, 4, 96, 46, 182, 0, 82, 44, 42, 29, 4, 96, 46]
abbrev dktL_law_25 : List UInt8 := dkwL_law_25 ++ dktL_law_26
def dkwL_law_24 : List UInt8 := [42, 29, 4, 96, 46, 42, 29, 5, 96, 46, 182, 0, 78, 44, 42, 29, 4, 96, 46, 42, 29, 5, 96, 46]
abbrev dktL_law_24 : List UInt8 := dkwL_law_24 ++ dktL_law_25
def dkwL_law_23 : List UInt8 := [29, 5, 96, 46, 42, 29, 6, 96, 46, 42, 29, 7, 96, 46, 182, 0, 77, 148, 153, 2, 222, 3, 172, 43]
abbrev dktL_law_23 : List UInt8 := dkwL_law_23 ++ dktL_law_24
def dkwL_law_22 : List UInt8 := [29, 5, 96, 46, 42, 29, 6, 96, 46, 42, 29, 7, 96, 46, 182, 0, 73, 44, 42, 29, 4, 96, 46, 42]
abbrev dktL_law_22 : List UInt8 := dkwL_law_22 ++ dktL_law_23
def dkwL_law_21 : List UInt8 := [29, 4, 96, 46, 42, 29, 5, 96, 46, 182, 0, 72, 159, 3, 20, 3, 172, 43, 42, 29, 4, 96, 46, 42]
abbrev dktL_law_21 : List UInt8 := dkwL_law_21 ++ dktL_law_22
def dkwL_law_20 : List UInt8 := [182, 0, 67, 159, 3, 53, 3, 172, 43, 42, 29, 4, 96, 46, 42, 29, 5, 96, 46, 182, 0, 68, 44, 42]
abbrev dktL_law_20 : List UInt8 := dkwL_law_20 ++ dktL_law_21
def dkwL_law_19 : List UInt8 := [182, 0, 63, 159, 3, 76, 3, 172, 43, 42, 29, 4, 96, 46, 182, 0, 64, 44, 42, 29, 4, 96, 46]
abbrev dktL_law_19 : List UInt8 := dkwL_law_19 ++ dktL_law_20
def dkwL_law_18 : List UInt8 := [182, 0, 59, 148, 153, 3, 99, 3, 172, 43, 42, 29, 4, 96, 46, 182, 0, 60, 44, 42, 29, 4, 96, 46]
abbrev dktL_law_18 : List UInt8 := dkwL_law_18 ++ dktL_law_19
def dkwL_law_17 : List UInt8 := [29, 4, 96, 46, 42, 29, 5, 96, 46, 182, 0, 56, 44, 42, 29, 4, 96, 46, 42, 29, 5, 96, 46]
abbrev dktL_law_17 : List UInt8 := dkwL_law_17 ++ dktL_law_18
def dkwL_law_16 : List UInt8 := [42, 29, 4, 96, 46, 182, 0, 52, 44, 42, 29, 4, 96, 46, 182, 0, 55, 159, 3, 133, 3, 172, 43, 42]
abbrev dktL_law_16 : List UInt8 := dkwL_law_16 ++ dktL_law_17
def dkwL_law_15 : List UInt8 := [43, 42, 29, 4, 96, 46, 182, 0, 48, 44, 42, 29, 4, 96, 46, 182, 0, 51, 159, 3, 156, 3, 172, 43]
abbrev dktL_law_15 : List UInt8 := dkwL_law_15 ++ dktL_law_16
def dkwL_law_14 : List UInt8 := [172, 43, 42, 29, 4, 96, 46, 182, 0, 43, 44, 42, 29, 4, 96, 46, 182, 0, 47, 159, 3, 179, 3, 172]
abbrev dktL_law_14 : List UInt8 := dkwL_law_14 ++ dktL_law_15
def dkwL_law_13 : List UInt8 := [44, 42, 29, 4, 96, 46, 42, 29, 5, 96, 46, 42, 29, 6, 96, 46, 182, 0, 42, 148, 153, 3, 202, 3]
abbrev dktL_law_13 : List UInt8 := dkwL_law_13 ++ dktL_law_14
def dkwL_law_12 : List UInt8 := [153, 3, 246, 3, 172, 43, 42, 29, 4, 96, 46, 42, 29, 5, 96, 46, 42, 29, 6, 96, 46, 182, 0, 38]
abbrev dktL_law_12 : List UInt8 := dkwL_law_12 ++ dktL_law_13
def dkwL_law_11 : List UInt8 := [42, 29, 5, 96, 46, 182, 0, 33, 44, 42, 29, 4, 96, 46, 42, 29, 5, 96, 46, 182, 0, 37, 148]
abbrev dktL_law_11 : List UInt8 := dkwL_law_11 ++ dktL_law_12
def dkwL_law_10 : List UInt8 := [42, 29, 5, 96, 46, 42, 29, 6, 96, 46, 182, 0, 32, 159, 4, 24, 3, 172, 43, 42, 29, 4, 96, 46]
abbrev dktL_law_10 : List UInt8 := dkwL_law_10 ++ dktL_law_11
def dkwL_law_9 : List UInt8 := [42, 29, 4, 96, 46, 42, 29, 5, 96, 46, 42, 29, 6, 96, 46, 182, 0, 28, 44, 42, 29, 4, 96, 46]
abbrev dktL_law_9 : List UInt8 := dkwL_law_9 ++ dktL_law_10
def dkwL_law_8 : List UInt8 := [42, 29, 5, 96, 46, 42, 29, 6, 96, 46, 42, 29, 7, 96, 46, 182, 0, 27, 159, 4, 67, 3, 172, 43]
abbrev dktL_law_8 : List UInt8 := dkwL_law_8 ++ dktL_law_9
def dkwL_law_7 : List UInt8 := [42, 29, 5, 96, 46, 42, 29, 6, 96, 46, 42, 29, 7, 96, 46, 182, 0, 23, 44, 42, 29, 4, 96, 46]
abbrev dktL_law_7 : List UInt8 := dkwL_law_7 ++ dktL_law_8
def dkwL_law_6 : List UInt8 := [159, 4, 133, 3, 172, 43, 182, 0, 18, 44, 182, 0, 22, 159, 4, 120, 3, 172, 43, 42, 29, 4, 96, 46]
abbrev dktL_law_6 : List UInt8 := dkwL_law_6 ++ dktL_law_7
def dkwL_law_5 : List UInt8 := [6, 96, 46, 42, 29, 7, 96, 46, 42, 29, 8, 96, 46, 42, 29, 16, 6, 96, 46, 182, 0, 17]
abbrev dktL_law_5 : List UInt8 := dkwL_law_5 ++ dktL_law_6
def dkwL_law_4 : List UInt8 := [96, 46, 42, 29, 16, 6, 96, 46, 182, 0, 13, 44, 42, 29, 4, 96, 46, 42, 29, 5, 96, 46, 42, 29]
abbrev dktL_law_4 : List UInt8 := dkwL_law_4 ++ dktL_law_5
def dkwL_law_3 : List UInt8 := [43, 42, 29, 4, 96, 46, 42, 29, 5, 96, 46, 42, 29, 6, 96, 46, 42, 29, 7, 96, 46, 42, 29, 8]
abbrev dktL_law_3 : List UInt8 := dkwL_law_3 ++ dktL_law_4
def dkwL_law_2 : List UInt8 := [170, 0, 0, 0, 0, 5, 118, 0, 0, 0, 0, 0, 0, 0, 38, 0, 0, 0, 171, 0, 0, 0, 246, 0, 0, 1, 3, 0, 0, 1, 56, 0, 0, 1, 99, 0, 0, 1, 133, 0, 0, 1, 177, 0, 0, 1, 200, 0, 0, 1, 223, 0, 0, 1, 246, 0, 0, 2, 24, 0, 0, 2, 47, 0, 0, 2, 70, 0, 0, 2, 103, 0, 0, 2, 157, 0, 0, 2, 190, 0, 0, 2, 213, 0, 0, 3, 0, 0, 0, 3, 24, 0, 0, 3, 68, 0, 0, 3, 111, 0, 0, 3, 145, 0, 0, 3, 168, 0, 0, 3, 191, 0, 0, 3, 214, 0, 0, 3, 237, 0, 0, 3, 250, 0, 0, 4, 17, 0, 0, 4, 30, 0, 0, 4, 63, 0, 0, 4, 86, 0, 0, 4, 119, 0, 0, 4, 192, 0, 0, 4, 226, 0, 0, 5, 23, 0, 0, 5, 56, 0, 0, 5, 69, 0, 0, 5, 82, 0, 0, 5, 95]
abbrev dktL_law_2 : List UInt8 := dkwL_law_2 ++ dktL_law_3
def dkwL_law_1 : List UInt8 := [163, 5, 133, 42, 29, 46, 16, 63, 126]
abbrev dktL_law_1 : List UInt8 := dkwL_law_1 ++ dktL_law_2
def dkwL_law_0 : List UInt8 := [187, 0, 7, 89, 183, 0, 9, 76, 187, 0, 10, 89, 183, 0, 12, 77, 3, 62, 29, 42, 190, 16, 7, 100]
abbrev dktL_law_0 : List UInt8 := dkwL_law_0 ++ dktL_law_1
theorem dksL_law_0 : cL_law.data.toList.drop 0 = dktL_law_0 := by decide +kernel
theorem dksL_law_1 : cL_law.data.toList.drop 24 = dktL_law_1 := dk_seg dksL_law_0 24 rfl rfl
theorem dksL_law_2 : cL_law.data.toList.drop 33 = dktL_law_2 := dk_seg dksL_law_1 9 rfl rfl
theorem dksL_law_3 : cL_law.data.toList.drop 204 = dktL_law_3 := dk_seg dksL_law_2 171 rfl rfl
theorem dksL_law_4 : cL_law.data.toList.drop 228 = dktL_law_4 := dk_seg dksL_law_3 24 rfl rfl
theorem dksL_law_5 : cL_law.data.toList.drop 252 = dktL_law_5 := dk_seg dksL_law_4 24 rfl rfl
theorem dksL_law_6 : cL_law.data.toList.drop 274 = dktL_law_6 := dk_seg dksL_law_5 22 rfl rfl
theorem dksL_law_7 : cL_law.data.toList.drop 298 = dktL_law_7 := dk_seg dksL_law_6 24 rfl rfl
theorem dksL_law_8 : cL_law.data.toList.drop 322 = dktL_law_8 := dk_seg dksL_law_7 24 rfl rfl
theorem dksL_law_9 : cL_law.data.toList.drop 346 = dktL_law_9 := dk_seg dksL_law_8 24 rfl rfl
theorem dksL_law_10 : cL_law.data.toList.drop 370 = dktL_law_10 := dk_seg dksL_law_9 24 rfl rfl
theorem dksL_law_11 : cL_law.data.toList.drop 394 = dktL_law_11 := dk_seg dksL_law_10 24 rfl rfl
theorem dksL_law_12 : cL_law.data.toList.drop 417 = dktL_law_12 := dk_seg dksL_law_11 23 rfl rfl
theorem dksL_law_13 : cL_law.data.toList.drop 441 = dktL_law_13 := dk_seg dksL_law_12 24 rfl rfl
theorem dksL_law_14 : cL_law.data.toList.drop 465 = dktL_law_14 := dk_seg dksL_law_13 24 rfl rfl
theorem dksL_law_15 : cL_law.data.toList.drop 489 = dktL_law_15 := dk_seg dksL_law_14 24 rfl rfl
theorem dksL_law_16 : cL_law.data.toList.drop 513 = dktL_law_16 := dk_seg dksL_law_15 24 rfl rfl
theorem dksL_law_17 : cL_law.data.toList.drop 537 = dktL_law_17 := dk_seg dksL_law_16 24 rfl rfl
theorem dksL_law_18 : cL_law.data.toList.drop 560 = dktL_law_18 := dk_seg dksL_law_17 23 rfl rfl
theorem dksL_law_19 : cL_law.data.toList.drop 584 = dktL_law_19 := dk_seg dksL_law_18 24 rfl rfl
theorem dksL_law_20 : cL_law.data.toList.drop 607 = dktL_law_20 := dk_seg dksL_law_19 23 rfl rfl
theorem dksL_law_21 : cL_law.data.toList.drop 631 = dktL_law_21 := dk_seg dksL_law_20 24 rfl rfl
theorem dksL_law_22 : cL_law.data.toList.drop 655 = dktL_law_22 := dk_seg dksL_law_21 24 rfl rfl
theorem dksL_law_23 : cL_law.data.toList.drop 679 = dktL_law_23 := dk_seg dksL_law_22 24 rfl rfl
theorem dksL_law_24 : cL_law.data.toList.drop 703 = dktL_law_24 := dk_seg dksL_law_23 24 rfl rfl
theorem dksL_law_25 : cL_law.data.toList.drop 727 = dktL_law_25 := dk_seg dksL_law_24 24 rfl rfl
theorem dksL_law_26 : cL_law.data.toList.drop 750 = dktL_law_26 := dk_seg dksL_law_25 23 rfl rfl
theorem dksL_law_27 : cL_law.data.toList.drop 774 = dktL_law_27 := dk_seg dksL_law_26 24 rfl rfl
theorem dksL_law_28 : cL_law.data.toList.drop 796 = dktL_law_28 := dk_seg dksL_law_27 22 rfl rfl
theorem dksL_law_29 : cL_law.data.toList.drop 820 = dktL_law_29 := dk_seg dksL_law_28 24 rfl rfl
theorem dksL_law_30 : cL_law.data.toList.drop 844 = dktL_law_30 := dk_seg dksL_law_29 24 rfl rfl
theorem dksL_law_31 : cL_law.data.toList.drop 868 = dktL_law_31 := dk_seg dksL_law_30 24 rfl rfl
theorem dksL_law_32 : cL_law.data.toList.drop 892 = dktL_law_32 := dk_seg dksL_law_31 24 rfl rfl
theorem dksL_law_33 : cL_law.data.toList.drop 916 = dktL_law_33 := dk_seg dksL_law_32 24 rfl rfl
theorem dksL_law_34 : cL_law.data.toList.drop 940 = dktL_law_34 := dk_seg dksL_law_33 24 rfl rfl
theorem dksL_law_35 : cL_law.data.toList.drop 964 = dktL_law_35 := dk_seg dksL_law_34 24 rfl rfl
theorem dksL_law_36 : cL_law.data.toList.drop 987 = dktL_law_36 := dk_seg dksL_law_35 23 rfl rfl
theorem dksL_law_37 : cL_law.data.toList.drop 1010 = dktL_law_37 := dk_seg dksL_law_36 23 rfl rfl
theorem dksL_law_38 : cL_law.data.toList.drop 1033 = dktL_law_38 := dk_seg dksL_law_37 23 rfl rfl
theorem dksL_law_39 : cL_law.data.toList.drop 1057 = dktL_law_39 := dk_seg dksL_law_38 24 rfl rfl
theorem dksL_law_40 : cL_law.data.toList.drop 1079 = dktL_law_40 := dk_seg dksL_law_39 22 rfl rfl
theorem dksL_law_41 : cL_law.data.toList.drop 1103 = dktL_law_41 := dk_seg dksL_law_40 24 rfl rfl
theorem dksL_law_42 : cL_law.data.toList.drop 1126 = dktL_law_42 := dk_seg dksL_law_41 23 rfl rfl
theorem dksL_law_43 : cL_law.data.toList.drop 1150 = dktL_law_43 := dk_seg dksL_law_42 24 rfl rfl
theorem dksL_law_44 : cL_law.data.toList.drop 1174 = dktL_law_44 := dk_seg dksL_law_43 24 rfl rfl
theorem dksL_law_45 : cL_law.data.toList.drop 1198 = dktL_law_45 := dk_seg dksL_law_44 24 rfl rfl
theorem dksL_law_46 : cL_law.data.toList.drop 1222 = dktL_law_46 := dk_seg dksL_law_45 24 rfl rfl
theorem dksL_law_47 : cL_law.data.toList.drop 1244 = dktL_law_47 := dk_seg dksL_law_46 22 rfl rfl
theorem dksL_law_48 : cL_law.data.toList.drop 1268 = dktL_law_48 := dk_seg dksL_law_47 24 rfl rfl
theorem dksL_law_49 : cL_law.data.toList.drop 1292 = dktL_law_49 := dk_seg dksL_law_48 24 rfl rfl
theorem dksL_law_50 : cL_law.data.toList.drop 1316 = dktL_law_50 := dk_seg dksL_law_49 24 rfl rfl
theorem dksL_law_51 : cL_law.data.toList.drop 1340 = dktL_law_51 := dk_seg dksL_law_50 24 rfl rfl
theorem dksL_law_52 : cL_law.data.toList.drop 1364 = dktL_law_52 := dk_seg dksL_law_51 24 rfl rfl
theorem dksL_law_53 : cL_law.data.toList.drop 1387 = dktL_law_53 := dk_seg dksL_law_52 23 rfl rfl
theorem dksL_law_54 : cL_law.data.toList.drop 1411 = dktL_law_54 := dk_seg dksL_law_53 24 rfl rfl
theorem dksL_law_55 : cL_law.data.toList.drop 1434 = dktL_law_55 := dk_seg dksL_law_54 23 rfl rfl
theorem dL_law_0 : decode cL_law 0 = .ok (.new 7, 3) := dk_187 0 7 (dk_at dksL_law_0 0 rfl rfl)
theorem dL_law_3 : decode cL_law 3 = .ok (.dup, 1) := dk_89 (dk_at dksL_law_0 3 rfl rfl)
theorem dL_law_4 : decode cL_law 4 = .ok (.invokespecial 9, 3) := dk_183 0 9 (dk_at dksL_law_0 4 rfl rfl)
theorem dL_law_7 : decode cL_law 7 = .ok (.astore_n 1, 1) := dk_76 (dk_at dksL_law_0 7 rfl rfl)
theorem dL_law_8 : decode cL_law 8 = .ok (.new 10, 3) := dk_187 0 10 (dk_at dksL_law_0 8 rfl rfl)
theorem dL_law_11 : decode cL_law 11 = .ok (.dup, 1) := dk_89 (dk_at dksL_law_0 11 rfl rfl)
theorem dL_law_12 : decode cL_law 12 = .ok (.invokespecial 12, 3) := dk_183 0 12 (dk_at dksL_law_0 12 rfl rfl)
theorem dL_law_15 : decode cL_law 15 = .ok (.astore_n 2, 1) := dk_77 (dk_at dksL_law_0 15 rfl rfl)
theorem dL_law_16 : decode cL_law 16 = .ok (.iconst 0, 1) := dk_3 (dk_at dksL_law_0 16 rfl rfl)
theorem dL_law_17 : decode cL_law 17 = .ok (.istore_n 3, 1) := dk_62 (dk_at dksL_law_0 17 rfl rfl)
theorem dL_law_18 : decode cL_law 18 = .ok (.iload_n 3, 1) := dk_29 (dk_at dksL_law_0 18 rfl rfl)
theorem dL_law_19 : decode cL_law 19 = .ok (.aload_n 0, 1) := dk_42 (dk_at dksL_law_0 19 rfl rfl)
theorem dL_law_20 : decode cL_law 20 = .ok (.arraylength, 1) := dk_190 (dk_at dksL_law_0 20 rfl rfl)
theorem dL_law_21 : decode cL_law 21 = .ok (.bipush 7, 2) := dk_16 7 (dk_at dksL_law_0 21 rfl rfl)
theorem dL_law_23 : decode cL_law 23 = .ok (.isub, 1) := dk_100 (dk_at dksL_law_0 23 rfl rfl)
theorem dL_law_24 : decode cL_law 24 = .ok (.if_icmp .gt 1413, 3) := dk_163 5 133 (dk_at dksL_law_1 0 rfl rfl)
theorem dL_law_27 : decode cL_law 27 = .ok (.aload_n 0, 1) := dk_42 (dk_at dksL_law_1 3 rfl rfl)
theorem dL_law_28 : decode cL_law 28 = .ok (.iload_n 3, 1) := dk_29 (dk_at dksL_law_1 4 rfl rfl)
theorem dL_law_29 : decode cL_law 29 = .ok (.iaload, 1) := dk_46 (dk_at dksL_law_1 5 rfl rfl)
theorem dL_law_30 : decode cL_law 30 = .ok (.bipush 63, 2) := dk_16 63 (dk_at dksL_law_1 6 rfl rfl)
theorem dL_law_32 : decode cL_law 32 = .ok (.iand, 1) := dk_126 (dk_at dksL_law_1 8 rfl rfl)
theorem dL_law_33 : decode cL_law 33 = .ok (.tableswitch 1398 0 38 #[171, 246, 259, 312, 355, 389, 433, 456, 479, 502, 536, 559, 582, 615, 669, 702, 725, 768, 792, 836, 879, 913, 936, 959, 982, 1005, 1018, 1041, 1054, 1087, 1110, 1143, 1216, 1250, 1303, 1336, 1349, 1362, 1375], 171) := by decide +kernel
theorem dL_law_204 : decode cL_law 204 = .ok (.aload_n 1, 1) := dk_43 (dk_at dksL_law_3 0 rfl rfl)
theorem dL_law_205 : decode cL_law 205 = .ok (.aload_n 0, 1) := dk_42 (dk_at dksL_law_3 1 rfl rfl)
theorem dL_law_206 : decode cL_law 206 = .ok (.iload_n 3, 1) := dk_29 (dk_at dksL_law_3 2 rfl rfl)
theorem dL_law_207 : decode cL_law 207 = .ok (.iconst 1, 1) := dk_4 (dk_at dksL_law_3 3 rfl rfl)
theorem dL_law_208 : decode cL_law 208 = .ok (.iadd, 1) := dk_96 (dk_at dksL_law_3 4 rfl rfl)
theorem dL_law_209 : decode cL_law 209 = .ok (.iaload, 1) := dk_46 (dk_at dksL_law_3 5 rfl rfl)
theorem dL_law_210 : decode cL_law 210 = .ok (.aload_n 0, 1) := dk_42 (dk_at dksL_law_3 6 rfl rfl)
theorem dL_law_211 : decode cL_law 211 = .ok (.iload_n 3, 1) := dk_29 (dk_at dksL_law_3 7 rfl rfl)
theorem dL_law_212 : decode cL_law 212 = .ok (.iconst 2, 1) := dk_5 (dk_at dksL_law_3 8 rfl rfl)
theorem dL_law_213 : decode cL_law 213 = .ok (.iadd, 1) := dk_96 (dk_at dksL_law_3 9 rfl rfl)
theorem dL_law_214 : decode cL_law 214 = .ok (.iaload, 1) := dk_46 (dk_at dksL_law_3 10 rfl rfl)
theorem dL_law_215 : decode cL_law 215 = .ok (.aload_n 0, 1) := dk_42 (dk_at dksL_law_3 11 rfl rfl)
theorem dL_law_216 : decode cL_law 216 = .ok (.iload_n 3, 1) := dk_29 (dk_at dksL_law_3 12 rfl rfl)
theorem dL_law_217 : decode cL_law 217 = .ok (.iconst 3, 1) := dk_6 (dk_at dksL_law_3 13 rfl rfl)
theorem dL_law_218 : decode cL_law 218 = .ok (.iadd, 1) := dk_96 (dk_at dksL_law_3 14 rfl rfl)
theorem dL_law_219 : decode cL_law 219 = .ok (.iaload, 1) := dk_46 (dk_at dksL_law_3 15 rfl rfl)
theorem dL_law_220 : decode cL_law 220 = .ok (.aload_n 0, 1) := dk_42 (dk_at dksL_law_3 16 rfl rfl)
theorem dL_law_221 : decode cL_law 221 = .ok (.iload_n 3, 1) := dk_29 (dk_at dksL_law_3 17 rfl rfl)
theorem dL_law_222 : decode cL_law 222 = .ok (.iconst 4, 1) := dk_7 (dk_at dksL_law_3 18 rfl rfl)
theorem dL_law_223 : decode cL_law 223 = .ok (.iadd, 1) := dk_96 (dk_at dksL_law_3 19 rfl rfl)
theorem dL_law_224 : decode cL_law 224 = .ok (.iaload, 1) := dk_46 (dk_at dksL_law_3 20 rfl rfl)
theorem dL_law_225 : decode cL_law 225 = .ok (.aload_n 0, 1) := dk_42 (dk_at dksL_law_3 21 rfl rfl)
theorem dL_law_226 : decode cL_law 226 = .ok (.iload_n 3, 1) := dk_29 (dk_at dksL_law_3 22 rfl rfl)
theorem dL_law_227 : decode cL_law 227 = .ok (.iconst 5, 1) := dk_8 (dk_at dksL_law_3 23 rfl rfl)
theorem dL_law_228 : decode cL_law 228 = .ok (.iadd, 1) := dk_96 (dk_at dksL_law_4 0 rfl rfl)
theorem dL_law_229 : decode cL_law 229 = .ok (.iaload, 1) := dk_46 (dk_at dksL_law_4 1 rfl rfl)
theorem dL_law_230 : decode cL_law 230 = .ok (.aload_n 0, 1) := dk_42 (dk_at dksL_law_4 2 rfl rfl)
theorem dL_law_231 : decode cL_law 231 = .ok (.iload_n 3, 1) := dk_29 (dk_at dksL_law_4 3 rfl rfl)
theorem dL_law_232 : decode cL_law 232 = .ok (.bipush 6, 2) := dk_16 6 (dk_at dksL_law_4 4 rfl rfl)
theorem dL_law_234 : decode cL_law 234 = .ok (.iadd, 1) := dk_96 (dk_at dksL_law_4 6 rfl rfl)
theorem dL_law_235 : decode cL_law 235 = .ok (.iaload, 1) := dk_46 (dk_at dksL_law_4 7 rfl rfl)
theorem dL_law_236 : decode cL_law 236 = .ok (.invokevirtual 13, 3) := dk_182 0 13 (dk_at dksL_law_4 8 rfl rfl)
theorem dL_law_239 : decode cL_law 239 = .ok (.aload_n 2, 1) := dk_44 (dk_at dksL_law_4 11 rfl rfl)
theorem dL_law_240 : decode cL_law 240 = .ok (.aload_n 0, 1) := dk_42 (dk_at dksL_law_4 12 rfl rfl)
theorem dL_law_241 : decode cL_law 241 = .ok (.iload_n 3, 1) := dk_29 (dk_at dksL_law_4 13 rfl rfl)
theorem dL_law_242 : decode cL_law 242 = .ok (.iconst 1, 1) := dk_4 (dk_at dksL_law_4 14 rfl rfl)
theorem dL_law_243 : decode cL_law 243 = .ok (.iadd, 1) := dk_96 (dk_at dksL_law_4 15 rfl rfl)
theorem dL_law_244 : decode cL_law 244 = .ok (.iaload, 1) := dk_46 (dk_at dksL_law_4 16 rfl rfl)
theorem dL_law_245 : decode cL_law 245 = .ok (.aload_n 0, 1) := dk_42 (dk_at dksL_law_4 17 rfl rfl)
theorem dL_law_246 : decode cL_law 246 = .ok (.iload_n 3, 1) := dk_29 (dk_at dksL_law_4 18 rfl rfl)
theorem dL_law_247 : decode cL_law 247 = .ok (.iconst 2, 1) := dk_5 (dk_at dksL_law_4 19 rfl rfl)
theorem dL_law_248 : decode cL_law 248 = .ok (.iadd, 1) := dk_96 (dk_at dksL_law_4 20 rfl rfl)
theorem dL_law_249 : decode cL_law 249 = .ok (.iaload, 1) := dk_46 (dk_at dksL_law_4 21 rfl rfl)
theorem dL_law_250 : decode cL_law 250 = .ok (.aload_n 0, 1) := dk_42 (dk_at dksL_law_4 22 rfl rfl)
theorem dL_law_251 : decode cL_law 251 = .ok (.iload_n 3, 1) := dk_29 (dk_at dksL_law_4 23 rfl rfl)
theorem dL_law_252 : decode cL_law 252 = .ok (.iconst 3, 1) := dk_6 (dk_at dksL_law_5 0 rfl rfl)
theorem dL_law_253 : decode cL_law 253 = .ok (.iadd, 1) := dk_96 (dk_at dksL_law_5 1 rfl rfl)
theorem dL_law_254 : decode cL_law 254 = .ok (.iaload, 1) := dk_46 (dk_at dksL_law_5 2 rfl rfl)
theorem dL_law_255 : decode cL_law 255 = .ok (.aload_n 0, 1) := dk_42 (dk_at dksL_law_5 3 rfl rfl)
theorem dL_law_256 : decode cL_law 256 = .ok (.iload_n 3, 1) := dk_29 (dk_at dksL_law_5 4 rfl rfl)
theorem dL_law_257 : decode cL_law 257 = .ok (.iconst 4, 1) := dk_7 (dk_at dksL_law_5 5 rfl rfl)
theorem dL_law_258 : decode cL_law 258 = .ok (.iadd, 1) := dk_96 (dk_at dksL_law_5 6 rfl rfl)
theorem dL_law_259 : decode cL_law 259 = .ok (.iaload, 1) := dk_46 (dk_at dksL_law_5 7 rfl rfl)
theorem dL_law_260 : decode cL_law 260 = .ok (.aload_n 0, 1) := dk_42 (dk_at dksL_law_5 8 rfl rfl)
theorem dL_law_261 : decode cL_law 261 = .ok (.iload_n 3, 1) := dk_29 (dk_at dksL_law_5 9 rfl rfl)
theorem dL_law_262 : decode cL_law 262 = .ok (.iconst 5, 1) := dk_8 (dk_at dksL_law_5 10 rfl rfl)
theorem dL_law_263 : decode cL_law 263 = .ok (.iadd, 1) := dk_96 (dk_at dksL_law_5 11 rfl rfl)
theorem dL_law_264 : decode cL_law 264 = .ok (.iaload, 1) := dk_46 (dk_at dksL_law_5 12 rfl rfl)
theorem dL_law_265 : decode cL_law 265 = .ok (.aload_n 0, 1) := dk_42 (dk_at dksL_law_5 13 rfl rfl)
theorem dL_law_266 : decode cL_law 266 = .ok (.iload_n 3, 1) := dk_29 (dk_at dksL_law_5 14 rfl rfl)
theorem dL_law_267 : decode cL_law 267 = .ok (.bipush 6, 2) := dk_16 6 (dk_at dksL_law_5 15 rfl rfl)
theorem dL_law_269 : decode cL_law 269 = .ok (.iadd, 1) := dk_96 (dk_at dksL_law_5 17 rfl rfl)
theorem dL_law_270 : decode cL_law 270 = .ok (.iaload, 1) := dk_46 (dk_at dksL_law_5 18 rfl rfl)
theorem dL_law_271 : decode cL_law 271 = .ok (.invokevirtual 17, 3) := dk_182 0 17 (dk_at dksL_law_5 19 rfl rfl)
theorem dL_law_274 : decode cL_law 274 = .ok (.if_icmp .eq 1157, 3) := dk_159 4 133 (dk_at dksL_law_6 0 rfl rfl)
theorem dL_law_277 : decode cL_law 277 = .ok (.iconst 0, 1) := dk_3 (dk_at dksL_law_6 3 rfl rfl)
theorem dL_law_278 : decode cL_law 278 = .ok (.ireturn, 1) := dk_172 (dk_at dksL_law_6 4 rfl rfl)
theorem dL_law_279 : decode cL_law 279 = .ok (.aload_n 1, 1) := dk_43 (dk_at dksL_law_6 5 rfl rfl)
theorem dL_law_280 : decode cL_law 280 = .ok (.invokevirtual 18, 3) := dk_182 0 18 (dk_at dksL_law_6 6 rfl rfl)
theorem dL_law_283 : decode cL_law 283 = .ok (.aload_n 2, 1) := dk_44 (dk_at dksL_law_6 9 rfl rfl)
theorem dL_law_284 : decode cL_law 284 = .ok (.invokevirtual 22, 3) := dk_182 0 22 (dk_at dksL_law_6 10 rfl rfl)
theorem dL_law_287 : decode cL_law 287 = .ok (.if_icmp .eq 1144, 3) := dk_159 4 120 (dk_at dksL_law_6 13 rfl rfl)
theorem dL_law_290 : decode cL_law 290 = .ok (.iconst 0, 1) := dk_3 (dk_at dksL_law_6 16 rfl rfl)
theorem dL_law_291 : decode cL_law 291 = .ok (.ireturn, 1) := dk_172 (dk_at dksL_law_6 17 rfl rfl)
theorem dL_law_292 : decode cL_law 292 = .ok (.aload_n 1, 1) := dk_43 (dk_at dksL_law_6 18 rfl rfl)
theorem dL_law_293 : decode cL_law 293 = .ok (.aload_n 0, 1) := dk_42 (dk_at dksL_law_6 19 rfl rfl)
theorem dL_law_294 : decode cL_law 294 = .ok (.iload_n 3, 1) := dk_29 (dk_at dksL_law_6 20 rfl rfl)
theorem dL_law_295 : decode cL_law 295 = .ok (.iconst 1, 1) := dk_4 (dk_at dksL_law_6 21 rfl rfl)
theorem dL_law_296 : decode cL_law 296 = .ok (.iadd, 1) := dk_96 (dk_at dksL_law_6 22 rfl rfl)
theorem dL_law_297 : decode cL_law 297 = .ok (.iaload, 1) := dk_46 (dk_at dksL_law_6 23 rfl rfl)
theorem dL_law_298 : decode cL_law 298 = .ok (.aload_n 0, 1) := dk_42 (dk_at dksL_law_7 0 rfl rfl)
theorem dL_law_299 : decode cL_law 299 = .ok (.iload_n 3, 1) := dk_29 (dk_at dksL_law_7 1 rfl rfl)
theorem dL_law_300 : decode cL_law 300 = .ok (.iconst 2, 1) := dk_5 (dk_at dksL_law_7 2 rfl rfl)
theorem dL_law_301 : decode cL_law 301 = .ok (.iadd, 1) := dk_96 (dk_at dksL_law_7 3 rfl rfl)
theorem dL_law_302 : decode cL_law 302 = .ok (.iaload, 1) := dk_46 (dk_at dksL_law_7 4 rfl rfl)
theorem dL_law_303 : decode cL_law 303 = .ok (.aload_n 0, 1) := dk_42 (dk_at dksL_law_7 5 rfl rfl)
theorem dL_law_304 : decode cL_law 304 = .ok (.iload_n 3, 1) := dk_29 (dk_at dksL_law_7 6 rfl rfl)
theorem dL_law_305 : decode cL_law 305 = .ok (.iconst 3, 1) := dk_6 (dk_at dksL_law_7 7 rfl rfl)
theorem dL_law_306 : decode cL_law 306 = .ok (.iadd, 1) := dk_96 (dk_at dksL_law_7 8 rfl rfl)
theorem dL_law_307 : decode cL_law 307 = .ok (.iaload, 1) := dk_46 (dk_at dksL_law_7 9 rfl rfl)
theorem dL_law_308 : decode cL_law 308 = .ok (.aload_n 0, 1) := dk_42 (dk_at dksL_law_7 10 rfl rfl)
theorem dL_law_309 : decode cL_law 309 = .ok (.iload_n 3, 1) := dk_29 (dk_at dksL_law_7 11 rfl rfl)
theorem dL_law_310 : decode cL_law 310 = .ok (.iconst 4, 1) := dk_7 (dk_at dksL_law_7 12 rfl rfl)
theorem dL_law_311 : decode cL_law 311 = .ok (.iadd, 1) := dk_96 (dk_at dksL_law_7 13 rfl rfl)
theorem dL_law_312 : decode cL_law 312 = .ok (.iaload, 1) := dk_46 (dk_at dksL_law_7 14 rfl rfl)
theorem dL_law_313 : decode cL_law 313 = .ok (.invokevirtual 23, 3) := dk_182 0 23 (dk_at dksL_law_7 15 rfl rfl)
theorem dL_law_316 : decode cL_law 316 = .ok (.aload_n 2, 1) := dk_44 (dk_at dksL_law_7 18 rfl rfl)
theorem dL_law_317 : decode cL_law 317 = .ok (.aload_n 0, 1) := dk_42 (dk_at dksL_law_7 19 rfl rfl)
theorem dL_law_318 : decode cL_law 318 = .ok (.iload_n 3, 1) := dk_29 (dk_at dksL_law_7 20 rfl rfl)
theorem dL_law_319 : decode cL_law 319 = .ok (.iconst 1, 1) := dk_4 (dk_at dksL_law_7 21 rfl rfl)
theorem dL_law_320 : decode cL_law 320 = .ok (.iadd, 1) := dk_96 (dk_at dksL_law_7 22 rfl rfl)
theorem dL_law_321 : decode cL_law 321 = .ok (.iaload, 1) := dk_46 (dk_at dksL_law_7 23 rfl rfl)
theorem dL_law_322 : decode cL_law 322 = .ok (.aload_n 0, 1) := dk_42 (dk_at dksL_law_8 0 rfl rfl)
theorem dL_law_323 : decode cL_law 323 = .ok (.iload_n 3, 1) := dk_29 (dk_at dksL_law_8 1 rfl rfl)
theorem dL_law_324 : decode cL_law 324 = .ok (.iconst 2, 1) := dk_5 (dk_at dksL_law_8 2 rfl rfl)
theorem dL_law_325 : decode cL_law 325 = .ok (.iadd, 1) := dk_96 (dk_at dksL_law_8 3 rfl rfl)
theorem dL_law_326 : decode cL_law 326 = .ok (.iaload, 1) := dk_46 (dk_at dksL_law_8 4 rfl rfl)
theorem dL_law_327 : decode cL_law 327 = .ok (.aload_n 0, 1) := dk_42 (dk_at dksL_law_8 5 rfl rfl)
theorem dL_law_328 : decode cL_law 328 = .ok (.iload_n 3, 1) := dk_29 (dk_at dksL_law_8 6 rfl rfl)
theorem dL_law_329 : decode cL_law 329 = .ok (.iconst 3, 1) := dk_6 (dk_at dksL_law_8 7 rfl rfl)
theorem dL_law_330 : decode cL_law 330 = .ok (.iadd, 1) := dk_96 (dk_at dksL_law_8 8 rfl rfl)
theorem dL_law_331 : decode cL_law 331 = .ok (.iaload, 1) := dk_46 (dk_at dksL_law_8 9 rfl rfl)
theorem dL_law_332 : decode cL_law 332 = .ok (.aload_n 0, 1) := dk_42 (dk_at dksL_law_8 10 rfl rfl)
theorem dL_law_333 : decode cL_law 333 = .ok (.iload_n 3, 1) := dk_29 (dk_at dksL_law_8 11 rfl rfl)
theorem dL_law_334 : decode cL_law 334 = .ok (.iconst 4, 1) := dk_7 (dk_at dksL_law_8 12 rfl rfl)
theorem dL_law_335 : decode cL_law 335 = .ok (.iadd, 1) := dk_96 (dk_at dksL_law_8 13 rfl rfl)
theorem dL_law_336 : decode cL_law 336 = .ok (.iaload, 1) := dk_46 (dk_at dksL_law_8 14 rfl rfl)
theorem dL_law_337 : decode cL_law 337 = .ok (.invokevirtual 27, 3) := dk_182 0 27 (dk_at dksL_law_8 15 rfl rfl)
theorem dL_law_340 : decode cL_law 340 = .ok (.if_icmp .eq 1091, 3) := dk_159 4 67 (dk_at dksL_law_8 18 rfl rfl)
theorem dL_law_343 : decode cL_law 343 = .ok (.iconst 0, 1) := dk_3 (dk_at dksL_law_8 21 rfl rfl)
theorem dL_law_344 : decode cL_law 344 = .ok (.ireturn, 1) := dk_172 (dk_at dksL_law_8 22 rfl rfl)
theorem dL_law_345 : decode cL_law 345 = .ok (.aload_n 1, 1) := dk_43 (dk_at dksL_law_8 23 rfl rfl)
theorem dL_law_346 : decode cL_law 346 = .ok (.aload_n 0, 1) := dk_42 (dk_at dksL_law_9 0 rfl rfl)
theorem dL_law_347 : decode cL_law 347 = .ok (.iload_n 3, 1) := dk_29 (dk_at dksL_law_9 1 rfl rfl)
theorem dL_law_348 : decode cL_law 348 = .ok (.iconst 1, 1) := dk_4 (dk_at dksL_law_9 2 rfl rfl)
theorem dL_law_349 : decode cL_law 349 = .ok (.iadd, 1) := dk_96 (dk_at dksL_law_9 3 rfl rfl)
theorem dL_law_350 : decode cL_law 350 = .ok (.iaload, 1) := dk_46 (dk_at dksL_law_9 4 rfl rfl)
theorem dL_law_351 : decode cL_law 351 = .ok (.aload_n 0, 1) := dk_42 (dk_at dksL_law_9 5 rfl rfl)
theorem dL_law_352 : decode cL_law 352 = .ok (.iload_n 3, 1) := dk_29 (dk_at dksL_law_9 6 rfl rfl)
theorem dL_law_353 : decode cL_law 353 = .ok (.iconst 2, 1) := dk_5 (dk_at dksL_law_9 7 rfl rfl)
theorem dL_law_354 : decode cL_law 354 = .ok (.iadd, 1) := dk_96 (dk_at dksL_law_9 8 rfl rfl)
theorem dL_law_355 : decode cL_law 355 = .ok (.iaload, 1) := dk_46 (dk_at dksL_law_9 9 rfl rfl)
theorem dL_law_356 : decode cL_law 356 = .ok (.aload_n 0, 1) := dk_42 (dk_at dksL_law_9 10 rfl rfl)
theorem dL_law_357 : decode cL_law 357 = .ok (.iload_n 3, 1) := dk_29 (dk_at dksL_law_9 11 rfl rfl)
theorem dL_law_358 : decode cL_law 358 = .ok (.iconst 3, 1) := dk_6 (dk_at dksL_law_9 12 rfl rfl)
theorem dL_law_359 : decode cL_law 359 = .ok (.iadd, 1) := dk_96 (dk_at dksL_law_9 13 rfl rfl)
theorem dL_law_360 : decode cL_law 360 = .ok (.iaload, 1) := dk_46 (dk_at dksL_law_9 14 rfl rfl)
theorem dL_law_361 : decode cL_law 361 = .ok (.invokevirtual 28, 3) := dk_182 0 28 (dk_at dksL_law_9 15 rfl rfl)
theorem dL_law_364 : decode cL_law 364 = .ok (.aload_n 2, 1) := dk_44 (dk_at dksL_law_9 18 rfl rfl)
theorem dL_law_365 : decode cL_law 365 = .ok (.aload_n 0, 1) := dk_42 (dk_at dksL_law_9 19 rfl rfl)
theorem dL_law_366 : decode cL_law 366 = .ok (.iload_n 3, 1) := dk_29 (dk_at dksL_law_9 20 rfl rfl)
theorem dL_law_367 : decode cL_law 367 = .ok (.iconst 1, 1) := dk_4 (dk_at dksL_law_9 21 rfl rfl)
theorem dL_law_368 : decode cL_law 368 = .ok (.iadd, 1) := dk_96 (dk_at dksL_law_9 22 rfl rfl)
theorem dL_law_369 : decode cL_law 369 = .ok (.iaload, 1) := dk_46 (dk_at dksL_law_9 23 rfl rfl)
theorem dL_law_370 : decode cL_law 370 = .ok (.aload_n 0, 1) := dk_42 (dk_at dksL_law_10 0 rfl rfl)
theorem dL_law_371 : decode cL_law 371 = .ok (.iload_n 3, 1) := dk_29 (dk_at dksL_law_10 1 rfl rfl)
theorem dL_law_372 : decode cL_law 372 = .ok (.iconst 2, 1) := dk_5 (dk_at dksL_law_10 2 rfl rfl)
theorem dL_law_373 : decode cL_law 373 = .ok (.iadd, 1) := dk_96 (dk_at dksL_law_10 3 rfl rfl)
theorem dL_law_374 : decode cL_law 374 = .ok (.iaload, 1) := dk_46 (dk_at dksL_law_10 4 rfl rfl)
theorem dL_law_375 : decode cL_law 375 = .ok (.aload_n 0, 1) := dk_42 (dk_at dksL_law_10 5 rfl rfl)
theorem dL_law_376 : decode cL_law 376 = .ok (.iload_n 3, 1) := dk_29 (dk_at dksL_law_10 6 rfl rfl)
theorem dL_law_377 : decode cL_law 377 = .ok (.iconst 3, 1) := dk_6 (dk_at dksL_law_10 7 rfl rfl)
theorem dL_law_378 : decode cL_law 378 = .ok (.iadd, 1) := dk_96 (dk_at dksL_law_10 8 rfl rfl)
theorem dL_law_379 : decode cL_law 379 = .ok (.iaload, 1) := dk_46 (dk_at dksL_law_10 9 rfl rfl)
theorem dL_law_380 : decode cL_law 380 = .ok (.invokevirtual 32, 3) := dk_182 0 32 (dk_at dksL_law_10 10 rfl rfl)
theorem dL_law_383 : decode cL_law 383 = .ok (.if_icmp .eq 1048, 3) := dk_159 4 24 (dk_at dksL_law_10 13 rfl rfl)
theorem dL_law_386 : decode cL_law 386 = .ok (.iconst 0, 1) := dk_3 (dk_at dksL_law_10 16 rfl rfl)
theorem dL_law_387 : decode cL_law 387 = .ok (.ireturn, 1) := dk_172 (dk_at dksL_law_10 17 rfl rfl)
theorem dL_law_388 : decode cL_law 388 = .ok (.aload_n 1, 1) := dk_43 (dk_at dksL_law_10 18 rfl rfl)
theorem dL_law_389 : decode cL_law 389 = .ok (.aload_n 0, 1) := dk_42 (dk_at dksL_law_10 19 rfl rfl)
theorem dL_law_390 : decode cL_law 390 = .ok (.iload_n 3, 1) := dk_29 (dk_at dksL_law_10 20 rfl rfl)
theorem dL_law_391 : decode cL_law 391 = .ok (.iconst 1, 1) := dk_4 (dk_at dksL_law_10 21 rfl rfl)
theorem dL_law_392 : decode cL_law 392 = .ok (.iadd, 1) := dk_96 (dk_at dksL_law_10 22 rfl rfl)
theorem dL_law_393 : decode cL_law 393 = .ok (.iaload, 1) := dk_46 (dk_at dksL_law_10 23 rfl rfl)
theorem dL_law_394 : decode cL_law 394 = .ok (.aload_n 0, 1) := dk_42 (dk_at dksL_law_11 0 rfl rfl)
theorem dL_law_395 : decode cL_law 395 = .ok (.iload_n 3, 1) := dk_29 (dk_at dksL_law_11 1 rfl rfl)
theorem dL_law_396 : decode cL_law 396 = .ok (.iconst 2, 1) := dk_5 (dk_at dksL_law_11 2 rfl rfl)
theorem dL_law_397 : decode cL_law 397 = .ok (.iadd, 1) := dk_96 (dk_at dksL_law_11 3 rfl rfl)
theorem dL_law_398 : decode cL_law 398 = .ok (.iaload, 1) := dk_46 (dk_at dksL_law_11 4 rfl rfl)
theorem dL_law_399 : decode cL_law 399 = .ok (.invokevirtual 33, 3) := dk_182 0 33 (dk_at dksL_law_11 5 rfl rfl)
theorem dL_law_402 : decode cL_law 402 = .ok (.aload_n 2, 1) := dk_44 (dk_at dksL_law_11 8 rfl rfl)
theorem dL_law_403 : decode cL_law 403 = .ok (.aload_n 0, 1) := dk_42 (dk_at dksL_law_11 9 rfl rfl)
theorem dL_law_404 : decode cL_law 404 = .ok (.iload_n 3, 1) := dk_29 (dk_at dksL_law_11 10 rfl rfl)
theorem dL_law_405 : decode cL_law 405 = .ok (.iconst 1, 1) := dk_4 (dk_at dksL_law_11 11 rfl rfl)
theorem dL_law_406 : decode cL_law 406 = .ok (.iadd, 1) := dk_96 (dk_at dksL_law_11 12 rfl rfl)
theorem dL_law_407 : decode cL_law 407 = .ok (.iaload, 1) := dk_46 (dk_at dksL_law_11 13 rfl rfl)
theorem dL_law_408 : decode cL_law 408 = .ok (.aload_n 0, 1) := dk_42 (dk_at dksL_law_11 14 rfl rfl)
theorem dL_law_409 : decode cL_law 409 = .ok (.iload_n 3, 1) := dk_29 (dk_at dksL_law_11 15 rfl rfl)
theorem dL_law_410 : decode cL_law 410 = .ok (.iconst 2, 1) := dk_5 (dk_at dksL_law_11 16 rfl rfl)
theorem dL_law_411 : decode cL_law 411 = .ok (.iadd, 1) := dk_96 (dk_at dksL_law_11 17 rfl rfl)
theorem dL_law_412 : decode cL_law 412 = .ok (.iaload, 1) := dk_46 (dk_at dksL_law_11 18 rfl rfl)
theorem dL_law_413 : decode cL_law 413 = .ok (.invokevirtual 37, 3) := dk_182 0 37 (dk_at dksL_law_11 19 rfl rfl)
theorem dL_law_416 : decode cL_law 416 = .ok (.lcmp, 1) := dk_148 (dk_at dksL_law_11 22 rfl rfl)
theorem dL_law_417 : decode cL_law 417 = .ok (.ifCond .eq 1014, 3) := dk_153 3 246 (dk_at dksL_law_12 0 rfl rfl)
theorem dL_law_420 : decode cL_law 420 = .ok (.iconst 0, 1) := dk_3 (dk_at dksL_law_12 3 rfl rfl)
theorem dL_law_421 : decode cL_law 421 = .ok (.ireturn, 1) := dk_172 (dk_at dksL_law_12 4 rfl rfl)
theorem dL_law_422 : decode cL_law 422 = .ok (.aload_n 1, 1) := dk_43 (dk_at dksL_law_12 5 rfl rfl)
theorem dL_law_423 : decode cL_law 423 = .ok (.aload_n 0, 1) := dk_42 (dk_at dksL_law_12 6 rfl rfl)
theorem dL_law_424 : decode cL_law 424 = .ok (.iload_n 3, 1) := dk_29 (dk_at dksL_law_12 7 rfl rfl)
theorem dL_law_425 : decode cL_law 425 = .ok (.iconst 1, 1) := dk_4 (dk_at dksL_law_12 8 rfl rfl)
theorem dL_law_426 : decode cL_law 426 = .ok (.iadd, 1) := dk_96 (dk_at dksL_law_12 9 rfl rfl)
theorem dL_law_427 : decode cL_law 427 = .ok (.iaload, 1) := dk_46 (dk_at dksL_law_12 10 rfl rfl)
theorem dL_law_428 : decode cL_law 428 = .ok (.aload_n 0, 1) := dk_42 (dk_at dksL_law_12 11 rfl rfl)
theorem dL_law_429 : decode cL_law 429 = .ok (.iload_n 3, 1) := dk_29 (dk_at dksL_law_12 12 rfl rfl)
theorem dL_law_430 : decode cL_law 430 = .ok (.iconst 2, 1) := dk_5 (dk_at dksL_law_12 13 rfl rfl)
theorem dL_law_431 : decode cL_law 431 = .ok (.iadd, 1) := dk_96 (dk_at dksL_law_12 14 rfl rfl)
theorem dL_law_432 : decode cL_law 432 = .ok (.iaload, 1) := dk_46 (dk_at dksL_law_12 15 rfl rfl)
theorem dL_law_433 : decode cL_law 433 = .ok (.aload_n 0, 1) := dk_42 (dk_at dksL_law_12 16 rfl rfl)
theorem dL_law_434 : decode cL_law 434 = .ok (.iload_n 3, 1) := dk_29 (dk_at dksL_law_12 17 rfl rfl)
theorem dL_law_435 : decode cL_law 435 = .ok (.iconst 3, 1) := dk_6 (dk_at dksL_law_12 18 rfl rfl)
theorem dL_law_436 : decode cL_law 436 = .ok (.iadd, 1) := dk_96 (dk_at dksL_law_12 19 rfl rfl)
theorem dL_law_437 : decode cL_law 437 = .ok (.iaload, 1) := dk_46 (dk_at dksL_law_12 20 rfl rfl)
theorem dL_law_438 : decode cL_law 438 = .ok (.invokevirtual 38, 3) := dk_182 0 38 (dk_at dksL_law_12 21 rfl rfl)
theorem dL_law_441 : decode cL_law 441 = .ok (.aload_n 2, 1) := dk_44 (dk_at dksL_law_13 0 rfl rfl)
theorem dL_law_442 : decode cL_law 442 = .ok (.aload_n 0, 1) := dk_42 (dk_at dksL_law_13 1 rfl rfl)
theorem dL_law_443 : decode cL_law 443 = .ok (.iload_n 3, 1) := dk_29 (dk_at dksL_law_13 2 rfl rfl)
theorem dL_law_444 : decode cL_law 444 = .ok (.iconst 1, 1) := dk_4 (dk_at dksL_law_13 3 rfl rfl)
theorem dL_law_445 : decode cL_law 445 = .ok (.iadd, 1) := dk_96 (dk_at dksL_law_13 4 rfl rfl)
theorem dL_law_446 : decode cL_law 446 = .ok (.iaload, 1) := dk_46 (dk_at dksL_law_13 5 rfl rfl)
theorem dL_law_447 : decode cL_law 447 = .ok (.aload_n 0, 1) := dk_42 (dk_at dksL_law_13 6 rfl rfl)
theorem dL_law_448 : decode cL_law 448 = .ok (.iload_n 3, 1) := dk_29 (dk_at dksL_law_13 7 rfl rfl)
theorem dL_law_449 : decode cL_law 449 = .ok (.iconst 2, 1) := dk_5 (dk_at dksL_law_13 8 rfl rfl)
theorem dL_law_450 : decode cL_law 450 = .ok (.iadd, 1) := dk_96 (dk_at dksL_law_13 9 rfl rfl)
theorem dL_law_451 : decode cL_law 451 = .ok (.iaload, 1) := dk_46 (dk_at dksL_law_13 10 rfl rfl)
theorem dL_law_452 : decode cL_law 452 = .ok (.aload_n 0, 1) := dk_42 (dk_at dksL_law_13 11 rfl rfl)
theorem dL_law_453 : decode cL_law 453 = .ok (.iload_n 3, 1) := dk_29 (dk_at dksL_law_13 12 rfl rfl)
theorem dL_law_454 : decode cL_law 454 = .ok (.iconst 3, 1) := dk_6 (dk_at dksL_law_13 13 rfl rfl)
theorem dL_law_455 : decode cL_law 455 = .ok (.iadd, 1) := dk_96 (dk_at dksL_law_13 14 rfl rfl)
theorem dL_law_456 : decode cL_law 456 = .ok (.iaload, 1) := dk_46 (dk_at dksL_law_13 15 rfl rfl)
theorem dL_law_457 : decode cL_law 457 = .ok (.invokevirtual 42, 3) := dk_182 0 42 (dk_at dksL_law_13 16 rfl rfl)
theorem dL_law_460 : decode cL_law 460 = .ok (.lcmp, 1) := dk_148 (dk_at dksL_law_13 19 rfl rfl)
theorem dL_law_461 : decode cL_law 461 = .ok (.ifCond .eq 970, 3) := dk_153 3 202 (dk_at dksL_law_13 20 rfl rfl)
theorem dL_law_464 : decode cL_law 464 = .ok (.iconst 0, 1) := dk_3 (dk_at dksL_law_13 23 rfl rfl)
theorem dL_law_465 : decode cL_law 465 = .ok (.ireturn, 1) := dk_172 (dk_at dksL_law_14 0 rfl rfl)
theorem dL_law_466 : decode cL_law 466 = .ok (.aload_n 1, 1) := dk_43 (dk_at dksL_law_14 1 rfl rfl)
theorem dL_law_467 : decode cL_law 467 = .ok (.aload_n 0, 1) := dk_42 (dk_at dksL_law_14 2 rfl rfl)
theorem dL_law_468 : decode cL_law 468 = .ok (.iload_n 3, 1) := dk_29 (dk_at dksL_law_14 3 rfl rfl)
theorem dL_law_469 : decode cL_law 469 = .ok (.iconst 1, 1) := dk_4 (dk_at dksL_law_14 4 rfl rfl)
theorem dL_law_470 : decode cL_law 470 = .ok (.iadd, 1) := dk_96 (dk_at dksL_law_14 5 rfl rfl)
theorem dL_law_471 : decode cL_law 471 = .ok (.iaload, 1) := dk_46 (dk_at dksL_law_14 6 rfl rfl)
theorem dL_law_472 : decode cL_law 472 = .ok (.invokevirtual 43, 3) := dk_182 0 43 (dk_at dksL_law_14 7 rfl rfl)
theorem dL_law_475 : decode cL_law 475 = .ok (.aload_n 2, 1) := dk_44 (dk_at dksL_law_14 10 rfl rfl)
theorem dL_law_476 : decode cL_law 476 = .ok (.aload_n 0, 1) := dk_42 (dk_at dksL_law_14 11 rfl rfl)
theorem dL_law_477 : decode cL_law 477 = .ok (.iload_n 3, 1) := dk_29 (dk_at dksL_law_14 12 rfl rfl)
theorem dL_law_478 : decode cL_law 478 = .ok (.iconst 1, 1) := dk_4 (dk_at dksL_law_14 13 rfl rfl)
theorem dL_law_479 : decode cL_law 479 = .ok (.iadd, 1) := dk_96 (dk_at dksL_law_14 14 rfl rfl)
theorem dL_law_480 : decode cL_law 480 = .ok (.iaload, 1) := dk_46 (dk_at dksL_law_14 15 rfl rfl)
theorem dL_law_481 : decode cL_law 481 = .ok (.invokevirtual 47, 3) := dk_182 0 47 (dk_at dksL_law_14 16 rfl rfl)
theorem dL_law_484 : decode cL_law 484 = .ok (.if_icmp .eq 947, 3) := dk_159 3 179 (dk_at dksL_law_14 19 rfl rfl)
theorem dL_law_487 : decode cL_law 487 = .ok (.iconst 0, 1) := dk_3 (dk_at dksL_law_14 22 rfl rfl)
theorem dL_law_488 : decode cL_law 488 = .ok (.ireturn, 1) := dk_172 (dk_at dksL_law_14 23 rfl rfl)
theorem dL_law_489 : decode cL_law 489 = .ok (.aload_n 1, 1) := dk_43 (dk_at dksL_law_15 0 rfl rfl)
theorem dL_law_490 : decode cL_law 490 = .ok (.aload_n 0, 1) := dk_42 (dk_at dksL_law_15 1 rfl rfl)
theorem dL_law_491 : decode cL_law 491 = .ok (.iload_n 3, 1) := dk_29 (dk_at dksL_law_15 2 rfl rfl)
theorem dL_law_492 : decode cL_law 492 = .ok (.iconst 1, 1) := dk_4 (dk_at dksL_law_15 3 rfl rfl)
theorem dL_law_493 : decode cL_law 493 = .ok (.iadd, 1) := dk_96 (dk_at dksL_law_15 4 rfl rfl)
theorem dL_law_494 : decode cL_law 494 = .ok (.iaload, 1) := dk_46 (dk_at dksL_law_15 5 rfl rfl)
theorem dL_law_495 : decode cL_law 495 = .ok (.invokevirtual 48, 3) := dk_182 0 48 (dk_at dksL_law_15 6 rfl rfl)
theorem dL_law_498 : decode cL_law 498 = .ok (.aload_n 2, 1) := dk_44 (dk_at dksL_law_15 9 rfl rfl)
theorem dL_law_499 : decode cL_law 499 = .ok (.aload_n 0, 1) := dk_42 (dk_at dksL_law_15 10 rfl rfl)
theorem dL_law_500 : decode cL_law 500 = .ok (.iload_n 3, 1) := dk_29 (dk_at dksL_law_15 11 rfl rfl)
theorem dL_law_501 : decode cL_law 501 = .ok (.iconst 1, 1) := dk_4 (dk_at dksL_law_15 12 rfl rfl)
theorem dL_law_502 : decode cL_law 502 = .ok (.iadd, 1) := dk_96 (dk_at dksL_law_15 13 rfl rfl)
theorem dL_law_503 : decode cL_law 503 = .ok (.iaload, 1) := dk_46 (dk_at dksL_law_15 14 rfl rfl)
theorem dL_law_504 : decode cL_law 504 = .ok (.invokevirtual 51, 3) := dk_182 0 51 (dk_at dksL_law_15 15 rfl rfl)
theorem dL_law_507 : decode cL_law 507 = .ok (.if_icmp .eq 924, 3) := dk_159 3 156 (dk_at dksL_law_15 18 rfl rfl)
theorem dL_law_510 : decode cL_law 510 = .ok (.iconst 0, 1) := dk_3 (dk_at dksL_law_15 21 rfl rfl)
theorem dL_law_511 : decode cL_law 511 = .ok (.ireturn, 1) := dk_172 (dk_at dksL_law_15 22 rfl rfl)
theorem dL_law_512 : decode cL_law 512 = .ok (.aload_n 1, 1) := dk_43 (dk_at dksL_law_15 23 rfl rfl)
theorem dL_law_513 : decode cL_law 513 = .ok (.aload_n 0, 1) := dk_42 (dk_at dksL_law_16 0 rfl rfl)
theorem dL_law_514 : decode cL_law 514 = .ok (.iload_n 3, 1) := dk_29 (dk_at dksL_law_16 1 rfl rfl)
theorem dL_law_515 : decode cL_law 515 = .ok (.iconst 1, 1) := dk_4 (dk_at dksL_law_16 2 rfl rfl)
theorem dL_law_516 : decode cL_law 516 = .ok (.iadd, 1) := dk_96 (dk_at dksL_law_16 3 rfl rfl)
theorem dL_law_517 : decode cL_law 517 = .ok (.iaload, 1) := dk_46 (dk_at dksL_law_16 4 rfl rfl)
theorem dL_law_518 : decode cL_law 518 = .ok (.invokevirtual 52, 3) := dk_182 0 52 (dk_at dksL_law_16 5 rfl rfl)
theorem dL_law_521 : decode cL_law 521 = .ok (.aload_n 2, 1) := dk_44 (dk_at dksL_law_16 8 rfl rfl)
theorem dL_law_522 : decode cL_law 522 = .ok (.aload_n 0, 1) := dk_42 (dk_at dksL_law_16 9 rfl rfl)
theorem dL_law_523 : decode cL_law 523 = .ok (.iload_n 3, 1) := dk_29 (dk_at dksL_law_16 10 rfl rfl)
theorem dL_law_524 : decode cL_law 524 = .ok (.iconst 1, 1) := dk_4 (dk_at dksL_law_16 11 rfl rfl)
theorem dL_law_525 : decode cL_law 525 = .ok (.iadd, 1) := dk_96 (dk_at dksL_law_16 12 rfl rfl)
theorem dL_law_526 : decode cL_law 526 = .ok (.iaload, 1) := dk_46 (dk_at dksL_law_16 13 rfl rfl)
theorem dL_law_527 : decode cL_law 527 = .ok (.invokevirtual 55, 3) := dk_182 0 55 (dk_at dksL_law_16 14 rfl rfl)
theorem dL_law_530 : decode cL_law 530 = .ok (.if_icmp .eq 901, 3) := dk_159 3 133 (dk_at dksL_law_16 17 rfl rfl)
theorem dL_law_533 : decode cL_law 533 = .ok (.iconst 0, 1) := dk_3 (dk_at dksL_law_16 20 rfl rfl)
theorem dL_law_534 : decode cL_law 534 = .ok (.ireturn, 1) := dk_172 (dk_at dksL_law_16 21 rfl rfl)
theorem dL_law_535 : decode cL_law 535 = .ok (.aload_n 1, 1) := dk_43 (dk_at dksL_law_16 22 rfl rfl)
theorem dL_law_536 : decode cL_law 536 = .ok (.aload_n 0, 1) := dk_42 (dk_at dksL_law_16 23 rfl rfl)
theorem dL_law_537 : decode cL_law 537 = .ok (.iload_n 3, 1) := dk_29 (dk_at dksL_law_17 0 rfl rfl)
theorem dL_law_538 : decode cL_law 538 = .ok (.iconst 1, 1) := dk_4 (dk_at dksL_law_17 1 rfl rfl)
theorem dL_law_539 : decode cL_law 539 = .ok (.iadd, 1) := dk_96 (dk_at dksL_law_17 2 rfl rfl)
theorem dL_law_540 : decode cL_law 540 = .ok (.iaload, 1) := dk_46 (dk_at dksL_law_17 3 rfl rfl)
theorem dL_law_541 : decode cL_law 541 = .ok (.aload_n 0, 1) := dk_42 (dk_at dksL_law_17 4 rfl rfl)
theorem dL_law_542 : decode cL_law 542 = .ok (.iload_n 3, 1) := dk_29 (dk_at dksL_law_17 5 rfl rfl)
theorem dL_law_543 : decode cL_law 543 = .ok (.iconst 2, 1) := dk_5 (dk_at dksL_law_17 6 rfl rfl)
theorem dL_law_544 : decode cL_law 544 = .ok (.iadd, 1) := dk_96 (dk_at dksL_law_17 7 rfl rfl)
theorem dL_law_545 : decode cL_law 545 = .ok (.iaload, 1) := dk_46 (dk_at dksL_law_17 8 rfl rfl)
theorem dL_law_546 : decode cL_law 546 = .ok (.invokevirtual 56, 3) := dk_182 0 56 (dk_at dksL_law_17 9 rfl rfl)
theorem dL_law_549 : decode cL_law 549 = .ok (.aload_n 2, 1) := dk_44 (dk_at dksL_law_17 12 rfl rfl)
theorem dL_law_550 : decode cL_law 550 = .ok (.aload_n 0, 1) := dk_42 (dk_at dksL_law_17 13 rfl rfl)
theorem dL_law_551 : decode cL_law 551 = .ok (.iload_n 3, 1) := dk_29 (dk_at dksL_law_17 14 rfl rfl)
theorem dL_law_552 : decode cL_law 552 = .ok (.iconst 1, 1) := dk_4 (dk_at dksL_law_17 15 rfl rfl)
theorem dL_law_553 : decode cL_law 553 = .ok (.iadd, 1) := dk_96 (dk_at dksL_law_17 16 rfl rfl)
theorem dL_law_554 : decode cL_law 554 = .ok (.iaload, 1) := dk_46 (dk_at dksL_law_17 17 rfl rfl)
theorem dL_law_555 : decode cL_law 555 = .ok (.aload_n 0, 1) := dk_42 (dk_at dksL_law_17 18 rfl rfl)
theorem dL_law_556 : decode cL_law 556 = .ok (.iload_n 3, 1) := dk_29 (dk_at dksL_law_17 19 rfl rfl)
theorem dL_law_557 : decode cL_law 557 = .ok (.iconst 2, 1) := dk_5 (dk_at dksL_law_17 20 rfl rfl)
theorem dL_law_558 : decode cL_law 558 = .ok (.iadd, 1) := dk_96 (dk_at dksL_law_17 21 rfl rfl)
theorem dL_law_559 : decode cL_law 559 = .ok (.iaload, 1) := dk_46 (dk_at dksL_law_17 22 rfl rfl)
theorem dL_law_560 : decode cL_law 560 = .ok (.invokevirtual 59, 3) := dk_182 0 59 (dk_at dksL_law_18 0 rfl rfl)
theorem dL_law_563 : decode cL_law 563 = .ok (.lcmp, 1) := dk_148 (dk_at dksL_law_18 3 rfl rfl)
theorem dL_law_564 : decode cL_law 564 = .ok (.ifCond .eq 867, 3) := dk_153 3 99 (dk_at dksL_law_18 4 rfl rfl)
theorem dL_law_567 : decode cL_law 567 = .ok (.iconst 0, 1) := dk_3 (dk_at dksL_law_18 7 rfl rfl)
theorem dL_law_568 : decode cL_law 568 = .ok (.ireturn, 1) := dk_172 (dk_at dksL_law_18 8 rfl rfl)
theorem dL_law_569 : decode cL_law 569 = .ok (.aload_n 1, 1) := dk_43 (dk_at dksL_law_18 9 rfl rfl)
theorem dL_law_570 : decode cL_law 570 = .ok (.aload_n 0, 1) := dk_42 (dk_at dksL_law_18 10 rfl rfl)
theorem dL_law_571 : decode cL_law 571 = .ok (.iload_n 3, 1) := dk_29 (dk_at dksL_law_18 11 rfl rfl)
theorem dL_law_572 : decode cL_law 572 = .ok (.iconst 1, 1) := dk_4 (dk_at dksL_law_18 12 rfl rfl)
theorem dL_law_573 : decode cL_law 573 = .ok (.iadd, 1) := dk_96 (dk_at dksL_law_18 13 rfl rfl)
theorem dL_law_574 : decode cL_law 574 = .ok (.iaload, 1) := dk_46 (dk_at dksL_law_18 14 rfl rfl)
theorem dL_law_575 : decode cL_law 575 = .ok (.invokevirtual 60, 3) := dk_182 0 60 (dk_at dksL_law_18 15 rfl rfl)
theorem dL_law_578 : decode cL_law 578 = .ok (.aload_n 2, 1) := dk_44 (dk_at dksL_law_18 18 rfl rfl)
theorem dL_law_579 : decode cL_law 579 = .ok (.aload_n 0, 1) := dk_42 (dk_at dksL_law_18 19 rfl rfl)
theorem dL_law_580 : decode cL_law 580 = .ok (.iload_n 3, 1) := dk_29 (dk_at dksL_law_18 20 rfl rfl)
theorem dL_law_581 : decode cL_law 581 = .ok (.iconst 1, 1) := dk_4 (dk_at dksL_law_18 21 rfl rfl)
theorem dL_law_582 : decode cL_law 582 = .ok (.iadd, 1) := dk_96 (dk_at dksL_law_18 22 rfl rfl)
theorem dL_law_583 : decode cL_law 583 = .ok (.iaload, 1) := dk_46 (dk_at dksL_law_18 23 rfl rfl)
theorem dL_law_584 : decode cL_law 584 = .ok (.invokevirtual 63, 3) := dk_182 0 63 (dk_at dksL_law_19 0 rfl rfl)
theorem dL_law_587 : decode cL_law 587 = .ok (.if_icmp .eq 844, 3) := dk_159 3 76 (dk_at dksL_law_19 3 rfl rfl)
theorem dL_law_590 : decode cL_law 590 = .ok (.iconst 0, 1) := dk_3 (dk_at dksL_law_19 6 rfl rfl)
theorem dL_law_591 : decode cL_law 591 = .ok (.ireturn, 1) := dk_172 (dk_at dksL_law_19 7 rfl rfl)
theorem dL_law_592 : decode cL_law 592 = .ok (.aload_n 1, 1) := dk_43 (dk_at dksL_law_19 8 rfl rfl)
theorem dL_law_593 : decode cL_law 593 = .ok (.aload_n 0, 1) := dk_42 (dk_at dksL_law_19 9 rfl rfl)
theorem dL_law_594 : decode cL_law 594 = .ok (.iload_n 3, 1) := dk_29 (dk_at dksL_law_19 10 rfl rfl)
theorem dL_law_595 : decode cL_law 595 = .ok (.iconst 1, 1) := dk_4 (dk_at dksL_law_19 11 rfl rfl)
theorem dL_law_596 : decode cL_law 596 = .ok (.iadd, 1) := dk_96 (dk_at dksL_law_19 12 rfl rfl)
theorem dL_law_597 : decode cL_law 597 = .ok (.iaload, 1) := dk_46 (dk_at dksL_law_19 13 rfl rfl)
theorem dL_law_598 : decode cL_law 598 = .ok (.invokevirtual 64, 3) := dk_182 0 64 (dk_at dksL_law_19 14 rfl rfl)
theorem dL_law_601 : decode cL_law 601 = .ok (.aload_n 2, 1) := dk_44 (dk_at dksL_law_19 17 rfl rfl)
theorem dL_law_602 : decode cL_law 602 = .ok (.aload_n 0, 1) := dk_42 (dk_at dksL_law_19 18 rfl rfl)
theorem dL_law_603 : decode cL_law 603 = .ok (.iload_n 3, 1) := dk_29 (dk_at dksL_law_19 19 rfl rfl)
theorem dL_law_604 : decode cL_law 604 = .ok (.iconst 1, 1) := dk_4 (dk_at dksL_law_19 20 rfl rfl)
theorem dL_law_605 : decode cL_law 605 = .ok (.iadd, 1) := dk_96 (dk_at dksL_law_19 21 rfl rfl)
theorem dL_law_606 : decode cL_law 606 = .ok (.iaload, 1) := dk_46 (dk_at dksL_law_19 22 rfl rfl)
theorem dL_law_607 : decode cL_law 607 = .ok (.invokevirtual 67, 3) := dk_182 0 67 (dk_at dksL_law_20 0 rfl rfl)
theorem dL_law_610 : decode cL_law 610 = .ok (.if_icmp .eq 821, 3) := dk_159 3 53 (dk_at dksL_law_20 3 rfl rfl)
theorem dL_law_613 : decode cL_law 613 = .ok (.iconst 0, 1) := dk_3 (dk_at dksL_law_20 6 rfl rfl)
theorem dL_law_614 : decode cL_law 614 = .ok (.ireturn, 1) := dk_172 (dk_at dksL_law_20 7 rfl rfl)
theorem dL_law_615 : decode cL_law 615 = .ok (.aload_n 1, 1) := dk_43 (dk_at dksL_law_20 8 rfl rfl)
theorem dL_law_616 : decode cL_law 616 = .ok (.aload_n 0, 1) := dk_42 (dk_at dksL_law_20 9 rfl rfl)
theorem dL_law_617 : decode cL_law 617 = .ok (.iload_n 3, 1) := dk_29 (dk_at dksL_law_20 10 rfl rfl)
theorem dL_law_618 : decode cL_law 618 = .ok (.iconst 1, 1) := dk_4 (dk_at dksL_law_20 11 rfl rfl)
theorem dL_law_619 : decode cL_law 619 = .ok (.iadd, 1) := dk_96 (dk_at dksL_law_20 12 rfl rfl)
theorem dL_law_620 : decode cL_law 620 = .ok (.iaload, 1) := dk_46 (dk_at dksL_law_20 13 rfl rfl)
theorem dL_law_621 : decode cL_law 621 = .ok (.aload_n 0, 1) := dk_42 (dk_at dksL_law_20 14 rfl rfl)
theorem dL_law_622 : decode cL_law 622 = .ok (.iload_n 3, 1) := dk_29 (dk_at dksL_law_20 15 rfl rfl)
theorem dL_law_623 : decode cL_law 623 = .ok (.iconst 2, 1) := dk_5 (dk_at dksL_law_20 16 rfl rfl)
theorem dL_law_624 : decode cL_law 624 = .ok (.iadd, 1) := dk_96 (dk_at dksL_law_20 17 rfl rfl)
theorem dL_law_625 : decode cL_law 625 = .ok (.iaload, 1) := dk_46 (dk_at dksL_law_20 18 rfl rfl)
theorem dL_law_626 : decode cL_law 626 = .ok (.invokevirtual 68, 3) := dk_182 0 68 (dk_at dksL_law_20 19 rfl rfl)
theorem dL_law_629 : decode cL_law 629 = .ok (.aload_n 2, 1) := dk_44 (dk_at dksL_law_20 22 rfl rfl)
theorem dL_law_630 : decode cL_law 630 = .ok (.aload_n 0, 1) := dk_42 (dk_at dksL_law_20 23 rfl rfl)
theorem dL_law_631 : decode cL_law 631 = .ok (.iload_n 3, 1) := dk_29 (dk_at dksL_law_21 0 rfl rfl)
theorem dL_law_632 : decode cL_law 632 = .ok (.iconst 1, 1) := dk_4 (dk_at dksL_law_21 1 rfl rfl)
theorem dL_law_633 : decode cL_law 633 = .ok (.iadd, 1) := dk_96 (dk_at dksL_law_21 2 rfl rfl)
theorem dL_law_634 : decode cL_law 634 = .ok (.iaload, 1) := dk_46 (dk_at dksL_law_21 3 rfl rfl)
theorem dL_law_635 : decode cL_law 635 = .ok (.aload_n 0, 1) := dk_42 (dk_at dksL_law_21 4 rfl rfl)
theorem dL_law_636 : decode cL_law 636 = .ok (.iload_n 3, 1) := dk_29 (dk_at dksL_law_21 5 rfl rfl)
theorem dL_law_637 : decode cL_law 637 = .ok (.iconst 2, 1) := dk_5 (dk_at dksL_law_21 6 rfl rfl)
theorem dL_law_638 : decode cL_law 638 = .ok (.iadd, 1) := dk_96 (dk_at dksL_law_21 7 rfl rfl)
theorem dL_law_639 : decode cL_law 639 = .ok (.iaload, 1) := dk_46 (dk_at dksL_law_21 8 rfl rfl)
theorem dL_law_640 : decode cL_law 640 = .ok (.invokevirtual 72, 3) := dk_182 0 72 (dk_at dksL_law_21 9 rfl rfl)
theorem dL_law_643 : decode cL_law 643 = .ok (.if_icmp .eq 788, 3) := dk_159 3 20 (dk_at dksL_law_21 12 rfl rfl)
theorem dL_law_646 : decode cL_law 646 = .ok (.iconst 0, 1) := dk_3 (dk_at dksL_law_21 15 rfl rfl)
theorem dL_law_647 : decode cL_law 647 = .ok (.ireturn, 1) := dk_172 (dk_at dksL_law_21 16 rfl rfl)
theorem dL_law_648 : decode cL_law 648 = .ok (.aload_n 1, 1) := dk_43 (dk_at dksL_law_21 17 rfl rfl)
theorem dL_law_649 : decode cL_law 649 = .ok (.aload_n 0, 1) := dk_42 (dk_at dksL_law_21 18 rfl rfl)
theorem dL_law_650 : decode cL_law 650 = .ok (.iload_n 3, 1) := dk_29 (dk_at dksL_law_21 19 rfl rfl)
theorem dL_law_651 : decode cL_law 651 = .ok (.iconst 1, 1) := dk_4 (dk_at dksL_law_21 20 rfl rfl)
theorem dL_law_652 : decode cL_law 652 = .ok (.iadd, 1) := dk_96 (dk_at dksL_law_21 21 rfl rfl)
theorem dL_law_653 : decode cL_law 653 = .ok (.iaload, 1) := dk_46 (dk_at dksL_law_21 22 rfl rfl)
theorem dL_law_654 : decode cL_law 654 = .ok (.aload_n 0, 1) := dk_42 (dk_at dksL_law_21 23 rfl rfl)
theorem dL_law_655 : decode cL_law 655 = .ok (.iload_n 3, 1) := dk_29 (dk_at dksL_law_22 0 rfl rfl)
theorem dL_law_656 : decode cL_law 656 = .ok (.iconst 2, 1) := dk_5 (dk_at dksL_law_22 1 rfl rfl)
theorem dL_law_657 : decode cL_law 657 = .ok (.iadd, 1) := dk_96 (dk_at dksL_law_22 2 rfl rfl)
theorem dL_law_658 : decode cL_law 658 = .ok (.iaload, 1) := dk_46 (dk_at dksL_law_22 3 rfl rfl)
theorem dL_law_659 : decode cL_law 659 = .ok (.aload_n 0, 1) := dk_42 (dk_at dksL_law_22 4 rfl rfl)
theorem dL_law_660 : decode cL_law 660 = .ok (.iload_n 3, 1) := dk_29 (dk_at dksL_law_22 5 rfl rfl)
theorem dL_law_661 : decode cL_law 661 = .ok (.iconst 3, 1) := dk_6 (dk_at dksL_law_22 6 rfl rfl)
theorem dL_law_662 : decode cL_law 662 = .ok (.iadd, 1) := dk_96 (dk_at dksL_law_22 7 rfl rfl)
theorem dL_law_663 : decode cL_law 663 = .ok (.iaload, 1) := dk_46 (dk_at dksL_law_22 8 rfl rfl)
theorem dL_law_664 : decode cL_law 664 = .ok (.aload_n 0, 1) := dk_42 (dk_at dksL_law_22 9 rfl rfl)
theorem dL_law_665 : decode cL_law 665 = .ok (.iload_n 3, 1) := dk_29 (dk_at dksL_law_22 10 rfl rfl)
theorem dL_law_666 : decode cL_law 666 = .ok (.iconst 4, 1) := dk_7 (dk_at dksL_law_22 11 rfl rfl)
theorem dL_law_667 : decode cL_law 667 = .ok (.iadd, 1) := dk_96 (dk_at dksL_law_22 12 rfl rfl)
theorem dL_law_668 : decode cL_law 668 = .ok (.iaload, 1) := dk_46 (dk_at dksL_law_22 13 rfl rfl)
theorem dL_law_669 : decode cL_law 669 = .ok (.invokevirtual 73, 3) := dk_182 0 73 (dk_at dksL_law_22 14 rfl rfl)
theorem dL_law_672 : decode cL_law 672 = .ok (.aload_n 2, 1) := dk_44 (dk_at dksL_law_22 17 rfl rfl)
theorem dL_law_673 : decode cL_law 673 = .ok (.aload_n 0, 1) := dk_42 (dk_at dksL_law_22 18 rfl rfl)
theorem dL_law_674 : decode cL_law 674 = .ok (.iload_n 3, 1) := dk_29 (dk_at dksL_law_22 19 rfl rfl)
theorem dL_law_675 : decode cL_law 675 = .ok (.iconst 1, 1) := dk_4 (dk_at dksL_law_22 20 rfl rfl)
theorem dL_law_676 : decode cL_law 676 = .ok (.iadd, 1) := dk_96 (dk_at dksL_law_22 21 rfl rfl)
theorem dL_law_677 : decode cL_law 677 = .ok (.iaload, 1) := dk_46 (dk_at dksL_law_22 22 rfl rfl)
theorem dL_law_678 : decode cL_law 678 = .ok (.aload_n 0, 1) := dk_42 (dk_at dksL_law_22 23 rfl rfl)
theorem dL_law_679 : decode cL_law 679 = .ok (.iload_n 3, 1) := dk_29 (dk_at dksL_law_23 0 rfl rfl)
theorem dL_law_680 : decode cL_law 680 = .ok (.iconst 2, 1) := dk_5 (dk_at dksL_law_23 1 rfl rfl)
theorem dL_law_681 : decode cL_law 681 = .ok (.iadd, 1) := dk_96 (dk_at dksL_law_23 2 rfl rfl)
theorem dL_law_682 : decode cL_law 682 = .ok (.iaload, 1) := dk_46 (dk_at dksL_law_23 3 rfl rfl)
theorem dL_law_683 : decode cL_law 683 = .ok (.aload_n 0, 1) := dk_42 (dk_at dksL_law_23 4 rfl rfl)
theorem dL_law_684 : decode cL_law 684 = .ok (.iload_n 3, 1) := dk_29 (dk_at dksL_law_23 5 rfl rfl)
theorem dL_law_685 : decode cL_law 685 = .ok (.iconst 3, 1) := dk_6 (dk_at dksL_law_23 6 rfl rfl)
theorem dL_law_686 : decode cL_law 686 = .ok (.iadd, 1) := dk_96 (dk_at dksL_law_23 7 rfl rfl)
theorem dL_law_687 : decode cL_law 687 = .ok (.iaload, 1) := dk_46 (dk_at dksL_law_23 8 rfl rfl)
theorem dL_law_688 : decode cL_law 688 = .ok (.aload_n 0, 1) := dk_42 (dk_at dksL_law_23 9 rfl rfl)
theorem dL_law_689 : decode cL_law 689 = .ok (.iload_n 3, 1) := dk_29 (dk_at dksL_law_23 10 rfl rfl)
theorem dL_law_690 : decode cL_law 690 = .ok (.iconst 4, 1) := dk_7 (dk_at dksL_law_23 11 rfl rfl)
theorem dL_law_691 : decode cL_law 691 = .ok (.iadd, 1) := dk_96 (dk_at dksL_law_23 12 rfl rfl)
theorem dL_law_692 : decode cL_law 692 = .ok (.iaload, 1) := dk_46 (dk_at dksL_law_23 13 rfl rfl)
theorem dL_law_693 : decode cL_law 693 = .ok (.invokevirtual 77, 3) := dk_182 0 77 (dk_at dksL_law_23 14 rfl rfl)
theorem dL_law_696 : decode cL_law 696 = .ok (.lcmp, 1) := dk_148 (dk_at dksL_law_23 17 rfl rfl)
theorem dL_law_697 : decode cL_law 697 = .ok (.ifCond .eq 734, 3) := dk_153 2 222 (dk_at dksL_law_23 18 rfl rfl)
theorem dL_law_700 : decode cL_law 700 = .ok (.iconst 0, 1) := dk_3 (dk_at dksL_law_23 21 rfl rfl)
theorem dL_law_701 : decode cL_law 701 = .ok (.ireturn, 1) := dk_172 (dk_at dksL_law_23 22 rfl rfl)
theorem dL_law_702 : decode cL_law 702 = .ok (.aload_n 1, 1) := dk_43 (dk_at dksL_law_23 23 rfl rfl)
theorem dL_law_703 : decode cL_law 703 = .ok (.aload_n 0, 1) := dk_42 (dk_at dksL_law_24 0 rfl rfl)
theorem dL_law_704 : decode cL_law 704 = .ok (.iload_n 3, 1) := dk_29 (dk_at dksL_law_24 1 rfl rfl)
theorem dL_law_705 : decode cL_law 705 = .ok (.iconst 1, 1) := dk_4 (dk_at dksL_law_24 2 rfl rfl)
theorem dL_law_706 : decode cL_law 706 = .ok (.iadd, 1) := dk_96 (dk_at dksL_law_24 3 rfl rfl)
theorem dL_law_707 : decode cL_law 707 = .ok (.iaload, 1) := dk_46 (dk_at dksL_law_24 4 rfl rfl)
theorem dL_law_708 : decode cL_law 708 = .ok (.aload_n 0, 1) := dk_42 (dk_at dksL_law_24 5 rfl rfl)
theorem dL_law_709 : decode cL_law 709 = .ok (.iload_n 3, 1) := dk_29 (dk_at dksL_law_24 6 rfl rfl)
theorem dL_law_710 : decode cL_law 710 = .ok (.iconst 2, 1) := dk_5 (dk_at dksL_law_24 7 rfl rfl)
theorem dL_law_711 : decode cL_law 711 = .ok (.iadd, 1) := dk_96 (dk_at dksL_law_24 8 rfl rfl)
theorem dL_law_712 : decode cL_law 712 = .ok (.iaload, 1) := dk_46 (dk_at dksL_law_24 9 rfl rfl)
theorem dL_law_713 : decode cL_law 713 = .ok (.invokevirtual 78, 3) := dk_182 0 78 (dk_at dksL_law_24 10 rfl rfl)
theorem dL_law_716 : decode cL_law 716 = .ok (.aload_n 2, 1) := dk_44 (dk_at dksL_law_24 13 rfl rfl)
theorem dL_law_717 : decode cL_law 717 = .ok (.aload_n 0, 1) := dk_42 (dk_at dksL_law_24 14 rfl rfl)
theorem dL_law_718 : decode cL_law 718 = .ok (.iload_n 3, 1) := dk_29 (dk_at dksL_law_24 15 rfl rfl)
theorem dL_law_719 : decode cL_law 719 = .ok (.iconst 1, 1) := dk_4 (dk_at dksL_law_24 16 rfl rfl)
theorem dL_law_720 : decode cL_law 720 = .ok (.iadd, 1) := dk_96 (dk_at dksL_law_24 17 rfl rfl)
theorem dL_law_721 : decode cL_law 721 = .ok (.iaload, 1) := dk_46 (dk_at dksL_law_24 18 rfl rfl)
theorem dL_law_722 : decode cL_law 722 = .ok (.aload_n 0, 1) := dk_42 (dk_at dksL_law_24 19 rfl rfl)
theorem dL_law_723 : decode cL_law 723 = .ok (.iload_n 3, 1) := dk_29 (dk_at dksL_law_24 20 rfl rfl)
theorem dL_law_724 : decode cL_law 724 = .ok (.iconst 2, 1) := dk_5 (dk_at dksL_law_24 21 rfl rfl)
theorem dL_law_725 : decode cL_law 725 = .ok (.iadd, 1) := dk_96 (dk_at dksL_law_24 22 rfl rfl)
theorem dL_law_726 : decode cL_law 726 = .ok (.iaload, 1) := dk_46 (dk_at dksL_law_24 23 rfl rfl)
theorem dL_law_727 : decode cL_law 727 = .ok (.invokevirtual 81, 3) := dk_182 0 81 (dk_at dksL_law_25 0 rfl rfl)
theorem dL_law_730 : decode cL_law 730 = .ok (.if_icmp .eq 701, 3) := dk_159 2 189 (dk_at dksL_law_25 3 rfl rfl)
theorem dL_law_733 : decode cL_law 733 = .ok (.iconst 0, 1) := dk_3 (dk_at dksL_law_25 6 rfl rfl)
theorem dL_law_734 : decode cL_law 734 = .ok (.ireturn, 1) := dk_172 (dk_at dksL_law_25 7 rfl rfl)
theorem dL_law_735 : decode cL_law 735 = .ok (.aload_n 1, 1) := dk_43 (dk_at dksL_law_25 8 rfl rfl)
theorem dL_law_736 : decode cL_law 736 = .ok (.aload_n 0, 1) := dk_42 (dk_at dksL_law_25 9 rfl rfl)
theorem dL_law_737 : decode cL_law 737 = .ok (.iload_n 3, 1) := dk_29 (dk_at dksL_law_25 10 rfl rfl)
theorem dL_law_738 : decode cL_law 738 = .ok (.iconst 1, 1) := dk_4 (dk_at dksL_law_25 11 rfl rfl)
theorem dL_law_739 : decode cL_law 739 = .ok (.iadd, 1) := dk_96 (dk_at dksL_law_25 12 rfl rfl)
theorem dL_law_740 : decode cL_law 740 = .ok (.iaload, 1) := dk_46 (dk_at dksL_law_25 13 rfl rfl)
theorem dL_law_741 : decode cL_law 741 = .ok (.invokevirtual 82, 3) := dk_182 0 82 (dk_at dksL_law_25 14 rfl rfl)
theorem dL_law_744 : decode cL_law 744 = .ok (.aload_n 2, 1) := dk_44 (dk_at dksL_law_25 17 rfl rfl)
theorem dL_law_745 : decode cL_law 745 = .ok (.aload_n 0, 1) := dk_42 (dk_at dksL_law_25 18 rfl rfl)
theorem dL_law_746 : decode cL_law 746 = .ok (.iload_n 3, 1) := dk_29 (dk_at dksL_law_25 19 rfl rfl)
theorem dL_law_747 : decode cL_law 747 = .ok (.iconst 1, 1) := dk_4 (dk_at dksL_law_25 20 rfl rfl)
theorem dL_law_748 : decode cL_law 748 = .ok (.iadd, 1) := dk_96 (dk_at dksL_law_25 21 rfl rfl)
theorem dL_law_749 : decode cL_law 749 = .ok (.iaload, 1) := dk_46 (dk_at dksL_law_25 22 rfl rfl)
theorem dL_law_750 : decode cL_law 750 = .ok (.invokevirtual 85, 3) := dk_182 0 85 (dk_at dksL_law_26 0 rfl rfl)
theorem dL_law_753 : decode cL_law 753 = .ok (.if_icmp .eq 678, 3) := dk_159 2 166 (dk_at dksL_law_26 3 rfl rfl)
theorem dL_law_756 : decode cL_law 756 = .ok (.iconst 0, 1) := dk_3 (dk_at dksL_law_26 6 rfl rfl)
theorem dL_law_757 : decode cL_law 757 = .ok (.ireturn, 1) := dk_172 (dk_at dksL_law_26 7 rfl rfl)
theorem dL_law_758 : decode cL_law 758 = .ok (.aload_n 1, 1) := dk_43 (dk_at dksL_law_26 8 rfl rfl)
theorem dL_law_759 : decode cL_law 759 = .ok (.aload_n 0, 1) := dk_42 (dk_at dksL_law_26 9 rfl rfl)
theorem dL_law_760 : decode cL_law 760 = .ok (.iload_n 3, 1) := dk_29 (dk_at dksL_law_26 10 rfl rfl)
theorem dL_law_761 : decode cL_law 761 = .ok (.iconst 1, 1) := dk_4 (dk_at dksL_law_26 11 rfl rfl)
theorem dL_law_762 : decode cL_law 762 = .ok (.iadd, 1) := dk_96 (dk_at dksL_law_26 12 rfl rfl)
theorem dL_law_763 : decode cL_law 763 = .ok (.iaload, 1) := dk_46 (dk_at dksL_law_26 13 rfl rfl)
theorem dL_law_764 : decode cL_law 764 = .ok (.aload_n 0, 1) := dk_42 (dk_at dksL_law_26 14 rfl rfl)
theorem dL_law_765 : decode cL_law 765 = .ok (.iload_n 3, 1) := dk_29 (dk_at dksL_law_26 15 rfl rfl)
theorem dL_law_766 : decode cL_law 766 = .ok (.iconst 2, 1) := dk_5 (dk_at dksL_law_26 16 rfl rfl)
theorem dL_law_767 : decode cL_law 767 = .ok (.iadd, 1) := dk_96 (dk_at dksL_law_26 17 rfl rfl)
theorem dL_law_768 : decode cL_law 768 = .ok (.iaload, 1) := dk_46 (dk_at dksL_law_26 18 rfl rfl)
theorem dL_law_769 : decode cL_law 769 = .ok (.aload_n 0, 1) := dk_42 (dk_at dksL_law_26 19 rfl rfl)
theorem dL_law_770 : decode cL_law 770 = .ok (.iload_n 3, 1) := dk_29 (dk_at dksL_law_26 20 rfl rfl)
theorem dL_law_771 : decode cL_law 771 = .ok (.iconst 3, 1) := dk_6 (dk_at dksL_law_26 21 rfl rfl)
theorem dL_law_772 : decode cL_law 772 = .ok (.iadd, 1) := dk_96 (dk_at dksL_law_26 22 rfl rfl)
theorem dL_law_773 : decode cL_law 773 = .ok (.iaload, 1) := dk_46 (dk_at dksL_law_26 23 rfl rfl)
theorem dL_law_774 : decode cL_law 774 = .ok (.invokevirtual 86, 3) := dk_182 0 86 (dk_at dksL_law_27 0 rfl rfl)
theorem dL_law_777 : decode cL_law 777 = .ok (.aload_n 2, 1) := dk_44 (dk_at dksL_law_27 3 rfl rfl)
theorem dL_law_778 : decode cL_law 778 = .ok (.aload_n 0, 1) := dk_42 (dk_at dksL_law_27 4 rfl rfl)
theorem dL_law_779 : decode cL_law 779 = .ok (.iload_n 3, 1) := dk_29 (dk_at dksL_law_27 5 rfl rfl)
theorem dL_law_780 : decode cL_law 780 = .ok (.iconst 1, 1) := dk_4 (dk_at dksL_law_27 6 rfl rfl)
theorem dL_law_781 : decode cL_law 781 = .ok (.iadd, 1) := dk_96 (dk_at dksL_law_27 7 rfl rfl)
theorem dL_law_782 : decode cL_law 782 = .ok (.iaload, 1) := dk_46 (dk_at dksL_law_27 8 rfl rfl)
theorem dL_law_783 : decode cL_law 783 = .ok (.aload_n 0, 1) := dk_42 (dk_at dksL_law_27 9 rfl rfl)
theorem dL_law_784 : decode cL_law 784 = .ok (.iload_n 3, 1) := dk_29 (dk_at dksL_law_27 10 rfl rfl)
theorem dL_law_785 : decode cL_law 785 = .ok (.iconst 2, 1) := dk_5 (dk_at dksL_law_27 11 rfl rfl)
theorem dL_law_786 : decode cL_law 786 = .ok (.iadd, 1) := dk_96 (dk_at dksL_law_27 12 rfl rfl)
theorem dL_law_787 : decode cL_law 787 = .ok (.iaload, 1) := dk_46 (dk_at dksL_law_27 13 rfl rfl)
theorem dL_law_788 : decode cL_law 788 = .ok (.aload_n 0, 1) := dk_42 (dk_at dksL_law_27 14 rfl rfl)
theorem dL_law_789 : decode cL_law 789 = .ok (.iload_n 3, 1) := dk_29 (dk_at dksL_law_27 15 rfl rfl)
theorem dL_law_790 : decode cL_law 790 = .ok (.iconst 3, 1) := dk_6 (dk_at dksL_law_27 16 rfl rfl)
theorem dL_law_791 : decode cL_law 791 = .ok (.iadd, 1) := dk_96 (dk_at dksL_law_27 17 rfl rfl)
theorem dL_law_792 : decode cL_law 792 = .ok (.iaload, 1) := dk_46 (dk_at dksL_law_27 18 rfl rfl)
theorem dL_law_793 : decode cL_law 793 = .ok (.invokevirtual 89, 3) := dk_182 0 89 (dk_at dksL_law_27 19 rfl rfl)
theorem dL_law_796 : decode cL_law 796 = .ok (.if_icmp .eq 635, 3) := dk_159 2 123 (dk_at dksL_law_28 0 rfl rfl)
theorem dL_law_799 : decode cL_law 799 = .ok (.iconst 0, 1) := dk_3 (dk_at dksL_law_28 3 rfl rfl)
theorem dL_law_800 : decode cL_law 800 = .ok (.ireturn, 1) := dk_172 (dk_at dksL_law_28 4 rfl rfl)
theorem dL_law_801 : decode cL_law 801 = .ok (.aload_n 1, 1) := dk_43 (dk_at dksL_law_28 5 rfl rfl)
theorem dL_law_802 : decode cL_law 802 = .ok (.aload_n 0, 1) := dk_42 (dk_at dksL_law_28 6 rfl rfl)
theorem dL_law_803 : decode cL_law 803 = .ok (.iload_n 3, 1) := dk_29 (dk_at dksL_law_28 7 rfl rfl)
theorem dL_law_804 : decode cL_law 804 = .ok (.iconst 1, 1) := dk_4 (dk_at dksL_law_28 8 rfl rfl)
theorem dL_law_805 : decode cL_law 805 = .ok (.iadd, 1) := dk_96 (dk_at dksL_law_28 9 rfl rfl)
theorem dL_law_806 : decode cL_law 806 = .ok (.iaload, 1) := dk_46 (dk_at dksL_law_28 10 rfl rfl)
theorem dL_law_807 : decode cL_law 807 = .ok (.invokevirtual 90, 3) := dk_182 0 90 (dk_at dksL_law_28 11 rfl rfl)
theorem dL_law_810 : decode cL_law 810 = .ok (.aload_n 2, 1) := dk_44 (dk_at dksL_law_28 14 rfl rfl)
theorem dL_law_811 : decode cL_law 811 = .ok (.aload_n 0, 1) := dk_42 (dk_at dksL_law_28 15 rfl rfl)
theorem dL_law_812 : decode cL_law 812 = .ok (.iload_n 3, 1) := dk_29 (dk_at dksL_law_28 16 rfl rfl)
theorem dL_law_813 : decode cL_law 813 = .ok (.iconst 1, 1) := dk_4 (dk_at dksL_law_28 17 rfl rfl)
theorem dL_law_814 : decode cL_law 814 = .ok (.iadd, 1) := dk_96 (dk_at dksL_law_28 18 rfl rfl)
theorem dL_law_815 : decode cL_law 815 = .ok (.iaload, 1) := dk_46 (dk_at dksL_law_28 19 rfl rfl)
theorem dL_law_816 : decode cL_law 816 = .ok (.invokevirtual 94, 3) := dk_182 0 94 (dk_at dksL_law_28 20 rfl rfl)
theorem dL_law_819 : decode cL_law 819 = .ok (.lcmp, 1) := dk_148 (dk_at dksL_law_28 23 rfl rfl)
theorem dL_law_820 : decode cL_law 820 = .ok (.ifCond .eq 611, 3) := dk_153 2 99 (dk_at dksL_law_29 0 rfl rfl)
theorem dL_law_823 : decode cL_law 823 = .ok (.iconst 0, 1) := dk_3 (dk_at dksL_law_29 3 rfl rfl)
theorem dL_law_824 : decode cL_law 824 = .ok (.ireturn, 1) := dk_172 (dk_at dksL_law_29 4 rfl rfl)
theorem dL_law_825 : decode cL_law 825 = .ok (.aload_n 1, 1) := dk_43 (dk_at dksL_law_29 5 rfl rfl)
theorem dL_law_826 : decode cL_law 826 = .ok (.aload_n 0, 1) := dk_42 (dk_at dksL_law_29 6 rfl rfl)
theorem dL_law_827 : decode cL_law 827 = .ok (.iload_n 3, 1) := dk_29 (dk_at dksL_law_29 7 rfl rfl)
theorem dL_law_828 : decode cL_law 828 = .ok (.iconst 1, 1) := dk_4 (dk_at dksL_law_29 8 rfl rfl)
theorem dL_law_829 : decode cL_law 829 = .ok (.iadd, 1) := dk_96 (dk_at dksL_law_29 9 rfl rfl)
theorem dL_law_830 : decode cL_law 830 = .ok (.iaload, 1) := dk_46 (dk_at dksL_law_29 10 rfl rfl)
theorem dL_law_831 : decode cL_law 831 = .ok (.aload_n 0, 1) := dk_42 (dk_at dksL_law_29 11 rfl rfl)
theorem dL_law_832 : decode cL_law 832 = .ok (.iload_n 3, 1) := dk_29 (dk_at dksL_law_29 12 rfl rfl)
theorem dL_law_833 : decode cL_law 833 = .ok (.iconst 2, 1) := dk_5 (dk_at dksL_law_29 13 rfl rfl)
theorem dL_law_834 : decode cL_law 834 = .ok (.iadd, 1) := dk_96 (dk_at dksL_law_29 14 rfl rfl)
theorem dL_law_835 : decode cL_law 835 = .ok (.iaload, 1) := dk_46 (dk_at dksL_law_29 15 rfl rfl)
theorem dL_law_836 : decode cL_law 836 = .ok (.aload_n 0, 1) := dk_42 (dk_at dksL_law_29 16 rfl rfl)
theorem dL_law_837 : decode cL_law 837 = .ok (.iload_n 3, 1) := dk_29 (dk_at dksL_law_29 17 rfl rfl)
theorem dL_law_838 : decode cL_law 838 = .ok (.iconst 3, 1) := dk_6 (dk_at dksL_law_29 18 rfl rfl)
theorem dL_law_839 : decode cL_law 839 = .ok (.iadd, 1) := dk_96 (dk_at dksL_law_29 19 rfl rfl)
theorem dL_law_840 : decode cL_law 840 = .ok (.iaload, 1) := dk_46 (dk_at dksL_law_29 20 rfl rfl)
theorem dL_law_841 : decode cL_law 841 = .ok (.invokevirtual 95, 3) := dk_182 0 95 (dk_at dksL_law_29 21 rfl rfl)
theorem dL_law_844 : decode cL_law 844 = .ok (.aload_n 2, 1) := dk_44 (dk_at dksL_law_30 0 rfl rfl)
theorem dL_law_845 : decode cL_law 845 = .ok (.aload_n 0, 1) := dk_42 (dk_at dksL_law_30 1 rfl rfl)
theorem dL_law_846 : decode cL_law 846 = .ok (.iload_n 3, 1) := dk_29 (dk_at dksL_law_30 2 rfl rfl)
theorem dL_law_847 : decode cL_law 847 = .ok (.iconst 1, 1) := dk_4 (dk_at dksL_law_30 3 rfl rfl)
theorem dL_law_848 : decode cL_law 848 = .ok (.iadd, 1) := dk_96 (dk_at dksL_law_30 4 rfl rfl)
theorem dL_law_849 : decode cL_law 849 = .ok (.iaload, 1) := dk_46 (dk_at dksL_law_30 5 rfl rfl)
theorem dL_law_850 : decode cL_law 850 = .ok (.aload_n 0, 1) := dk_42 (dk_at dksL_law_30 6 rfl rfl)
theorem dL_law_851 : decode cL_law 851 = .ok (.iload_n 3, 1) := dk_29 (dk_at dksL_law_30 7 rfl rfl)
theorem dL_law_852 : decode cL_law 852 = .ok (.iconst 2, 1) := dk_5 (dk_at dksL_law_30 8 rfl rfl)
theorem dL_law_853 : decode cL_law 853 = .ok (.iadd, 1) := dk_96 (dk_at dksL_law_30 9 rfl rfl)
theorem dL_law_854 : decode cL_law 854 = .ok (.iaload, 1) := dk_46 (dk_at dksL_law_30 10 rfl rfl)
theorem dL_law_855 : decode cL_law 855 = .ok (.aload_n 0, 1) := dk_42 (dk_at dksL_law_30 11 rfl rfl)
theorem dL_law_856 : decode cL_law 856 = .ok (.iload_n 3, 1) := dk_29 (dk_at dksL_law_30 12 rfl rfl)
theorem dL_law_857 : decode cL_law 857 = .ok (.iconst 3, 1) := dk_6 (dk_at dksL_law_30 13 rfl rfl)
theorem dL_law_858 : decode cL_law 858 = .ok (.iadd, 1) := dk_96 (dk_at dksL_law_30 14 rfl rfl)
theorem dL_law_859 : decode cL_law 859 = .ok (.iaload, 1) := dk_46 (dk_at dksL_law_30 15 rfl rfl)
theorem dL_law_860 : decode cL_law 860 = .ok (.invokevirtual 98, 3) := dk_182 0 98 (dk_at dksL_law_30 16 rfl rfl)
theorem dL_law_863 : decode cL_law 863 = .ok (.lcmp, 1) := dk_148 (dk_at dksL_law_30 19 rfl rfl)
theorem dL_law_864 : decode cL_law 864 = .ok (.ifCond .eq 567, 3) := dk_153 2 55 (dk_at dksL_law_30 20 rfl rfl)
theorem dL_law_867 : decode cL_law 867 = .ok (.iconst 0, 1) := dk_3 (dk_at dksL_law_30 23 rfl rfl)
theorem dL_law_868 : decode cL_law 868 = .ok (.ireturn, 1) := dk_172 (dk_at dksL_law_31 0 rfl rfl)
theorem dL_law_869 : decode cL_law 869 = .ok (.aload_n 1, 1) := dk_43 (dk_at dksL_law_31 1 rfl rfl)
theorem dL_law_870 : decode cL_law 870 = .ok (.aload_n 0, 1) := dk_42 (dk_at dksL_law_31 2 rfl rfl)
theorem dL_law_871 : decode cL_law 871 = .ok (.iload_n 3, 1) := dk_29 (dk_at dksL_law_31 3 rfl rfl)
theorem dL_law_872 : decode cL_law 872 = .ok (.iconst 1, 1) := dk_4 (dk_at dksL_law_31 4 rfl rfl)
theorem dL_law_873 : decode cL_law 873 = .ok (.iadd, 1) := dk_96 (dk_at dksL_law_31 5 rfl rfl)
theorem dL_law_874 : decode cL_law 874 = .ok (.iaload, 1) := dk_46 (dk_at dksL_law_31 6 rfl rfl)
theorem dL_law_875 : decode cL_law 875 = .ok (.aload_n 0, 1) := dk_42 (dk_at dksL_law_31 7 rfl rfl)
theorem dL_law_876 : decode cL_law 876 = .ok (.iload_n 3, 1) := dk_29 (dk_at dksL_law_31 8 rfl rfl)
theorem dL_law_877 : decode cL_law 877 = .ok (.iconst 2, 1) := dk_5 (dk_at dksL_law_31 9 rfl rfl)
theorem dL_law_878 : decode cL_law 878 = .ok (.iadd, 1) := dk_96 (dk_at dksL_law_31 10 rfl rfl)
theorem dL_law_879 : decode cL_law 879 = .ok (.iaload, 1) := dk_46 (dk_at dksL_law_31 11 rfl rfl)
theorem dL_law_880 : decode cL_law 880 = .ok (.aload_n 0, 1) := dk_42 (dk_at dksL_law_31 12 rfl rfl)
theorem dL_law_881 : decode cL_law 881 = .ok (.iload_n 3, 1) := dk_29 (dk_at dksL_law_31 13 rfl rfl)
theorem dL_law_882 : decode cL_law 882 = .ok (.iconst 3, 1) := dk_6 (dk_at dksL_law_31 14 rfl rfl)
theorem dL_law_883 : decode cL_law 883 = .ok (.iadd, 1) := dk_96 (dk_at dksL_law_31 15 rfl rfl)
theorem dL_law_884 : decode cL_law 884 = .ok (.iaload, 1) := dk_46 (dk_at dksL_law_31 16 rfl rfl)
theorem dL_law_885 : decode cL_law 885 = .ok (.invokevirtual 99, 3) := dk_182 0 99 (dk_at dksL_law_31 17 rfl rfl)
theorem dL_law_888 : decode cL_law 888 = .ok (.aload_n 2, 1) := dk_44 (dk_at dksL_law_31 20 rfl rfl)
theorem dL_law_889 : decode cL_law 889 = .ok (.aload_n 0, 1) := dk_42 (dk_at dksL_law_31 21 rfl rfl)
theorem dL_law_890 : decode cL_law 890 = .ok (.iload_n 3, 1) := dk_29 (dk_at dksL_law_31 22 rfl rfl)
theorem dL_law_891 : decode cL_law 891 = .ok (.iconst 1, 1) := dk_4 (dk_at dksL_law_31 23 rfl rfl)
theorem dL_law_892 : decode cL_law 892 = .ok (.iadd, 1) := dk_96 (dk_at dksL_law_32 0 rfl rfl)
theorem dL_law_893 : decode cL_law 893 = .ok (.iaload, 1) := dk_46 (dk_at dksL_law_32 1 rfl rfl)
theorem dL_law_894 : decode cL_law 894 = .ok (.aload_n 0, 1) := dk_42 (dk_at dksL_law_32 2 rfl rfl)
theorem dL_law_895 : decode cL_law 895 = .ok (.iload_n 3, 1) := dk_29 (dk_at dksL_law_32 3 rfl rfl)
theorem dL_law_896 : decode cL_law 896 = .ok (.iconst 2, 1) := dk_5 (dk_at dksL_law_32 4 rfl rfl)
theorem dL_law_897 : decode cL_law 897 = .ok (.iadd, 1) := dk_96 (dk_at dksL_law_32 5 rfl rfl)
theorem dL_law_898 : decode cL_law 898 = .ok (.iaload, 1) := dk_46 (dk_at dksL_law_32 6 rfl rfl)
theorem dL_law_899 : decode cL_law 899 = .ok (.aload_n 0, 1) := dk_42 (dk_at dksL_law_32 7 rfl rfl)
theorem dL_law_900 : decode cL_law 900 = .ok (.iload_n 3, 1) := dk_29 (dk_at dksL_law_32 8 rfl rfl)
theorem dL_law_901 : decode cL_law 901 = .ok (.iconst 3, 1) := dk_6 (dk_at dksL_law_32 9 rfl rfl)
theorem dL_law_902 : decode cL_law 902 = .ok (.iadd, 1) := dk_96 (dk_at dksL_law_32 10 rfl rfl)
theorem dL_law_903 : decode cL_law 903 = .ok (.iaload, 1) := dk_46 (dk_at dksL_law_32 11 rfl rfl)
theorem dL_law_904 : decode cL_law 904 = .ok (.invokevirtual 102, 3) := dk_182 0 102 (dk_at dksL_law_32 12 rfl rfl)
theorem dL_law_907 : decode cL_law 907 = .ok (.if_icmp .eq 524, 3) := dk_159 2 12 (dk_at dksL_law_32 15 rfl rfl)
theorem dL_law_910 : decode cL_law 910 = .ok (.iconst 0, 1) := dk_3 (dk_at dksL_law_32 18 rfl rfl)
theorem dL_law_911 : decode cL_law 911 = .ok (.ireturn, 1) := dk_172 (dk_at dksL_law_32 19 rfl rfl)
theorem dL_law_912 : decode cL_law 912 = .ok (.aload_n 1, 1) := dk_43 (dk_at dksL_law_32 20 rfl rfl)
theorem dL_law_913 : decode cL_law 913 = .ok (.aload_n 0, 1) := dk_42 (dk_at dksL_law_32 21 rfl rfl)
theorem dL_law_914 : decode cL_law 914 = .ok (.iload_n 3, 1) := dk_29 (dk_at dksL_law_32 22 rfl rfl)
theorem dL_law_915 : decode cL_law 915 = .ok (.iconst 1, 1) := dk_4 (dk_at dksL_law_32 23 rfl rfl)
theorem dL_law_916 : decode cL_law 916 = .ok (.iadd, 1) := dk_96 (dk_at dksL_law_33 0 rfl rfl)
theorem dL_law_917 : decode cL_law 917 = .ok (.iaload, 1) := dk_46 (dk_at dksL_law_33 1 rfl rfl)
theorem dL_law_918 : decode cL_law 918 = .ok (.aload_n 0, 1) := dk_42 (dk_at dksL_law_33 2 rfl rfl)
theorem dL_law_919 : decode cL_law 919 = .ok (.iload_n 3, 1) := dk_29 (dk_at dksL_law_33 3 rfl rfl)
theorem dL_law_920 : decode cL_law 920 = .ok (.iconst 2, 1) := dk_5 (dk_at dksL_law_33 4 rfl rfl)
theorem dL_law_921 : decode cL_law 921 = .ok (.iadd, 1) := dk_96 (dk_at dksL_law_33 5 rfl rfl)
theorem dL_law_922 : decode cL_law 922 = .ok (.iaload, 1) := dk_46 (dk_at dksL_law_33 6 rfl rfl)
theorem dL_law_923 : decode cL_law 923 = .ok (.invokevirtual 103, 3) := dk_182 0 103 (dk_at dksL_law_33 7 rfl rfl)
theorem dL_law_926 : decode cL_law 926 = .ok (.aload_n 2, 1) := dk_44 (dk_at dksL_law_33 10 rfl rfl)
theorem dL_law_927 : decode cL_law 927 = .ok (.aload_n 0, 1) := dk_42 (dk_at dksL_law_33 11 rfl rfl)
theorem dL_law_928 : decode cL_law 928 = .ok (.iload_n 3, 1) := dk_29 (dk_at dksL_law_33 12 rfl rfl)
theorem dL_law_929 : decode cL_law 929 = .ok (.iconst 1, 1) := dk_4 (dk_at dksL_law_33 13 rfl rfl)
theorem dL_law_930 : decode cL_law 930 = .ok (.iadd, 1) := dk_96 (dk_at dksL_law_33 14 rfl rfl)
theorem dL_law_931 : decode cL_law 931 = .ok (.iaload, 1) := dk_46 (dk_at dksL_law_33 15 rfl rfl)
theorem dL_law_932 : decode cL_law 932 = .ok (.aload_n 0, 1) := dk_42 (dk_at dksL_law_33 16 rfl rfl)
theorem dL_law_933 : decode cL_law 933 = .ok (.iload_n 3, 1) := dk_29 (dk_at dksL_law_33 17 rfl rfl)
theorem dL_law_934 : decode cL_law 934 = .ok (.iconst 2, 1) := dk_5 (dk_at dksL_law_33 18 rfl rfl)
theorem dL_law_935 : decode cL_law 935 = .ok (.iadd, 1) := dk_96 (dk_at dksL_law_33 19 rfl rfl)
theorem dL_law_936 : decode cL_law 936 = .ok (.iaload, 1) := dk_46 (dk_at dksL_law_33 20 rfl rfl)
theorem dL_law_937 : decode cL_law 937 = .ok (.invokevirtual 106, 3) := dk_182 0 106 (dk_at dksL_law_33 21 rfl rfl)
theorem dL_law_940 : decode cL_law 940 = .ok (.lcmp, 1) := dk_148 (dk_at dksL_law_34 0 rfl rfl)
theorem dL_law_941 : decode cL_law 941 = .ok (.ifCond .eq 490, 3) := dk_153 1 234 (dk_at dksL_law_34 1 rfl rfl)
theorem dL_law_944 : decode cL_law 944 = .ok (.iconst 0, 1) := dk_3 (dk_at dksL_law_34 4 rfl rfl)
theorem dL_law_945 : decode cL_law 945 = .ok (.ireturn, 1) := dk_172 (dk_at dksL_law_34 5 rfl rfl)
theorem dL_law_946 : decode cL_law 946 = .ok (.aload_n 1, 1) := dk_43 (dk_at dksL_law_34 6 rfl rfl)
theorem dL_law_947 : decode cL_law 947 = .ok (.aload_n 0, 1) := dk_42 (dk_at dksL_law_34 7 rfl rfl)
theorem dL_law_948 : decode cL_law 948 = .ok (.iload_n 3, 1) := dk_29 (dk_at dksL_law_34 8 rfl rfl)
theorem dL_law_949 : decode cL_law 949 = .ok (.iconst 1, 1) := dk_4 (dk_at dksL_law_34 9 rfl rfl)
theorem dL_law_950 : decode cL_law 950 = .ok (.iadd, 1) := dk_96 (dk_at dksL_law_34 10 rfl rfl)
theorem dL_law_951 : decode cL_law 951 = .ok (.iaload, 1) := dk_46 (dk_at dksL_law_34 11 rfl rfl)
theorem dL_law_952 : decode cL_law 952 = .ok (.invokevirtual 107, 3) := dk_182 0 107 (dk_at dksL_law_34 12 rfl rfl)
theorem dL_law_955 : decode cL_law 955 = .ok (.aload_n 2, 1) := dk_44 (dk_at dksL_law_34 15 rfl rfl)
theorem dL_law_956 : decode cL_law 956 = .ok (.aload_n 0, 1) := dk_42 (dk_at dksL_law_34 16 rfl rfl)
theorem dL_law_957 : decode cL_law 957 = .ok (.iload_n 3, 1) := dk_29 (dk_at dksL_law_34 17 rfl rfl)
theorem dL_law_958 : decode cL_law 958 = .ok (.iconst 1, 1) := dk_4 (dk_at dksL_law_34 18 rfl rfl)
theorem dL_law_959 : decode cL_law 959 = .ok (.iadd, 1) := dk_96 (dk_at dksL_law_34 19 rfl rfl)
theorem dL_law_960 : decode cL_law 960 = .ok (.iaload, 1) := dk_46 (dk_at dksL_law_34 20 rfl rfl)
theorem dL_law_961 : decode cL_law 961 = .ok (.invokevirtual 110, 3) := dk_182 0 110 (dk_at dksL_law_34 21 rfl rfl)
theorem dL_law_964 : decode cL_law 964 = .ok (.if_icmp .eq 467, 3) := dk_159 1 211 (dk_at dksL_law_35 0 rfl rfl)
theorem dL_law_967 : decode cL_law 967 = .ok (.iconst 0, 1) := dk_3 (dk_at dksL_law_35 3 rfl rfl)
theorem dL_law_968 : decode cL_law 968 = .ok (.ireturn, 1) := dk_172 (dk_at dksL_law_35 4 rfl rfl)
theorem dL_law_969 : decode cL_law 969 = .ok (.aload_n 1, 1) := dk_43 (dk_at dksL_law_35 5 rfl rfl)
theorem dL_law_970 : decode cL_law 970 = .ok (.aload_n 0, 1) := dk_42 (dk_at dksL_law_35 6 rfl rfl)
theorem dL_law_971 : decode cL_law 971 = .ok (.iload_n 3, 1) := dk_29 (dk_at dksL_law_35 7 rfl rfl)
theorem dL_law_972 : decode cL_law 972 = .ok (.iconst 1, 1) := dk_4 (dk_at dksL_law_35 8 rfl rfl)
theorem dL_law_973 : decode cL_law 973 = .ok (.iadd, 1) := dk_96 (dk_at dksL_law_35 9 rfl rfl)
theorem dL_law_974 : decode cL_law 974 = .ok (.iaload, 1) := dk_46 (dk_at dksL_law_35 10 rfl rfl)
theorem dL_law_975 : decode cL_law 975 = .ok (.invokevirtual 111, 3) := dk_182 0 111 (dk_at dksL_law_35 11 rfl rfl)
theorem dL_law_978 : decode cL_law 978 = .ok (.aload_n 2, 1) := dk_44 (dk_at dksL_law_35 14 rfl rfl)
theorem dL_law_979 : decode cL_law 979 = .ok (.aload_n 0, 1) := dk_42 (dk_at dksL_law_35 15 rfl rfl)
theorem dL_law_980 : decode cL_law 980 = .ok (.iload_n 3, 1) := dk_29 (dk_at dksL_law_35 16 rfl rfl)
theorem dL_law_981 : decode cL_law 981 = .ok (.iconst 1, 1) := dk_4 (dk_at dksL_law_35 17 rfl rfl)
theorem dL_law_982 : decode cL_law 982 = .ok (.iadd, 1) := dk_96 (dk_at dksL_law_35 18 rfl rfl)
theorem dL_law_983 : decode cL_law 983 = .ok (.iaload, 1) := dk_46 (dk_at dksL_law_35 19 rfl rfl)
theorem dL_law_984 : decode cL_law 984 = .ok (.invokevirtual 114, 3) := dk_182 0 114 (dk_at dksL_law_35 20 rfl rfl)
theorem dL_law_987 : decode cL_law 987 = .ok (.if_icmp .eq 444, 3) := dk_159 1 188 (dk_at dksL_law_36 0 rfl rfl)
theorem dL_law_990 : decode cL_law 990 = .ok (.iconst 0, 1) := dk_3 (dk_at dksL_law_36 3 rfl rfl)
theorem dL_law_991 : decode cL_law 991 = .ok (.ireturn, 1) := dk_172 (dk_at dksL_law_36 4 rfl rfl)
theorem dL_law_992 : decode cL_law 992 = .ok (.aload_n 1, 1) := dk_43 (dk_at dksL_law_36 5 rfl rfl)
theorem dL_law_993 : decode cL_law 993 = .ok (.aload_n 0, 1) := dk_42 (dk_at dksL_law_36 6 rfl rfl)
theorem dL_law_994 : decode cL_law 994 = .ok (.iload_n 3, 1) := dk_29 (dk_at dksL_law_36 7 rfl rfl)
theorem dL_law_995 : decode cL_law 995 = .ok (.iconst 1, 1) := dk_4 (dk_at dksL_law_36 8 rfl rfl)
theorem dL_law_996 : decode cL_law 996 = .ok (.iadd, 1) := dk_96 (dk_at dksL_law_36 9 rfl rfl)
theorem dL_law_997 : decode cL_law 997 = .ok (.iaload, 1) := dk_46 (dk_at dksL_law_36 10 rfl rfl)
theorem dL_law_998 : decode cL_law 998 = .ok (.invokevirtual 115, 3) := dk_182 0 115 (dk_at dksL_law_36 11 rfl rfl)
theorem dL_law_1001 : decode cL_law 1001 = .ok (.aload_n 2, 1) := dk_44 (dk_at dksL_law_36 14 rfl rfl)
theorem dL_law_1002 : decode cL_law 1002 = .ok (.aload_n 0, 1) := dk_42 (dk_at dksL_law_36 15 rfl rfl)
theorem dL_law_1003 : decode cL_law 1003 = .ok (.iload_n 3, 1) := dk_29 (dk_at dksL_law_36 16 rfl rfl)
theorem dL_law_1004 : decode cL_law 1004 = .ok (.iconst 1, 1) := dk_4 (dk_at dksL_law_36 17 rfl rfl)
theorem dL_law_1005 : decode cL_law 1005 = .ok (.iadd, 1) := dk_96 (dk_at dksL_law_36 18 rfl rfl)
theorem dL_law_1006 : decode cL_law 1006 = .ok (.iaload, 1) := dk_46 (dk_at dksL_law_36 19 rfl rfl)
theorem dL_law_1007 : decode cL_law 1007 = .ok (.invokevirtual 118, 3) := dk_182 0 118 (dk_at dksL_law_36 20 rfl rfl)
theorem dL_law_1010 : decode cL_law 1010 = .ok (.if_icmp .eq 421, 3) := dk_159 1 165 (dk_at dksL_law_37 0 rfl rfl)
theorem dL_law_1013 : decode cL_law 1013 = .ok (.iconst 0, 1) := dk_3 (dk_at dksL_law_37 3 rfl rfl)
theorem dL_law_1014 : decode cL_law 1014 = .ok (.ireturn, 1) := dk_172 (dk_at dksL_law_37 4 rfl rfl)
theorem dL_law_1015 : decode cL_law 1015 = .ok (.aload_n 1, 1) := dk_43 (dk_at dksL_law_37 5 rfl rfl)
theorem dL_law_1016 : decode cL_law 1016 = .ok (.aload_n 0, 1) := dk_42 (dk_at dksL_law_37 6 rfl rfl)
theorem dL_law_1017 : decode cL_law 1017 = .ok (.iload_n 3, 1) := dk_29 (dk_at dksL_law_37 7 rfl rfl)
theorem dL_law_1018 : decode cL_law 1018 = .ok (.iconst 1, 1) := dk_4 (dk_at dksL_law_37 8 rfl rfl)
theorem dL_law_1019 : decode cL_law 1019 = .ok (.iadd, 1) := dk_96 (dk_at dksL_law_37 9 rfl rfl)
theorem dL_law_1020 : decode cL_law 1020 = .ok (.iaload, 1) := dk_46 (dk_at dksL_law_37 10 rfl rfl)
theorem dL_law_1021 : decode cL_law 1021 = .ok (.invokevirtual 119, 3) := dk_182 0 119 (dk_at dksL_law_37 11 rfl rfl)
theorem dL_law_1024 : decode cL_law 1024 = .ok (.aload_n 2, 1) := dk_44 (dk_at dksL_law_37 14 rfl rfl)
theorem dL_law_1025 : decode cL_law 1025 = .ok (.aload_n 0, 1) := dk_42 (dk_at dksL_law_37 15 rfl rfl)
theorem dL_law_1026 : decode cL_law 1026 = .ok (.iload_n 3, 1) := dk_29 (dk_at dksL_law_37 16 rfl rfl)
theorem dL_law_1027 : decode cL_law 1027 = .ok (.iconst 1, 1) := dk_4 (dk_at dksL_law_37 17 rfl rfl)
theorem dL_law_1028 : decode cL_law 1028 = .ok (.iadd, 1) := dk_96 (dk_at dksL_law_37 18 rfl rfl)
theorem dL_law_1029 : decode cL_law 1029 = .ok (.iaload, 1) := dk_46 (dk_at dksL_law_37 19 rfl rfl)
theorem dL_law_1030 : decode cL_law 1030 = .ok (.invokevirtual 122, 3) := dk_182 0 122 (dk_at dksL_law_37 20 rfl rfl)
theorem dL_law_1033 : decode cL_law 1033 = .ok (.if_icmp .eq 398, 3) := dk_159 1 142 (dk_at dksL_law_38 0 rfl rfl)
theorem dL_law_1036 : decode cL_law 1036 = .ok (.iconst 0, 1) := dk_3 (dk_at dksL_law_38 3 rfl rfl)
theorem dL_law_1037 : decode cL_law 1037 = .ok (.ireturn, 1) := dk_172 (dk_at dksL_law_38 4 rfl rfl)
theorem dL_law_1038 : decode cL_law 1038 = .ok (.aload_n 1, 1) := dk_43 (dk_at dksL_law_38 5 rfl rfl)
theorem dL_law_1039 : decode cL_law 1039 = .ok (.invokevirtual 123, 3) := dk_182 0 123 (dk_at dksL_law_38 6 rfl rfl)
theorem dL_law_1042 : decode cL_law 1042 = .ok (.aload_n 2, 1) := dk_44 (dk_at dksL_law_38 9 rfl rfl)
theorem dL_law_1043 : decode cL_law 1043 = .ok (.invokevirtual 126, 3) := dk_182 0 126 (dk_at dksL_law_38 10 rfl rfl)
theorem dL_law_1046 : decode cL_law 1046 = .ok (.if_icmp .eq 385, 3) := dk_159 1 129 (dk_at dksL_law_38 13 rfl rfl)
theorem dL_law_1049 : decode cL_law 1049 = .ok (.iconst 0, 1) := dk_3 (dk_at dksL_law_38 16 rfl rfl)
theorem dL_law_1050 : decode cL_law 1050 = .ok (.ireturn, 1) := dk_172 (dk_at dksL_law_38 17 rfl rfl)
theorem dL_law_1051 : decode cL_law 1051 = .ok (.aload_n 1, 1) := dk_43 (dk_at dksL_law_38 18 rfl rfl)
theorem dL_law_1052 : decode cL_law 1052 = .ok (.aload_n 0, 1) := dk_42 (dk_at dksL_law_38 19 rfl rfl)
theorem dL_law_1053 : decode cL_law 1053 = .ok (.iload_n 3, 1) := dk_29 (dk_at dksL_law_38 20 rfl rfl)
theorem dL_law_1054 : decode cL_law 1054 = .ok (.iconst 1, 1) := dk_4 (dk_at dksL_law_38 21 rfl rfl)
theorem dL_law_1055 : decode cL_law 1055 = .ok (.iadd, 1) := dk_96 (dk_at dksL_law_38 22 rfl rfl)
theorem dL_law_1056 : decode cL_law 1056 = .ok (.iaload, 1) := dk_46 (dk_at dksL_law_38 23 rfl rfl)
theorem dL_law_1057 : decode cL_law 1057 = .ok (.invokevirtual 127, 3) := dk_182 0 127 (dk_at dksL_law_39 0 rfl rfl)
theorem dL_law_1060 : decode cL_law 1060 = .ok (.aload_n 2, 1) := dk_44 (dk_at dksL_law_39 3 rfl rfl)
theorem dL_law_1061 : decode cL_law 1061 = .ok (.aload_n 0, 1) := dk_42 (dk_at dksL_law_39 4 rfl rfl)
theorem dL_law_1062 : decode cL_law 1062 = .ok (.iload_n 3, 1) := dk_29 (dk_at dksL_law_39 5 rfl rfl)
theorem dL_law_1063 : decode cL_law 1063 = .ok (.iconst 1, 1) := dk_4 (dk_at dksL_law_39 6 rfl rfl)
theorem dL_law_1064 : decode cL_law 1064 = .ok (.iadd, 1) := dk_96 (dk_at dksL_law_39 7 rfl rfl)
theorem dL_law_1065 : decode cL_law 1065 = .ok (.iaload, 1) := dk_46 (dk_at dksL_law_39 8 rfl rfl)
theorem dL_law_1066 : decode cL_law 1066 = .ok (.invokevirtual 130, 3) := dk_182 0 130 (dk_at dksL_law_39 9 rfl rfl)
theorem dL_law_1069 : decode cL_law 1069 = .ok (.if_icmp .eq 362, 3) := dk_159 1 106 (dk_at dksL_law_39 12 rfl rfl)
theorem dL_law_1072 : decode cL_law 1072 = .ok (.iconst 0, 1) := dk_3 (dk_at dksL_law_39 15 rfl rfl)
theorem dL_law_1073 : decode cL_law 1073 = .ok (.ireturn, 1) := dk_172 (dk_at dksL_law_39 16 rfl rfl)
theorem dL_law_1074 : decode cL_law 1074 = .ok (.aload_n 1, 1) := dk_43 (dk_at dksL_law_39 17 rfl rfl)
theorem dL_law_1075 : decode cL_law 1075 = .ok (.invokevirtual 131, 3) := dk_182 0 131 (dk_at dksL_law_39 18 rfl rfl)
theorem dL_law_1078 : decode cL_law 1078 = .ok (.aload_n 2, 1) := dk_44 (dk_at dksL_law_39 21 rfl rfl)
theorem dL_law_1079 : decode cL_law 1079 = .ok (.invokevirtual 134, 3) := dk_182 0 134 (dk_at dksL_law_40 0 rfl rfl)
theorem dL_law_1082 : decode cL_law 1082 = .ok (.if_icmp .eq 349, 3) := dk_159 1 93 (dk_at dksL_law_40 3 rfl rfl)
theorem dL_law_1085 : decode cL_law 1085 = .ok (.iconst 0, 1) := dk_3 (dk_at dksL_law_40 6 rfl rfl)
theorem dL_law_1086 : decode cL_law 1086 = .ok (.ireturn, 1) := dk_172 (dk_at dksL_law_40 7 rfl rfl)
theorem dL_law_1087 : decode cL_law 1087 = .ok (.aload_n 1, 1) := dk_43 (dk_at dksL_law_40 8 rfl rfl)
theorem dL_law_1088 : decode cL_law 1088 = .ok (.aload_n 0, 1) := dk_42 (dk_at dksL_law_40 9 rfl rfl)
theorem dL_law_1089 : decode cL_law 1089 = .ok (.iload_n 3, 1) := dk_29 (dk_at dksL_law_40 10 rfl rfl)
theorem dL_law_1090 : decode cL_law 1090 = .ok (.iconst 1, 1) := dk_4 (dk_at dksL_law_40 11 rfl rfl)
theorem dL_law_1091 : decode cL_law 1091 = .ok (.iadd, 1) := dk_96 (dk_at dksL_law_40 12 rfl rfl)
theorem dL_law_1092 : decode cL_law 1092 = .ok (.iaload, 1) := dk_46 (dk_at dksL_law_40 13 rfl rfl)
theorem dL_law_1093 : decode cL_law 1093 = .ok (.aload_n 0, 1) := dk_42 (dk_at dksL_law_40 14 rfl rfl)
theorem dL_law_1094 : decode cL_law 1094 = .ok (.iload_n 3, 1) := dk_29 (dk_at dksL_law_40 15 rfl rfl)
theorem dL_law_1095 : decode cL_law 1095 = .ok (.iconst 2, 1) := dk_5 (dk_at dksL_law_40 16 rfl rfl)
theorem dL_law_1096 : decode cL_law 1096 = .ok (.iadd, 1) := dk_96 (dk_at dksL_law_40 17 rfl rfl)
theorem dL_law_1097 : decode cL_law 1097 = .ok (.iaload, 1) := dk_46 (dk_at dksL_law_40 18 rfl rfl)
theorem dL_law_1098 : decode cL_law 1098 = .ok (.invokevirtual 135, 3) := dk_182 0 135 (dk_at dksL_law_40 19 rfl rfl)
theorem dL_law_1101 : decode cL_law 1101 = .ok (.aload_n 2, 1) := dk_44 (dk_at dksL_law_40 22 rfl rfl)
theorem dL_law_1102 : decode cL_law 1102 = .ok (.aload_n 0, 1) := dk_42 (dk_at dksL_law_40 23 rfl rfl)
theorem dL_law_1103 : decode cL_law 1103 = .ok (.iload_n 3, 1) := dk_29 (dk_at dksL_law_41 0 rfl rfl)
theorem dL_law_1104 : decode cL_law 1104 = .ok (.iconst 1, 1) := dk_4 (dk_at dksL_law_41 1 rfl rfl)
theorem dL_law_1105 : decode cL_law 1105 = .ok (.iadd, 1) := dk_96 (dk_at dksL_law_41 2 rfl rfl)
theorem dL_law_1106 : decode cL_law 1106 = .ok (.iaload, 1) := dk_46 (dk_at dksL_law_41 3 rfl rfl)
theorem dL_law_1107 : decode cL_law 1107 = .ok (.aload_n 0, 1) := dk_42 (dk_at dksL_law_41 4 rfl rfl)
theorem dL_law_1108 : decode cL_law 1108 = .ok (.iload_n 3, 1) := dk_29 (dk_at dksL_law_41 5 rfl rfl)
theorem dL_law_1109 : decode cL_law 1109 = .ok (.iconst 2, 1) := dk_5 (dk_at dksL_law_41 6 rfl rfl)
theorem dL_law_1110 : decode cL_law 1110 = .ok (.iadd, 1) := dk_96 (dk_at dksL_law_41 7 rfl rfl)
theorem dL_law_1111 : decode cL_law 1111 = .ok (.iaload, 1) := dk_46 (dk_at dksL_law_41 8 rfl rfl)
theorem dL_law_1112 : decode cL_law 1112 = .ok (.invokevirtual 138, 3) := dk_182 0 138 (dk_at dksL_law_41 9 rfl rfl)
theorem dL_law_1115 : decode cL_law 1115 = .ok (.if_icmp .eq 316, 3) := dk_159 1 60 (dk_at dksL_law_41 12 rfl rfl)
theorem dL_law_1118 : decode cL_law 1118 = .ok (.iconst 0, 1) := dk_3 (dk_at dksL_law_41 15 rfl rfl)
theorem dL_law_1119 : decode cL_law 1119 = .ok (.ireturn, 1) := dk_172 (dk_at dksL_law_41 16 rfl rfl)
theorem dL_law_1120 : decode cL_law 1120 = .ok (.aload_n 1, 1) := dk_43 (dk_at dksL_law_41 17 rfl rfl)
theorem dL_law_1121 : decode cL_law 1121 = .ok (.aload_n 0, 1) := dk_42 (dk_at dksL_law_41 18 rfl rfl)
theorem dL_law_1122 : decode cL_law 1122 = .ok (.iload_n 3, 1) := dk_29 (dk_at dksL_law_41 19 rfl rfl)
theorem dL_law_1123 : decode cL_law 1123 = .ok (.iconst 1, 1) := dk_4 (dk_at dksL_law_41 20 rfl rfl)
theorem dL_law_1124 : decode cL_law 1124 = .ok (.iadd, 1) := dk_96 (dk_at dksL_law_41 21 rfl rfl)
theorem dL_law_1125 : decode cL_law 1125 = .ok (.iaload, 1) := dk_46 (dk_at dksL_law_41 22 rfl rfl)
theorem dL_law_1126 : decode cL_law 1126 = .ok (.invokevirtual 139, 3) := dk_182 0 139 (dk_at dksL_law_42 0 rfl rfl)
theorem dL_law_1129 : decode cL_law 1129 = .ok (.aload_n 2, 1) := dk_44 (dk_at dksL_law_42 3 rfl rfl)
theorem dL_law_1130 : decode cL_law 1130 = .ok (.aload_n 0, 1) := dk_42 (dk_at dksL_law_42 4 rfl rfl)
theorem dL_law_1131 : decode cL_law 1131 = .ok (.iload_n 3, 1) := dk_29 (dk_at dksL_law_42 5 rfl rfl)
theorem dL_law_1132 : decode cL_law 1132 = .ok (.iconst 1, 1) := dk_4 (dk_at dksL_law_42 6 rfl rfl)
theorem dL_law_1133 : decode cL_law 1133 = .ok (.iadd, 1) := dk_96 (dk_at dksL_law_42 7 rfl rfl)
theorem dL_law_1134 : decode cL_law 1134 = .ok (.iaload, 1) := dk_46 (dk_at dksL_law_42 8 rfl rfl)
theorem dL_law_1135 : decode cL_law 1135 = .ok (.invokevirtual 142, 3) := dk_182 0 142 (dk_at dksL_law_42 9 rfl rfl)
theorem dL_law_1138 : decode cL_law 1138 = .ok (.if_icmp .eq 293, 3) := dk_159 1 37 (dk_at dksL_law_42 12 rfl rfl)
theorem dL_law_1141 : decode cL_law 1141 = .ok (.iconst 0, 1) := dk_3 (dk_at dksL_law_42 15 rfl rfl)
theorem dL_law_1142 : decode cL_law 1142 = .ok (.ireturn, 1) := dk_172 (dk_at dksL_law_42 16 rfl rfl)
theorem dL_law_1143 : decode cL_law 1143 = .ok (.aload_n 1, 1) := dk_43 (dk_at dksL_law_42 17 rfl rfl)
theorem dL_law_1144 : decode cL_law 1144 = .ok (.aload_n 0, 1) := dk_42 (dk_at dksL_law_42 18 rfl rfl)
theorem dL_law_1145 : decode cL_law 1145 = .ok (.iload_n 3, 1) := dk_29 (dk_at dksL_law_42 19 rfl rfl)
theorem dL_law_1146 : decode cL_law 1146 = .ok (.iconst 1, 1) := dk_4 (dk_at dksL_law_42 20 rfl rfl)
theorem dL_law_1147 : decode cL_law 1147 = .ok (.iadd, 1) := dk_96 (dk_at dksL_law_42 21 rfl rfl)
theorem dL_law_1148 : decode cL_law 1148 = .ok (.iaload, 1) := dk_46 (dk_at dksL_law_42 22 rfl rfl)
theorem dL_law_1149 : decode cL_law 1149 = .ok (.aload_n 0, 1) := dk_42 (dk_at dksL_law_42 23 rfl rfl)
theorem dL_law_1150 : decode cL_law 1150 = .ok (.iload_n 3, 1) := dk_29 (dk_at dksL_law_43 0 rfl rfl)
theorem dL_law_1151 : decode cL_law 1151 = .ok (.iconst 2, 1) := dk_5 (dk_at dksL_law_43 1 rfl rfl)
theorem dL_law_1152 : decode cL_law 1152 = .ok (.iadd, 1) := dk_96 (dk_at dksL_law_43 2 rfl rfl)
theorem dL_law_1153 : decode cL_law 1153 = .ok (.iaload, 1) := dk_46 (dk_at dksL_law_43 3 rfl rfl)
theorem dL_law_1154 : decode cL_law 1154 = .ok (.invokevirtual 143, 3) := dk_182 0 143 (dk_at dksL_law_43 4 rfl rfl)
theorem dL_law_1157 : decode cL_law 1157 = .ok (.aload_n 2, 1) := dk_44 (dk_at dksL_law_43 7 rfl rfl)
theorem dL_law_1158 : decode cL_law 1158 = .ok (.aload_n 0, 1) := dk_42 (dk_at dksL_law_43 8 rfl rfl)
theorem dL_law_1159 : decode cL_law 1159 = .ok (.iload_n 3, 1) := dk_29 (dk_at dksL_law_43 9 rfl rfl)
theorem dL_law_1160 : decode cL_law 1160 = .ok (.iconst 1, 1) := dk_4 (dk_at dksL_law_43 10 rfl rfl)
theorem dL_law_1161 : decode cL_law 1161 = .ok (.iadd, 1) := dk_96 (dk_at dksL_law_43 11 rfl rfl)
theorem dL_law_1162 : decode cL_law 1162 = .ok (.iaload, 1) := dk_46 (dk_at dksL_law_43 12 rfl rfl)
theorem dL_law_1163 : decode cL_law 1163 = .ok (.aload_n 0, 1) := dk_42 (dk_at dksL_law_43 13 rfl rfl)
theorem dL_law_1164 : decode cL_law 1164 = .ok (.iload_n 3, 1) := dk_29 (dk_at dksL_law_43 14 rfl rfl)
theorem dL_law_1165 : decode cL_law 1165 = .ok (.iconst 2, 1) := dk_5 (dk_at dksL_law_43 15 rfl rfl)
theorem dL_law_1166 : decode cL_law 1166 = .ok (.iadd, 1) := dk_96 (dk_at dksL_law_43 16 rfl rfl)
theorem dL_law_1167 : decode cL_law 1167 = .ok (.iaload, 1) := dk_46 (dk_at dksL_law_43 17 rfl rfl)
theorem dL_law_1168 : decode cL_law 1168 = .ok (.invokevirtual 146, 3) := dk_182 0 146 (dk_at dksL_law_43 18 rfl rfl)
theorem dL_law_1171 : decode cL_law 1171 = .ok (.if_icmp .eq 260, 3) := dk_159 1 4 (dk_at dksL_law_43 21 rfl rfl)
theorem dL_law_1174 : decode cL_law 1174 = .ok (.iconst 0, 1) := dk_3 (dk_at dksL_law_44 0 rfl rfl)
theorem dL_law_1175 : decode cL_law 1175 = .ok (.ireturn, 1) := dk_172 (dk_at dksL_law_44 1 rfl rfl)
theorem dL_law_1176 : decode cL_law 1176 = .ok (.aload_n 1, 1) := dk_43 (dk_at dksL_law_44 2 rfl rfl)
theorem dL_law_1177 : decode cL_law 1177 = .ok (.aload_n 0, 1) := dk_42 (dk_at dksL_law_44 3 rfl rfl)
theorem dL_law_1178 : decode cL_law 1178 = .ok (.iload_n 3, 1) := dk_29 (dk_at dksL_law_44 4 rfl rfl)
theorem dL_law_1179 : decode cL_law 1179 = .ok (.iconst 1, 1) := dk_4 (dk_at dksL_law_44 5 rfl rfl)
theorem dL_law_1180 : decode cL_law 1180 = .ok (.iadd, 1) := dk_96 (dk_at dksL_law_44 6 rfl rfl)
theorem dL_law_1181 : decode cL_law 1181 = .ok (.iaload, 1) := dk_46 (dk_at dksL_law_44 7 rfl rfl)
theorem dL_law_1182 : decode cL_law 1182 = .ok (.aload_n 0, 1) := dk_42 (dk_at dksL_law_44 8 rfl rfl)
theorem dL_law_1183 : decode cL_law 1183 = .ok (.iload_n 3, 1) := dk_29 (dk_at dksL_law_44 9 rfl rfl)
theorem dL_law_1184 : decode cL_law 1184 = .ok (.iconst 2, 1) := dk_5 (dk_at dksL_law_44 10 rfl rfl)
theorem dL_law_1185 : decode cL_law 1185 = .ok (.iadd, 1) := dk_96 (dk_at dksL_law_44 11 rfl rfl)
theorem dL_law_1186 : decode cL_law 1186 = .ok (.iaload, 1) := dk_46 (dk_at dksL_law_44 12 rfl rfl)
theorem dL_law_1187 : decode cL_law 1187 = .ok (.aload_n 0, 1) := dk_42 (dk_at dksL_law_44 13 rfl rfl)
theorem dL_law_1188 : decode cL_law 1188 = .ok (.iload_n 3, 1) := dk_29 (dk_at dksL_law_44 14 rfl rfl)
theorem dL_law_1189 : decode cL_law 1189 = .ok (.iconst 3, 1) := dk_6 (dk_at dksL_law_44 15 rfl rfl)
theorem dL_law_1190 : decode cL_law 1190 = .ok (.iadd, 1) := dk_96 (dk_at dksL_law_44 16 rfl rfl)
theorem dL_law_1191 : decode cL_law 1191 = .ok (.iaload, 1) := dk_46 (dk_at dksL_law_44 17 rfl rfl)
theorem dL_law_1192 : decode cL_law 1192 = .ok (.i2l, 1) := dk_133 (dk_at dksL_law_44 18 rfl rfl)
theorem dL_law_1193 : decode cL_law 1193 = .ok (.bipush 32, 2) := dk_16 32 (dk_at dksL_law_44 19 rfl rfl)
theorem dL_law_1195 : decode cL_law 1195 = .ok (.lshl, 1) := dk_121 (dk_at dksL_law_44 21 rfl rfl)
theorem dL_law_1196 : decode cL_law 1196 = .ok (.aload_n 0, 1) := dk_42 (dk_at dksL_law_44 22 rfl rfl)
theorem dL_law_1197 : decode cL_law 1197 = .ok (.iload_n 3, 1) := dk_29 (dk_at dksL_law_44 23 rfl rfl)
theorem dL_law_1198 : decode cL_law 1198 = .ok (.iconst 4, 1) := dk_7 (dk_at dksL_law_45 0 rfl rfl)
theorem dL_law_1199 : decode cL_law 1199 = .ok (.iadd, 1) := dk_96 (dk_at dksL_law_45 1 rfl rfl)
theorem dL_law_1200 : decode cL_law 1200 = .ok (.iaload, 1) := dk_46 (dk_at dksL_law_45 2 rfl rfl)
theorem dL_law_1201 : decode cL_law 1201 = .ok (.i2l, 1) := dk_133 (dk_at dksL_law_45 3 rfl rfl)
theorem dL_law_1202 : decode cL_law 1202 = .ok (.ldc2_w 147, 3) := dk_20 0 147 (dk_at dksL_law_45 4 rfl rfl)
theorem dL_law_1205 : decode cL_law 1205 = .ok (.land, 1) := dk_127 (dk_at dksL_law_45 7 rfl rfl)
theorem dL_law_1206 : decode cL_law 1206 = .ok (.lor, 1) := dk_129 (dk_at dksL_law_45 8 rfl rfl)
theorem dL_law_1207 : decode cL_law 1207 = .ok (.invokevirtual 149, 3) := dk_182 0 149 (dk_at dksL_law_45 9 rfl rfl)
theorem dL_law_1210 : decode cL_law 1210 = .ok (.aload_n 2, 1) := dk_44 (dk_at dksL_law_45 12 rfl rfl)
theorem dL_law_1211 : decode cL_law 1211 = .ok (.aload_n 0, 1) := dk_42 (dk_at dksL_law_45 13 rfl rfl)
theorem dL_law_1212 : decode cL_law 1212 = .ok (.iload_n 3, 1) := dk_29 (dk_at dksL_law_45 14 rfl rfl)
theorem dL_law_1213 : decode cL_law 1213 = .ok (.iconst 1, 1) := dk_4 (dk_at dksL_law_45 15 rfl rfl)
theorem dL_law_1214 : decode cL_law 1214 = .ok (.iadd, 1) := dk_96 (dk_at dksL_law_45 16 rfl rfl)
theorem dL_law_1215 : decode cL_law 1215 = .ok (.iaload, 1) := dk_46 (dk_at dksL_law_45 17 rfl rfl)
theorem dL_law_1216 : decode cL_law 1216 = .ok (.aload_n 0, 1) := dk_42 (dk_at dksL_law_45 18 rfl rfl)
theorem dL_law_1217 : decode cL_law 1217 = .ok (.iload_n 3, 1) := dk_29 (dk_at dksL_law_45 19 rfl rfl)
theorem dL_law_1218 : decode cL_law 1218 = .ok (.iconst 2, 1) := dk_5 (dk_at dksL_law_45 20 rfl rfl)
theorem dL_law_1219 : decode cL_law 1219 = .ok (.iadd, 1) := dk_96 (dk_at dksL_law_45 21 rfl rfl)
theorem dL_law_1220 : decode cL_law 1220 = .ok (.iaload, 1) := dk_46 (dk_at dksL_law_45 22 rfl rfl)
theorem dL_law_1221 : decode cL_law 1221 = .ok (.aload_n 0, 1) := dk_42 (dk_at dksL_law_45 23 rfl rfl)
theorem dL_law_1222 : decode cL_law 1222 = .ok (.iload_n 3, 1) := dk_29 (dk_at dksL_law_46 0 rfl rfl)
theorem dL_law_1223 : decode cL_law 1223 = .ok (.iconst 3, 1) := dk_6 (dk_at dksL_law_46 1 rfl rfl)
theorem dL_law_1224 : decode cL_law 1224 = .ok (.iadd, 1) := dk_96 (dk_at dksL_law_46 2 rfl rfl)
theorem dL_law_1225 : decode cL_law 1225 = .ok (.iaload, 1) := dk_46 (dk_at dksL_law_46 3 rfl rfl)
theorem dL_law_1226 : decode cL_law 1226 = .ok (.i2l, 1) := dk_133 (dk_at dksL_law_46 4 rfl rfl)
theorem dL_law_1227 : decode cL_law 1227 = .ok (.bipush 32, 2) := dk_16 32 (dk_at dksL_law_46 5 rfl rfl)
theorem dL_law_1229 : decode cL_law 1229 = .ok (.lshl, 1) := dk_121 (dk_at dksL_law_46 7 rfl rfl)
theorem dL_law_1230 : decode cL_law 1230 = .ok (.aload_n 0, 1) := dk_42 (dk_at dksL_law_46 8 rfl rfl)
theorem dL_law_1231 : decode cL_law 1231 = .ok (.iload_n 3, 1) := dk_29 (dk_at dksL_law_46 9 rfl rfl)
theorem dL_law_1232 : decode cL_law 1232 = .ok (.iconst 4, 1) := dk_7 (dk_at dksL_law_46 10 rfl rfl)
theorem dL_law_1233 : decode cL_law 1233 = .ok (.iadd, 1) := dk_96 (dk_at dksL_law_46 11 rfl rfl)
theorem dL_law_1234 : decode cL_law 1234 = .ok (.iaload, 1) := dk_46 (dk_at dksL_law_46 12 rfl rfl)
theorem dL_law_1235 : decode cL_law 1235 = .ok (.i2l, 1) := dk_133 (dk_at dksL_law_46 13 rfl rfl)
theorem dL_law_1236 : decode cL_law 1236 = .ok (.ldc2_w 147, 3) := dk_20 0 147 (dk_at dksL_law_46 14 rfl rfl)
theorem dL_law_1239 : decode cL_law 1239 = .ok (.land, 1) := dk_127 (dk_at dksL_law_46 17 rfl rfl)
theorem dL_law_1240 : decode cL_law 1240 = .ok (.lor, 1) := dk_129 (dk_at dksL_law_46 18 rfl rfl)
theorem dL_law_1241 : decode cL_law 1241 = .ok (.invokevirtual 153, 3) := dk_182 0 153 (dk_at dksL_law_46 19 rfl rfl)
theorem dL_law_1244 : decode cL_law 1244 = .ok (.if_icmp .eq 187, 3) := dk_159 0 187 (dk_at dksL_law_47 0 rfl rfl)
theorem dL_law_1247 : decode cL_law 1247 = .ok (.iconst 0, 1) := dk_3 (dk_at dksL_law_47 3 rfl rfl)
theorem dL_law_1248 : decode cL_law 1248 = .ok (.ireturn, 1) := dk_172 (dk_at dksL_law_47 4 rfl rfl)
theorem dL_law_1249 : decode cL_law 1249 = .ok (.aload_n 1, 1) := dk_43 (dk_at dksL_law_47 5 rfl rfl)
theorem dL_law_1250 : decode cL_law 1250 = .ok (.aload_n 0, 1) := dk_42 (dk_at dksL_law_47 6 rfl rfl)
theorem dL_law_1251 : decode cL_law 1251 = .ok (.iload_n 3, 1) := dk_29 (dk_at dksL_law_47 7 rfl rfl)
theorem dL_law_1252 : decode cL_law 1252 = .ok (.iconst 1, 1) := dk_4 (dk_at dksL_law_47 8 rfl rfl)
theorem dL_law_1253 : decode cL_law 1253 = .ok (.iadd, 1) := dk_96 (dk_at dksL_law_47 9 rfl rfl)
theorem dL_law_1254 : decode cL_law 1254 = .ok (.iaload, 1) := dk_46 (dk_at dksL_law_47 10 rfl rfl)
theorem dL_law_1255 : decode cL_law 1255 = .ok (.aload_n 0, 1) := dk_42 (dk_at dksL_law_47 11 rfl rfl)
theorem dL_law_1256 : decode cL_law 1256 = .ok (.iload_n 3, 1) := dk_29 (dk_at dksL_law_47 12 rfl rfl)
theorem dL_law_1257 : decode cL_law 1257 = .ok (.iconst 2, 1) := dk_5 (dk_at dksL_law_47 13 rfl rfl)
theorem dL_law_1258 : decode cL_law 1258 = .ok (.iadd, 1) := dk_96 (dk_at dksL_law_47 14 rfl rfl)
theorem dL_law_1259 : decode cL_law 1259 = .ok (.iaload, 1) := dk_46 (dk_at dksL_law_47 15 rfl rfl)
theorem dL_law_1260 : decode cL_law 1260 = .ok (.invokevirtual 154, 3) := dk_182 0 154 (dk_at dksL_law_47 16 rfl rfl)
theorem dL_law_1263 : decode cL_law 1263 = .ok (.aload_n 2, 1) := dk_44 (dk_at dksL_law_47 19 rfl rfl)
theorem dL_law_1264 : decode cL_law 1264 = .ok (.aload_n 0, 1) := dk_42 (dk_at dksL_law_47 20 rfl rfl)
theorem dL_law_1265 : decode cL_law 1265 = .ok (.iload_n 3, 1) := dk_29 (dk_at dksL_law_47 21 rfl rfl)
theorem dL_law_1266 : decode cL_law 1266 = .ok (.iconst 1, 1) := dk_4 (dk_at dksL_law_47 22 rfl rfl)
theorem dL_law_1267 : decode cL_law 1267 = .ok (.iadd, 1) := dk_96 (dk_at dksL_law_47 23 rfl rfl)
theorem dL_law_1268 : decode cL_law 1268 = .ok (.iaload, 1) := dk_46 (dk_at dksL_law_48 0 rfl rfl)
theorem dL_law_1269 : decode cL_law 1269 = .ok (.aload_n 0, 1) := dk_42 (dk_at dksL_law_48 1 rfl rfl)
theorem dL_law_1270 : decode cL_law 1270 = .ok (.iload_n 3, 1) := dk_29 (dk_at dksL_law_48 2 rfl rfl)
theorem dL_law_1271 : decode cL_law 1271 = .ok (.iconst 2, 1) := dk_5 (dk_at dksL_law_48 3 rfl rfl)
theorem dL_law_1272 : decode cL_law 1272 = .ok (.iadd, 1) := dk_96 (dk_at dksL_law_48 4 rfl rfl)
theorem dL_law_1273 : decode cL_law 1273 = .ok (.iaload, 1) := dk_46 (dk_at dksL_law_48 5 rfl rfl)
theorem dL_law_1274 : decode cL_law 1274 = .ok (.invokevirtual 157, 3) := dk_182 0 157 (dk_at dksL_law_48 6 rfl rfl)
theorem dL_law_1277 : decode cL_law 1277 = .ok (.lcmp, 1) := dk_148 (dk_at dksL_law_48 9 rfl rfl)
theorem dL_law_1278 : decode cL_law 1278 = .ok (.ifCond .eq 153, 3) := dk_153 0 153 (dk_at dksL_law_48 10 rfl rfl)
theorem dL_law_1281 : decode cL_law 1281 = .ok (.iconst 0, 1) := dk_3 (dk_at dksL_law_48 13 rfl rfl)
theorem dL_law_1282 : decode cL_law 1282 = .ok (.ireturn, 1) := dk_172 (dk_at dksL_law_48 14 rfl rfl)
theorem dL_law_1283 : decode cL_law 1283 = .ok (.aload_n 1, 1) := dk_43 (dk_at dksL_law_48 15 rfl rfl)
theorem dL_law_1284 : decode cL_law 1284 = .ok (.aload_n 0, 1) := dk_42 (dk_at dksL_law_48 16 rfl rfl)
theorem dL_law_1285 : decode cL_law 1285 = .ok (.iload_n 3, 1) := dk_29 (dk_at dksL_law_48 17 rfl rfl)
theorem dL_law_1286 : decode cL_law 1286 = .ok (.iconst 1, 1) := dk_4 (dk_at dksL_law_48 18 rfl rfl)
theorem dL_law_1287 : decode cL_law 1287 = .ok (.iadd, 1) := dk_96 (dk_at dksL_law_48 19 rfl rfl)
theorem dL_law_1288 : decode cL_law 1288 = .ok (.iaload, 1) := dk_46 (dk_at dksL_law_48 20 rfl rfl)
theorem dL_law_1289 : decode cL_law 1289 = .ok (.aload_n 0, 1) := dk_42 (dk_at dksL_law_48 21 rfl rfl)
theorem dL_law_1290 : decode cL_law 1290 = .ok (.iload_n 3, 1) := dk_29 (dk_at dksL_law_48 22 rfl rfl)
theorem dL_law_1291 : decode cL_law 1291 = .ok (.iconst 2, 1) := dk_5 (dk_at dksL_law_48 23 rfl rfl)
theorem dL_law_1292 : decode cL_law 1292 = .ok (.iadd, 1) := dk_96 (dk_at dksL_law_49 0 rfl rfl)
theorem dL_law_1293 : decode cL_law 1293 = .ok (.iaload, 1) := dk_46 (dk_at dksL_law_49 1 rfl rfl)
theorem dL_law_1294 : decode cL_law 1294 = .ok (.aload_n 0, 1) := dk_42 (dk_at dksL_law_49 2 rfl rfl)
theorem dL_law_1295 : decode cL_law 1295 = .ok (.iload_n 3, 1) := dk_29 (dk_at dksL_law_49 3 rfl rfl)
theorem dL_law_1296 : decode cL_law 1296 = .ok (.iconst 3, 1) := dk_6 (dk_at dksL_law_49 4 rfl rfl)
theorem dL_law_1297 : decode cL_law 1297 = .ok (.iadd, 1) := dk_96 (dk_at dksL_law_49 5 rfl rfl)
theorem dL_law_1298 : decode cL_law 1298 = .ok (.iaload, 1) := dk_46 (dk_at dksL_law_49 6 rfl rfl)
theorem dL_law_1299 : decode cL_law 1299 = .ok (.aload_n 0, 1) := dk_42 (dk_at dksL_law_49 7 rfl rfl)
theorem dL_law_1300 : decode cL_law 1300 = .ok (.iload_n 3, 1) := dk_29 (dk_at dksL_law_49 8 rfl rfl)
theorem dL_law_1301 : decode cL_law 1301 = .ok (.iconst 4, 1) := dk_7 (dk_at dksL_law_49 9 rfl rfl)
theorem dL_law_1302 : decode cL_law 1302 = .ok (.iadd, 1) := dk_96 (dk_at dksL_law_49 10 rfl rfl)
theorem dL_law_1303 : decode cL_law 1303 = .ok (.iaload, 1) := dk_46 (dk_at dksL_law_49 11 rfl rfl)
theorem dL_law_1304 : decode cL_law 1304 = .ok (.invokevirtual 158, 3) := dk_182 0 158 (dk_at dksL_law_49 12 rfl rfl)
theorem dL_law_1307 : decode cL_law 1307 = .ok (.aload_n 2, 1) := dk_44 (dk_at dksL_law_49 15 rfl rfl)
theorem dL_law_1308 : decode cL_law 1308 = .ok (.aload_n 0, 1) := dk_42 (dk_at dksL_law_49 16 rfl rfl)
theorem dL_law_1309 : decode cL_law 1309 = .ok (.iload_n 3, 1) := dk_29 (dk_at dksL_law_49 17 rfl rfl)
theorem dL_law_1310 : decode cL_law 1310 = .ok (.iconst 1, 1) := dk_4 (dk_at dksL_law_49 18 rfl rfl)
theorem dL_law_1311 : decode cL_law 1311 = .ok (.iadd, 1) := dk_96 (dk_at dksL_law_49 19 rfl rfl)
theorem dL_law_1312 : decode cL_law 1312 = .ok (.iaload, 1) := dk_46 (dk_at dksL_law_49 20 rfl rfl)
theorem dL_law_1313 : decode cL_law 1313 = .ok (.aload_n 0, 1) := dk_42 (dk_at dksL_law_49 21 rfl rfl)
theorem dL_law_1314 : decode cL_law 1314 = .ok (.iload_n 3, 1) := dk_29 (dk_at dksL_law_49 22 rfl rfl)
theorem dL_law_1315 : decode cL_law 1315 = .ok (.iconst 2, 1) := dk_5 (dk_at dksL_law_49 23 rfl rfl)
theorem dL_law_1316 : decode cL_law 1316 = .ok (.iadd, 1) := dk_96 (dk_at dksL_law_50 0 rfl rfl)
theorem dL_law_1317 : decode cL_law 1317 = .ok (.iaload, 1) := dk_46 (dk_at dksL_law_50 1 rfl rfl)
theorem dL_law_1318 : decode cL_law 1318 = .ok (.aload_n 0, 1) := dk_42 (dk_at dksL_law_50 2 rfl rfl)
theorem dL_law_1319 : decode cL_law 1319 = .ok (.iload_n 3, 1) := dk_29 (dk_at dksL_law_50 3 rfl rfl)
theorem dL_law_1320 : decode cL_law 1320 = .ok (.iconst 3, 1) := dk_6 (dk_at dksL_law_50 4 rfl rfl)
theorem dL_law_1321 : decode cL_law 1321 = .ok (.iadd, 1) := dk_96 (dk_at dksL_law_50 5 rfl rfl)
theorem dL_law_1322 : decode cL_law 1322 = .ok (.iaload, 1) := dk_46 (dk_at dksL_law_50 6 rfl rfl)
theorem dL_law_1323 : decode cL_law 1323 = .ok (.aload_n 0, 1) := dk_42 (dk_at dksL_law_50 7 rfl rfl)
theorem dL_law_1324 : decode cL_law 1324 = .ok (.iload_n 3, 1) := dk_29 (dk_at dksL_law_50 8 rfl rfl)
theorem dL_law_1325 : decode cL_law 1325 = .ok (.iconst 4, 1) := dk_7 (dk_at dksL_law_50 9 rfl rfl)
theorem dL_law_1326 : decode cL_law 1326 = .ok (.iadd, 1) := dk_96 (dk_at dksL_law_50 10 rfl rfl)
theorem dL_law_1327 : decode cL_law 1327 = .ok (.iaload, 1) := dk_46 (dk_at dksL_law_50 11 rfl rfl)
theorem dL_law_1328 : decode cL_law 1328 = .ok (.invokevirtual 161, 3) := dk_182 0 161 (dk_at dksL_law_50 12 rfl rfl)
theorem dL_law_1331 : decode cL_law 1331 = .ok (.if_icmp .eq 100, 3) := dk_159 0 100 (dk_at dksL_law_50 15 rfl rfl)
theorem dL_law_1334 : decode cL_law 1334 = .ok (.iconst 0, 1) := dk_3 (dk_at dksL_law_50 18 rfl rfl)
theorem dL_law_1335 : decode cL_law 1335 = .ok (.ireturn, 1) := dk_172 (dk_at dksL_law_50 19 rfl rfl)
theorem dL_law_1336 : decode cL_law 1336 = .ok (.aload_n 1, 1) := dk_43 (dk_at dksL_law_50 20 rfl rfl)
theorem dL_law_1337 : decode cL_law 1337 = .ok (.aload_n 0, 1) := dk_42 (dk_at dksL_law_50 21 rfl rfl)
theorem dL_law_1338 : decode cL_law 1338 = .ok (.iload_n 3, 1) := dk_29 (dk_at dksL_law_50 22 rfl rfl)
theorem dL_law_1339 : decode cL_law 1339 = .ok (.iconst 1, 1) := dk_4 (dk_at dksL_law_50 23 rfl rfl)
theorem dL_law_1340 : decode cL_law 1340 = .ok (.iadd, 1) := dk_96 (dk_at dksL_law_51 0 rfl rfl)
theorem dL_law_1341 : decode cL_law 1341 = .ok (.iaload, 1) := dk_46 (dk_at dksL_law_51 1 rfl rfl)
theorem dL_law_1342 : decode cL_law 1342 = .ok (.aload_n 0, 1) := dk_42 (dk_at dksL_law_51 2 rfl rfl)
theorem dL_law_1343 : decode cL_law 1343 = .ok (.iload_n 3, 1) := dk_29 (dk_at dksL_law_51 3 rfl rfl)
theorem dL_law_1344 : decode cL_law 1344 = .ok (.iconst 2, 1) := dk_5 (dk_at dksL_law_51 4 rfl rfl)
theorem dL_law_1345 : decode cL_law 1345 = .ok (.iadd, 1) := dk_96 (dk_at dksL_law_51 5 rfl rfl)
theorem dL_law_1346 : decode cL_law 1346 = .ok (.iaload, 1) := dk_46 (dk_at dksL_law_51 6 rfl rfl)
theorem dL_law_1347 : decode cL_law 1347 = .ok (.invokevirtual 162, 3) := dk_182 0 162 (dk_at dksL_law_51 7 rfl rfl)
theorem dL_law_1350 : decode cL_law 1350 = .ok (.aload_n 2, 1) := dk_44 (dk_at dksL_law_51 10 rfl rfl)
theorem dL_law_1351 : decode cL_law 1351 = .ok (.aload_n 0, 1) := dk_42 (dk_at dksL_law_51 11 rfl rfl)
theorem dL_law_1352 : decode cL_law 1352 = .ok (.iload_n 3, 1) := dk_29 (dk_at dksL_law_51 12 rfl rfl)
theorem dL_law_1353 : decode cL_law 1353 = .ok (.iconst 1, 1) := dk_4 (dk_at dksL_law_51 13 rfl rfl)
theorem dL_law_1354 : decode cL_law 1354 = .ok (.iadd, 1) := dk_96 (dk_at dksL_law_51 14 rfl rfl)
theorem dL_law_1355 : decode cL_law 1355 = .ok (.iaload, 1) := dk_46 (dk_at dksL_law_51 15 rfl rfl)
theorem dL_law_1356 : decode cL_law 1356 = .ok (.aload_n 0, 1) := dk_42 (dk_at dksL_law_51 16 rfl rfl)
theorem dL_law_1357 : decode cL_law 1357 = .ok (.iload_n 3, 1) := dk_29 (dk_at dksL_law_51 17 rfl rfl)
theorem dL_law_1358 : decode cL_law 1358 = .ok (.iconst 2, 1) := dk_5 (dk_at dksL_law_51 18 rfl rfl)
theorem dL_law_1359 : decode cL_law 1359 = .ok (.iadd, 1) := dk_96 (dk_at dksL_law_51 19 rfl rfl)
theorem dL_law_1360 : decode cL_law 1360 = .ok (.iaload, 1) := dk_46 (dk_at dksL_law_51 20 rfl rfl)
theorem dL_law_1361 : decode cL_law 1361 = .ok (.invokevirtual 165, 3) := dk_182 0 165 (dk_at dksL_law_51 21 rfl rfl)
theorem dL_law_1364 : decode cL_law 1364 = .ok (.if_icmp .eq 67, 3) := dk_159 0 67 (dk_at dksL_law_52 0 rfl rfl)
theorem dL_law_1367 : decode cL_law 1367 = .ok (.iconst 0, 1) := dk_3 (dk_at dksL_law_52 3 rfl rfl)
theorem dL_law_1368 : decode cL_law 1368 = .ok (.ireturn, 1) := dk_172 (dk_at dksL_law_52 4 rfl rfl)
theorem dL_law_1369 : decode cL_law 1369 = .ok (.aload_n 1, 1) := dk_43 (dk_at dksL_law_52 5 rfl rfl)
theorem dL_law_1370 : decode cL_law 1370 = .ok (.invokevirtual 166, 3) := dk_182 0 166 (dk_at dksL_law_52 6 rfl rfl)
theorem dL_law_1373 : decode cL_law 1373 = .ok (.aload_n 2, 1) := dk_44 (dk_at dksL_law_52 9 rfl rfl)
theorem dL_law_1374 : decode cL_law 1374 = .ok (.invokevirtual 169, 3) := dk_182 0 169 (dk_at dksL_law_52 10 rfl rfl)
theorem dL_law_1377 : decode cL_law 1377 = .ok (.if_icmp .eq 54, 3) := dk_159 0 54 (dk_at dksL_law_52 13 rfl rfl)
theorem dL_law_1380 : decode cL_law 1380 = .ok (.iconst 0, 1) := dk_3 (dk_at dksL_law_52 16 rfl rfl)
theorem dL_law_1381 : decode cL_law 1381 = .ok (.ireturn, 1) := dk_172 (dk_at dksL_law_52 17 rfl rfl)
theorem dL_law_1382 : decode cL_law 1382 = .ok (.aload_n 1, 1) := dk_43 (dk_at dksL_law_52 18 rfl rfl)
theorem dL_law_1383 : decode cL_law 1383 = .ok (.invokevirtual 170, 3) := dk_182 0 170 (dk_at dksL_law_52 19 rfl rfl)
theorem dL_law_1386 : decode cL_law 1386 = .ok (.aload_n 2, 1) := dk_44 (dk_at dksL_law_52 22 rfl rfl)
theorem dL_law_1387 : decode cL_law 1387 = .ok (.invokevirtual 173, 3) := dk_182 0 173 (dk_at dksL_law_53 0 rfl rfl)
theorem dL_law_1390 : decode cL_law 1390 = .ok (.if_icmp .eq 41, 3) := dk_159 0 41 (dk_at dksL_law_53 3 rfl rfl)
theorem dL_law_1393 : decode cL_law 1393 = .ok (.iconst 0, 1) := dk_3 (dk_at dksL_law_53 6 rfl rfl)
theorem dL_law_1394 : decode cL_law 1394 = .ok (.ireturn, 1) := dk_172 (dk_at dksL_law_53 7 rfl rfl)
theorem dL_law_1395 : decode cL_law 1395 = .ok (.aload_n 1, 1) := dk_43 (dk_at dksL_law_53 8 rfl rfl)
theorem dL_law_1396 : decode cL_law 1396 = .ok (.invokevirtual 174, 3) := dk_182 0 174 (dk_at dksL_law_53 9 rfl rfl)
theorem dL_law_1399 : decode cL_law 1399 = .ok (.aload_n 2, 1) := dk_44 (dk_at dksL_law_53 12 rfl rfl)
theorem dL_law_1400 : decode cL_law 1400 = .ok (.invokevirtual 177, 3) := dk_182 0 177 (dk_at dksL_law_53 13 rfl rfl)
theorem dL_law_1403 : decode cL_law 1403 = .ok (.if_icmp .eq 28, 3) := dk_159 0 28 (dk_at dksL_law_53 16 rfl rfl)
theorem dL_law_1406 : decode cL_law 1406 = .ok (.iconst 0, 1) := dk_3 (dk_at dksL_law_53 19 rfl rfl)
theorem dL_law_1407 : decode cL_law 1407 = .ok (.ireturn, 1) := dk_172 (dk_at dksL_law_53 20 rfl rfl)
theorem dL_law_1408 : decode cL_law 1408 = .ok (.aload_n 1, 1) := dk_43 (dk_at dksL_law_53 21 rfl rfl)
theorem dL_law_1409 : decode cL_law 1409 = .ok (.aload_n 0, 1) := dk_42 (dk_at dksL_law_53 22 rfl rfl)
theorem dL_law_1410 : decode cL_law 1410 = .ok (.iload_n 3, 1) := dk_29 (dk_at dksL_law_53 23 rfl rfl)
theorem dL_law_1411 : decode cL_law 1411 = .ok (.iconst 1, 1) := dk_4 (dk_at dksL_law_54 0 rfl rfl)
theorem dL_law_1412 : decode cL_law 1412 = .ok (.iadd, 1) := dk_96 (dk_at dksL_law_54 1 rfl rfl)
theorem dL_law_1413 : decode cL_law 1413 = .ok (.iaload, 1) := dk_46 (dk_at dksL_law_54 2 rfl rfl)
theorem dL_law_1414 : decode cL_law 1414 = .ok (.invokevirtual 178, 3) := dk_182 0 178 (dk_at dksL_law_54 3 rfl rfl)
theorem dL_law_1417 : decode cL_law 1417 = .ok (.aload_n 2, 1) := dk_44 (dk_at dksL_law_54 6 rfl rfl)
theorem dL_law_1418 : decode cL_law 1418 = .ok (.aload_n 0, 1) := dk_42 (dk_at dksL_law_54 7 rfl rfl)
theorem dL_law_1419 : decode cL_law 1419 = .ok (.iload_n 3, 1) := dk_29 (dk_at dksL_law_54 8 rfl rfl)
theorem dL_law_1420 : decode cL_law 1420 = .ok (.iconst 1, 1) := dk_4 (dk_at dksL_law_54 9 rfl rfl)
theorem dL_law_1421 : decode cL_law 1421 = .ok (.iadd, 1) := dk_96 (dk_at dksL_law_54 10 rfl rfl)
theorem dL_law_1422 : decode cL_law 1422 = .ok (.iaload, 1) := dk_46 (dk_at dksL_law_54 11 rfl rfl)
theorem dL_law_1423 : decode cL_law 1423 = .ok (.invokevirtual 181, 3) := dk_182 0 181 (dk_at dksL_law_54 12 rfl rfl)
theorem dL_law_1426 : decode cL_law 1426 = .ok (.if_icmp .eq 5, 3) := dk_159 0 5 (dk_at dksL_law_54 15 rfl rfl)
theorem dL_law_1429 : decode cL_law 1429 = .ok (.iconst 0, 1) := dk_3 (dk_at dksL_law_54 18 rfl rfl)
theorem dL_law_1430 : decode cL_law 1430 = .ok (.ireturn, 1) := dk_172 (dk_at dksL_law_54 19 rfl rfl)
theorem dL_law_1431 : decode cL_law 1431 = .ok (.iinc 3 7, 3) := dk_132 3 7 (dk_at dksL_law_54 20 rfl rfl)
theorem dL_law_1434 : decode cL_law 1434 = .ok (.goto (-1416), 3) := dk_167 250 120 (dk_at dksL_law_55 0 rfl rfl)
theorem dL_law_1437 : decode cL_law 1437 = .ok (.iconst 1, 1) := dk_4 (dk_at dksL_law_55 3 rfl rfl)
theorem dL_law_1438 : decode cL_law 1438 = .ok (.ireturn, 1) := dk_172 (dk_at dksL_law_55 4 rfl rfl)
theorem q102 : (Jvm.Cond.initialized "CellReducerLaw") ∈ lw_all := lw_g (lw_at lw_m1 0 rfl) rfl
set_option maxRecDepth 100000
theorem q161 : (Jvm.Cond.classLink "CellReducerLaw" (7 : Nat) "CellReducer") ∈ lw_all := lw_g (lw_at lw_m1 59 rfl) rfl
theorem q163 : (Jvm.Cond.methodLink "CellReducerLaw" (9 : Nat) ({ cls := "CellReducer", name := "<init>", desc := "()V" } : Jvm.MethodName)) ∈ lw_all := lw_g (lw_at lw_m1 61 rfl) rfl
theorem q360 : (Jvm.Cond.methodLink "CellReducerLaw" (13 : Nat) ({ cls := "CellReducer", name := "cell", desc := "(IIIIII)I" } : Jvm.MethodName)) ∈ lw_all := lw_g (lw_at lw_m2 18 rfl) rfl
theorem q398 : (Jvm.Cond.methodLink "CellReducerLaw" (33 : Nat) ({ cls := "CellReducer", name := "number", desc := "(II)J" } : Jvm.MethodName)) ∈ lw_all := lw_g (lw_at lw_m2 56 rfl) rfl
theorem q414 : (Jvm.Cond.methodLink "CellReducerLaw" (38 : Nat) ({ cls := "CellReducer", name := "change", desc := "(III)J" } : Jvm.MethodName)) ∈ lw_all := lw_g (lw_at lw_m2 72 rfl) rfl
theorem q422 : (Jvm.Cond.methodLink "CellReducerLaw" (166 : Nat) ({ cls := "CellReducer", name := "undo", desc := "()I" } : Jvm.MethodName)) ∈ lw_all := lw_g (lw_at lw_m2 80 rfl) rfl
theorem q426 : (Jvm.Cond.methodLink "CellReducerLaw" (23 : Nat) ({ cls := "CellReducer", name := "add", desc := "(IIII)I" } : Jvm.MethodName)) ∈ lw_all := lw_g (lw_at lw_m2 84 rfl) rfl
theorem q447 : (Jvm.Cond.methodLink "CellReducerLaw" (28 : Nat) ({ cls := "CellReducer", name := "swap", desc := "(III)I" } : Jvm.MethodName)) ∈ lw_all := lw_g (lw_at lw_m2 105 rfl) rfl
theorem q459 : (Jvm.Cond.methodLink "CellReducerLaw" (43 : Nat) ({ cls := "CellReducer", name := "fails", desc := "(I)I" } : Jvm.MethodName)) ∈ lw_all := lw_g (lw_at lw_m2 117 rfl) rfl
theorem q489 : (Jvm.Cond.methodLink "CellReducerLaw" (48 : Nat) ({ cls := "CellReducer", name := "step", desc := "(I)I" } : Jvm.MethodName)) ∈ lw_all := lw_g (lw_at lw_m2 147 rfl) rfl
theorem q582 : (Jvm.Cond.methodLink "CellReducerLaw" (52 : Nat) ({ cls := "CellReducer", name := "reduce", desc := "(I)I" } : Jvm.MethodName)) ∈ lw_all := lw_g (lw_at lw_m3 0 rfl) rfl
theorem q586 : (Jvm.Cond.methodLink "CellReducerLaw" (56 : Nat) ({ cls := "CellReducer", name := "normal", desc := "(II)J" } : Jvm.MethodName)) ∈ lw_all := lw_g (lw_at lw_m3 4 rfl) rfl
theorem q597 : (Jvm.Cond.methodLink "CellReducerLaw" (60 : Nat) ({ cls := "CellReducer", name := "log", desc := "(I)I" } : Jvm.MethodName)) ∈ lw_all := lw_g (lw_at lw_m3 15 rfl) rfl
theorem q622 : (Jvm.Cond.methodLink "CellReducerLaw" (64 : Nat) ({ cls := "CellReducer", name := "forget", desc := "(I)I" } : Jvm.MethodName)) ∈ lw_all := lw_g (lw_at lw_m3 40 rfl) rfl
theorem q1341 : (Jvm.Cond.methodLink "CellReducerLaw" (68 : Nat) ({ cls := "CellReducer", name := "same", desc := "(II)I" } : Jvm.MethodName)) ∈ lw_all := lw_g (lw_at lw_m6 39 rfl) rfl
theorem q1354 : (Jvm.Cond.methodLink "CellReducerLaw" (73 : Nat) ({ cls := "CellReducer", name := "bridge", desc := "(IIII)J" } : Jvm.MethodName)) ∈ lw_all := lw_g (lw_at lw_m6 52 rfl) rfl
theorem q1361 : (Jvm.Cond.methodLink "CellReducerLaw" (78 : Nat) ({ cls := "CellReducer", name := "turns", desc := "(II)I" } : Jvm.MethodName)) ∈ lw_all := lw_g (lw_at lw_m6 59 rfl) rfl
theorem q1382 : (Jvm.Cond.methodLink "CellReducerLaw" (82 : Nat) ({ cls := "CellReducer", name := "system", desc := "(I)I" } : Jvm.MethodName)) ∈ lw_all := lw_g (lw_at lw_m6 80 rfl) rfl
theorem q1528 : (Jvm.Cond.methodLink "CellReducerLaw" (86 : Nat) ({ cls := "CellReducer", name := "shell", desc := "(III)I" } : Jvm.MethodName)) ∈ lw_all := lw_g (lw_at lw_m6 226 rfl) rfl
theorem q1542 : (Jvm.Cond.methodLink "CellReducerLaw" (90 : Nat) ({ cls := "CellReducer", name := "squares", desc := "(I)J" } : Jvm.MethodName)) ∈ lw_all := lw_g (lw_at lw_m7 0 rfl) rfl
theorem q1590 : (Jvm.Cond.methodLink "CellReducerLaw" (95 : Nat) ({ cls := "CellReducer", name := "within", desc := "(III)J" } : Jvm.MethodName)) ∈ lw_all := lw_g (lw_at lw_m7 48 rfl) rfl
theorem q1610 : (Jvm.Cond.methodLink "CellReducerLaw" (99 : Nat) ({ cls := "CellReducer", name := "holds", desc := "(III)I" } : Jvm.MethodName)) ∈ lw_all := lw_g (lw_at lw_m7 68 rfl) rfl
theorem q1614 : (Jvm.Cond.methodLink "CellReducerLaw" (103 : Nat) ({ cls := "CellReducer", name := "blunt", desc := "(II)J" } : Jvm.MethodName)) ∈ lw_all := lw_g (lw_at lw_m7 72 rfl) rfl
theorem q2261 : (Jvm.Cond.methodLink "CellReducerLaw" (107 : Nat) ({ cls := "CellReducer", name := "waits", desc := "(I)I" } : Jvm.MethodName)) ∈ lw_all := lw_g (lw_at lw_m9 239 rfl) rfl
theorem q2291 : (Jvm.Cond.methodLink "CellReducerLaw" (111 : Nat) ({ cls := "CellReducer", name := "leaves", desc := "(I)I" } : Jvm.MethodName)) ∈ lw_all := lw_g (lw_at lw_m10 29 rfl) rfl
theorem q2323 : (Jvm.Cond.methodLink "CellReducerLaw" (115 : Nat) ({ cls := "CellReducer", name := "works", desc := "(I)I" } : Jvm.MethodName)) ∈ lw_all := lw_g (lw_at lw_m10 61 rfl) rfl
theorem q2343 : (Jvm.Cond.methodLink "CellReducerLaw" (119 : Nat) ({ cls := "CellReducer", name := "line", desc := "(I)I" } : Jvm.MethodName)) ∈ lw_all := lw_g (lw_at lw_m10 81 rfl) rfl
theorem q2347 : (Jvm.Cond.methodLink "CellReducerLaw" (123 : Nat) ({ cls := "CellReducer", name := "clears", desc := "()I" } : Jvm.MethodName)) ∈ lw_all := lw_g (lw_at lw_m10 85 rfl) rfl
theorem q2352 : (Jvm.Cond.methodLink "CellReducerLaw" (18 : Nat) ({ cls := "CellReducer", name := "drop", desc := "()I" } : Jvm.MethodName)) ∈ lw_all := lw_g (lw_at lw_m10 90 rfl) rfl
theorem q2356 : (Jvm.Cond.methodLink "CellReducerLaw" (127 : Nat) ({ cls := "CellReducer", name := "feed", desc := "(I)I" } : Jvm.MethodName)) ∈ lw_all := lw_g (lw_at lw_m10 94 rfl) rfl
theorem q2361 : (Jvm.Cond.methodLink "CellReducerLaw" (131 : Nat) ({ cls := "CellReducer", name := "reads", desc := "()I" } : Jvm.MethodName)) ∈ lw_all := lw_g (lw_at lw_m10 99 rfl) rfl
theorem q2457 : (Jvm.Cond.methodLink "CellReducerLaw" (135 : Nat) ({ cls := "CellReducer", name := "prints", desc := "(II)I" } : Jvm.MethodName)) ∈ lw_all := lw_g (lw_at lw_m10 195 rfl) rfl
theorem q2532 : (Jvm.Cond.methodLink "CellReducerLaw" (139 : Nat) ({ cls := "CellReducer", name := "paper", desc := "(I)I" } : Jvm.MethodName)) ∈ lw_all := lw_g (lw_at lw_m11 30 rfl) rfl
theorem q2551 : (Jvm.Cond.methodLink "CellReducerLaw" (143 : Nat) ({ cls := "CellReducer", name := "list", desc := "(II)I" } : Jvm.MethodName)) ∈ lw_all := lw_g (lw_at lw_m11 49 rfl) rfl
theorem q2563 : (Jvm.Cond.methodLink "CellReducerLaw" (149 : Nat) ({ cls := "CellReducer", name := "set", desc := "(IIJ)I" } : Jvm.MethodName)) ∈ lw_all := lw_g (lw_at lw_m11 61 rfl) rfl
theorem q2572 : (Jvm.Cond.methodLink "CellReducerLaw" (154 : Nat) ({ cls := "CellReducer", name := "get", desc := "(II)J" } : Jvm.MethodName)) ∈ lw_all := lw_g (lw_at lw_m11 70 rfl) rfl
theorem q2576 : (Jvm.Cond.methodLink "CellReducerLaw" (158 : Nat) ({ cls := "CellReducer", name := "into", desc := "(IIII)I" } : Jvm.MethodName)) ∈ lw_all := lw_g (lw_at lw_m11 74 rfl) rfl
theorem q2584 : (Jvm.Cond.methodLink "CellReducerLaw" (162 : Nat) ({ cls := "CellReducer", name := "from", desc := "(II)I" } : Jvm.MethodName)) ∈ lw_all := lw_g (lw_at lw_m11 82 rfl) rfl
theorem q2588 : (Jvm.Cond.methodLink "CellReducerLaw" (170 : Nat) ({ cls := "CellReducer", name := "image", desc := "()I" } : Jvm.MethodName)) ∈ lw_all := lw_g (lw_at lw_m11 86 rfl) rfl
theorem q2603 : (Jvm.Cond.methodLink "CellReducerLaw" (174 : Nat) ({ cls := "CellReducer", name := "back", desc := "()I" } : Jvm.MethodName)) ∈ lw_all := lw_g (lw_at lw_m11 101 rfl) rfl
theorem q2607 : (Jvm.Cond.methodLink "CellReducerLaw" (178 : Nat) ({ cls := "CellReducer", name := "count", desc := "(I)I" } : Jvm.MethodName)) ∈ lw_all := lw_g (lw_at lw_m11 105 rfl) rfl
theorem q2611 : (Jvm.Cond.classLink "CellReducerLaw" (10 : Nat) "CellReducerModel") ∈ lw_all := lw_g (lw_at lw_m11 109 rfl) rfl
theorem q2613 : (Jvm.Cond.methodLink "CellReducerLaw" (12 : Nat) ({ cls := "CellReducerModel", name := "<init>", desc := "()V" } : Jvm.MethodName)) ∈ lw_all := lw_g (lw_at lw_m11 111 rfl) rfl
theorem q2714 : (Jvm.Cond.methodLink "CellReducerLaw" (169 : Nat) ({ cls := "CellReducerModel", name := "undo", desc := "()I" } : Jvm.MethodName)) ∈ lw_all := lw_g (lw_at lw_m11 212 rfl) rfl
theorem q2722 : (Jvm.Cond.methodLink "CellReducerLaw" (17 : Nat) ({ cls := "CellReducerModel", name := "cell", desc := "(IIIIII)I" } : Jvm.MethodName)) ∈ lw_all := lw_g (lw_at lw_m11 220 rfl) rfl
theorem q2757 : (Jvm.Cond.methodLink "CellReducerLaw" (22 : Nat) ({ cls := "CellReducerModel", name := "drop", desc := "()I" } : Jvm.MethodName)) ∈ lw_all := lw_g (lw_at lw_m12 15 rfl) rfl
theorem q2769 : (Jvm.Cond.methodLink "CellReducerLaw" (27 : Nat) ({ cls := "CellReducerModel", name := "add", desc := "(IIII)I" } : Jvm.MethodName)) ∈ lw_all := lw_g (lw_at lw_m12 27 rfl) rfl
theorem q2795 : (Jvm.Cond.methodLink "CellReducerLaw" (32 : Nat) ({ cls := "CellReducerModel", name := "swap", desc := "(III)I" } : Jvm.MethodName)) ∈ lw_all := lw_g (lw_at lw_m12 53 rfl) rfl
theorem q2807 : (Jvm.Cond.methodLink "CellReducerLaw" (37 : Nat) ({ cls := "CellReducerModel", name := "number", desc := "(II)J" } : Jvm.MethodName)) ∈ lw_all := lw_g (lw_at lw_m12 65 rfl) rfl
theorem q2813 : (Jvm.Cond.methodLink "CellReducerLaw" (42 : Nat) ({ cls := "CellReducerModel", name := "change", desc := "(III)J" } : Jvm.MethodName)) ∈ lw_all := lw_g (lw_at lw_m12 71 rfl) rfl
theorem q2817 : (Jvm.Cond.methodLink "CellReducerLaw" (47 : Nat) ({ cls := "CellReducerModel", name := "fails", desc := "(I)I" } : Jvm.MethodName)) ∈ lw_all := lw_g (lw_at lw_m12 75 rfl) rfl
theorem q2842 : (Jvm.Cond.methodLink "CellReducerLaw" (51 : Nat) ({ cls := "CellReducerModel", name := "step", desc := "(I)I" } : Jvm.MethodName)) ∈ lw_all := lw_g (lw_at lw_m12 100 rfl) rfl
theorem q2867 : (Jvm.Cond.methodLink "CellReducerLaw" (55 : Nat) ({ cls := "CellReducerModel", name := "reduce", desc := "(I)I" } : Jvm.MethodName)) ∈ lw_all := lw_g (lw_at lw_m12 125 rfl) rfl
theorem q2871 : (Jvm.Cond.methodLink "CellReducerLaw" (59 : Nat) ({ cls := "CellReducerModel", name := "normal", desc := "(II)J" } : Jvm.MethodName)) ∈ lw_all := lw_g (lw_at lw_m12 129 rfl) rfl
theorem q2883 : (Jvm.Cond.methodLink "CellReducerLaw" (63 : Nat) ({ cls := "CellReducerModel", name := "log", desc := "(I)I" } : Jvm.MethodName)) ∈ lw_all := lw_g (lw_at lw_m12 141 rfl) rfl
theorem q2887 : (Jvm.Cond.methodLink "CellReducerLaw" (67 : Nat) ({ cls := "CellReducerModel", name := "forget", desc := "(I)I" } : Jvm.MethodName)) ∈ lw_all := lw_g (lw_at lw_m12 145 rfl) rfl
theorem q2892 : (Jvm.Cond.methodLink "CellReducerLaw" (72 : Nat) ({ cls := "CellReducerModel", name := "same", desc := "(II)I" } : Jvm.MethodName)) ∈ lw_all := lw_g (lw_at lw_m12 150 rfl) rfl
theorem q2904 : (Jvm.Cond.methodLink "CellReducerLaw" (77 : Nat) ({ cls := "CellReducerModel", name := "bridge", desc := "(IIII)J" } : Jvm.MethodName)) ∈ lw_all := lw_g (lw_at lw_m12 162 rfl) rfl
theorem q2912 : (Jvm.Cond.methodLink "CellReducerLaw" (81 : Nat) ({ cls := "CellReducerModel", name := "turns", desc := "(II)I" } : Jvm.MethodName)) ∈ lw_all := lw_g (lw_at lw_m12 170 rfl) rfl
theorem q2927 : (Jvm.Cond.methodLink "CellReducerLaw" (85 : Nat) ({ cls := "CellReducerModel", name := "system", desc := "(I)I" } : Jvm.MethodName)) ∈ lw_all := lw_g (lw_at lw_m12 185 rfl) rfl
theorem q2931 : (Jvm.Cond.methodLink "CellReducerLaw" (89 : Nat) ({ cls := "CellReducerModel", name := "shell", desc := "(III)I" } : Jvm.MethodName)) ∈ lw_all := lw_g (lw_at lw_m12 189 rfl) rfl
theorem q2943 : (Jvm.Cond.methodLink "CellReducerLaw" (94 : Nat) ({ cls := "CellReducerModel", name := "squares", desc := "(I)J" } : Jvm.MethodName)) ∈ lw_all := lw_g (lw_at lw_m12 201 rfl) rfl
theorem q2948 : (Jvm.Cond.methodLink "CellReducerLaw" (98 : Nat) ({ cls := "CellReducerModel", name := "within", desc := "(III)J" } : Jvm.MethodName)) ∈ lw_all := lw_g (lw_at lw_m12 206 rfl) rfl
theorem q2969 : (Jvm.Cond.methodLink "CellReducerLaw" (102 : Nat) ({ cls := "CellReducerModel", name := "holds", desc := "(III)I" } : Jvm.MethodName)) ∈ lw_all := lw_g (lw_at lw_m12 227 rfl) rfl
theorem q2973 : (Jvm.Cond.methodLink "CellReducerLaw" (106 : Nat) ({ cls := "CellReducerModel", name := "blunt", desc := "(II)J" } : Jvm.MethodName)) ∈ lw_all := lw_g (lw_at lw_m12 231 rfl) rfl
theorem q2995 : (Jvm.Cond.methodLink "CellReducerLaw" (110 : Nat) ({ cls := "CellReducerModel", name := "waits", desc := "(I)I" } : Jvm.MethodName)) ∈ lw_all := lw_g (lw_at lw_m13 13 rfl) rfl
theorem q2999 : (Jvm.Cond.methodLink "CellReducerLaw" (114 : Nat) ({ cls := "CellReducerModel", name := "leaves", desc := "(I)I" } : Jvm.MethodName)) ∈ lw_all := lw_g (lw_at lw_m13 17 rfl) rfl
theorem q3003 : (Jvm.Cond.methodLink "CellReducerLaw" (118 : Nat) ({ cls := "CellReducerModel", name := "works", desc := "(I)I" } : Jvm.MethodName)) ∈ lw_all := lw_g (lw_at lw_m13 21 rfl) rfl
theorem q3008 : (Jvm.Cond.methodLink "CellReducerLaw" (122 : Nat) ({ cls := "CellReducerModel", name := "line", desc := "(I)I" } : Jvm.MethodName)) ∈ lw_all := lw_g (lw_at lw_m13 26 rfl) rfl
theorem q3012 : (Jvm.Cond.methodLink "CellReducerLaw" (126 : Nat) ({ cls := "CellReducerModel", name := "clears", desc := "()I" } : Jvm.MethodName)) ∈ lw_all := lw_g (lw_at lw_m13 30 rfl) rfl
theorem q3016 : (Jvm.Cond.methodLink "CellReducerLaw" (130 : Nat) ({ cls := "CellReducerModel", name := "feed", desc := "(I)I" } : Jvm.MethodName)) ∈ lw_all := lw_g (lw_at lw_m13 34 rfl) rfl
theorem q3021 : (Jvm.Cond.methodLink "CellReducerLaw" (134 : Nat) ({ cls := "CellReducerModel", name := "reads", desc := "()I" } : Jvm.MethodName)) ∈ lw_all := lw_g (lw_at lw_m13 39 rfl) rfl
theorem q3051 : (Jvm.Cond.methodLink "CellReducerLaw" (138 : Nat) ({ cls := "CellReducerModel", name := "prints", desc := "(II)I" } : Jvm.MethodName)) ∈ lw_all := lw_g (lw_at lw_m13 69 rfl) rfl
theorem q3063 : (Jvm.Cond.methodLink "CellReducerLaw" (142 : Nat) ({ cls := "CellReducerModel", name := "paper", desc := "(I)I" } : Jvm.MethodName)) ∈ lw_all := lw_g (lw_at lw_m13 81 rfl) rfl
theorem q3067 : (Jvm.Cond.methodLink "CellReducerLaw" (146 : Nat) ({ cls := "CellReducerModel", name := "list", desc := "(II)I" } : Jvm.MethodName)) ∈ lw_all := lw_g (lw_at lw_m13 85 rfl) rfl
theorem q3075 : (Jvm.Cond.methodLink "CellReducerLaw" (153 : Nat) ({ cls := "CellReducerModel", name := "set", desc := "(IIJ)I" } : Jvm.MethodName)) ∈ lw_all := lw_g (lw_at lw_m13 93 rfl) rfl
theorem q3079 : (Jvm.Cond.methodLink "CellReducerLaw" (157 : Nat) ({ cls := "CellReducerModel", name := "get", desc := "(II)J" } : Jvm.MethodName)) ∈ lw_all := lw_g (lw_at lw_m13 97 rfl) rfl
theorem q3083 : (Jvm.Cond.methodLink "CellReducerLaw" (161 : Nat) ({ cls := "CellReducerModel", name := "into", desc := "(IIII)I" } : Jvm.MethodName)) ∈ lw_all := lw_g (lw_at lw_m13 101 rfl) rfl
theorem q3087 : (Jvm.Cond.methodLink "CellReducerLaw" (165 : Nat) ({ cls := "CellReducerModel", name := "from", desc := "(II)I" } : Jvm.MethodName)) ∈ lw_all := lw_g (lw_at lw_m13 105 rfl) rfl
theorem q3091 : (Jvm.Cond.methodLink "CellReducerLaw" (173 : Nat) ({ cls := "CellReducerModel", name := "image", desc := "()I" } : Jvm.MethodName)) ∈ lw_all := lw_g (lw_at lw_m13 109 rfl) rfl
theorem q3095 : (Jvm.Cond.methodLink "CellReducerLaw" (177 : Nat) ({ cls := "CellReducerModel", name := "back", desc := "()I" } : Jvm.MethodName)) ∈ lw_all := lw_g (lw_at lw_m13 113 rfl) rfl
theorem q3099 : (Jvm.Cond.methodLink "CellReducerLaw" (181 : Nat) ({ cls := "CellReducerModel", name := "count", desc := "(I)I" } : Jvm.MethodName)) ∈ lw_all := lw_g (lw_at lw_m13 117 rfl) rfl
theorem q3103 : (Jvm.Cond.constantLong "CellReducerLaw" (147 : Nat) (4294967295 : Int64)) ∈ lw_all := lw_g (lw_at lw_m13 121 rfl) rfl
theorem q1028 : (Jvm.Cond.sameMethod "[B" "java/lang/Object" "clone" "()Ljava/lang/Object;") ∈ lw_all := lw_g (lw_at lw_m4 206 rfl) rfl
set_option maxRecDepth 100000
theorem q1031 : (Jvm.Cond.selects "[B" ({ cls := "[B", name := "clone", desc := "()Ljava/lang/Object;" } : Jvm.MethodName) ({ cls := "java/lang/Object", name := "clone", desc := "()Ljava/lang/Object;" } : Jvm.MethodName)) ∈ lw_all := lw_g (lw_at lw_m4 209 rfl) rfl
theorem q1032 : (Jvm.Cond.castable "[B" "java/lang/Cloneable") ∈ lw_tbl := lw_at lw_m4 210 rfl
theorem q3159 : (Jvm.Cond.castable "[B" "java/lang/Object") ∈ lw_tbl := lw_at lw_m13 177 rfl
theorem q3157 : (Jvm.Cond.castable "[I" "java/lang/Object") ∈ lw_tbl := lw_at lw_m13 175 rfl
set_option maxRecDepth 100000
theorem q1568 : (Jvm.Cond.sameMethod "[J" "java/lang/Object" "clone" "()Ljava/lang/Object;") ∈ lw_all := lw_g (lw_at lw_m7 26 rfl) rfl
set_option maxRecDepth 100000
theorem q1569 : (Jvm.Cond.selects "[J" ({ cls := "[J", name := "clone", desc := "()Ljava/lang/Object;" } : Jvm.MethodName) ({ cls := "java/lang/Object", name := "clone", desc := "()Ljava/lang/Object;" } : Jvm.MethodName)) ∈ lw_all := lw_g (lw_at lw_m7 27 rfl) rfl
theorem q1570 : (Jvm.Cond.castable "[J" "java/lang/Cloneable") ∈ lw_tbl := lw_at lw_m7 28 rfl
theorem q3155 : (Jvm.Cond.castable "[J" "java/lang/Object") ∈ lw_tbl := lw_at lw_m13 173 rfl
theorem q3153 : (Jvm.Cond.castable "[LCellReducer$Cell;" "java/lang/Object") ∈ lw_tbl := lw_at lw_m13 171 rfl
set_option maxRecDepth 100000
theorem q3150 : (Jvm.Cond.sameMethod "[Ljava/lang/Object;" "java/lang/Object" "getClass" "()Ljava/lang/Class;") ∈ lw_all := lw_g (lw_at lw_m13 168 rfl) rfl
set_option maxRecDepth 100000
theorem q3151 : (Jvm.Cond.selects "[Ljava/lang/Object;" ({ cls := "java/lang/Object", name := "getClass", desc := "()Ljava/lang/Class;" } : Jvm.MethodName) ({ cls := "java/lang/Object", name := "getClass", desc := "()Ljava/lang/Class;" } : Jvm.MethodName)) ∈ lw_all := lw_g (lw_at lw_m13 169 rfl) rfl
theorem q3158 : (Jvm.Cond.castable "[Ljava/lang/Object;" "java/lang/Object") ∈ lw_tbl := lw_at lw_m13 176 rfl
theorem q3156 : (Jvm.Cond.castable "[Z" "java/lang/Object") ∈ lw_tbl := lw_at lw_m13 174 rfl
set_option maxRecDepth 100000
theorem q3154 : (Jvm.Cond.castable "[[J" "java/lang/Object") ∈ lw_tbl := lw_at lw_m13 172 rfl
set_option maxRecDepth 100000
theorem q1800 : (Jvm.Cond.interfaceMethod "java/lang/Comparable" "java/lang/Comparable" "compareTo" "(Ljava/lang/Object;)I") ∈ lw_tbl := lw_at lw_m8 18 rfl
set_option maxRecDepth 100000
theorem q1801 : (Jvm.Cond.declares ({ cls := "java/lang/Comparable", name := "compareTo", desc := "(Ljava/lang/Object;)I" } : Jvm.MethodName)) ∈ lw_tbl := lw_at lw_m8 19 rfl
theorem q140 : (Jvm.Cond.initialized "java/lang/Integer$IntegerCache") ∈ lw_all := lw_g (lw_at lw_m1 38 rfl) rfl
set_option maxRecDepth 100000
theorem q537 : (Jvm.Cond.laysStatic "java/lang/Integer$IntegerCache" "high" "I") ∈ lw_tbl := lw_at lw_m2 195 rfl
theorem q539 : (Jvm.Cond.laysStatic "java/lang/Integer$IntegerCache" "cache" "[Ljava/lang/Integer;") ∈ lw_tbl := lw_at lw_m2 197 rfl
theorem q149 : (Jvm.Cond.initialized "java/lang/Long$LongCache") ∈ lw_all := lw_g (lw_at lw_m1 47 rfl) rfl
set_option maxRecDepth 100000
theorem q1655 : (Jvm.Cond.laysStatic "java/lang/Long$LongCache" "cache" "[Ljava/lang/Long;") ∈ lw_tbl := lw_at lw_m7 113 rfl
theorem q112 : (Jvm.Cond.initialized "java/lang/System") ∈ lw_all := lw_g (lw_at lw_m1 10 rfl) rfl
set_option maxRecDepth 100000
theorem q396 : (Jvm.Cond.static ({ cls := "java/lang/System", name := "arraycopy", desc := "(Ljava/lang/Object;ILjava/lang/Object;II)V" } : Jvm.MethodName)) ∈ lw_all := lw_g (lw_at lw_m2 54 rfl) rfl
theorem q397 : (Jvm.Cond.native ({ cls := "java/lang/System", name := "arraycopy", desc := "(Ljava/lang/Object;ILjava/lang/Object;II)V" } : Jvm.MethodName)) ∈ lw_all := lw_g (lw_at lw_m2 55 rfl) rfl
theorem q151 : (Jvm.Cond.initialized "java/util/Arrays$LegacyMergeSort") ∈ lw_all := lw_g (lw_at lw_m1 49 rfl) rfl
set_option maxRecDepth 100000
theorem q1788 : (Jvm.Cond.laysStatic "java/util/Arrays$LegacyMergeSort" "userRequested" "Z") ∈ lw_tbl := lw_at lw_m8 6 rfl
theorem q2089 : (Jvm.Cond.interfaceMethod "java/util/Comparator" "java/util/Comparator" "compare" "(Ljava/lang/Object;Ljava/lang/Object;)I") ∈ lw_tbl := lw_at lw_m9 67 rfl
set_option maxRecDepth 100000
theorem q2090 : (Jvm.Cond.declares ({ cls := "java/util/Comparator", name := "compare", desc := "(Ljava/lang/Object;Ljava/lang/Object;)I" } : Jvm.MethodName)) ∈ lw_tbl := lw_at lw_m9 68 rfl
theorem q720 : (Jvm.Cond.interfaceMethod "java/util/Iterator" "java/util/Iterator" "hasNext" "()Z") ∈ lw_tbl := lw_at lw_m3 138 rfl
set_option maxRecDepth 100000
theorem q721 : (Jvm.Cond.declares ({ cls := "java/util/Iterator", name := "hasNext", desc := "()Z" } : Jvm.MethodName)) ∈ lw_tbl := lw_at lw_m3 139 rfl
theorem q761 : (Jvm.Cond.interfaceMethod "java/util/Iterator" "java/util/Iterator" "next" "()Ljava/lang/Object;") ∈ lw_tbl := lw_at lw_m3 179 rfl
theorem q762 : (Jvm.Cond.declares ({ cls := "java/util/Iterator", name := "next", desc := "()Ljava/lang/Object;" } : Jvm.MethodName)) ∈ lw_tbl := lw_at lw_m3 180 rfl
theorem q1244 : (Jvm.Cond.interfaceMethod "java/util/Iterator" "java/util/Iterator" "remove" "()V") ∈ lw_tbl := lw_at lw_m5 182 rfl
theorem q1245 : (Jvm.Cond.declares ({ cls := "java/util/Iterator", name := "remove", desc := "()V" } : Jvm.MethodName)) ∈ lw_tbl := lw_at lw_m5 183 rfl
theorem q2196 : (Jvm.Cond.interfaceMethod "java/util/ListIterator" "java/util/ListIterator" "next" "()Ljava/lang/Object;") ∈ lw_tbl := lw_at lw_m9 174 rfl
set_option maxRecDepth 100000
theorem q2197 : (Jvm.Cond.declares ({ cls := "java/util/ListIterator", name := "next", desc := "()Ljava/lang/Object;" } : Jvm.MethodName)) ∈ lw_tbl := lw_at lw_m9 175 rfl
theorem q2208 : (Jvm.Cond.interfaceMethod "java/util/ListIterator" "java/util/ListIterator" "set" "(Ljava/lang/Object;)V") ∈ lw_tbl := lw_at lw_m9 186 rfl
theorem q2209 : (Jvm.Cond.declares ({ cls := "java/util/ListIterator", name := "set", desc := "(Ljava/lang/Object;)V" } : Jvm.MethodName)) ∈ lw_tbl := lw_at lw_m9 187 rfl
theorem q154 : (Jvm.Cond.initialized "jdk/internal/misc/UnsafeConstants") ∈ lw_all := lw_g (lw_at lw_m1 52 rfl) rfl
set_option maxRecDepth 100000
theorem q1885 : (Jvm.Cond.laysStatic "jdk/internal/misc/UnsafeConstants" "BIG_ENDIAN" "Z") ∈ lw_tbl := lw_at lw_m8 103 rfl
theorem q170 : (Jvm.Cond.arrayOver (Jvm.ClassFile.FieldType.object "CellReducer$Cell")) ∈ lw_tbl := lw_at lw_m1 68 rfl
set_option maxRecDepth 100000
theorem q177 : (Jvm.Cond.arrayOver (Jvm.ClassFile.FieldType.array Jvm.ClassFile.FieldType.long)) ∈ lw_tbl := lw_at lw_m1 75 rfl
theorem q194 : (Jvm.Cond.arrayClass Jvm.ClassFile.FieldType.long) ∈ lw_all := lw_g (lw_at lw_m1 92 rfl) rfl
theorem q195 : (Jvm.Cond.arrayClass Jvm.ClassFile.FieldType.boolean) ∈ lw_all := lw_g (lw_at lw_m1 93 rfl) rfl
theorem q233 : (Jvm.Cond.arrayClass Jvm.ClassFile.FieldType.int) ∈ lw_all := lw_g (lw_at lw_m1 131 rfl) rfl
theorem q265 : (Jvm.Cond.arrayOver (Jvm.ClassFile.FieldType.object "java/lang/Object")) ∈ lw_tbl := lw_at lw_m1 163 rfl
theorem q359 : (Jvm.Cond.arrayClass Jvm.ClassFile.FieldType.byte) ∈ lw_all := lw_g (lw_at lw_m2 17 rfl) rfl
