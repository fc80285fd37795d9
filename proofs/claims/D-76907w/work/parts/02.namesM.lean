/-! CellReducerModel -/
set_option maxRecDepth 100000
def RX2 : String := "CellReducerModel"
def TX2 : u_T := fun k => match k with
  | 0 => ("CellReducerModel", "six", "[J", true)
  | 1 => ("CellReducerModel", "change", "[J", true)
  | 2 => ("CellReducerModel", "cells", "I", false)
  | 3 => ("CellReducerModel", "imageCells", "I", false)
  | 4 => ("CellReducerModel", "logs", "I", false)
  | 5 => ("CellReducerModel", "imageLogs", "I", false)
  | 6 => ("CellReducerModel", "waiting", "I", false)
  | 7 => ("CellReducerModel", "imageWaiting", "I", false)
  | 8 => ("CellReducerModel", "all", "I", false)
  | 9 => ("CellReducerModel", "changes", "I", false)
  | 10 => ("CellReducerModel", "first", "I", false)
  | 11 => ("CellReducerModel", "isKept", "Z", false)
  | 12 => ("CellReducerModel", "log", "[I", true)
  | 13 => ("CellReducerModel", "imageLog", "[I", true)
  | 14 => ("CellReducerModel", "wait", "[I", true)
  | 15 => ("CellReducerModel", "imageWait", "[I", true)
  | 16 => ("CellReducerModel", "changed", "[I", true)
  | 17 => ("CellReducerModel", "found", "[J", true)
  | 18 => ("CellReducerModel", "four", "[J", true)
  | 19 => ("CellReducerModel", "twice", "[J", true)
  | 20 => ("CellReducerModel", "tape", "[I", true)
  | 21 => ("CellReducerModel", "paper", "[I", true)
  | 22 => ("CellReducerModel", "begun", "[I", true)
  | 23 => ("CellReducerModel", "read", "[J", true)
  | 24 => ("CellReducerModel", "places", "[J", true)
  | 25 => ("CellReducerModel", "taped", "I", false)
  | 26 => ("CellReducerModel", "papers", "I", false)
  | 27 => ("CellReducerModel", "at", "I", false)
  | 28 => ("CellReducerModel", "isWrong", "Z", false)
  | 29 => ("CellReducerModel", "items", "[I", true)
  | 30 => ("CellReducerModel", "item", "[J", true)
  | _ => ("CellReducerModel", "many", "I", false)
def tyX2 : Nat → FieldType := fun k => match k with
  | 0 => .array .long
  | 1 => .array .long
  | 2 => .int
  | 3 => .int
  | 4 => .int
  | 5 => .int
  | 6 => .int
  | 7 => .int
  | 8 => .int
  | 9 => .int
  | 10 => .int
  | 11 => .boolean
  | 12 => .array .int
  | 13 => .array .int
  | 14 => .array .int
  | 15 => .array .int
  | 16 => .array .int
  | 17 => .array .long
  | 18 => .array .long
  | 19 => .array .long
  | 20 => .array .int
  | 21 => .array .int
  | 22 => .array .int
  | 23 => .array .long
  | 24 => .array .long
  | 25 => .int
  | 26 => .int
  | 27 => .int
  | 28 => .boolean
  | 29 => .array .int
  | 30 => .array .long
  | _ => .int
abbrev wsX20 : List Cond := u_ws RX2 TX2 32
set_option maxRecDepth 100000 in
theorem nmX2 : ∀ a, a < 32 → ∀ b, b < 32 → a ≠ b → (TX2 a).2.1 ≠ (TX2 b).2.1 := by decide +kernel
set_option maxRecDepth 100000 in
theorem tyX2_ok : ∀ k, k < 32 → parseFieldDescriptor (TX2 k).2.2.1 = some (tyX2 k) := by decide +kernel
abbrev cX2_init : ByteArray := prog_6_method_1_code
def yX2_init : MethodName := ⟨RX2, "<init>", "()V"⟩
def dkwX2_init_6 : List UInt8 := [181, 0, 61, 3, 60, 27, 7, 162, 0, 16, 42, 180, 0, 58, 27, 2, 79, 132, 1, 1, 167, 255, 241, 177]
abbrev dktX2_init_6 : List UInt8 := dkwX2_init_6 ++ []
def dkwX2_init_5 : List UInt8 := [181, 0, 52, 42, 16, 9, 188, 11, 181, 0, 55, 42, 7, 188, 10, 181, 0, 58, 42, 16, 64, 188, 11]
abbrev dktX2_init_5 : List UInt8 := dkwX2_init_5 ++ dktX2_init_6
def dkwX2_init_4 : List UInt8 := [181, 0, 43, 42, 16, 80, 188, 10, 181, 0, 46, 42, 16, 13, 188, 10, 181, 0, 49, 42, 16, 78, 188, 11]
abbrev dktX2_init_4 : List UInt8 := dkwX2_init_4 ++ dktX2_init_5
def dkwX2_init_3 : List UInt8 := [42, 16, 12, 188, 11, 181, 0, 37, 42, 16, 6, 188, 11, 181, 0, 40, 42, 17, 0, 160, 188, 10]
abbrev dktX2_init_3 : List UInt8 := dkwX2_init_3 ++ dktX2_init_4
def dkwX2_init_2 : List UInt8 := [16, 6, 188, 10, 181, 0, 28, 42, 16, 12, 188, 10, 181, 0, 31, 42, 17, 2, 34, 188, 11, 181, 0, 34]
abbrev dktX2_init_2 : List UInt8 := dkwX2_init_2 ++ dktX2_init_3
def dkwX2_init_1 : List UInt8 := [16, 30, 188, 10, 181, 0, 18, 42, 16, 30, 188, 10, 181, 0, 22, 42, 16, 6, 188, 10, 181, 0, 25, 42]
abbrev dktX2_init_1 : List UInt8 := dkwX2_init_1 ++ dktX2_init_2
def dkwX2_init_0 : List UInt8 := [42, 183, 0, 3, 42, 17, 0, 156, 188, 11, 181, 0, 11, 42, 17, 0, 234, 188, 11, 181, 0, 15, 42]
abbrev dktX2_init_0 : List UInt8 := dkwX2_init_0 ++ dktX2_init_1
theorem dksX2_init_0 : cX2_init.data.toList.drop 0 = dktX2_init_0 := by decide +kernel
theorem dksX2_init_1 : cX2_init.data.toList.drop 23 = dktX2_init_1 := dk_seg dksX2_init_0 23 rfl rfl
theorem dksX2_init_2 : cX2_init.data.toList.drop 47 = dktX2_init_2 := dk_seg dksX2_init_1 24 rfl rfl
theorem dksX2_init_3 : cX2_init.data.toList.drop 71 = dktX2_init_3 := dk_seg dksX2_init_2 24 rfl rfl
theorem dksX2_init_4 : cX2_init.data.toList.drop 93 = dktX2_init_4 := dk_seg dksX2_init_3 22 rfl rfl
theorem dksX2_init_5 : cX2_init.data.toList.drop 117 = dktX2_init_5 := dk_seg dksX2_init_4 24 rfl rfl
theorem dksX2_init_6 : cX2_init.data.toList.drop 140 = dktX2_init_6 := dk_seg dksX2_init_5 23 rfl rfl
theorem dX2_init_0 : decode cX2_init 0 = .ok (.aload_n 0, 1) := dk_42 (dk_at dksX2_init_0 0 rfl rfl)
theorem dX2_init_1 : decode cX2_init 1 = .ok (.invokespecial 3, 3) := dk_183 0 3 (dk_at dksX2_init_0 1 rfl rfl)
theorem dX2_init_4 : decode cX2_init 4 = .ok (.aload_n 0, 1) := dk_42 (dk_at dksX2_init_0 4 rfl rfl)
theorem dX2_init_5 : decode cX2_init 5 = .ok (.sipush 156, 3) := dk_17 0 156 (dk_at dksX2_init_0 5 rfl rfl)
theorem dX2_init_8 : decode cX2_init 8 = .ok (.newarray .long, 2) := dk_188_11 (dk_at dksX2_init_0 8 rfl rfl)
theorem dX2_init_10 : decode cX2_init 10 = .ok (.putfield 11, 3) := dk_181 0 11 (dk_at dksX2_init_0 10 rfl rfl)
theorem dX2_init_13 : decode cX2_init 13 = .ok (.aload_n 0, 1) := dk_42 (dk_at dksX2_init_0 13 rfl rfl)
theorem dX2_init_14 : decode cX2_init 14 = .ok (.sipush 234, 3) := dk_17 0 234 (dk_at dksX2_init_0 14 rfl rfl)
theorem dX2_init_17 : decode cX2_init 17 = .ok (.newarray .long, 2) := dk_188_11 (dk_at dksX2_init_0 17 rfl rfl)
theorem dX2_init_19 : decode cX2_init 19 = .ok (.putfield 15, 3) := dk_181 0 15 (dk_at dksX2_init_0 19 rfl rfl)
theorem dX2_init_22 : decode cX2_init 22 = .ok (.aload_n 0, 1) := dk_42 (dk_at dksX2_init_0 22 rfl rfl)
theorem dX2_init_23 : decode cX2_init 23 = .ok (.bipush 30, 2) := dk_16 30 (dk_at dksX2_init_1 0 rfl rfl)
theorem dX2_init_25 : decode cX2_init 25 = .ok (.newarray .int, 2) := dk_188_10 (dk_at dksX2_init_1 2 rfl rfl)
theorem dX2_init_27 : decode cX2_init 27 = .ok (.putfield 18, 3) := dk_181 0 18 (dk_at dksX2_init_1 4 rfl rfl)
theorem dX2_init_30 : decode cX2_init 30 = .ok (.aload_n 0, 1) := dk_42 (dk_at dksX2_init_1 7 rfl rfl)
theorem dX2_init_31 : decode cX2_init 31 = .ok (.bipush 30, 2) := dk_16 30 (dk_at dksX2_init_1 8 rfl rfl)
theorem dX2_init_33 : decode cX2_init 33 = .ok (.newarray .int, 2) := dk_188_10 (dk_at dksX2_init_1 10 rfl rfl)
theorem dX2_init_35 : decode cX2_init 35 = .ok (.putfield 22, 3) := dk_181 0 22 (dk_at dksX2_init_1 12 rfl rfl)
theorem dX2_init_38 : decode cX2_init 38 = .ok (.aload_n 0, 1) := dk_42 (dk_at dksX2_init_1 15 rfl rfl)
theorem dX2_init_39 : decode cX2_init 39 = .ok (.bipush 6, 2) := dk_16 6 (dk_at dksX2_init_1 16 rfl rfl)
theorem dX2_init_41 : decode cX2_init 41 = .ok (.newarray .int, 2) := dk_188_10 (dk_at dksX2_init_1 18 rfl rfl)
theorem dX2_init_43 : decode cX2_init 43 = .ok (.putfield 25, 3) := dk_181 0 25 (dk_at dksX2_init_1 20 rfl rfl)
theorem dX2_init_46 : decode cX2_init 46 = .ok (.aload_n 0, 1) := dk_42 (dk_at dksX2_init_1 23 rfl rfl)
theorem dX2_init_47 : decode cX2_init 47 = .ok (.bipush 6, 2) := dk_16 6 (dk_at dksX2_init_2 0 rfl rfl)
theorem dX2_init_49 : decode cX2_init 49 = .ok (.newarray .int, 2) := dk_188_10 (dk_at dksX2_init_2 2 rfl rfl)
theorem dX2_init_51 : decode cX2_init 51 = .ok (.putfield 28, 3) := dk_181 0 28 (dk_at dksX2_init_2 4 rfl rfl)
theorem dX2_init_54 : decode cX2_init 54 = .ok (.aload_n 0, 1) := dk_42 (dk_at dksX2_init_2 7 rfl rfl)
theorem dX2_init_55 : decode cX2_init 55 = .ok (.bipush 12, 2) := dk_16 12 (dk_at dksX2_init_2 8 rfl rfl)
theorem dX2_init_57 : decode cX2_init 57 = .ok (.newarray .int, 2) := dk_188_10 (dk_at dksX2_init_2 10 rfl rfl)
theorem dX2_init_59 : decode cX2_init 59 = .ok (.putfield 31, 3) := dk_181 0 31 (dk_at dksX2_init_2 12 rfl rfl)
theorem dX2_init_62 : decode cX2_init 62 = .ok (.aload_n 0, 1) := dk_42 (dk_at dksX2_init_2 15 rfl rfl)
theorem dX2_init_63 : decode cX2_init 63 = .ok (.sipush 546, 3) := dk_17 2 34 (dk_at dksX2_init_2 16 rfl rfl)
theorem dX2_init_66 : decode cX2_init 66 = .ok (.newarray .long, 2) := dk_188_11 (dk_at dksX2_init_2 19 rfl rfl)
theorem dX2_init_68 : decode cX2_init 68 = .ok (.putfield 34, 3) := dk_181 0 34 (dk_at dksX2_init_2 21 rfl rfl)
theorem dX2_init_71 : decode cX2_init 71 = .ok (.aload_n 0, 1) := dk_42 (dk_at dksX2_init_3 0 rfl rfl)
theorem dX2_init_72 : decode cX2_init 72 = .ok (.bipush 12, 2) := dk_16 12 (dk_at dksX2_init_3 1 rfl rfl)
theorem dX2_init_74 : decode cX2_init 74 = .ok (.newarray .long, 2) := dk_188_11 (dk_at dksX2_init_3 3 rfl rfl)
theorem dX2_init_76 : decode cX2_init 76 = .ok (.putfield 37, 3) := dk_181 0 37 (dk_at dksX2_init_3 5 rfl rfl)
theorem dX2_init_79 : decode cX2_init 79 = .ok (.aload_n 0, 1) := dk_42 (dk_at dksX2_init_3 8 rfl rfl)
theorem dX2_init_80 : decode cX2_init 80 = .ok (.bipush 6, 2) := dk_16 6 (dk_at dksX2_init_3 9 rfl rfl)
theorem dX2_init_82 : decode cX2_init 82 = .ok (.newarray .long, 2) := dk_188_11 (dk_at dksX2_init_3 11 rfl rfl)
theorem dX2_init_84 : decode cX2_init 84 = .ok (.putfield 40, 3) := dk_181 0 40 (dk_at dksX2_init_3 13 rfl rfl)
theorem dX2_init_87 : decode cX2_init 87 = .ok (.aload_n 0, 1) := dk_42 (dk_at dksX2_init_3 16 rfl rfl)
theorem dX2_init_88 : decode cX2_init 88 = .ok (.sipush 160, 3) := dk_17 0 160 (dk_at dksX2_init_3 17 rfl rfl)
theorem dX2_init_91 : decode cX2_init 91 = .ok (.newarray .int, 2) := dk_188_10 (dk_at dksX2_init_3 20 rfl rfl)
theorem dX2_init_93 : decode cX2_init 93 = .ok (.putfield 43, 3) := dk_181 0 43 (dk_at dksX2_init_4 0 rfl rfl)
theorem dX2_init_96 : decode cX2_init 96 = .ok (.aload_n 0, 1) := dk_42 (dk_at dksX2_init_4 3 rfl rfl)
theorem dX2_init_97 : decode cX2_init 97 = .ok (.bipush 80, 2) := dk_16 80 (dk_at dksX2_init_4 4 rfl rfl)
theorem dX2_init_99 : decode cX2_init 99 = .ok (.newarray .int, 2) := dk_188_10 (dk_at dksX2_init_4 6 rfl rfl)
theorem dX2_init_101 : decode cX2_init 101 = .ok (.putfield 46, 3) := dk_181 0 46 (dk_at dksX2_init_4 8 rfl rfl)
theorem dX2_init_104 : decode cX2_init 104 = .ok (.aload_n 0, 1) := dk_42 (dk_at dksX2_init_4 11 rfl rfl)
theorem dX2_init_105 : decode cX2_init 105 = .ok (.bipush 13, 2) := dk_16 13 (dk_at dksX2_init_4 12 rfl rfl)
theorem dX2_init_107 : decode cX2_init 107 = .ok (.newarray .int, 2) := dk_188_10 (dk_at dksX2_init_4 14 rfl rfl)
theorem dX2_init_109 : decode cX2_init 109 = .ok (.putfield 49, 3) := dk_181 0 49 (dk_at dksX2_init_4 16 rfl rfl)
theorem dX2_init_112 : decode cX2_init 112 = .ok (.aload_n 0, 1) := dk_42 (dk_at dksX2_init_4 19 rfl rfl)
theorem dX2_init_113 : decode cX2_init 113 = .ok (.bipush 78, 2) := dk_16 78 (dk_at dksX2_init_4 20 rfl rfl)
theorem dX2_init_115 : decode cX2_init 115 = .ok (.newarray .long, 2) := dk_188_11 (dk_at dksX2_init_4 22 rfl rfl)
theorem dX2_init_117 : decode cX2_init 117 = .ok (.putfield 52, 3) := dk_181 0 52 (dk_at dksX2_init_5 0 rfl rfl)
theorem dX2_init_120 : decode cX2_init 120 = .ok (.aload_n 0, 1) := dk_42 (dk_at dksX2_init_5 3 rfl rfl)
theorem dX2_init_121 : decode cX2_init 121 = .ok (.bipush 9, 2) := dk_16 9 (dk_at dksX2_init_5 4 rfl rfl)
theorem dX2_init_123 : decode cX2_init 123 = .ok (.newarray .long, 2) := dk_188_11 (dk_at dksX2_init_5 6 rfl rfl)
theorem dX2_init_125 : decode cX2_init 125 = .ok (.putfield 55, 3) := dk_181 0 55 (dk_at dksX2_init_5 8 rfl rfl)
theorem dX2_init_128 : decode cX2_init 128 = .ok (.aload_n 0, 1) := dk_42 (dk_at dksX2_init_5 11 rfl rfl)
theorem dX2_init_129 : decode cX2_init 129 = .ok (.iconst 4, 1) := dk_7 (dk_at dksX2_init_5 12 rfl rfl)
theorem dX2_init_130 : decode cX2_init 130 = .ok (.newarray .int, 2) := dk_188_10 (dk_at dksX2_init_5 13 rfl rfl)
theorem dX2_init_132 : decode cX2_init 132 = .ok (.putfield 58, 3) := dk_181 0 58 (dk_at dksX2_init_5 15 rfl rfl)
theorem dX2_init_135 : decode cX2_init 135 = .ok (.aload_n 0, 1) := dk_42 (dk_at dksX2_init_5 18 rfl rfl)
theorem dX2_init_136 : decode cX2_init 136 = .ok (.bipush 64, 2) := dk_16 64 (dk_at dksX2_init_5 19 rfl rfl)
theorem dX2_init_138 : decode cX2_init 138 = .ok (.newarray .long, 2) := dk_188_11 (dk_at dksX2_init_5 21 rfl rfl)
theorem dX2_init_140 : decode cX2_init 140 = .ok (.putfield 61, 3) := dk_181 0 61 (dk_at dksX2_init_6 0 rfl rfl)
theorem dX2_init_143 : decode cX2_init 143 = .ok (.iconst 0, 1) := dk_3 (dk_at dksX2_init_6 3 rfl rfl)
theorem dX2_init_144 : decode cX2_init 144 = .ok (.istore_n 1, 1) := dk_60 (dk_at dksX2_init_6 4 rfl rfl)
theorem dX2_init_145 : decode cX2_init 145 = .ok (.iload_n 1, 1) := dk_27 (dk_at dksX2_init_6 5 rfl rfl)
theorem dX2_init_146 : decode cX2_init 146 = .ok (.iconst 4, 1) := dk_7 (dk_at dksX2_init_6 6 rfl rfl)
theorem dX2_init_147 : decode cX2_init 147 = .ok (.if_icmp .ge 16, 3) := dk_162 0 16 (dk_at dksX2_init_6 7 rfl rfl)
theorem dX2_init_150 : decode cX2_init 150 = .ok (.aload_n 0, 1) := dk_42 (dk_at dksX2_init_6 10 rfl rfl)
theorem dX2_init_151 : decode cX2_init 151 = .ok (.getfield 58, 3) := dk_180 0 58 (dk_at dksX2_init_6 11 rfl rfl)
theorem dX2_init_154 : decode cX2_init 154 = .ok (.iload_n 1, 1) := dk_27 (dk_at dksX2_init_6 14 rfl rfl)
theorem dX2_init_155 : decode cX2_init 155 = .ok (.iconst (-1), 1) := dk_2 (dk_at dksX2_init_6 15 rfl rfl)
theorem dX2_init_156 : decode cX2_init 156 = .ok (.iastore, 1) := dk_79 (dk_at dksX2_init_6 16 rfl rfl)
theorem dX2_init_157 : decode cX2_init 157 = .ok (.iinc 1 1, 3) := dk_132 1 1 (dk_at dksX2_init_6 17 rfl rfl)
theorem dX2_init_160 : decode cX2_init 160 = .ok (.goto (-15), 3) := dk_167 255 241 (dk_at dksX2_init_6 20 rfl rfl)
theorem dX2_init_163 : decode cX2_init 163 = .ok (.return_, 1) := dk_177 (dk_at dksX2_init_6 23 rfl rfl)
abbrev cX2_undo : ByteArray := prog_6_method_29_code
def yX2_undo : MethodName := ⟨RX2, "undo", "()I"⟩
def dkwX2_undo_2 : List UInt8 := [180, 0, 31, 27, 46, 172]
abbrev dktX2_undo_2 : List UInt8 := dkwX2_undo_2 ++ []
def dkwX2_undo_1 : List UInt8 := [42, 180, 0, 154, 96, 16, 12, 112, 60, 42, 16, 14, 27, 96, 42, 180, 0, 31, 27, 46, 182, 0, 145, 42]
abbrev dktX2_undo_1 : List UInt8 := dkwX2_undo_1 ++ dktX2_undo_2
def dkwX2_undo_0 : List UInt8 := [42, 180, 0, 154, 154, 0, 6, 16, 251, 172, 42, 89, 180, 0, 154, 4, 100, 181, 0, 154, 42, 180, 0, 157]
abbrev dktX2_undo_0 : List UInt8 := dkwX2_undo_0 ++ dktX2_undo_1
theorem dksX2_undo_0 : cX2_undo.data.toList.drop 0 = dktX2_undo_0 := by decide +kernel
theorem dksX2_undo_1 : cX2_undo.data.toList.drop 24 = dktX2_undo_1 := dk_seg dksX2_undo_0 24 rfl rfl
theorem dksX2_undo_2 : cX2_undo.data.toList.drop 48 = dktX2_undo_2 := dk_seg dksX2_undo_1 24 rfl rfl
theorem dX2_undo_0 : decode cX2_undo 0 = .ok (.aload_n 0, 1) := dk_42 (dk_at dksX2_undo_0 0 rfl rfl)
theorem dX2_undo_1 : decode cX2_undo 1 = .ok (.getfield 154, 3) := dk_180 0 154 (dk_at dksX2_undo_0 1 rfl rfl)
theorem dX2_undo_4 : decode cX2_undo 4 = .ok (.ifCond .ne 6, 3) := dk_154 0 6 (dk_at dksX2_undo_0 4 rfl rfl)
theorem dX2_undo_7 : decode cX2_undo 7 = .ok (.bipush (-5), 2) := dk_16 251 (dk_at dksX2_undo_0 7 rfl rfl)
theorem dX2_undo_9 : decode cX2_undo 9 = .ok (.ireturn, 1) := dk_172 (dk_at dksX2_undo_0 9 rfl rfl)
theorem dX2_undo_10 : decode cX2_undo 10 = .ok (.aload_n 0, 1) := dk_42 (dk_at dksX2_undo_0 10 rfl rfl)
theorem dX2_undo_11 : decode cX2_undo 11 = .ok (.dup, 1) := dk_89 (dk_at dksX2_undo_0 11 rfl rfl)
theorem dX2_undo_12 : decode cX2_undo 12 = .ok (.getfield 154, 3) := dk_180 0 154 (dk_at dksX2_undo_0 12 rfl rfl)
theorem dX2_undo_15 : decode cX2_undo 15 = .ok (.iconst 1, 1) := dk_4 (dk_at dksX2_undo_0 15 rfl rfl)
theorem dX2_undo_16 : decode cX2_undo 16 = .ok (.isub, 1) := dk_100 (dk_at dksX2_undo_0 16 rfl rfl)
theorem dX2_undo_17 : decode cX2_undo 17 = .ok (.putfield 154, 3) := dk_181 0 154 (dk_at dksX2_undo_0 17 rfl rfl)
theorem dX2_undo_20 : decode cX2_undo 20 = .ok (.aload_n 0, 1) := dk_42 (dk_at dksX2_undo_0 20 rfl rfl)
theorem dX2_undo_21 : decode cX2_undo 21 = .ok (.getfield 157, 3) := dk_180 0 157 (dk_at dksX2_undo_0 21 rfl rfl)
theorem dX2_undo_24 : decode cX2_undo 24 = .ok (.aload_n 0, 1) := dk_42 (dk_at dksX2_undo_1 0 rfl rfl)
theorem dX2_undo_25 : decode cX2_undo 25 = .ok (.getfield 154, 3) := dk_180 0 154 (dk_at dksX2_undo_1 1 rfl rfl)
theorem dX2_undo_28 : decode cX2_undo 28 = .ok (.iadd, 1) := dk_96 (dk_at dksX2_undo_1 4 rfl rfl)
theorem dX2_undo_29 : decode cX2_undo 29 = .ok (.bipush 12, 2) := dk_16 12 (dk_at dksX2_undo_1 5 rfl rfl)
theorem dX2_undo_31 : decode cX2_undo 31 = .ok (.irem, 1) := dk_112 (dk_at dksX2_undo_1 7 rfl rfl)
theorem dX2_undo_32 : decode cX2_undo 32 = .ok (.istore_n 1, 1) := dk_60 (dk_at dksX2_undo_1 8 rfl rfl)
theorem dX2_undo_33 : decode cX2_undo 33 = .ok (.aload_n 0, 1) := dk_42 (dk_at dksX2_undo_1 9 rfl rfl)
theorem dX2_undo_34 : decode cX2_undo 34 = .ok (.bipush 14, 2) := dk_16 14 (dk_at dksX2_undo_1 10 rfl rfl)
theorem dX2_undo_36 : decode cX2_undo 36 = .ok (.iload_n 1, 1) := dk_27 (dk_at dksX2_undo_1 12 rfl rfl)
theorem dX2_undo_37 : decode cX2_undo 37 = .ok (.iadd, 1) := dk_96 (dk_at dksX2_undo_1 13 rfl rfl)
theorem dX2_undo_38 : decode cX2_undo 38 = .ok (.aload_n 0, 1) := dk_42 (dk_at dksX2_undo_1 14 rfl rfl)
theorem dX2_undo_39 : decode cX2_undo 39 = .ok (.getfield 31, 3) := dk_180 0 31 (dk_at dksX2_undo_1 15 rfl rfl)
theorem dX2_undo_42 : decode cX2_undo 42 = .ok (.iload_n 1, 1) := dk_27 (dk_at dksX2_undo_1 18 rfl rfl)
theorem dX2_undo_43 : decode cX2_undo 43 = .ok (.iaload, 1) := dk_46 (dk_at dksX2_undo_1 19 rfl rfl)
theorem dX2_undo_44 : decode cX2_undo 44 = .ok (.invokevirtual 145, 3) := dk_182 0 145 (dk_at dksX2_undo_1 20 rfl rfl)
theorem dX2_undo_47 : decode cX2_undo 47 = .ok (.aload_n 0, 1) := dk_42 (dk_at dksX2_undo_1 23 rfl rfl)
theorem dX2_undo_48 : decode cX2_undo 48 = .ok (.getfield 31, 3) := dk_180 0 31 (dk_at dksX2_undo_2 0 rfl rfl)
theorem dX2_undo_51 : decode cX2_undo 51 = .ok (.iload_n 1, 1) := dk_27 (dk_at dksX2_undo_2 3 rfl rfl)
theorem dX2_undo_52 : decode cX2_undo 52 = .ok (.iaload, 1) := dk_46 (dk_at dksX2_undo_2 4 rfl rfl)
theorem dX2_undo_53 : decode cX2_undo 53 = .ok (.ireturn, 1) := dk_172 (dk_at dksX2_undo_2 5 rfl rfl)
abbrev cX2_moves : ByteArray := prog_6_method_10_code
def yX2_moves : MethodName := ⟨RX2, "moves", "(II)V"⟩
def dkwX2_moves_3 : List UInt8 := [177]
abbrev dktX2_moves_3 : List UInt8 := dkwX2_moves_3 ++ []
def dkwX2_moves_2 : List UInt8 := [16, 9, 28, 104, 29, 96, 42, 180, 0, 15, 16, 9, 27, 104, 29, 96, 47, 80, 132, 3, 1, 167, 255, 225]
abbrev dktX2_moves_2 : List UInt8 := dkwX2_moves_2 ++ dktX2_moves_3
def dkwX2_moves_1 : List UInt8 := [27, 104, 29, 96, 47, 80, 132, 3, 1, 167, 255, 225, 3, 62, 29, 16, 9, 162, 0, 31, 42, 180, 0, 15]
abbrev dktX2_moves_1 : List UInt8 := dkwX2_moves_1 ++ dktX2_moves_2
def dkwX2_moves_0 : List UInt8 := [3, 62, 29, 16, 6, 162, 0, 31, 42, 180, 0, 11, 16, 6, 28, 104, 29, 96, 42, 180, 0, 11, 16, 6]
abbrev dktX2_moves_0 : List UInt8 := dkwX2_moves_0 ++ dktX2_moves_1
theorem dksX2_moves_0 : cX2_moves.data.toList.drop 0 = dktX2_moves_0 := by decide +kernel
theorem dksX2_moves_1 : cX2_moves.data.toList.drop 24 = dktX2_moves_1 := dk_seg dksX2_moves_0 24 rfl rfl
theorem dksX2_moves_2 : cX2_moves.data.toList.drop 48 = dktX2_moves_2 := dk_seg dksX2_moves_1 24 rfl rfl
theorem dksX2_moves_3 : cX2_moves.data.toList.drop 72 = dktX2_moves_3 := dk_seg dksX2_moves_2 24 rfl rfl
theorem dX2_moves_0 : decode cX2_moves 0 = .ok (.iconst 0, 1) := dk_3 (dk_at dksX2_moves_0 0 rfl rfl)
theorem dX2_moves_1 : decode cX2_moves 1 = .ok (.istore_n 3, 1) := dk_62 (dk_at dksX2_moves_0 1 rfl rfl)
theorem dX2_moves_2 : decode cX2_moves 2 = .ok (.iload_n 3, 1) := dk_29 (dk_at dksX2_moves_0 2 rfl rfl)
theorem dX2_moves_3 : decode cX2_moves 3 = .ok (.bipush 6, 2) := dk_16 6 (dk_at dksX2_moves_0 3 rfl rfl)
theorem dX2_moves_5 : decode cX2_moves 5 = .ok (.if_icmp .ge 31, 3) := dk_162 0 31 (dk_at dksX2_moves_0 5 rfl rfl)
theorem dX2_moves_8 : decode cX2_moves 8 = .ok (.aload_n 0, 1) := dk_42 (dk_at dksX2_moves_0 8 rfl rfl)
theorem dX2_moves_9 : decode cX2_moves 9 = .ok (.getfield 11, 3) := dk_180 0 11 (dk_at dksX2_moves_0 9 rfl rfl)
theorem dX2_moves_12 : decode cX2_moves 12 = .ok (.bipush 6, 2) := dk_16 6 (dk_at dksX2_moves_0 12 rfl rfl)
theorem dX2_moves_14 : decode cX2_moves 14 = .ok (.iload_n 2, 1) := dk_28 (dk_at dksX2_moves_0 14 rfl rfl)
theorem dX2_moves_15 : decode cX2_moves 15 = .ok (.imul, 1) := dk_104 (dk_at dksX2_moves_0 15 rfl rfl)
theorem dX2_moves_16 : decode cX2_moves 16 = .ok (.iload_n 3, 1) := dk_29 (dk_at dksX2_moves_0 16 rfl rfl)
theorem dX2_moves_17 : decode cX2_moves 17 = .ok (.iadd, 1) := dk_96 (dk_at dksX2_moves_0 17 rfl rfl)
theorem dX2_moves_18 : decode cX2_moves 18 = .ok (.aload_n 0, 1) := dk_42 (dk_at dksX2_moves_0 18 rfl rfl)
theorem dX2_moves_19 : decode cX2_moves 19 = .ok (.getfield 11, 3) := dk_180 0 11 (dk_at dksX2_moves_0 19 rfl rfl)
theorem dX2_moves_22 : decode cX2_moves 22 = .ok (.bipush 6, 2) := dk_16 6 (dk_at dksX2_moves_0 22 rfl rfl)
theorem dX2_moves_24 : decode cX2_moves 24 = .ok (.iload_n 1, 1) := dk_27 (dk_at dksX2_moves_1 0 rfl rfl)
theorem dX2_moves_25 : decode cX2_moves 25 = .ok (.imul, 1) := dk_104 (dk_at dksX2_moves_1 1 rfl rfl)
theorem dX2_moves_26 : decode cX2_moves 26 = .ok (.iload_n 3, 1) := dk_29 (dk_at dksX2_moves_1 2 rfl rfl)
theorem dX2_moves_27 : decode cX2_moves 27 = .ok (.iadd, 1) := dk_96 (dk_at dksX2_moves_1 3 rfl rfl)
theorem dX2_moves_28 : decode cX2_moves 28 = .ok (.laload, 1) := dk_47 (dk_at dksX2_moves_1 4 rfl rfl)
theorem dX2_moves_29 : decode cX2_moves 29 = .ok (.lastore, 1) := dk_80 (dk_at dksX2_moves_1 5 rfl rfl)
theorem dX2_moves_30 : decode cX2_moves 30 = .ok (.iinc 3 1, 3) := dk_132 3 1 (dk_at dksX2_moves_1 6 rfl rfl)
theorem dX2_moves_33 : decode cX2_moves 33 = .ok (.goto (-31), 3) := dk_167 255 225 (dk_at dksX2_moves_1 9 rfl rfl)
theorem dX2_moves_36 : decode cX2_moves 36 = .ok (.iconst 0, 1) := dk_3 (dk_at dksX2_moves_1 12 rfl rfl)
theorem dX2_moves_37 : decode cX2_moves 37 = .ok (.istore_n 3, 1) := dk_62 (dk_at dksX2_moves_1 13 rfl rfl)
theorem dX2_moves_38 : decode cX2_moves 38 = .ok (.iload_n 3, 1) := dk_29 (dk_at dksX2_moves_1 14 rfl rfl)
theorem dX2_moves_39 : decode cX2_moves 39 = .ok (.bipush 9, 2) := dk_16 9 (dk_at dksX2_moves_1 15 rfl rfl)
theorem dX2_moves_41 : decode cX2_moves 41 = .ok (.if_icmp .ge 31, 3) := dk_162 0 31 (dk_at dksX2_moves_1 17 rfl rfl)
theorem dX2_moves_44 : decode cX2_moves 44 = .ok (.aload_n 0, 1) := dk_42 (dk_at dksX2_moves_1 20 rfl rfl)
theorem dX2_moves_45 : decode cX2_moves 45 = .ok (.getfield 15, 3) := dk_180 0 15 (dk_at dksX2_moves_1 21 rfl rfl)
theorem dX2_moves_48 : decode cX2_moves 48 = .ok (.bipush 9, 2) := dk_16 9 (dk_at dksX2_moves_2 0 rfl rfl)
theorem dX2_moves_50 : decode cX2_moves 50 = .ok (.iload_n 2, 1) := dk_28 (dk_at dksX2_moves_2 2 rfl rfl)
theorem dX2_moves_51 : decode cX2_moves 51 = .ok (.imul, 1) := dk_104 (dk_at dksX2_moves_2 3 rfl rfl)
theorem dX2_moves_52 : decode cX2_moves 52 = .ok (.iload_n 3, 1) := dk_29 (dk_at dksX2_moves_2 4 rfl rfl)
theorem dX2_moves_53 : decode cX2_moves 53 = .ok (.iadd, 1) := dk_96 (dk_at dksX2_moves_2 5 rfl rfl)
theorem dX2_moves_54 : decode cX2_moves 54 = .ok (.aload_n 0, 1) := dk_42 (dk_at dksX2_moves_2 6 rfl rfl)
theorem dX2_moves_55 : decode cX2_moves 55 = .ok (.getfield 15, 3) := dk_180 0 15 (dk_at dksX2_moves_2 7 rfl rfl)
theorem dX2_moves_58 : decode cX2_moves 58 = .ok (.bipush 9, 2) := dk_16 9 (dk_at dksX2_moves_2 10 rfl rfl)
theorem dX2_moves_60 : decode cX2_moves 60 = .ok (.iload_n 1, 1) := dk_27 (dk_at dksX2_moves_2 12 rfl rfl)
theorem dX2_moves_61 : decode cX2_moves 61 = .ok (.imul, 1) := dk_104 (dk_at dksX2_moves_2 13 rfl rfl)
theorem dX2_moves_62 : decode cX2_moves 62 = .ok (.iload_n 3, 1) := dk_29 (dk_at dksX2_moves_2 14 rfl rfl)
theorem dX2_moves_63 : decode cX2_moves 63 = .ok (.iadd, 1) := dk_96 (dk_at dksX2_moves_2 15 rfl rfl)
theorem dX2_moves_64 : decode cX2_moves 64 = .ok (.laload, 1) := dk_47 (dk_at dksX2_moves_2 16 rfl rfl)
theorem dX2_moves_65 : decode cX2_moves 65 = .ok (.lastore, 1) := dk_80 (dk_at dksX2_moves_2 17 rfl rfl)
theorem dX2_moves_66 : decode cX2_moves 66 = .ok (.iinc 3 1, 3) := dk_132 3 1 (dk_at dksX2_moves_2 18 rfl rfl)
theorem dX2_moves_69 : decode cX2_moves 69 = .ok (.goto (-31), 3) := dk_167 255 225 (dk_at dksX2_moves_2 21 rfl rfl)
theorem dX2_moves_72 : decode cX2_moves 72 = .ok (.return_, 1) := dk_177 (dk_at dksX2_moves_3 0 rfl rfl)
abbrev cX2_cell : ByteArray := prog_6_method_32_code
def yX2_cell : MethodName := ⟨RX2, "cell", "(IIIIII)I"⟩
def dkwX2_cell_1 : List UInt8 := [182, 0, 174, 172]
abbrev dktX2_cell_1 : List UInt8 := dkwX2_cell_1 ++ []
def dkwX2_cell_0 : List UInt8 := [42, 16, 6, 27, 133, 28, 133, 29, 133, 21, 4, 133, 21, 5, 133, 21, 6, 133, 182, 0, 170, 42]
abbrev dktX2_cell_0 : List UInt8 := dkwX2_cell_0 ++ dktX2_cell_1
theorem dksX2_cell_0 : cX2_cell.data.toList.drop 0 = dktX2_cell_0 := by decide +kernel
theorem dksX2_cell_1 : cX2_cell.data.toList.drop 22 = dktX2_cell_1 := dk_seg dksX2_cell_0 22 rfl rfl
theorem dX2_cell_0 : decode cX2_cell 0 = .ok (.aload_n 0, 1) := dk_42 (dk_at dksX2_cell_0 0 rfl rfl)
theorem dX2_cell_1 : decode cX2_cell 1 = .ok (.bipush 6, 2) := dk_16 6 (dk_at dksX2_cell_0 1 rfl rfl)
theorem dX2_cell_3 : decode cX2_cell 3 = .ok (.iload_n 1, 1) := dk_27 (dk_at dksX2_cell_0 3 rfl rfl)
theorem dX2_cell_4 : decode cX2_cell 4 = .ok (.i2l, 1) := dk_133 (dk_at dksX2_cell_0 4 rfl rfl)
theorem dX2_cell_5 : decode cX2_cell 5 = .ok (.iload_n 2, 1) := dk_28 (dk_at dksX2_cell_0 5 rfl rfl)
theorem dX2_cell_6 : decode cX2_cell 6 = .ok (.i2l, 1) := dk_133 (dk_at dksX2_cell_0 6 rfl rfl)
theorem dX2_cell_7 : decode cX2_cell 7 = .ok (.iload_n 3, 1) := dk_29 (dk_at dksX2_cell_0 7 rfl rfl)
theorem dX2_cell_8 : decode cX2_cell 8 = .ok (.i2l, 1) := dk_133 (dk_at dksX2_cell_0 8 rfl rfl)
theorem dX2_cell_9 : decode cX2_cell 9 = .ok (.iload 4, 2) := dk_21 4 (dk_at dksX2_cell_0 9 rfl rfl)
theorem dX2_cell_11 : decode cX2_cell 11 = .ok (.i2l, 1) := dk_133 (dk_at dksX2_cell_0 11 rfl rfl)
theorem dX2_cell_12 : decode cX2_cell 12 = .ok (.iload 5, 2) := dk_21 5 (dk_at dksX2_cell_0 12 rfl rfl)
theorem dX2_cell_14 : decode cX2_cell 14 = .ok (.i2l, 1) := dk_133 (dk_at dksX2_cell_0 14 rfl rfl)
theorem dX2_cell_15 : decode cX2_cell 15 = .ok (.iload 6, 2) := dk_21 6 (dk_at dksX2_cell_0 15 rfl rfl)
theorem dX2_cell_17 : decode cX2_cell 17 = .ok (.i2l, 1) := dk_133 (dk_at dksX2_cell_0 17 rfl rfl)
theorem dX2_cell_18 : decode cX2_cell 18 = .ok (.invokevirtual 170, 3) := dk_182 0 170 (dk_at dksX2_cell_0 18 rfl rfl)
theorem dX2_cell_21 : decode cX2_cell 21 = .ok (.aload_n 0, 1) := dk_42 (dk_at dksX2_cell_0 21 rfl rfl)
theorem dX2_cell_22 : decode cX2_cell 22 = .ok (.invokevirtual 174, 3) := dk_182 0 174 (dk_at dksX2_cell_1 0 rfl rfl)
theorem dX2_cell_25 : decode cX2_cell 25 = .ok (.ireturn, 1) := dk_172 (dk_at dksX2_cell_1 3 rfl rfl)
abbrev cX2_put : ByteArray := prog_6_method_8_code
def yX2_put : MethodName := ⟨RX2, "put", "(IJJJJJJ)V"⟩
def dkwX2_put_3 : List UInt8 := [22, 12, 80, 177]
abbrev dktX2_put_3 : List UInt8 := dkwX2_put_3 ++ []
def dkwX2_put_2 : List UInt8 := [80, 42, 180, 0, 11, 16, 6, 27, 104, 7, 96, 22, 10, 80, 42, 180, 0, 11, 16, 6, 27, 104, 8, 96]
abbrev dktX2_put_2 : List UInt8 := dkwX2_put_2 ++ dktX2_put_3
def dkwX2_put_1 : List UInt8 := [180, 0, 11, 16, 6, 27, 104, 5, 96, 22, 6, 80, 42, 180, 0, 11, 16, 6, 27, 104, 6, 96, 22, 8]
abbrev dktX2_put_1 : List UInt8 := dkwX2_put_1 ++ dktX2_put_2
def dkwX2_put_0 : List UInt8 := [42, 180, 0, 11, 16, 6, 27, 104, 32, 80, 42, 180, 0, 11, 16, 6, 27, 104, 4, 96, 22, 4, 80, 42]
abbrev dktX2_put_0 : List UInt8 := dkwX2_put_0 ++ dktX2_put_1
theorem dksX2_put_0 : cX2_put.data.toList.drop 0 = dktX2_put_0 := by decide +kernel
theorem dksX2_put_1 : cX2_put.data.toList.drop 24 = dktX2_put_1 := dk_seg dksX2_put_0 24 rfl rfl
theorem dksX2_put_2 : cX2_put.data.toList.drop 48 = dktX2_put_2 := dk_seg dksX2_put_1 24 rfl rfl
theorem dksX2_put_3 : cX2_put.data.toList.drop 72 = dktX2_put_3 := dk_seg dksX2_put_2 24 rfl rfl
theorem dX2_put_0 : decode cX2_put 0 = .ok (.aload_n 0, 1) := dk_42 (dk_at dksX2_put_0 0 rfl rfl)
theorem dX2_put_1 : decode cX2_put 1 = .ok (.getfield 11, 3) := dk_180 0 11 (dk_at dksX2_put_0 1 rfl rfl)
theorem dX2_put_4 : decode cX2_put 4 = .ok (.bipush 6, 2) := dk_16 6 (dk_at dksX2_put_0 4 rfl rfl)
theorem dX2_put_6 : decode cX2_put 6 = .ok (.iload_n 1, 1) := dk_27 (dk_at dksX2_put_0 6 rfl rfl)
theorem dX2_put_7 : decode cX2_put 7 = .ok (.imul, 1) := dk_104 (dk_at dksX2_put_0 7 rfl rfl)
theorem dX2_put_8 : decode cX2_put 8 = .ok (.lload_n 2, 1) := dk_32 (dk_at dksX2_put_0 8 rfl rfl)
theorem dX2_put_9 : decode cX2_put 9 = .ok (.lastore, 1) := dk_80 (dk_at dksX2_put_0 9 rfl rfl)
theorem dX2_put_10 : decode cX2_put 10 = .ok (.aload_n 0, 1) := dk_42 (dk_at dksX2_put_0 10 rfl rfl)
theorem dX2_put_11 : decode cX2_put 11 = .ok (.getfield 11, 3) := dk_180 0 11 (dk_at dksX2_put_0 11 rfl rfl)
theorem dX2_put_14 : decode cX2_put 14 = .ok (.bipush 6, 2) := dk_16 6 (dk_at dksX2_put_0 14 rfl rfl)
theorem dX2_put_16 : decode cX2_put 16 = .ok (.iload_n 1, 1) := dk_27 (dk_at dksX2_put_0 16 rfl rfl)
theorem dX2_put_17 : decode cX2_put 17 = .ok (.imul, 1) := dk_104 (dk_at dksX2_put_0 17 rfl rfl)
theorem dX2_put_18 : decode cX2_put 18 = .ok (.iconst 1, 1) := dk_4 (dk_at dksX2_put_0 18 rfl rfl)
theorem dX2_put_19 : decode cX2_put 19 = .ok (.iadd, 1) := dk_96 (dk_at dksX2_put_0 19 rfl rfl)
theorem dX2_put_20 : decode cX2_put 20 = .ok (.lload 4, 2) := dk_22 4 (dk_at dksX2_put_0 20 rfl rfl)
theorem dX2_put_22 : decode cX2_put 22 = .ok (.lastore, 1) := dk_80 (dk_at dksX2_put_0 22 rfl rfl)
theorem dX2_put_23 : decode cX2_put 23 = .ok (.aload_n 0, 1) := dk_42 (dk_at dksX2_put_0 23 rfl rfl)
theorem dX2_put_24 : decode cX2_put 24 = .ok (.getfield 11, 3) := dk_180 0 11 (dk_at dksX2_put_1 0 rfl rfl)
theorem dX2_put_27 : decode cX2_put 27 = .ok (.bipush 6, 2) := dk_16 6 (dk_at dksX2_put_1 3 rfl rfl)
theorem dX2_put_29 : decode cX2_put 29 = .ok (.iload_n 1, 1) := dk_27 (dk_at dksX2_put_1 5 rfl rfl)
theorem dX2_put_30 : decode cX2_put 30 = .ok (.imul, 1) := dk_104 (dk_at dksX2_put_1 6 rfl rfl)
theorem dX2_put_31 : decode cX2_put 31 = .ok (.iconst 2, 1) := dk_5 (dk_at dksX2_put_1 7 rfl rfl)
theorem dX2_put_32 : decode cX2_put 32 = .ok (.iadd, 1) := dk_96 (dk_at dksX2_put_1 8 rfl rfl)
theorem dX2_put_33 : decode cX2_put 33 = .ok (.lload 6, 2) := dk_22 6 (dk_at dksX2_put_1 9 rfl rfl)
theorem dX2_put_35 : decode cX2_put 35 = .ok (.lastore, 1) := dk_80 (dk_at dksX2_put_1 11 rfl rfl)
theorem dX2_put_36 : decode cX2_put 36 = .ok (.aload_n 0, 1) := dk_42 (dk_at dksX2_put_1 12 rfl rfl)
theorem dX2_put_37 : decode cX2_put 37 = .ok (.getfield 11, 3) := dk_180 0 11 (dk_at dksX2_put_1 13 rfl rfl)
theorem dX2_put_40 : decode cX2_put 40 = .ok (.bipush 6, 2) := dk_16 6 (dk_at dksX2_put_1 16 rfl rfl)
theorem dX2_put_42 : decode cX2_put 42 = .ok (.iload_n 1, 1) := dk_27 (dk_at dksX2_put_1 18 rfl rfl)
theorem dX2_put_43 : decode cX2_put 43 = .ok (.imul, 1) := dk_104 (dk_at dksX2_put_1 19 rfl rfl)
theorem dX2_put_44 : decode cX2_put 44 = .ok (.iconst 3, 1) := dk_6 (dk_at dksX2_put_1 20 rfl rfl)
theorem dX2_put_45 : decode cX2_put 45 = .ok (.iadd, 1) := dk_96 (dk_at dksX2_put_1 21 rfl rfl)
theorem dX2_put_46 : decode cX2_put 46 = .ok (.lload 8, 2) := dk_22 8 (dk_at dksX2_put_1 22 rfl rfl)
theorem dX2_put_48 : decode cX2_put 48 = .ok (.lastore, 1) := dk_80 (dk_at dksX2_put_2 0 rfl rfl)
theorem dX2_put_49 : decode cX2_put 49 = .ok (.aload_n 0, 1) := dk_42 (dk_at dksX2_put_2 1 rfl rfl)
theorem dX2_put_50 : decode cX2_put 50 = .ok (.getfield 11, 3) := dk_180 0 11 (dk_at dksX2_put_2 2 rfl rfl)
theorem dX2_put_53 : decode cX2_put 53 = .ok (.bipush 6, 2) := dk_16 6 (dk_at dksX2_put_2 5 rfl rfl)
theorem dX2_put_55 : decode cX2_put 55 = .ok (.iload_n 1, 1) := dk_27 (dk_at dksX2_put_2 7 rfl rfl)
theorem dX2_put_56 : decode cX2_put 56 = .ok (.imul, 1) := dk_104 (dk_at dksX2_put_2 8 rfl rfl)
theorem dX2_put_57 : decode cX2_put 57 = .ok (.iconst 4, 1) := dk_7 (dk_at dksX2_put_2 9 rfl rfl)
theorem dX2_put_58 : decode cX2_put 58 = .ok (.iadd, 1) := dk_96 (dk_at dksX2_put_2 10 rfl rfl)
theorem dX2_put_59 : decode cX2_put 59 = .ok (.lload 10, 2) := dk_22 10 (dk_at dksX2_put_2 11 rfl rfl)
theorem dX2_put_61 : decode cX2_put 61 = .ok (.lastore, 1) := dk_80 (dk_at dksX2_put_2 13 rfl rfl)
theorem dX2_put_62 : decode cX2_put 62 = .ok (.aload_n 0, 1) := dk_42 (dk_at dksX2_put_2 14 rfl rfl)
theorem dX2_put_63 : decode cX2_put 63 = .ok (.getfield 11, 3) := dk_180 0 11 (dk_at dksX2_put_2 15 rfl rfl)
theorem dX2_put_66 : decode cX2_put 66 = .ok (.bipush 6, 2) := dk_16 6 (dk_at dksX2_put_2 18 rfl rfl)
theorem dX2_put_68 : decode cX2_put 68 = .ok (.iload_n 1, 1) := dk_27 (dk_at dksX2_put_2 20 rfl rfl)
theorem dX2_put_69 : decode cX2_put 69 = .ok (.imul, 1) := dk_104 (dk_at dksX2_put_2 21 rfl rfl)
theorem dX2_put_70 : decode cX2_put 70 = .ok (.iconst 5, 1) := dk_8 (dk_at dksX2_put_2 22 rfl rfl)
theorem dX2_put_71 : decode cX2_put 71 = .ok (.iadd, 1) := dk_96 (dk_at dksX2_put_2 23 rfl rfl)
theorem dX2_put_72 : decode cX2_put 72 = .ok (.lload 12, 2) := dk_22 12 (dk_at dksX2_put_3 0 rfl rfl)
theorem dX2_put_74 : decode cX2_put 74 = .ok (.lastore, 1) := dk_80 (dk_at dksX2_put_3 2 rfl rfl)
theorem dX2_put_75 : decode cX2_put 75 = .ok (.return_, 1) := dk_177 (dk_at dksX2_put_3 3 rfl rfl)
abbrev cX2_comes : ByteArray := prog_6_method_31_code
def yX2_comes : MethodName := ⟨RX2, "comes", "()I"⟩
def dkwX2_comes_2 : List UInt8 := [181, 0, 64, 42, 180, 0, 64, 4, 100, 172]
abbrev dktX2_comes_2 : List UInt8 := dkwX2_comes_2 ++ []
def dkwX2_comes_1 : List UInt8 := [16, 6, 42, 180, 0, 64, 182, 0, 145, 42, 42, 180, 0, 64, 182, 0, 148, 42, 89, 180, 0, 64, 4, 96]
abbrev dktX2_comes_1 : List UInt8 := dkwX2_comes_1 ++ dktX2_comes_2
def dkwX2_comes_0 : List UInt8 := [42, 16, 6, 182, 0, 166, 154, 0, 5, 2, 172, 42, 180, 0, 64, 16, 6, 160, 0, 6, 16, 253, 172, 42]
abbrev dktX2_comes_0 : List UInt8 := dkwX2_comes_0 ++ dktX2_comes_1
theorem dksX2_comes_0 : cX2_comes.data.toList.drop 0 = dktX2_comes_0 := by decide +kernel
theorem dksX2_comes_1 : cX2_comes.data.toList.drop 24 = dktX2_comes_1 := dk_seg dksX2_comes_0 24 rfl rfl
theorem dksX2_comes_2 : cX2_comes.data.toList.drop 48 = dktX2_comes_2 := dk_seg dksX2_comes_1 24 rfl rfl
theorem dX2_comes_0 : decode cX2_comes 0 = .ok (.aload_n 0, 1) := dk_42 (dk_at dksX2_comes_0 0 rfl rfl)
theorem dX2_comes_1 : decode cX2_comes 1 = .ok (.bipush 6, 2) := dk_16 6 (dk_at dksX2_comes_0 1 rfl rfl)
theorem dX2_comes_3 : decode cX2_comes 3 = .ok (.invokevirtual 166, 3) := dk_182 0 166 (dk_at dksX2_comes_0 3 rfl rfl)
theorem dX2_comes_6 : decode cX2_comes 6 = .ok (.ifCond .ne 5, 3) := dk_154 0 5 (dk_at dksX2_comes_0 6 rfl rfl)
theorem dX2_comes_9 : decode cX2_comes 9 = .ok (.iconst (-1), 1) := dk_2 (dk_at dksX2_comes_0 9 rfl rfl)
theorem dX2_comes_10 : decode cX2_comes 10 = .ok (.ireturn, 1) := dk_172 (dk_at dksX2_comes_0 10 rfl rfl)
theorem dX2_comes_11 : decode cX2_comes 11 = .ok (.aload_n 0, 1) := dk_42 (dk_at dksX2_comes_0 11 rfl rfl)
theorem dX2_comes_12 : decode cX2_comes 12 = .ok (.getfield 64, 3) := dk_180 0 64 (dk_at dksX2_comes_0 12 rfl rfl)
theorem dX2_comes_15 : decode cX2_comes 15 = .ok (.bipush 6, 2) := dk_16 6 (dk_at dksX2_comes_0 15 rfl rfl)
theorem dX2_comes_17 : decode cX2_comes 17 = .ok (.if_icmp .ne 6, 3) := dk_160 0 6 (dk_at dksX2_comes_0 17 rfl rfl)
theorem dX2_comes_20 : decode cX2_comes 20 = .ok (.bipush (-3), 2) := dk_16 253 (dk_at dksX2_comes_0 20 rfl rfl)
theorem dX2_comes_22 : decode cX2_comes 22 = .ok (.ireturn, 1) := dk_172 (dk_at dksX2_comes_0 22 rfl rfl)
theorem dX2_comes_23 : decode cX2_comes 23 = .ok (.aload_n 0, 1) := dk_42 (dk_at dksX2_comes_0 23 rfl rfl)
theorem dX2_comes_24 : decode cX2_comes 24 = .ok (.bipush 6, 2) := dk_16 6 (dk_at dksX2_comes_1 0 rfl rfl)
theorem dX2_comes_26 : decode cX2_comes 26 = .ok (.aload_n 0, 1) := dk_42 (dk_at dksX2_comes_1 2 rfl rfl)
theorem dX2_comes_27 : decode cX2_comes 27 = .ok (.getfield 64, 3) := dk_180 0 64 (dk_at dksX2_comes_1 3 rfl rfl)
theorem dX2_comes_30 : decode cX2_comes 30 = .ok (.invokevirtual 145, 3) := dk_182 0 145 (dk_at dksX2_comes_1 6 rfl rfl)
theorem dX2_comes_33 : decode cX2_comes 33 = .ok (.aload_n 0, 1) := dk_42 (dk_at dksX2_comes_1 9 rfl rfl)
theorem dX2_comes_34 : decode cX2_comes 34 = .ok (.aload_n 0, 1) := dk_42 (dk_at dksX2_comes_1 10 rfl rfl)
theorem dX2_comes_35 : decode cX2_comes 35 = .ok (.getfield 64, 3) := dk_180 0 64 (dk_at dksX2_comes_1 11 rfl rfl)
theorem dX2_comes_38 : decode cX2_comes 38 = .ok (.invokevirtual 148, 3) := dk_182 0 148 (dk_at dksX2_comes_1 14 rfl rfl)
theorem dX2_comes_41 : decode cX2_comes 41 = .ok (.aload_n 0, 1) := dk_42 (dk_at dksX2_comes_1 17 rfl rfl)
theorem dX2_comes_42 : decode cX2_comes 42 = .ok (.dup, 1) := dk_89 (dk_at dksX2_comes_1 18 rfl rfl)
theorem dX2_comes_43 : decode cX2_comes 43 = .ok (.getfield 64, 3) := dk_180 0 64 (dk_at dksX2_comes_1 19 rfl rfl)
theorem dX2_comes_46 : decode cX2_comes 46 = .ok (.iconst 1, 1) := dk_4 (dk_at dksX2_comes_1 22 rfl rfl)
theorem dX2_comes_47 : decode cX2_comes 47 = .ok (.iadd, 1) := dk_96 (dk_at dksX2_comes_1 23 rfl rfl)
theorem dX2_comes_48 : decode cX2_comes 48 = .ok (.putfield 64, 3) := dk_181 0 64 (dk_at dksX2_comes_2 0 rfl rfl)
theorem dX2_comes_51 : decode cX2_comes 51 = .ok (.aload_n 0, 1) := dk_42 (dk_at dksX2_comes_2 3 rfl rfl)
theorem dX2_comes_52 : decode cX2_comes 52 = .ok (.getfield 64, 3) := dk_180 0 64 (dk_at dksX2_comes_2 4 rfl rfl)
theorem dX2_comes_55 : decode cX2_comes 55 = .ok (.iconst 1, 1) := dk_4 (dk_at dksX2_comes_2 7 rfl rfl)
theorem dX2_comes_56 : decode cX2_comes 56 = .ok (.isub, 1) := dk_100 (dk_at dksX2_comes_2 8 rfl rfl)
theorem dX2_comes_57 : decode cX2_comes 57 = .ok (.ireturn, 1) := dk_172 (dk_at dksX2_comes_2 9 rfl rfl)
abbrev cX2_mayBe : ByteArray := prog_6_method_12_code
def yX2_mayBe : MethodName := ⟨RX2, "mayBe", "(I)Z"⟩
def dkwX2_mayBe_7 : List UInt8 := [182, 0, 86, 9, 148, 158, 0, 7, 4, 167, 0, 4, 3, 172]
abbrev dktX2_mayBe_7 : List UInt8 := dkwX2_mayBe_7 ++ []
def dkwX2_mayBe_6 : List UInt8 := [182, 0, 74, 105, 42, 27, 6, 182, 0, 74, 42, 27, 6, 182, 0, 74, 105, 148, 158, 0, 17, 42, 27]
abbrev dktX2_mayBe_6 : List UInt8 := dkwX2_mayBe_6 ++ dktX2_mayBe_7
def dkwX2_mayBe_5 : List UInt8 := [4, 167, 0, 4, 3, 61, 28, 153, 0, 51, 20, 0, 78, 42, 27, 4, 182, 0, 74, 105, 42, 27, 5]
abbrev dktX2_mayBe_5 : List UInt8 := dkwX2_mayBe_5 ++ dktX2_mayBe_6
def dkwX2_mayBe_4 : List UInt8 := [42, 27, 5, 182, 0, 74, 105, 42, 27, 7, 182, 0, 74, 42, 27, 7, 182, 0, 74, 105, 148, 158, 0, 7]
abbrev dktX2_mayBe_4 : List UInt8 := dkwX2_mayBe_4 ++ dktX2_mayBe_5
def dkwX2_mayBe_3 : List UInt8 := [182, 0, 74, 42, 27, 8, 182, 0, 74, 105, 148, 158, 0, 41, 20, 0, 78, 42, 27, 3, 182, 0, 74, 105]
abbrev dktX2_mayBe_3 : List UInt8 := dkwX2_mayBe_3 ++ dktX2_mayBe_4
def dkwX2_mayBe_2 : List UInt8 := [167, 255, 210, 20, 0, 78, 42, 27, 3, 182, 0, 74, 105, 42, 27, 4, 182, 0, 74, 105, 42, 27, 8]
abbrev dktX2_mayBe_2 : List UInt8 := dkwX2_mayBe_2 ++ dktX2_mayBe_3
def dkwX2_mayBe_1 : List UInt8 := [27, 6, 28, 96, 182, 0, 74, 20, 0, 82, 20, 0, 84, 184, 0, 68, 154, 0, 5, 3, 172, 132, 2, 1]
abbrev dktX2_mayBe_1 : List UInt8 := dkwX2_mayBe_1 ++ dktX2_mayBe_2
def dkwX2_mayBe_0 : List UInt8 := [3, 61, 28, 6, 162, 0, 47, 42, 27, 28, 182, 0, 74, 10, 20, 0, 80, 184, 0, 68, 153, 0, 23, 42]
abbrev dktX2_mayBe_0 : List UInt8 := dkwX2_mayBe_0 ++ dktX2_mayBe_1
theorem dksX2_mayBe_0 : cX2_mayBe.data.toList.drop 0 = dktX2_mayBe_0 := by decide +kernel
theorem dksX2_mayBe_1 : cX2_mayBe.data.toList.drop 24 = dktX2_mayBe_1 := dk_seg dksX2_mayBe_0 24 rfl rfl
theorem dksX2_mayBe_2 : cX2_mayBe.data.toList.drop 48 = dktX2_mayBe_2 := dk_seg dksX2_mayBe_1 24 rfl rfl
theorem dksX2_mayBe_3 : cX2_mayBe.data.toList.drop 71 = dktX2_mayBe_3 := dk_seg dksX2_mayBe_2 23 rfl rfl
theorem dksX2_mayBe_4 : cX2_mayBe.data.toList.drop 95 = dktX2_mayBe_4 := dk_seg dksX2_mayBe_3 24 rfl rfl
theorem dksX2_mayBe_5 : cX2_mayBe.data.toList.drop 119 = dktX2_mayBe_5 := dk_seg dksX2_mayBe_4 24 rfl rfl
theorem dksX2_mayBe_6 : cX2_mayBe.data.toList.drop 142 = dktX2_mayBe_6 := dk_seg dksX2_mayBe_5 23 rfl rfl
theorem dksX2_mayBe_7 : cX2_mayBe.data.toList.drop 165 = dktX2_mayBe_7 := dk_seg dksX2_mayBe_6 23 rfl rfl
theorem dX2_mayBe_0 : decode cX2_mayBe 0 = .ok (.iconst 0, 1) := dk_3 (dk_at dksX2_mayBe_0 0 rfl rfl)
theorem dX2_mayBe_1 : decode cX2_mayBe 1 = .ok (.istore_n 2, 1) := dk_61 (dk_at dksX2_mayBe_0 1 rfl rfl)
theorem dX2_mayBe_2 : decode cX2_mayBe 2 = .ok (.iload_n 2, 1) := dk_28 (dk_at dksX2_mayBe_0 2 rfl rfl)
theorem dX2_mayBe_3 : decode cX2_mayBe 3 = .ok (.iconst 3, 1) := dk_6 (dk_at dksX2_mayBe_0 3 rfl rfl)
theorem dX2_mayBe_4 : decode cX2_mayBe 4 = .ok (.if_icmp .ge 47, 3) := dk_162 0 47 (dk_at dksX2_mayBe_0 4 rfl rfl)
theorem dX2_mayBe_7 : decode cX2_mayBe 7 = .ok (.aload_n 0, 1) := dk_42 (dk_at dksX2_mayBe_0 7 rfl rfl)
theorem dX2_mayBe_8 : decode cX2_mayBe 8 = .ok (.iload_n 1, 1) := dk_27 (dk_at dksX2_mayBe_0 8 rfl rfl)
theorem dX2_mayBe_9 : decode cX2_mayBe 9 = .ok (.iload_n 2, 1) := dk_28 (dk_at dksX2_mayBe_0 9 rfl rfl)
theorem dX2_mayBe_10 : decode cX2_mayBe 10 = .ok (.invokevirtual 74, 3) := dk_182 0 74 (dk_at dksX2_mayBe_0 10 rfl rfl)
theorem dX2_mayBe_13 : decode cX2_mayBe 13 = .ok (.lconst 1, 1) := dk_10 (dk_at dksX2_mayBe_0 13 rfl rfl)
theorem dX2_mayBe_14 : decode cX2_mayBe 14 = .ok (.ldc2_w 80, 3) := dk_20 0 80 (dk_at dksX2_mayBe_0 14 rfl rfl)
theorem dX2_mayBe_17 : decode cX2_mayBe 17 = .ok (.invokestatic 68, 3) := dk_184 0 68 (dk_at dksX2_mayBe_0 17 rfl rfl)
theorem dX2_mayBe_20 : decode cX2_mayBe 20 = .ok (.ifCond .eq 23, 3) := dk_153 0 23 (dk_at dksX2_mayBe_0 20 rfl rfl)
theorem dX2_mayBe_23 : decode cX2_mayBe 23 = .ok (.aload_n 0, 1) := dk_42 (dk_at dksX2_mayBe_0 23 rfl rfl)
theorem dX2_mayBe_24 : decode cX2_mayBe 24 = .ok (.iload_n 1, 1) := dk_27 (dk_at dksX2_mayBe_1 0 rfl rfl)
theorem dX2_mayBe_25 : decode cX2_mayBe 25 = .ok (.iconst 3, 1) := dk_6 (dk_at dksX2_mayBe_1 1 rfl rfl)
theorem dX2_mayBe_26 : decode cX2_mayBe 26 = .ok (.iload_n 2, 1) := dk_28 (dk_at dksX2_mayBe_1 2 rfl rfl)
theorem dX2_mayBe_27 : decode cX2_mayBe 27 = .ok (.iadd, 1) := dk_96 (dk_at dksX2_mayBe_1 3 rfl rfl)
theorem dX2_mayBe_28 : decode cX2_mayBe 28 = .ok (.invokevirtual 74, 3) := dk_182 0 74 (dk_at dksX2_mayBe_1 4 rfl rfl)
theorem dX2_mayBe_31 : decode cX2_mayBe 31 = .ok (.ldc2_w 82, 3) := dk_20 0 82 (dk_at dksX2_mayBe_1 7 rfl rfl)
theorem dX2_mayBe_34 : decode cX2_mayBe 34 = .ok (.ldc2_w 84, 3) := dk_20 0 84 (dk_at dksX2_mayBe_1 10 rfl rfl)
theorem dX2_mayBe_37 : decode cX2_mayBe 37 = .ok (.invokestatic 68, 3) := dk_184 0 68 (dk_at dksX2_mayBe_1 13 rfl rfl)
theorem dX2_mayBe_40 : decode cX2_mayBe 40 = .ok (.ifCond .ne 5, 3) := dk_154 0 5 (dk_at dksX2_mayBe_1 16 rfl rfl)
theorem dX2_mayBe_43 : decode cX2_mayBe 43 = .ok (.iconst 0, 1) := dk_3 (dk_at dksX2_mayBe_1 19 rfl rfl)
theorem dX2_mayBe_44 : decode cX2_mayBe 44 = .ok (.ireturn, 1) := dk_172 (dk_at dksX2_mayBe_1 20 rfl rfl)
theorem dX2_mayBe_45 : decode cX2_mayBe 45 = .ok (.iinc 2 1, 3) := dk_132 2 1 (dk_at dksX2_mayBe_1 21 rfl rfl)
theorem dX2_mayBe_48 : decode cX2_mayBe 48 = .ok (.goto (-46), 3) := dk_167 255 210 (dk_at dksX2_mayBe_2 0 rfl rfl)
theorem dX2_mayBe_51 : decode cX2_mayBe 51 = .ok (.ldc2_w 78, 3) := dk_20 0 78 (dk_at dksX2_mayBe_2 3 rfl rfl)
theorem dX2_mayBe_54 : decode cX2_mayBe 54 = .ok (.aload_n 0, 1) := dk_42 (dk_at dksX2_mayBe_2 6 rfl rfl)
theorem dX2_mayBe_55 : decode cX2_mayBe 55 = .ok (.iload_n 1, 1) := dk_27 (dk_at dksX2_mayBe_2 7 rfl rfl)
theorem dX2_mayBe_56 : decode cX2_mayBe 56 = .ok (.iconst 0, 1) := dk_3 (dk_at dksX2_mayBe_2 8 rfl rfl)
theorem dX2_mayBe_57 : decode cX2_mayBe 57 = .ok (.invokevirtual 74, 3) := dk_182 0 74 (dk_at dksX2_mayBe_2 9 rfl rfl)
theorem dX2_mayBe_60 : decode cX2_mayBe 60 = .ok (.lmul, 1) := dk_105 (dk_at dksX2_mayBe_2 12 rfl rfl)
theorem dX2_mayBe_61 : decode cX2_mayBe 61 = .ok (.aload_n 0, 1) := dk_42 (dk_at dksX2_mayBe_2 13 rfl rfl)
theorem dX2_mayBe_62 : decode cX2_mayBe 62 = .ok (.iload_n 1, 1) := dk_27 (dk_at dksX2_mayBe_2 14 rfl rfl)
theorem dX2_mayBe_63 : decode cX2_mayBe 63 = .ok (.iconst 1, 1) := dk_4 (dk_at dksX2_mayBe_2 15 rfl rfl)
theorem dX2_mayBe_64 : decode cX2_mayBe 64 = .ok (.invokevirtual 74, 3) := dk_182 0 74 (dk_at dksX2_mayBe_2 16 rfl rfl)
theorem dX2_mayBe_67 : decode cX2_mayBe 67 = .ok (.lmul, 1) := dk_105 (dk_at dksX2_mayBe_2 19 rfl rfl)
theorem dX2_mayBe_68 : decode cX2_mayBe 68 = .ok (.aload_n 0, 1) := dk_42 (dk_at dksX2_mayBe_2 20 rfl rfl)
theorem dX2_mayBe_69 : decode cX2_mayBe 69 = .ok (.iload_n 1, 1) := dk_27 (dk_at dksX2_mayBe_2 21 rfl rfl)
theorem dX2_mayBe_70 : decode cX2_mayBe 70 = .ok (.iconst 5, 1) := dk_8 (dk_at dksX2_mayBe_2 22 rfl rfl)
theorem dX2_mayBe_71 : decode cX2_mayBe 71 = .ok (.invokevirtual 74, 3) := dk_182 0 74 (dk_at dksX2_mayBe_3 0 rfl rfl)
theorem dX2_mayBe_74 : decode cX2_mayBe 74 = .ok (.aload_n 0, 1) := dk_42 (dk_at dksX2_mayBe_3 3 rfl rfl)
theorem dX2_mayBe_75 : decode cX2_mayBe 75 = .ok (.iload_n 1, 1) := dk_27 (dk_at dksX2_mayBe_3 4 rfl rfl)
theorem dX2_mayBe_76 : decode cX2_mayBe 76 = .ok (.iconst 5, 1) := dk_8 (dk_at dksX2_mayBe_3 5 rfl rfl)
theorem dX2_mayBe_77 : decode cX2_mayBe 77 = .ok (.invokevirtual 74, 3) := dk_182 0 74 (dk_at dksX2_mayBe_3 6 rfl rfl)
theorem dX2_mayBe_80 : decode cX2_mayBe 80 = .ok (.lmul, 1) := dk_105 (dk_at dksX2_mayBe_3 9 rfl rfl)
theorem dX2_mayBe_81 : decode cX2_mayBe 81 = .ok (.lcmp, 1) := dk_148 (dk_at dksX2_mayBe_3 10 rfl rfl)
theorem dX2_mayBe_82 : decode cX2_mayBe 82 = .ok (.ifCond .le 41, 3) := dk_158 0 41 (dk_at dksX2_mayBe_3 11 rfl rfl)
theorem dX2_mayBe_85 : decode cX2_mayBe 85 = .ok (.ldc2_w 78, 3) := dk_20 0 78 (dk_at dksX2_mayBe_3 14 rfl rfl)
theorem dX2_mayBe_88 : decode cX2_mayBe 88 = .ok (.aload_n 0, 1) := dk_42 (dk_at dksX2_mayBe_3 17 rfl rfl)
theorem dX2_mayBe_89 : decode cX2_mayBe 89 = .ok (.iload_n 1, 1) := dk_27 (dk_at dksX2_mayBe_3 18 rfl rfl)
theorem dX2_mayBe_90 : decode cX2_mayBe 90 = .ok (.iconst 0, 1) := dk_3 (dk_at dksX2_mayBe_3 19 rfl rfl)
theorem dX2_mayBe_91 : decode cX2_mayBe 91 = .ok (.invokevirtual 74, 3) := dk_182 0 74 (dk_at dksX2_mayBe_3 20 rfl rfl)
theorem dX2_mayBe_94 : decode cX2_mayBe 94 = .ok (.lmul, 1) := dk_105 (dk_at dksX2_mayBe_3 23 rfl rfl)
theorem dX2_mayBe_95 : decode cX2_mayBe 95 = .ok (.aload_n 0, 1) := dk_42 (dk_at dksX2_mayBe_4 0 rfl rfl)
theorem dX2_mayBe_96 : decode cX2_mayBe 96 = .ok (.iload_n 1, 1) := dk_27 (dk_at dksX2_mayBe_4 1 rfl rfl)
theorem dX2_mayBe_97 : decode cX2_mayBe 97 = .ok (.iconst 2, 1) := dk_5 (dk_at dksX2_mayBe_4 2 rfl rfl)
theorem dX2_mayBe_98 : decode cX2_mayBe 98 = .ok (.invokevirtual 74, 3) := dk_182 0 74 (dk_at dksX2_mayBe_4 3 rfl rfl)
theorem dX2_mayBe_101 : decode cX2_mayBe 101 = .ok (.lmul, 1) := dk_105 (dk_at dksX2_mayBe_4 6 rfl rfl)
theorem dX2_mayBe_102 : decode cX2_mayBe 102 = .ok (.aload_n 0, 1) := dk_42 (dk_at dksX2_mayBe_4 7 rfl rfl)
theorem dX2_mayBe_103 : decode cX2_mayBe 103 = .ok (.iload_n 1, 1) := dk_27 (dk_at dksX2_mayBe_4 8 rfl rfl)
theorem dX2_mayBe_104 : decode cX2_mayBe 104 = .ok (.iconst 4, 1) := dk_7 (dk_at dksX2_mayBe_4 9 rfl rfl)
theorem dX2_mayBe_105 : decode cX2_mayBe 105 = .ok (.invokevirtual 74, 3) := dk_182 0 74 (dk_at dksX2_mayBe_4 10 rfl rfl)
theorem dX2_mayBe_108 : decode cX2_mayBe 108 = .ok (.aload_n 0, 1) := dk_42 (dk_at dksX2_mayBe_4 13 rfl rfl)
theorem dX2_mayBe_109 : decode cX2_mayBe 109 = .ok (.iload_n 1, 1) := dk_27 (dk_at dksX2_mayBe_4 14 rfl rfl)
theorem dX2_mayBe_110 : decode cX2_mayBe 110 = .ok (.iconst 4, 1) := dk_7 (dk_at dksX2_mayBe_4 15 rfl rfl)
theorem dX2_mayBe_111 : decode cX2_mayBe 111 = .ok (.invokevirtual 74, 3) := dk_182 0 74 (dk_at dksX2_mayBe_4 16 rfl rfl)
theorem dX2_mayBe_114 : decode cX2_mayBe 114 = .ok (.lmul, 1) := dk_105 (dk_at dksX2_mayBe_4 19 rfl rfl)
theorem dX2_mayBe_115 : decode cX2_mayBe 115 = .ok (.lcmp, 1) := dk_148 (dk_at dksX2_mayBe_4 20 rfl rfl)
theorem dX2_mayBe_116 : decode cX2_mayBe 116 = .ok (.ifCond .le 7, 3) := dk_158 0 7 (dk_at dksX2_mayBe_4 21 rfl rfl)
theorem dX2_mayBe_119 : decode cX2_mayBe 119 = .ok (.iconst 1, 1) := dk_4 (dk_at dksX2_mayBe_5 0 rfl rfl)
theorem dX2_mayBe_120 : decode cX2_mayBe 120 = .ok (.goto 4, 3) := dk_167 0 4 (dk_at dksX2_mayBe_5 1 rfl rfl)
theorem dX2_mayBe_123 : decode cX2_mayBe 123 = .ok (.iconst 0, 1) := dk_3 (dk_at dksX2_mayBe_5 4 rfl rfl)
theorem dX2_mayBe_124 : decode cX2_mayBe 124 = .ok (.istore_n 2, 1) := dk_61 (dk_at dksX2_mayBe_5 5 rfl rfl)
theorem dX2_mayBe_125 : decode cX2_mayBe 125 = .ok (.iload_n 2, 1) := dk_28 (dk_at dksX2_mayBe_5 6 rfl rfl)
theorem dX2_mayBe_126 : decode cX2_mayBe 126 = .ok (.ifCond .eq 51, 3) := dk_153 0 51 (dk_at dksX2_mayBe_5 7 rfl rfl)
theorem dX2_mayBe_129 : decode cX2_mayBe 129 = .ok (.ldc2_w 78, 3) := dk_20 0 78 (dk_at dksX2_mayBe_5 10 rfl rfl)
theorem dX2_mayBe_132 : decode cX2_mayBe 132 = .ok (.aload_n 0, 1) := dk_42 (dk_at dksX2_mayBe_5 13 rfl rfl)
theorem dX2_mayBe_133 : decode cX2_mayBe 133 = .ok (.iload_n 1, 1) := dk_27 (dk_at dksX2_mayBe_5 14 rfl rfl)
theorem dX2_mayBe_134 : decode cX2_mayBe 134 = .ok (.iconst 1, 1) := dk_4 (dk_at dksX2_mayBe_5 15 rfl rfl)
theorem dX2_mayBe_135 : decode cX2_mayBe 135 = .ok (.invokevirtual 74, 3) := dk_182 0 74 (dk_at dksX2_mayBe_5 16 rfl rfl)
theorem dX2_mayBe_138 : decode cX2_mayBe 138 = .ok (.lmul, 1) := dk_105 (dk_at dksX2_mayBe_5 19 rfl rfl)
theorem dX2_mayBe_139 : decode cX2_mayBe 139 = .ok (.aload_n 0, 1) := dk_42 (dk_at dksX2_mayBe_5 20 rfl rfl)
theorem dX2_mayBe_140 : decode cX2_mayBe 140 = .ok (.iload_n 1, 1) := dk_27 (dk_at dksX2_mayBe_5 21 rfl rfl)
theorem dX2_mayBe_141 : decode cX2_mayBe 141 = .ok (.iconst 2, 1) := dk_5 (dk_at dksX2_mayBe_5 22 rfl rfl)
theorem dX2_mayBe_142 : decode cX2_mayBe 142 = .ok (.invokevirtual 74, 3) := dk_182 0 74 (dk_at dksX2_mayBe_6 0 rfl rfl)
theorem dX2_mayBe_145 : decode cX2_mayBe 145 = .ok (.lmul, 1) := dk_105 (dk_at dksX2_mayBe_6 3 rfl rfl)
theorem dX2_mayBe_146 : decode cX2_mayBe 146 = .ok (.aload_n 0, 1) := dk_42 (dk_at dksX2_mayBe_6 4 rfl rfl)
theorem dX2_mayBe_147 : decode cX2_mayBe 147 = .ok (.iload_n 1, 1) := dk_27 (dk_at dksX2_mayBe_6 5 rfl rfl)
theorem dX2_mayBe_148 : decode cX2_mayBe 148 = .ok (.iconst 3, 1) := dk_6 (dk_at dksX2_mayBe_6 6 rfl rfl)
theorem dX2_mayBe_149 : decode cX2_mayBe 149 = .ok (.invokevirtual 74, 3) := dk_182 0 74 (dk_at dksX2_mayBe_6 7 rfl rfl)
theorem dX2_mayBe_152 : decode cX2_mayBe 152 = .ok (.aload_n 0, 1) := dk_42 (dk_at dksX2_mayBe_6 10 rfl rfl)
theorem dX2_mayBe_153 : decode cX2_mayBe 153 = .ok (.iload_n 1, 1) := dk_27 (dk_at dksX2_mayBe_6 11 rfl rfl)
theorem dX2_mayBe_154 : decode cX2_mayBe 154 = .ok (.iconst 3, 1) := dk_6 (dk_at dksX2_mayBe_6 12 rfl rfl)
theorem dX2_mayBe_155 : decode cX2_mayBe 155 = .ok (.invokevirtual 74, 3) := dk_182 0 74 (dk_at dksX2_mayBe_6 13 rfl rfl)
theorem dX2_mayBe_158 : decode cX2_mayBe 158 = .ok (.lmul, 1) := dk_105 (dk_at dksX2_mayBe_6 16 rfl rfl)
theorem dX2_mayBe_159 : decode cX2_mayBe 159 = .ok (.lcmp, 1) := dk_148 (dk_at dksX2_mayBe_6 17 rfl rfl)
theorem dX2_mayBe_160 : decode cX2_mayBe 160 = .ok (.ifCond .le 17, 3) := dk_158 0 17 (dk_at dksX2_mayBe_6 18 rfl rfl)
theorem dX2_mayBe_163 : decode cX2_mayBe 163 = .ok (.aload_n 0, 1) := dk_42 (dk_at dksX2_mayBe_6 21 rfl rfl)
theorem dX2_mayBe_164 : decode cX2_mayBe 164 = .ok (.iload_n 1, 1) := dk_27 (dk_at dksX2_mayBe_6 22 rfl rfl)
theorem dX2_mayBe_165 : decode cX2_mayBe 165 = .ok (.invokevirtual 86, 3) := dk_182 0 86 (dk_at dksX2_mayBe_7 0 rfl rfl)
theorem dX2_mayBe_168 : decode cX2_mayBe 168 = .ok (.lconst 0, 1) := dk_9 (dk_at dksX2_mayBe_7 3 rfl rfl)
theorem dX2_mayBe_169 : decode cX2_mayBe 169 = .ok (.lcmp, 1) := dk_148 (dk_at dksX2_mayBe_7 4 rfl rfl)
theorem dX2_mayBe_170 : decode cX2_mayBe 170 = .ok (.ifCond .le 7, 3) := dk_158 0 7 (dk_at dksX2_mayBe_7 5 rfl rfl)
theorem dX2_mayBe_173 : decode cX2_mayBe 173 = .ok (.iconst 1, 1) := dk_4 (dk_at dksX2_mayBe_7 8 rfl rfl)
theorem dX2_mayBe_174 : decode cX2_mayBe 174 = .ok (.goto 4, 3) := dk_167 0 4 (dk_at dksX2_mayBe_7 9 rfl rfl)
theorem dX2_mayBe_177 : decode cX2_mayBe 177 = .ok (.iconst 0, 1) := dk_3 (dk_at dksX2_mayBe_7 12 rfl rfl)
theorem dX2_mayBe_178 : decode cX2_mayBe 178 = .ok (.ireturn, 1) := dk_172 (dk_at dksX2_mayBe_7 13 rfl rfl)
abbrev cX2_n : ByteArray := prog_6_method_6_code
def yX2_n : MethodName := ⟨RX2, "n", "(II)J"⟩
def dkwX2_n_0 : List UInt8 := [42, 180, 0, 11, 16, 6, 27, 104, 28, 96, 47, 173]
abbrev dktX2_n_0 : List UInt8 := dkwX2_n_0 ++ []
theorem dksX2_n_0 : cX2_n.data.toList.drop 0 = dktX2_n_0 := by decide +kernel
theorem dX2_n_0 : decode cX2_n 0 = .ok (.aload_n 0, 1) := dk_42 (dk_at dksX2_n_0 0 rfl rfl)
theorem dX2_n_1 : decode cX2_n 1 = .ok (.getfield 11, 3) := dk_180 0 11 (dk_at dksX2_n_0 1 rfl rfl)
theorem dX2_n_4 : decode cX2_n 4 = .ok (.bipush 6, 2) := dk_16 6 (dk_at dksX2_n_0 4 rfl rfl)
theorem dX2_n_6 : decode cX2_n 6 = .ok (.iload_n 1, 1) := dk_27 (dk_at dksX2_n_0 6 rfl rfl)
theorem dX2_n_7 : decode cX2_n 7 = .ok (.imul, 1) := dk_104 (dk_at dksX2_n_0 7 rfl rfl)
theorem dX2_n_8 : decode cX2_n 8 = .ok (.iload_n 2, 1) := dk_28 (dk_at dksX2_n_0 8 rfl rfl)
theorem dX2_n_9 : decode cX2_n 9 = .ok (.iadd, 1) := dk_96 (dk_at dksX2_n_0 9 rfl rfl)
theorem dX2_n_10 : decode cX2_n 10 = .ok (.laload, 1) := dk_47 (dk_at dksX2_n_0 10 rfl rfl)
theorem dX2_n_11 : decode cX2_n 11 = .ok (.lreturn, 1) := dk_173 (dk_at dksX2_n_0 11 rfl rfl)
abbrev cX2_isIn : ByteArray := prog_6_method_2_code
def yX2_isIn : MethodName := ⟨RX2, "isIn", "(JJJ)Z"⟩
def dkwX2_isIn_0 : List UInt8 := [30, 32, 148, 155, 0, 14, 30, 22, 4, 148, 157, 0, 7, 4, 167, 0, 4, 3, 172]
abbrev dktX2_isIn_0 : List UInt8 := dkwX2_isIn_0 ++ []
theorem dksX2_isIn_0 : cX2_isIn.data.toList.drop 0 = dktX2_isIn_0 := by decide +kernel
theorem dX2_isIn_0 : decode cX2_isIn 0 = .ok (.lload_n 0, 1) := dk_30 (dk_at dksX2_isIn_0 0 rfl rfl)
theorem dX2_isIn_1 : decode cX2_isIn 1 = .ok (.lload_n 2, 1) := dk_32 (dk_at dksX2_isIn_0 1 rfl rfl)
theorem dX2_isIn_2 : decode cX2_isIn 2 = .ok (.lcmp, 1) := dk_148 (dk_at dksX2_isIn_0 2 rfl rfl)
theorem dX2_isIn_3 : decode cX2_isIn 3 = .ok (.ifCond .lt 14, 3) := dk_155 0 14 (dk_at dksX2_isIn_0 3 rfl rfl)
theorem dX2_isIn_6 : decode cX2_isIn 6 = .ok (.lload_n 0, 1) := dk_30 (dk_at dksX2_isIn_0 6 rfl rfl)
theorem dX2_isIn_7 : decode cX2_isIn 7 = .ok (.lload 4, 2) := dk_22 4 (dk_at dksX2_isIn_0 7 rfl rfl)
theorem dX2_isIn_9 : decode cX2_isIn 9 = .ok (.lcmp, 1) := dk_148 (dk_at dksX2_isIn_0 9 rfl rfl)
theorem dX2_isIn_10 : decode cX2_isIn 10 = .ok (.ifCond .gt 7, 3) := dk_157 0 7 (dk_at dksX2_isIn_0 10 rfl rfl)
theorem dX2_isIn_13 : decode cX2_isIn 13 = .ok (.iconst 1, 1) := dk_4 (dk_at dksX2_isIn_0 13 rfl rfl)
theorem dX2_isIn_14 : decode cX2_isIn 14 = .ok (.goto 4, 3) := dk_167 0 4 (dk_at dksX2_isIn_0 14 rfl rfl)
theorem dX2_isIn_17 : decode cX2_isIn 17 = .ok (.iconst 0, 1) := dk_3 (dk_at dksX2_isIn_0 17 rfl rfl)
theorem dX2_isIn_18 : decode cX2_isIn 18 = .ok (.ireturn, 1) := dk_172 (dk_at dksX2_isIn_0 18 rfl rfl)
abbrev cX2_volume : ByteArray := prog_6_method_11_code
def yX2_volume : MethodName := ⟨RX2, "volume", "(I)J"⟩
def dkwX2_volume_3 : List UInt8 := [22, 8, 105, 101, 22, 4, 22, 10, 105, 22, 10, 105, 101, 22, 6, 22, 12, 105, 22, 12, 105, 101, 173]
abbrev dktX2_volume_3 : List UInt8 := dkwX2_volume_3 ++ []
def dkwX2_volume_2 : List UInt8 := [20, 0, 78, 32, 105, 22, 4, 105, 22, 6, 105, 22, 8, 22, 10, 105, 22, 12, 105, 97, 32, 22, 8, 105]
abbrev dktX2_volume_2 : List UInt8 := dkwX2_volume_2 ++ dktX2_volume_3
def dkwX2_volume_1 : List UInt8 := [27, 6, 182, 0, 74, 55, 8, 42, 27, 7, 182, 0, 74, 55, 10, 42, 27, 8, 182, 0, 74, 55, 12]
abbrev dktX2_volume_1 : List UInt8 := dkwX2_volume_1 ++ dktX2_volume_2
def dkwX2_volume_0 : List UInt8 := [42, 27, 3, 182, 0, 74, 65, 42, 27, 4, 182, 0, 74, 55, 4, 42, 27, 5, 182, 0, 74, 55, 6, 42]
abbrev dktX2_volume_0 : List UInt8 := dkwX2_volume_0 ++ dktX2_volume_1
theorem dksX2_volume_0 : cX2_volume.data.toList.drop 0 = dktX2_volume_0 := by decide +kernel
theorem dksX2_volume_1 : cX2_volume.data.toList.drop 24 = dktX2_volume_1 := dk_seg dksX2_volume_0 24 rfl rfl
theorem dksX2_volume_2 : cX2_volume.data.toList.drop 47 = dktX2_volume_2 := dk_seg dksX2_volume_1 23 rfl rfl
theorem dksX2_volume_3 : cX2_volume.data.toList.drop 71 = dktX2_volume_3 := dk_seg dksX2_volume_2 24 rfl rfl
theorem dX2_volume_0 : decode cX2_volume 0 = .ok (.aload_n 0, 1) := dk_42 (dk_at dksX2_volume_0 0 rfl rfl)
theorem dX2_volume_1 : decode cX2_volume 1 = .ok (.iload_n 1, 1) := dk_27 (dk_at dksX2_volume_0 1 rfl rfl)
theorem dX2_volume_2 : decode cX2_volume 2 = .ok (.iconst 0, 1) := dk_3 (dk_at dksX2_volume_0 2 rfl rfl)
theorem dX2_volume_3 : decode cX2_volume 3 = .ok (.invokevirtual 74, 3) := dk_182 0 74 (dk_at dksX2_volume_0 3 rfl rfl)
theorem dX2_volume_6 : decode cX2_volume 6 = .ok (.lstore_n 2, 1) := dk_65 (dk_at dksX2_volume_0 6 rfl rfl)
theorem dX2_volume_7 : decode cX2_volume 7 = .ok (.aload_n 0, 1) := dk_42 (dk_at dksX2_volume_0 7 rfl rfl)
theorem dX2_volume_8 : decode cX2_volume 8 = .ok (.iload_n 1, 1) := dk_27 (dk_at dksX2_volume_0 8 rfl rfl)
theorem dX2_volume_9 : decode cX2_volume 9 = .ok (.iconst 1, 1) := dk_4 (dk_at dksX2_volume_0 9 rfl rfl)
theorem dX2_volume_10 : decode cX2_volume 10 = .ok (.invokevirtual 74, 3) := dk_182 0 74 (dk_at dksX2_volume_0 10 rfl rfl)
theorem dX2_volume_13 : decode cX2_volume 13 = .ok (.lstore 4, 2) := dk_55 4 (dk_at dksX2_volume_0 13 rfl rfl)
theorem dX2_volume_15 : decode cX2_volume 15 = .ok (.aload_n 0, 1) := dk_42 (dk_at dksX2_volume_0 15 rfl rfl)
theorem dX2_volume_16 : decode cX2_volume 16 = .ok (.iload_n 1, 1) := dk_27 (dk_at dksX2_volume_0 16 rfl rfl)
theorem dX2_volume_17 : decode cX2_volume 17 = .ok (.iconst 2, 1) := dk_5 (dk_at dksX2_volume_0 17 rfl rfl)
theorem dX2_volume_18 : decode cX2_volume 18 = .ok (.invokevirtual 74, 3) := dk_182 0 74 (dk_at dksX2_volume_0 18 rfl rfl)
theorem dX2_volume_21 : decode cX2_volume 21 = .ok (.lstore 6, 2) := dk_55 6 (dk_at dksX2_volume_0 21 rfl rfl)
theorem dX2_volume_23 : decode cX2_volume 23 = .ok (.aload_n 0, 1) := dk_42 (dk_at dksX2_volume_0 23 rfl rfl)
theorem dX2_volume_24 : decode cX2_volume 24 = .ok (.iload_n 1, 1) := dk_27 (dk_at dksX2_volume_1 0 rfl rfl)
theorem dX2_volume_25 : decode cX2_volume 25 = .ok (.iconst 3, 1) := dk_6 (dk_at dksX2_volume_1 1 rfl rfl)
theorem dX2_volume_26 : decode cX2_volume 26 = .ok (.invokevirtual 74, 3) := dk_182 0 74 (dk_at dksX2_volume_1 2 rfl rfl)
theorem dX2_volume_29 : decode cX2_volume 29 = .ok (.lstore 8, 2) := dk_55 8 (dk_at dksX2_volume_1 5 rfl rfl)
theorem dX2_volume_31 : decode cX2_volume 31 = .ok (.aload_n 0, 1) := dk_42 (dk_at dksX2_volume_1 7 rfl rfl)
theorem dX2_volume_32 : decode cX2_volume 32 = .ok (.iload_n 1, 1) := dk_27 (dk_at dksX2_volume_1 8 rfl rfl)
theorem dX2_volume_33 : decode cX2_volume 33 = .ok (.iconst 4, 1) := dk_7 (dk_at dksX2_volume_1 9 rfl rfl)
theorem dX2_volume_34 : decode cX2_volume 34 = .ok (.invokevirtual 74, 3) := dk_182 0 74 (dk_at dksX2_volume_1 10 rfl rfl)
theorem dX2_volume_37 : decode cX2_volume 37 = .ok (.lstore 10, 2) := dk_55 10 (dk_at dksX2_volume_1 13 rfl rfl)
theorem dX2_volume_39 : decode cX2_volume 39 = .ok (.aload_n 0, 1) := dk_42 (dk_at dksX2_volume_1 15 rfl rfl)
theorem dX2_volume_40 : decode cX2_volume 40 = .ok (.iload_n 1, 1) := dk_27 (dk_at dksX2_volume_1 16 rfl rfl)
theorem dX2_volume_41 : decode cX2_volume 41 = .ok (.iconst 5, 1) := dk_8 (dk_at dksX2_volume_1 17 rfl rfl)
theorem dX2_volume_42 : decode cX2_volume 42 = .ok (.invokevirtual 74, 3) := dk_182 0 74 (dk_at dksX2_volume_1 18 rfl rfl)
theorem dX2_volume_45 : decode cX2_volume 45 = .ok (.lstore 12, 2) := dk_55 12 (dk_at dksX2_volume_1 21 rfl rfl)
theorem dX2_volume_47 : decode cX2_volume 47 = .ok (.ldc2_w 78, 3) := dk_20 0 78 (dk_at dksX2_volume_2 0 rfl rfl)
theorem dX2_volume_50 : decode cX2_volume 50 = .ok (.lload_n 2, 1) := dk_32 (dk_at dksX2_volume_2 3 rfl rfl)
theorem dX2_volume_51 : decode cX2_volume 51 = .ok (.lmul, 1) := dk_105 (dk_at dksX2_volume_2 4 rfl rfl)
theorem dX2_volume_52 : decode cX2_volume 52 = .ok (.lload 4, 2) := dk_22 4 (dk_at dksX2_volume_2 5 rfl rfl)
theorem dX2_volume_54 : decode cX2_volume 54 = .ok (.lmul, 1) := dk_105 (dk_at dksX2_volume_2 7 rfl rfl)
theorem dX2_volume_55 : decode cX2_volume 55 = .ok (.lload 6, 2) := dk_22 6 (dk_at dksX2_volume_2 8 rfl rfl)
theorem dX2_volume_57 : decode cX2_volume 57 = .ok (.lmul, 1) := dk_105 (dk_at dksX2_volume_2 10 rfl rfl)
theorem dX2_volume_58 : decode cX2_volume 58 = .ok (.lload 8, 2) := dk_22 8 (dk_at dksX2_volume_2 11 rfl rfl)
theorem dX2_volume_60 : decode cX2_volume 60 = .ok (.lload 10, 2) := dk_22 10 (dk_at dksX2_volume_2 13 rfl rfl)
theorem dX2_volume_62 : decode cX2_volume 62 = .ok (.lmul, 1) := dk_105 (dk_at dksX2_volume_2 15 rfl rfl)
theorem dX2_volume_63 : decode cX2_volume 63 = .ok (.lload 12, 2) := dk_22 12 (dk_at dksX2_volume_2 16 rfl rfl)
theorem dX2_volume_65 : decode cX2_volume 65 = .ok (.lmul, 1) := dk_105 (dk_at dksX2_volume_2 18 rfl rfl)
theorem dX2_volume_66 : decode cX2_volume 66 = .ok (.ladd, 1) := dk_97 (dk_at dksX2_volume_2 19 rfl rfl)
theorem dX2_volume_67 : decode cX2_volume 67 = .ok (.lload_n 2, 1) := dk_32 (dk_at dksX2_volume_2 20 rfl rfl)
theorem dX2_volume_68 : decode cX2_volume 68 = .ok (.lload 8, 2) := dk_22 8 (dk_at dksX2_volume_2 21 rfl rfl)
theorem dX2_volume_70 : decode cX2_volume 70 = .ok (.lmul, 1) := dk_105 (dk_at dksX2_volume_2 23 rfl rfl)
theorem dX2_volume_71 : decode cX2_volume 71 = .ok (.lload 8, 2) := dk_22 8 (dk_at dksX2_volume_3 0 rfl rfl)
theorem dX2_volume_73 : decode cX2_volume 73 = .ok (.lmul, 1) := dk_105 (dk_at dksX2_volume_3 2 rfl rfl)
theorem dX2_volume_74 : decode cX2_volume 74 = .ok (.lsub, 1) := dk_101 (dk_at dksX2_volume_3 3 rfl rfl)
theorem dX2_volume_75 : decode cX2_volume 75 = .ok (.lload 4, 2) := dk_22 4 (dk_at dksX2_volume_3 4 rfl rfl)
theorem dX2_volume_77 : decode cX2_volume 77 = .ok (.lload 10, 2) := dk_22 10 (dk_at dksX2_volume_3 6 rfl rfl)
theorem dX2_volume_79 : decode cX2_volume 79 = .ok (.lmul, 1) := dk_105 (dk_at dksX2_volume_3 8 rfl rfl)
theorem dX2_volume_80 : decode cX2_volume 80 = .ok (.lload 10, 2) := dk_22 10 (dk_at dksX2_volume_3 9 rfl rfl)
theorem dX2_volume_82 : decode cX2_volume 82 = .ok (.lmul, 1) := dk_105 (dk_at dksX2_volume_3 11 rfl rfl)
theorem dX2_volume_83 : decode cX2_volume 83 = .ok (.lsub, 1) := dk_101 (dk_at dksX2_volume_3 12 rfl rfl)
theorem dX2_volume_84 : decode cX2_volume 84 = .ok (.lload 6, 2) := dk_22 6 (dk_at dksX2_volume_3 13 rfl rfl)
theorem dX2_volume_86 : decode cX2_volume 86 = .ok (.lload 12, 2) := dk_22 12 (dk_at dksX2_volume_3 15 rfl rfl)
theorem dX2_volume_88 : decode cX2_volume 88 = .ok (.lmul, 1) := dk_105 (dk_at dksX2_volume_3 17 rfl rfl)
theorem dX2_volume_89 : decode cX2_volume 89 = .ok (.lload 12, 2) := dk_22 12 (dk_at dksX2_volume_3 18 rfl rfl)
theorem dX2_volume_91 : decode cX2_volume 91 = .ok (.lmul, 1) := dk_105 (dk_at dksX2_volume_3 20 rfl rfl)
theorem dX2_volume_92 : decode cX2_volume 92 = .ok (.lsub, 1) := dk_101 (dk_at dksX2_volume_3 21 rfl rfl)
theorem dX2_volume_93 : decode cX2_volume 93 = .ok (.lreturn, 1) := dk_173 (dk_at dksX2_volume_3 22 rfl rfl)
abbrev cX2_fresh : ByteArray := prog_6_method_9_code
def yX2_fresh : MethodName := ⟨RX2, "fresh", "(I)V"⟩
def dkwX2_fresh_1 : List UInt8 := [10, 167, 0, 4, 9, 80, 132, 2, 1, 167, 255, 225, 177]
abbrev dktX2_fresh_1 : List UInt8 := dkwX2_fresh_1 ++ []
def dkwX2_fresh_0 : List UInt8 := [3, 61, 28, 16, 9, 162, 0, 31, 42, 180, 0, 15, 16, 9, 27, 104, 28, 96, 28, 7, 112, 154, 0, 7]
abbrev dktX2_fresh_0 : List UInt8 := dkwX2_fresh_0 ++ dktX2_fresh_1
theorem dksX2_fresh_0 : cX2_fresh.data.toList.drop 0 = dktX2_fresh_0 := by decide +kernel
theorem dksX2_fresh_1 : cX2_fresh.data.toList.drop 24 = dktX2_fresh_1 := dk_seg dksX2_fresh_0 24 rfl rfl
theorem dX2_fresh_0 : decode cX2_fresh 0 = .ok (.iconst 0, 1) := dk_3 (dk_at dksX2_fresh_0 0 rfl rfl)
theorem dX2_fresh_1 : decode cX2_fresh 1 = .ok (.istore_n 2, 1) := dk_61 (dk_at dksX2_fresh_0 1 rfl rfl)
theorem dX2_fresh_2 : decode cX2_fresh 2 = .ok (.iload_n 2, 1) := dk_28 (dk_at dksX2_fresh_0 2 rfl rfl)
theorem dX2_fresh_3 : decode cX2_fresh 3 = .ok (.bipush 9, 2) := dk_16 9 (dk_at dksX2_fresh_0 3 rfl rfl)
theorem dX2_fresh_5 : decode cX2_fresh 5 = .ok (.if_icmp .ge 31, 3) := dk_162 0 31 (dk_at dksX2_fresh_0 5 rfl rfl)
theorem dX2_fresh_8 : decode cX2_fresh 8 = .ok (.aload_n 0, 1) := dk_42 (dk_at dksX2_fresh_0 8 rfl rfl)
theorem dX2_fresh_9 : decode cX2_fresh 9 = .ok (.getfield 15, 3) := dk_180 0 15 (dk_at dksX2_fresh_0 9 rfl rfl)
theorem dX2_fresh_12 : decode cX2_fresh 12 = .ok (.bipush 9, 2) := dk_16 9 (dk_at dksX2_fresh_0 12 rfl rfl)
theorem dX2_fresh_14 : decode cX2_fresh 14 = .ok (.iload_n 1, 1) := dk_27 (dk_at dksX2_fresh_0 14 rfl rfl)
theorem dX2_fresh_15 : decode cX2_fresh 15 = .ok (.imul, 1) := dk_104 (dk_at dksX2_fresh_0 15 rfl rfl)
theorem dX2_fresh_16 : decode cX2_fresh 16 = .ok (.iload_n 2, 1) := dk_28 (dk_at dksX2_fresh_0 16 rfl rfl)
theorem dX2_fresh_17 : decode cX2_fresh 17 = .ok (.iadd, 1) := dk_96 (dk_at dksX2_fresh_0 17 rfl rfl)
theorem dX2_fresh_18 : decode cX2_fresh 18 = .ok (.iload_n 2, 1) := dk_28 (dk_at dksX2_fresh_0 18 rfl rfl)
theorem dX2_fresh_19 : decode cX2_fresh 19 = .ok (.iconst 4, 1) := dk_7 (dk_at dksX2_fresh_0 19 rfl rfl)
theorem dX2_fresh_20 : decode cX2_fresh 20 = .ok (.irem, 1) := dk_112 (dk_at dksX2_fresh_0 20 rfl rfl)
theorem dX2_fresh_21 : decode cX2_fresh 21 = .ok (.ifCond .ne 7, 3) := dk_154 0 7 (dk_at dksX2_fresh_0 21 rfl rfl)
theorem dX2_fresh_24 : decode cX2_fresh 24 = .ok (.lconst 1, 1) := dk_10 (dk_at dksX2_fresh_1 0 rfl rfl)
theorem dX2_fresh_25 : decode cX2_fresh 25 = .ok (.goto 4, 3) := dk_167 0 4 (dk_at dksX2_fresh_1 1 rfl rfl)
theorem dX2_fresh_28 : decode cX2_fresh 28 = .ok (.lconst 0, 1) := dk_9 (dk_at dksX2_fresh_1 4 rfl rfl)
theorem dX2_fresh_29 : decode cX2_fresh 29 = .ok (.lastore, 1) := dk_80 (dk_at dksX2_fresh_1 5 rfl rfl)
theorem dX2_fresh_30 : decode cX2_fresh 30 = .ok (.iinc 2 1, 3) := dk_132 2 1 (dk_at dksX2_fresh_1 6 rfl rfl)
theorem dX2_fresh_33 : decode cX2_fresh 33 = .ok (.goto (-31), 3) := dk_167 255 225 (dk_at dksX2_fresh_1 9 rfl rfl)
theorem dX2_fresh_36 : decode cX2_fresh 36 = .ok (.return_, 1) := dk_177 (dk_at dksX2_fresh_1 12 rfl rfl)
abbrev cX2_drop : ByteArray := prog_6_method_35_code
def yX2_drop : MethodName := ⟨RX2, "drop", "()I"⟩
def dkwX2_drop_2 : List UInt8 := [180, 0, 64, 172]
abbrev dktX2_drop_2 : List UInt8 := dkwX2_drop_2 ++ []
def dkwX2_drop_1 : List UInt8 := [180, 0, 64, 182, 0, 181, 87, 42, 42, 180, 0, 64, 3, 182, 0, 184, 87, 42, 3, 181, 0, 154, 42]
abbrev dktX2_drop_1 : List UInt8 := dkwX2_drop_1 ++ dktX2_drop_2
def dkwX2_drop_0 : List UInt8 := [42, 180, 0, 64, 154, 0, 6, 16, 251, 172, 42, 89, 180, 0, 64, 4, 100, 181, 0, 64, 42, 42]
abbrev dktX2_drop_0 : List UInt8 := dkwX2_drop_0 ++ dktX2_drop_1
theorem dksX2_drop_0 : cX2_drop.data.toList.drop 0 = dktX2_drop_0 := by decide +kernel
theorem dksX2_drop_1 : cX2_drop.data.toList.drop 22 = dktX2_drop_1 := dk_seg dksX2_drop_0 22 rfl rfl
theorem dksX2_drop_2 : cX2_drop.data.toList.drop 45 = dktX2_drop_2 := dk_seg dksX2_drop_1 23 rfl rfl
theorem dX2_drop_0 : decode cX2_drop 0 = .ok (.aload_n 0, 1) := dk_42 (dk_at dksX2_drop_0 0 rfl rfl)
theorem dX2_drop_1 : decode cX2_drop 1 = .ok (.getfield 64, 3) := dk_180 0 64 (dk_at dksX2_drop_0 1 rfl rfl)
theorem dX2_drop_4 : decode cX2_drop 4 = .ok (.ifCond .ne 6, 3) := dk_154 0 6 (dk_at dksX2_drop_0 4 rfl rfl)
theorem dX2_drop_7 : decode cX2_drop 7 = .ok (.bipush (-5), 2) := dk_16 251 (dk_at dksX2_drop_0 7 rfl rfl)
theorem dX2_drop_9 : decode cX2_drop 9 = .ok (.ireturn, 1) := dk_172 (dk_at dksX2_drop_0 9 rfl rfl)
theorem dX2_drop_10 : decode cX2_drop 10 = .ok (.aload_n 0, 1) := dk_42 (dk_at dksX2_drop_0 10 rfl rfl)
theorem dX2_drop_11 : decode cX2_drop 11 = .ok (.dup, 1) := dk_89 (dk_at dksX2_drop_0 11 rfl rfl)
theorem dX2_drop_12 : decode cX2_drop 12 = .ok (.getfield 64, 3) := dk_180 0 64 (dk_at dksX2_drop_0 12 rfl rfl)
theorem dX2_drop_15 : decode cX2_drop 15 = .ok (.iconst 1, 1) := dk_4 (dk_at dksX2_drop_0 15 rfl rfl)
theorem dX2_drop_16 : decode cX2_drop 16 = .ok (.isub, 1) := dk_100 (dk_at dksX2_drop_0 16 rfl rfl)
theorem dX2_drop_17 : decode cX2_drop 17 = .ok (.putfield 64, 3) := dk_181 0 64 (dk_at dksX2_drop_0 17 rfl rfl)
theorem dX2_drop_20 : decode cX2_drop 20 = .ok (.aload_n 0, 1) := dk_42 (dk_at dksX2_drop_0 20 rfl rfl)
theorem dX2_drop_21 : decode cX2_drop 21 = .ok (.aload_n 0, 1) := dk_42 (dk_at dksX2_drop_0 21 rfl rfl)
theorem dX2_drop_22 : decode cX2_drop 22 = .ok (.getfield 64, 3) := dk_180 0 64 (dk_at dksX2_drop_1 0 rfl rfl)
theorem dX2_drop_25 : decode cX2_drop 25 = .ok (.invokevirtual 181, 3) := dk_182 0 181 (dk_at dksX2_drop_1 3 rfl rfl)
theorem dX2_drop_28 : decode cX2_drop 28 = .ok (.pop, 1) := dk_87 (dk_at dksX2_drop_1 6 rfl rfl)
theorem dX2_drop_29 : decode cX2_drop 29 = .ok (.aload_n 0, 1) := dk_42 (dk_at dksX2_drop_1 7 rfl rfl)
theorem dX2_drop_30 : decode cX2_drop 30 = .ok (.aload_n 0, 1) := dk_42 (dk_at dksX2_drop_1 8 rfl rfl)
theorem dX2_drop_31 : decode cX2_drop 31 = .ok (.getfield 64, 3) := dk_180 0 64 (dk_at dksX2_drop_1 9 rfl rfl)
theorem dX2_drop_34 : decode cX2_drop 34 = .ok (.iconst 0, 1) := dk_3 (dk_at dksX2_drop_1 12 rfl rfl)
theorem dX2_drop_35 : decode cX2_drop 35 = .ok (.invokevirtual 184, 3) := dk_182 0 184 (dk_at dksX2_drop_1 13 rfl rfl)
theorem dX2_drop_38 : decode cX2_drop 38 = .ok (.pop, 1) := dk_87 (dk_at dksX2_drop_1 16 rfl rfl)
theorem dX2_drop_39 : decode cX2_drop 39 = .ok (.aload_n 0, 1) := dk_42 (dk_at dksX2_drop_1 17 rfl rfl)
theorem dX2_drop_40 : decode cX2_drop 40 = .ok (.iconst 0, 1) := dk_3 (dk_at dksX2_drop_1 18 rfl rfl)
theorem dX2_drop_41 : decode cX2_drop 41 = .ok (.putfield 154, 3) := dk_181 0 154 (dk_at dksX2_drop_1 19 rfl rfl)
theorem dX2_drop_44 : decode cX2_drop 44 = .ok (.aload_n 0, 1) := dk_42 (dk_at dksX2_drop_1 22 rfl rfl)
theorem dX2_drop_45 : decode cX2_drop 45 = .ok (.getfield 64, 3) := dk_180 0 64 (dk_at dksX2_drop_2 0 rfl rfl)
theorem dX2_drop_48 : decode cX2_drop 48 = .ok (.ireturn, 1) := dk_172 (dk_at dksX2_drop_2 3 rfl rfl)
abbrev cX2_leavesLine : ByteArray := prog_6_method_33_code
def yX2_leavesLine : MethodName := ⟨RX2, "leavesLine", "(I)I"⟩
def dkwX2_leavesLine_3 : List UInt8 := [96, 46, 79, 132, 3, 1, 167, 255, 231, 28, 172]
abbrev dktX2_leavesLine_3 : List UInt8 := dkwX2_leavesLine_3 ++ []
def dkwX2_leavesLine_2 : List UInt8 := [181, 0, 178, 28, 62, 29, 42, 180, 0, 178, 162, 0, 23, 42, 180, 0, 25, 29, 42, 180, 0, 25, 29, 4]
abbrev dktX2_leavesLine_2 : List UInt8 := dkwX2_leavesLine_2 ++ dktX2_leavesLine_3
def dkwX2_leavesLine_1 : List UInt8 := [167, 0, 4, 28, 61, 132, 3, 1, 167, 255, 229, 28, 156, 0, 5, 28, 172, 42, 89, 180, 0, 178, 4, 100]
abbrev dktX2_leavesLine_1 : List UInt8 := dkwX2_leavesLine_1 ++ dktX2_leavesLine_2
def dkwX2_leavesLine_0 : List UInt8 := [2, 61, 3, 62, 29, 42, 180, 0, 178, 162, 0, 25, 42, 180, 0, 25, 29, 46, 27, 160, 0, 7, 29]
abbrev dktX2_leavesLine_0 : List UInt8 := dkwX2_leavesLine_0 ++ dktX2_leavesLine_1
theorem dksX2_leavesLine_0 : cX2_leavesLine.data.toList.drop 0 = dktX2_leavesLine_0 := by decide +kernel
theorem dksX2_leavesLine_1 : cX2_leavesLine.data.toList.drop 23 = dktX2_leavesLine_1 := dk_seg dksX2_leavesLine_0 23 rfl rfl
theorem dksX2_leavesLine_2 : cX2_leavesLine.data.toList.drop 47 = dktX2_leavesLine_2 := dk_seg dksX2_leavesLine_1 24 rfl rfl
theorem dksX2_leavesLine_3 : cX2_leavesLine.data.toList.drop 71 = dktX2_leavesLine_3 := dk_seg dksX2_leavesLine_2 24 rfl rfl
theorem dX2_leavesLine_0 : decode cX2_leavesLine 0 = .ok (.iconst (-1), 1) := dk_2 (dk_at dksX2_leavesLine_0 0 rfl rfl)
theorem dX2_leavesLine_1 : decode cX2_leavesLine 1 = .ok (.istore_n 2, 1) := dk_61 (dk_at dksX2_leavesLine_0 1 rfl rfl)
theorem dX2_leavesLine_2 : decode cX2_leavesLine 2 = .ok (.iconst 0, 1) := dk_3 (dk_at dksX2_leavesLine_0 2 rfl rfl)
theorem dX2_leavesLine_3 : decode cX2_leavesLine 3 = .ok (.istore_n 3, 1) := dk_62 (dk_at dksX2_leavesLine_0 3 rfl rfl)
theorem dX2_leavesLine_4 : decode cX2_leavesLine 4 = .ok (.iload_n 3, 1) := dk_29 (dk_at dksX2_leavesLine_0 4 rfl rfl)
theorem dX2_leavesLine_5 : decode cX2_leavesLine 5 = .ok (.aload_n 0, 1) := dk_42 (dk_at dksX2_leavesLine_0 5 rfl rfl)
theorem dX2_leavesLine_6 : decode cX2_leavesLine 6 = .ok (.getfield 178, 3) := dk_180 0 178 (dk_at dksX2_leavesLine_0 6 rfl rfl)
theorem dX2_leavesLine_9 : decode cX2_leavesLine 9 = .ok (.if_icmp .ge 25, 3) := dk_162 0 25 (dk_at dksX2_leavesLine_0 9 rfl rfl)
theorem dX2_leavesLine_12 : decode cX2_leavesLine 12 = .ok (.aload_n 0, 1) := dk_42 (dk_at dksX2_leavesLine_0 12 rfl rfl)
theorem dX2_leavesLine_13 : decode cX2_leavesLine 13 = .ok (.getfield 25, 3) := dk_180 0 25 (dk_at dksX2_leavesLine_0 13 rfl rfl)
theorem dX2_leavesLine_16 : decode cX2_leavesLine 16 = .ok (.iload_n 3, 1) := dk_29 (dk_at dksX2_leavesLine_0 16 rfl rfl)
theorem dX2_leavesLine_17 : decode cX2_leavesLine 17 = .ok (.iaload, 1) := dk_46 (dk_at dksX2_leavesLine_0 17 rfl rfl)
theorem dX2_leavesLine_18 : decode cX2_leavesLine 18 = .ok (.iload_n 1, 1) := dk_27 (dk_at dksX2_leavesLine_0 18 rfl rfl)
theorem dX2_leavesLine_19 : decode cX2_leavesLine 19 = .ok (.if_icmp .ne 7, 3) := dk_160 0 7 (dk_at dksX2_leavesLine_0 19 rfl rfl)
theorem dX2_leavesLine_22 : decode cX2_leavesLine 22 = .ok (.iload_n 3, 1) := dk_29 (dk_at dksX2_leavesLine_0 22 rfl rfl)
theorem dX2_leavesLine_23 : decode cX2_leavesLine 23 = .ok (.goto 4, 3) := dk_167 0 4 (dk_at dksX2_leavesLine_1 0 rfl rfl)
theorem dX2_leavesLine_26 : decode cX2_leavesLine 26 = .ok (.iload_n 2, 1) := dk_28 (dk_at dksX2_leavesLine_1 3 rfl rfl)
theorem dX2_leavesLine_27 : decode cX2_leavesLine 27 = .ok (.istore_n 2, 1) := dk_61 (dk_at dksX2_leavesLine_1 4 rfl rfl)
theorem dX2_leavesLine_28 : decode cX2_leavesLine 28 = .ok (.iinc 3 1, 3) := dk_132 3 1 (dk_at dksX2_leavesLine_1 5 rfl rfl)
theorem dX2_leavesLine_31 : decode cX2_leavesLine 31 = .ok (.goto (-27), 3) := dk_167 255 229 (dk_at dksX2_leavesLine_1 8 rfl rfl)
theorem dX2_leavesLine_34 : decode cX2_leavesLine 34 = .ok (.iload_n 2, 1) := dk_28 (dk_at dksX2_leavesLine_1 11 rfl rfl)
theorem dX2_leavesLine_35 : decode cX2_leavesLine 35 = .ok (.ifCond .ge 5, 3) := dk_156 0 5 (dk_at dksX2_leavesLine_1 12 rfl rfl)
theorem dX2_leavesLine_38 : decode cX2_leavesLine 38 = .ok (.iload_n 2, 1) := dk_28 (dk_at dksX2_leavesLine_1 15 rfl rfl)
theorem dX2_leavesLine_39 : decode cX2_leavesLine 39 = .ok (.ireturn, 1) := dk_172 (dk_at dksX2_leavesLine_1 16 rfl rfl)
theorem dX2_leavesLine_40 : decode cX2_leavesLine 40 = .ok (.aload_n 0, 1) := dk_42 (dk_at dksX2_leavesLine_1 17 rfl rfl)
theorem dX2_leavesLine_41 : decode cX2_leavesLine 41 = .ok (.dup, 1) := dk_89 (dk_at dksX2_leavesLine_1 18 rfl rfl)
theorem dX2_leavesLine_42 : decode cX2_leavesLine 42 = .ok (.getfield 178, 3) := dk_180 0 178 (dk_at dksX2_leavesLine_1 19 rfl rfl)
theorem dX2_leavesLine_45 : decode cX2_leavesLine 45 = .ok (.iconst 1, 1) := dk_4 (dk_at dksX2_leavesLine_1 22 rfl rfl)
theorem dX2_leavesLine_46 : decode cX2_leavesLine 46 = .ok (.isub, 1) := dk_100 (dk_at dksX2_leavesLine_1 23 rfl rfl)
theorem dX2_leavesLine_47 : decode cX2_leavesLine 47 = .ok (.putfield 178, 3) := dk_181 0 178 (dk_at dksX2_leavesLine_2 0 rfl rfl)
theorem dX2_leavesLine_50 : decode cX2_leavesLine 50 = .ok (.iload_n 2, 1) := dk_28 (dk_at dksX2_leavesLine_2 3 rfl rfl)
theorem dX2_leavesLine_51 : decode cX2_leavesLine 51 = .ok (.istore_n 3, 1) := dk_62 (dk_at dksX2_leavesLine_2 4 rfl rfl)
theorem dX2_leavesLine_52 : decode cX2_leavesLine 52 = .ok (.iload_n 3, 1) := dk_29 (dk_at dksX2_leavesLine_2 5 rfl rfl)
theorem dX2_leavesLine_53 : decode cX2_leavesLine 53 = .ok (.aload_n 0, 1) := dk_42 (dk_at dksX2_leavesLine_2 6 rfl rfl)
theorem dX2_leavesLine_54 : decode cX2_leavesLine 54 = .ok (.getfield 178, 3) := dk_180 0 178 (dk_at dksX2_leavesLine_2 7 rfl rfl)
theorem dX2_leavesLine_57 : decode cX2_leavesLine 57 = .ok (.if_icmp .ge 23, 3) := dk_162 0 23 (dk_at dksX2_leavesLine_2 10 rfl rfl)
theorem dX2_leavesLine_60 : decode cX2_leavesLine 60 = .ok (.aload_n 0, 1) := dk_42 (dk_at dksX2_leavesLine_2 13 rfl rfl)
theorem dX2_leavesLine_61 : decode cX2_leavesLine 61 = .ok (.getfield 25, 3) := dk_180 0 25 (dk_at dksX2_leavesLine_2 14 rfl rfl)
theorem dX2_leavesLine_64 : decode cX2_leavesLine 64 = .ok (.iload_n 3, 1) := dk_29 (dk_at dksX2_leavesLine_2 17 rfl rfl)
theorem dX2_leavesLine_65 : decode cX2_leavesLine 65 = .ok (.aload_n 0, 1) := dk_42 (dk_at dksX2_leavesLine_2 18 rfl rfl)
theorem dX2_leavesLine_66 : decode cX2_leavesLine 66 = .ok (.getfield 25, 3) := dk_180 0 25 (dk_at dksX2_leavesLine_2 19 rfl rfl)
theorem dX2_leavesLine_69 : decode cX2_leavesLine 69 = .ok (.iload_n 3, 1) := dk_29 (dk_at dksX2_leavesLine_2 22 rfl rfl)
theorem dX2_leavesLine_70 : decode cX2_leavesLine 70 = .ok (.iconst 1, 1) := dk_4 (dk_at dksX2_leavesLine_2 23 rfl rfl)
theorem dX2_leavesLine_71 : decode cX2_leavesLine 71 = .ok (.iadd, 1) := dk_96 (dk_at dksX2_leavesLine_3 0 rfl rfl)
theorem dX2_leavesLine_72 : decode cX2_leavesLine 72 = .ok (.iaload, 1) := dk_46 (dk_at dksX2_leavesLine_3 1 rfl rfl)
theorem dX2_leavesLine_73 : decode cX2_leavesLine 73 = .ok (.iastore, 1) := dk_79 (dk_at dksX2_leavesLine_3 2 rfl rfl)
theorem dX2_leavesLine_74 : decode cX2_leavesLine 74 = .ok (.iinc 3 1, 3) := dk_132 3 1 (dk_at dksX2_leavesLine_3 3 rfl rfl)
theorem dX2_leavesLine_77 : decode cX2_leavesLine 77 = .ok (.goto (-25), 3) := dk_167 255 231 (dk_at dksX2_leavesLine_3 6 rfl rfl)
theorem dX2_leavesLine_80 : decode cX2_leavesLine 80 = .ok (.iload_n 2, 1) := dk_28 (dk_at dksX2_leavesLine_3 9 rfl rfl)
theorem dX2_leavesLine_81 : decode cX2_leavesLine 81 = .ok (.ireturn, 1) := dk_172 (dk_at dksX2_leavesLine_3 10 rfl rfl)
abbrev cX2_leavesLog : ByteArray := prog_6_method_34_code
def yX2_leavesLog : MethodName := ⟨RX2, "leavesLog", "(II)I"⟩
def dkwX2_leavesLog_4 : List UInt8 := [181, 0, 160, 21, 4, 172]
abbrev dktX2_leavesLog_4 : List UInt8 := dkwX2_leavesLog_4 ++ []
def dkwX2_leavesLog_3 : List UInt8 := [21, 4, 46, 79, 132, 3, 1, 132, 4, 1, 167, 255, 180, 42, 180, 0, 160, 29, 100, 54, 4, 42, 29]
abbrev dktX2_leavesLog_3 : List UInt8 := dkwX2_leavesLog_3 ++ dktX2_leavesLog_4
def dkwX2_leavesLog_2 : List UInt8 := [160, 0, 7, 4, 167, 0, 4, 3, 54, 5, 21, 5, 154, 0, 19, 42, 180, 0, 18, 29, 42, 180, 0, 18]
abbrev dktX2_leavesLog_2 : List UInt8 := dkwX2_leavesLog_2 ++ dktX2_leavesLog_3
def dkwX2_leavesLog_1 : List UInt8 := [46, 16, 10, 108, 27, 160, 0, 25, 28, 153, 0, 17, 42, 180, 0, 18, 21, 4, 46, 16, 10, 112, 28]
abbrev dktX2_leavesLog_1 : List UInt8 := dkwX2_leavesLog_1 ++ dktX2_leavesLog_2
def dkwX2_leavesLog_0 : List UInt8 := [3, 62, 3, 54, 4, 21, 4, 42, 180, 0, 160, 162, 0, 73, 27, 155, 0, 17, 42, 180, 0, 18, 21, 4]
abbrev dktX2_leavesLog_0 : List UInt8 := dkwX2_leavesLog_0 ++ dktX2_leavesLog_1
theorem dksX2_leavesLog_0 : cX2_leavesLog.data.toList.drop 0 = dktX2_leavesLog_0 := by decide +kernel
theorem dksX2_leavesLog_1 : cX2_leavesLog.data.toList.drop 24 = dktX2_leavesLog_1 := dk_seg dksX2_leavesLog_0 24 rfl rfl
theorem dksX2_leavesLog_2 : cX2_leavesLog.data.toList.drop 47 = dktX2_leavesLog_2 := dk_seg dksX2_leavesLog_1 23 rfl rfl
theorem dksX2_leavesLog_3 : cX2_leavesLog.data.toList.drop 71 = dktX2_leavesLog_3 := dk_seg dksX2_leavesLog_2 24 rfl rfl
theorem dksX2_leavesLog_4 : cX2_leavesLog.data.toList.drop 94 = dktX2_leavesLog_4 := dk_seg dksX2_leavesLog_3 23 rfl rfl
theorem dX2_leavesLog_0 : decode cX2_leavesLog 0 = .ok (.iconst 0, 1) := dk_3 (dk_at dksX2_leavesLog_0 0 rfl rfl)
theorem dX2_leavesLog_1 : decode cX2_leavesLog 1 = .ok (.istore_n 3, 1) := dk_62 (dk_at dksX2_leavesLog_0 1 rfl rfl)
theorem dX2_leavesLog_2 : decode cX2_leavesLog 2 = .ok (.iconst 0, 1) := dk_3 (dk_at dksX2_leavesLog_0 2 rfl rfl)
theorem dX2_leavesLog_3 : decode cX2_leavesLog 3 = .ok (.istore 4, 2) := dk_54 4 (dk_at dksX2_leavesLog_0 3 rfl rfl)
theorem dX2_leavesLog_5 : decode cX2_leavesLog 5 = .ok (.iload 4, 2) := dk_21 4 (dk_at dksX2_leavesLog_0 5 rfl rfl)
theorem dX2_leavesLog_7 : decode cX2_leavesLog 7 = .ok (.aload_n 0, 1) := dk_42 (dk_at dksX2_leavesLog_0 7 rfl rfl)
theorem dX2_leavesLog_8 : decode cX2_leavesLog 8 = .ok (.getfield 160, 3) := dk_180 0 160 (dk_at dksX2_leavesLog_0 8 rfl rfl)
theorem dX2_leavesLog_11 : decode cX2_leavesLog 11 = .ok (.if_icmp .ge 73, 3) := dk_162 0 73 (dk_at dksX2_leavesLog_0 11 rfl rfl)
theorem dX2_leavesLog_14 : decode cX2_leavesLog 14 = .ok (.iload_n 1, 1) := dk_27 (dk_at dksX2_leavesLog_0 14 rfl rfl)
theorem dX2_leavesLog_15 : decode cX2_leavesLog 15 = .ok (.ifCond .lt 17, 3) := dk_155 0 17 (dk_at dksX2_leavesLog_0 15 rfl rfl)
theorem dX2_leavesLog_18 : decode cX2_leavesLog 18 = .ok (.aload_n 0, 1) := dk_42 (dk_at dksX2_leavesLog_0 18 rfl rfl)
theorem dX2_leavesLog_19 : decode cX2_leavesLog 19 = .ok (.getfield 18, 3) := dk_180 0 18 (dk_at dksX2_leavesLog_0 19 rfl rfl)
theorem dX2_leavesLog_22 : decode cX2_leavesLog 22 = .ok (.iload 4, 2) := dk_21 4 (dk_at dksX2_leavesLog_0 22 rfl rfl)
theorem dX2_leavesLog_24 : decode cX2_leavesLog 24 = .ok (.iaload, 1) := dk_46 (dk_at dksX2_leavesLog_1 0 rfl rfl)
theorem dX2_leavesLog_25 : decode cX2_leavesLog 25 = .ok (.bipush 10, 2) := dk_16 10 (dk_at dksX2_leavesLog_1 1 rfl rfl)
theorem dX2_leavesLog_27 : decode cX2_leavesLog 27 = .ok (.idiv, 1) := dk_108 (dk_at dksX2_leavesLog_1 3 rfl rfl)
theorem dX2_leavesLog_28 : decode cX2_leavesLog 28 = .ok (.iload_n 1, 1) := dk_27 (dk_at dksX2_leavesLog_1 4 rfl rfl)
theorem dX2_leavesLog_29 : decode cX2_leavesLog 29 = .ok (.if_icmp .ne 25, 3) := dk_160 0 25 (dk_at dksX2_leavesLog_1 5 rfl rfl)
theorem dX2_leavesLog_32 : decode cX2_leavesLog 32 = .ok (.iload_n 2, 1) := dk_28 (dk_at dksX2_leavesLog_1 8 rfl rfl)
theorem dX2_leavesLog_33 : decode cX2_leavesLog 33 = .ok (.ifCond .eq 17, 3) := dk_153 0 17 (dk_at dksX2_leavesLog_1 9 rfl rfl)
theorem dX2_leavesLog_36 : decode cX2_leavesLog 36 = .ok (.aload_n 0, 1) := dk_42 (dk_at dksX2_leavesLog_1 12 rfl rfl)
theorem dX2_leavesLog_37 : decode cX2_leavesLog 37 = .ok (.getfield 18, 3) := dk_180 0 18 (dk_at dksX2_leavesLog_1 13 rfl rfl)
theorem dX2_leavesLog_40 : decode cX2_leavesLog 40 = .ok (.iload 4, 2) := dk_21 4 (dk_at dksX2_leavesLog_1 16 rfl rfl)
theorem dX2_leavesLog_42 : decode cX2_leavesLog 42 = .ok (.iaload, 1) := dk_46 (dk_at dksX2_leavesLog_1 18 rfl rfl)
theorem dX2_leavesLog_43 : decode cX2_leavesLog 43 = .ok (.bipush 10, 2) := dk_16 10 (dk_at dksX2_leavesLog_1 19 rfl rfl)
theorem dX2_leavesLog_45 : decode cX2_leavesLog 45 = .ok (.irem, 1) := dk_112 (dk_at dksX2_leavesLog_1 21 rfl rfl)
theorem dX2_leavesLog_46 : decode cX2_leavesLog 46 = .ok (.iload_n 2, 1) := dk_28 (dk_at dksX2_leavesLog_1 22 rfl rfl)
theorem dX2_leavesLog_47 : decode cX2_leavesLog 47 = .ok (.if_icmp .ne 7, 3) := dk_160 0 7 (dk_at dksX2_leavesLog_2 0 rfl rfl)
theorem dX2_leavesLog_50 : decode cX2_leavesLog 50 = .ok (.iconst 1, 1) := dk_4 (dk_at dksX2_leavesLog_2 3 rfl rfl)
theorem dX2_leavesLog_51 : decode cX2_leavesLog 51 = .ok (.goto 4, 3) := dk_167 0 4 (dk_at dksX2_leavesLog_2 4 rfl rfl)
theorem dX2_leavesLog_54 : decode cX2_leavesLog 54 = .ok (.iconst 0, 1) := dk_3 (dk_at dksX2_leavesLog_2 7 rfl rfl)
theorem dX2_leavesLog_55 : decode cX2_leavesLog 55 = .ok (.istore 5, 2) := dk_54 5 (dk_at dksX2_leavesLog_2 8 rfl rfl)
theorem dX2_leavesLog_57 : decode cX2_leavesLog 57 = .ok (.iload 5, 2) := dk_21 5 (dk_at dksX2_leavesLog_2 10 rfl rfl)
theorem dX2_leavesLog_59 : decode cX2_leavesLog 59 = .ok (.ifCond .ne 19, 3) := dk_154 0 19 (dk_at dksX2_leavesLog_2 12 rfl rfl)
theorem dX2_leavesLog_62 : decode cX2_leavesLog 62 = .ok (.aload_n 0, 1) := dk_42 (dk_at dksX2_leavesLog_2 15 rfl rfl)
theorem dX2_leavesLog_63 : decode cX2_leavesLog 63 = .ok (.getfield 18, 3) := dk_180 0 18 (dk_at dksX2_leavesLog_2 16 rfl rfl)
theorem dX2_leavesLog_66 : decode cX2_leavesLog 66 = .ok (.iload_n 3, 1) := dk_29 (dk_at dksX2_leavesLog_2 19 rfl rfl)
theorem dX2_leavesLog_67 : decode cX2_leavesLog 67 = .ok (.aload_n 0, 1) := dk_42 (dk_at dksX2_leavesLog_2 20 rfl rfl)
theorem dX2_leavesLog_68 : decode cX2_leavesLog 68 = .ok (.getfield 18, 3) := dk_180 0 18 (dk_at dksX2_leavesLog_2 21 rfl rfl)
theorem dX2_leavesLog_71 : decode cX2_leavesLog 71 = .ok (.iload 4, 2) := dk_21 4 (dk_at dksX2_leavesLog_3 0 rfl rfl)
theorem dX2_leavesLog_73 : decode cX2_leavesLog 73 = .ok (.iaload, 1) := dk_46 (dk_at dksX2_leavesLog_3 2 rfl rfl)
theorem dX2_leavesLog_74 : decode cX2_leavesLog 74 = .ok (.iastore, 1) := dk_79 (dk_at dksX2_leavesLog_3 3 rfl rfl)
theorem dX2_leavesLog_75 : decode cX2_leavesLog 75 = .ok (.iinc 3 1, 3) := dk_132 3 1 (dk_at dksX2_leavesLog_3 4 rfl rfl)
theorem dX2_leavesLog_78 : decode cX2_leavesLog 78 = .ok (.iinc 4 1, 3) := dk_132 4 1 (dk_at dksX2_leavesLog_3 7 rfl rfl)
theorem dX2_leavesLog_81 : decode cX2_leavesLog 81 = .ok (.goto (-76), 3) := dk_167 255 180 (dk_at dksX2_leavesLog_3 10 rfl rfl)
theorem dX2_leavesLog_84 : decode cX2_leavesLog 84 = .ok (.aload_n 0, 1) := dk_42 (dk_at dksX2_leavesLog_3 13 rfl rfl)
theorem dX2_leavesLog_85 : decode cX2_leavesLog 85 = .ok (.getfield 160, 3) := dk_180 0 160 (dk_at dksX2_leavesLog_3 14 rfl rfl)
theorem dX2_leavesLog_88 : decode cX2_leavesLog 88 = .ok (.iload_n 3, 1) := dk_29 (dk_at dksX2_leavesLog_3 17 rfl rfl)
theorem dX2_leavesLog_89 : decode cX2_leavesLog 89 = .ok (.isub, 1) := dk_100 (dk_at dksX2_leavesLog_3 18 rfl rfl)
theorem dX2_leavesLog_90 : decode cX2_leavesLog 90 = .ok (.istore 4, 2) := dk_54 4 (dk_at dksX2_leavesLog_3 19 rfl rfl)
theorem dX2_leavesLog_92 : decode cX2_leavesLog 92 = .ok (.aload_n 0, 1) := dk_42 (dk_at dksX2_leavesLog_3 21 rfl rfl)
theorem dX2_leavesLog_93 : decode cX2_leavesLog 93 = .ok (.iload_n 3, 1) := dk_29 (dk_at dksX2_leavesLog_3 22 rfl rfl)
theorem dX2_leavesLog_94 : decode cX2_leavesLog 94 = .ok (.putfield 160, 3) := dk_181 0 160 (dk_at dksX2_leavesLog_4 0 rfl rfl)
theorem dX2_leavesLog_97 : decode cX2_leavesLog 97 = .ok (.iload 4, 2) := dk_21 4 (dk_at dksX2_leavesLog_4 3 rfl rfl)
theorem dX2_leavesLog_99 : decode cX2_leavesLog 99 = .ok (.ireturn, 1) := dk_172 (dk_at dksX2_leavesLog_4 5 rfl rfl)
abbrev cX2_add : ByteArray := prog_6_method_36_code
def yX2_add : MethodName := ⟨RX2, "add", "(IIII)I"⟩
def dkwX2_add_4 : List UInt8 := [182, 0, 74, 136, 172]
abbrev dktX2_add_4 : List UInt8 := dkwX2_add_4 ++ []
def dkwX2_add_3 : List UInt8 := [148, 158, 0, 6, 16, 253, 172, 42, 27, 182, 0, 198, 42, 16, 6, 27, 182, 0, 145, 42, 27, 28]
abbrev dktX2_add_3 : List UInt8 := dkwX2_add_3 ++ dktX2_add_4
def dkwX2_add_2 : List UInt8 := [182, 0, 145, 42, 16, 6, 28, 29, 21, 4, 133, 182, 0, 135, 42, 16, 6, 28, 182, 0, 74, 20, 0, 80]
abbrev dktX2_add_2 : List UInt8 := dkwX2_add_2 ++ dktX2_add_3
def dkwX2_add_1 : List UInt8 := [159, 0, 18, 21, 4, 133, 20, 0, 194, 20, 0, 196, 184, 0, 68, 154, 0, 5, 2, 172, 42, 27, 16, 6]
abbrev dktX2_add_1 : List UInt8 := dkwX2_add_1 ++ dktX2_add_2
def dkwX2_add_0 : List UInt8 := [42, 27, 182, 0, 188, 153, 0, 37, 28, 184, 0, 191, 153, 0, 30, 29, 184, 0, 191, 153, 0, 23, 28, 29]
abbrev dktX2_add_0 : List UInt8 := dkwX2_add_0 ++ dktX2_add_1
theorem dksX2_add_0 : cX2_add.data.toList.drop 0 = dktX2_add_0 := by decide +kernel
theorem dksX2_add_1 : cX2_add.data.toList.drop 24 = dktX2_add_1 := dk_seg dksX2_add_0 24 rfl rfl
theorem dksX2_add_2 : cX2_add.data.toList.drop 48 = dktX2_add_2 := dk_seg dksX2_add_1 24 rfl rfl
theorem dksX2_add_3 : cX2_add.data.toList.drop 72 = dktX2_add_3 := dk_seg dksX2_add_2 24 rfl rfl
theorem dksX2_add_4 : cX2_add.data.toList.drop 94 = dktX2_add_4 := dk_seg dksX2_add_3 22 rfl rfl
theorem dX2_add_0 : decode cX2_add 0 = .ok (.aload_n 0, 1) := dk_42 (dk_at dksX2_add_0 0 rfl rfl)
theorem dX2_add_1 : decode cX2_add 1 = .ok (.iload_n 1, 1) := dk_27 (dk_at dksX2_add_0 1 rfl rfl)
theorem dX2_add_2 : decode cX2_add 2 = .ok (.invokevirtual 188, 3) := dk_182 0 188 (dk_at dksX2_add_0 2 rfl rfl)
theorem dX2_add_5 : decode cX2_add 5 = .ok (.ifCond .eq 37, 3) := dk_153 0 37 (dk_at dksX2_add_0 5 rfl rfl)
theorem dX2_add_8 : decode cX2_add 8 = .ok (.iload_n 2, 1) := dk_28 (dk_at dksX2_add_0 8 rfl rfl)
theorem dX2_add_9 : decode cX2_add 9 = .ok (.invokestatic 191, 3) := dk_184 0 191 (dk_at dksX2_add_0 9 rfl rfl)
theorem dX2_add_12 : decode cX2_add 12 = .ok (.ifCond .eq 30, 3) := dk_153 0 30 (dk_at dksX2_add_0 12 rfl rfl)
theorem dX2_add_15 : decode cX2_add 15 = .ok (.iload_n 3, 1) := dk_29 (dk_at dksX2_add_0 15 rfl rfl)
theorem dX2_add_16 : decode cX2_add 16 = .ok (.invokestatic 191, 3) := dk_184 0 191 (dk_at dksX2_add_0 16 rfl rfl)
theorem dX2_add_19 : decode cX2_add 19 = .ok (.ifCond .eq 23, 3) := dk_153 0 23 (dk_at dksX2_add_0 19 rfl rfl)
theorem dX2_add_22 : decode cX2_add 22 = .ok (.iload_n 2, 1) := dk_28 (dk_at dksX2_add_0 22 rfl rfl)
theorem dX2_add_23 : decode cX2_add 23 = .ok (.iload_n 3, 1) := dk_29 (dk_at dksX2_add_0 23 rfl rfl)
theorem dX2_add_24 : decode cX2_add 24 = .ok (.if_icmp .eq 18, 3) := dk_159 0 18 (dk_at dksX2_add_1 0 rfl rfl)
theorem dX2_add_27 : decode cX2_add 27 = .ok (.iload 4, 2) := dk_21 4 (dk_at dksX2_add_1 3 rfl rfl)
theorem dX2_add_29 : decode cX2_add 29 = .ok (.i2l, 1) := dk_133 (dk_at dksX2_add_1 5 rfl rfl)
theorem dX2_add_30 : decode cX2_add 30 = .ok (.ldc2_w 194, 3) := dk_20 0 194 (dk_at dksX2_add_1 6 rfl rfl)
theorem dX2_add_33 : decode cX2_add 33 = .ok (.ldc2_w 196, 3) := dk_20 0 196 (dk_at dksX2_add_1 9 rfl rfl)
theorem dX2_add_36 : decode cX2_add 36 = .ok (.invokestatic 68, 3) := dk_184 0 68 (dk_at dksX2_add_1 12 rfl rfl)
theorem dX2_add_39 : decode cX2_add 39 = .ok (.ifCond .ne 5, 3) := dk_154 0 5 (dk_at dksX2_add_1 15 rfl rfl)
theorem dX2_add_42 : decode cX2_add 42 = .ok (.iconst (-1), 1) := dk_2 (dk_at dksX2_add_1 18 rfl rfl)
theorem dX2_add_43 : decode cX2_add 43 = .ok (.ireturn, 1) := dk_172 (dk_at dksX2_add_1 19 rfl rfl)
theorem dX2_add_44 : decode cX2_add 44 = .ok (.aload_n 0, 1) := dk_42 (dk_at dksX2_add_1 20 rfl rfl)
theorem dX2_add_45 : decode cX2_add 45 = .ok (.iload_n 1, 1) := dk_27 (dk_at dksX2_add_1 21 rfl rfl)
theorem dX2_add_46 : decode cX2_add 46 = .ok (.bipush 6, 2) := dk_16 6 (dk_at dksX2_add_1 22 rfl rfl)
theorem dX2_add_48 : decode cX2_add 48 = .ok (.invokevirtual 145, 3) := dk_182 0 145 (dk_at dksX2_add_2 0 rfl rfl)
theorem dX2_add_51 : decode cX2_add 51 = .ok (.aload_n 0, 1) := dk_42 (dk_at dksX2_add_2 3 rfl rfl)
theorem dX2_add_52 : decode cX2_add 52 = .ok (.bipush 6, 2) := dk_16 6 (dk_at dksX2_add_2 4 rfl rfl)
theorem dX2_add_54 : decode cX2_add 54 = .ok (.iload_n 2, 1) := dk_28 (dk_at dksX2_add_2 6 rfl rfl)
theorem dX2_add_55 : decode cX2_add 55 = .ok (.iload_n 3, 1) := dk_29 (dk_at dksX2_add_2 7 rfl rfl)
theorem dX2_add_56 : decode cX2_add 56 = .ok (.iload 4, 2) := dk_21 4 (dk_at dksX2_add_2 8 rfl rfl)
theorem dX2_add_58 : decode cX2_add 58 = .ok (.i2l, 1) := dk_133 (dk_at dksX2_add_2 10 rfl rfl)
theorem dX2_add_59 : decode cX2_add 59 = .ok (.invokevirtual 135, 3) := dk_182 0 135 (dk_at dksX2_add_2 11 rfl rfl)
theorem dX2_add_62 : decode cX2_add 62 = .ok (.aload_n 0, 1) := dk_42 (dk_at dksX2_add_2 14 rfl rfl)
theorem dX2_add_63 : decode cX2_add 63 = .ok (.bipush 6, 2) := dk_16 6 (dk_at dksX2_add_2 15 rfl rfl)
theorem dX2_add_65 : decode cX2_add 65 = .ok (.iload_n 2, 1) := dk_28 (dk_at dksX2_add_2 17 rfl rfl)
theorem dX2_add_66 : decode cX2_add 66 = .ok (.invokevirtual 74, 3) := dk_182 0 74 (dk_at dksX2_add_2 18 rfl rfl)
theorem dX2_add_69 : decode cX2_add 69 = .ok (.ldc2_w 80, 3) := dk_20 0 80 (dk_at dksX2_add_2 21 rfl rfl)
theorem dX2_add_72 : decode cX2_add 72 = .ok (.lcmp, 1) := dk_148 (dk_at dksX2_add_3 0 rfl rfl)
theorem dX2_add_73 : decode cX2_add 73 = .ok (.ifCond .le 6, 3) := dk_158 0 6 (dk_at dksX2_add_3 1 rfl rfl)
theorem dX2_add_76 : decode cX2_add 76 = .ok (.bipush (-3), 2) := dk_16 253 (dk_at dksX2_add_3 4 rfl rfl)
theorem dX2_add_78 : decode cX2_add 78 = .ok (.ireturn, 1) := dk_172 (dk_at dksX2_add_3 6 rfl rfl)
theorem dX2_add_79 : decode cX2_add 79 = .ok (.aload_n 0, 1) := dk_42 (dk_at dksX2_add_3 7 rfl rfl)
theorem dX2_add_80 : decode cX2_add 80 = .ok (.iload_n 1, 1) := dk_27 (dk_at dksX2_add_3 8 rfl rfl)
theorem dX2_add_81 : decode cX2_add 81 = .ok (.invokevirtual 198, 3) := dk_182 0 198 (dk_at dksX2_add_3 9 rfl rfl)
theorem dX2_add_84 : decode cX2_add 84 = .ok (.aload_n 0, 1) := dk_42 (dk_at dksX2_add_3 12 rfl rfl)
theorem dX2_add_85 : decode cX2_add 85 = .ok (.bipush 6, 2) := dk_16 6 (dk_at dksX2_add_3 13 rfl rfl)
theorem dX2_add_87 : decode cX2_add 87 = .ok (.iload_n 1, 1) := dk_27 (dk_at dksX2_add_3 15 rfl rfl)
theorem dX2_add_88 : decode cX2_add 88 = .ok (.invokevirtual 145, 3) := dk_182 0 145 (dk_at dksX2_add_3 16 rfl rfl)
theorem dX2_add_91 : decode cX2_add 91 = .ok (.aload_n 0, 1) := dk_42 (dk_at dksX2_add_3 19 rfl rfl)
theorem dX2_add_92 : decode cX2_add 92 = .ok (.iload_n 1, 1) := dk_27 (dk_at dksX2_add_3 20 rfl rfl)
theorem dX2_add_93 : decode cX2_add 93 = .ok (.iload_n 2, 1) := dk_28 (dk_at dksX2_add_3 21 rfl rfl)
theorem dX2_add_94 : decode cX2_add 94 = .ok (.invokevirtual 74, 3) := dk_182 0 74 (dk_at dksX2_add_4 0 rfl rfl)
theorem dX2_add_97 : decode cX2_add 97 = .ok (.l2i, 1) := dk_136 (dk_at dksX2_add_4 3 rfl rfl)
theorem dX2_add_98 : decode cX2_add 98 = .ok (.ireturn, 1) := dk_172 (dk_at dksX2_add_4 4 rfl rfl)
abbrev cX2_isCell : ByteArray := prog_6_method_3_code
def yX2_isCell : MethodName := ⟨RX2, "isCell", "(I)Z"⟩
def dkwX2_isCell_0 : List UInt8 := [27, 133, 9, 42, 180, 0, 64, 4, 100, 133, 184, 0, 68, 172]
abbrev dktX2_isCell_0 : List UInt8 := dkwX2_isCell_0 ++ []
theorem dksX2_isCell_0 : cX2_isCell.data.toList.drop 0 = dktX2_isCell_0 := by decide +kernel
theorem dX2_isCell_0 : decode cX2_isCell 0 = .ok (.iload_n 1, 1) := dk_27 (dk_at dksX2_isCell_0 0 rfl rfl)
theorem dX2_isCell_1 : decode cX2_isCell 1 = .ok (.i2l, 1) := dk_133 (dk_at dksX2_isCell_0 1 rfl rfl)
theorem dX2_isCell_2 : decode cX2_isCell 2 = .ok (.lconst 0, 1) := dk_9 (dk_at dksX2_isCell_0 2 rfl rfl)
theorem dX2_isCell_3 : decode cX2_isCell 3 = .ok (.aload_n 0, 1) := dk_42 (dk_at dksX2_isCell_0 3 rfl rfl)
theorem dX2_isCell_4 : decode cX2_isCell 4 = .ok (.getfield 64, 3) := dk_180 0 64 (dk_at dksX2_isCell_0 4 rfl rfl)
theorem dX2_isCell_7 : decode cX2_isCell 7 = .ok (.iconst 1, 1) := dk_4 (dk_at dksX2_isCell_0 7 rfl rfl)
theorem dX2_isCell_8 : decode cX2_isCell 8 = .ok (.isub, 1) := dk_100 (dk_at dksX2_isCell_0 8 rfl rfl)
theorem dX2_isCell_9 : decode cX2_isCell 9 = .ok (.i2l, 1) := dk_133 (dk_at dksX2_isCell_0 9 rfl rfl)
theorem dX2_isCell_10 : decode cX2_isCell 10 = .ok (.invokestatic 68, 3) := dk_184 0 68 (dk_at dksX2_isCell_0 10 rfl rfl)
theorem dX2_isCell_13 : decode cX2_isCell 13 = .ok (.ireturn, 1) := dk_172 (dk_at dksX2_isCell_0 13 rfl rfl)
abbrev cX2_isVector : ByteArray := prog_6_method_4_code
def yX2_isVector : MethodName := ⟨RX2, "isVector", "(I)Z"⟩
def dkwX2_isVector_0 : List UInt8 := [26, 133, 9, 20, 0, 72, 184, 0, 68, 172]
abbrev dktX2_isVector_0 : List UInt8 := dkwX2_isVector_0 ++ []
theorem dksX2_isVector_0 : cX2_isVector.data.toList.drop 0 = dktX2_isVector_0 := by decide +kernel
theorem dX2_isVector_0 : decode cX2_isVector 0 = .ok (.iload_n 0, 1) := dk_26 (dk_at dksX2_isVector_0 0 rfl rfl)
theorem dX2_isVector_1 : decode cX2_isVector 1 = .ok (.i2l, 1) := dk_133 (dk_at dksX2_isVector_0 1 rfl rfl)
theorem dX2_isVector_2 : decode cX2_isVector 2 = .ok (.lconst 0, 1) := dk_9 (dk_at dksX2_isVector_0 2 rfl rfl)
theorem dX2_isVector_3 : decode cX2_isVector 3 = .ok (.ldc2_w 72, 3) := dk_20 0 72 (dk_at dksX2_isVector_0 3 rfl rfl)
theorem dX2_isVector_6 : decode cX2_isVector 6 = .ok (.invokestatic 68, 3) := dk_184 0 68 (dk_at dksX2_isVector_0 6 rfl rfl)
theorem dX2_isVector_9 : decode cX2_isVector 9 = .ok (.ireturn, 1) := dk_172 (dk_at dksX2_isVector_0 9 rfl rfl)
abbrev cX2_adds : ByteArray := prog_6_method_15_code
def yX2_adds : MethodName := ⟨RX2, "adds", "(IIIJ)V"⟩
def dkwX2_adds_8 : List UInt8 := [177]
abbrev dktX2_adds_8 : List UInt8 := dkwX2_adds_8 ++ []
def dkwX2_adds_7 : List UInt8 := [180, 0, 15, 16, 9, 27, 104, 6, 29, 104, 96, 21, 13, 96, 47, 105, 97, 80, 132, 13, 1, 167, 255, 209]
abbrev dktX2_adds_7 : List UInt8 := dkwX2_adds_7 ++ dktX2_adds_8
def dkwX2_adds_6 : List UInt8 := [162, 0, 47, 42, 180, 0, 15, 16, 9, 27, 104, 6, 28, 104, 96, 21, 13, 96, 92, 47, 22, 4, 42]
abbrev dktX2_adds_6 : List UInt8 := dkwX2_adds_6 ++ dktX2_adds_7
def dkwX2_adds_5 : List UInt8 := [180, 0, 11, 16, 6, 27, 104, 16, 6, 96, 28, 100, 21, 6, 100, 22, 11, 80, 3, 54, 13, 21, 13, 6]
abbrev dktX2_adds_5 : List UInt8 := dkwX2_adds_5 ++ dktX2_adds_6
def dkwX2_adds_4 : List UInt8 := [22, 7, 80, 42, 180, 0, 11, 16, 6, 27, 104, 16, 6, 96, 28, 100, 29, 100, 22, 9, 80, 42]
abbrev dktX2_adds_4 : List UInt8 := dkwX2_adds_4 ++ dktX2_adds_5
def dkwX2_adds_3 : List UInt8 := [22, 4, 42, 27, 29, 21, 6, 182, 0, 90, 105, 97, 55, 11, 42, 180, 0, 11, 16, 6, 27, 104, 28, 96]
abbrev dktX2_adds_3 : List UInt8 := dkwX2_adds_3 ++ dktX2_adds_4
def dkwX2_adds_2 : List UInt8 := [20, 0, 72, 22, 4, 105, 42, 27, 29, 182, 0, 74, 105, 97, 55, 9, 42, 27, 28, 21, 6, 182, 0, 90]
abbrev dktX2_adds_2 : List UInt8 := dkwX2_adds_2 ++ dktX2_adds_3
def dkwX2_adds_1 : List UInt8 := [105, 97, 22, 4, 42, 27, 28, 29, 182, 0, 90, 105, 97, 55, 7, 42, 27, 28, 29, 182, 0, 90]
abbrev dktX2_adds_1 : List UInt8 := dkwX2_adds_1 ++ dktX2_adds_2
def dkwX2_adds_0 : List UInt8 := [6, 28, 100, 29, 100, 54, 6, 42, 27, 28, 182, 0, 74, 22, 4, 22, 4, 105, 42, 27, 29, 182, 0, 74]
abbrev dktX2_adds_0 : List UInt8 := dkwX2_adds_0 ++ dktX2_adds_1
theorem dksX2_adds_0 : cX2_adds.data.toList.drop 0 = dktX2_adds_0 := by decide +kernel
theorem dksX2_adds_1 : cX2_adds.data.toList.drop 24 = dktX2_adds_1 := dk_seg dksX2_adds_0 24 rfl rfl
theorem dksX2_adds_2 : cX2_adds.data.toList.drop 46 = dktX2_adds_2 := dk_seg dksX2_adds_1 22 rfl rfl
theorem dksX2_adds_3 : cX2_adds.data.toList.drop 70 = dktX2_adds_3 := dk_seg dksX2_adds_2 24 rfl rfl
theorem dksX2_adds_4 : cX2_adds.data.toList.drop 94 = dktX2_adds_4 := dk_seg dksX2_adds_3 24 rfl rfl
theorem dksX2_adds_5 : cX2_adds.data.toList.drop 116 = dktX2_adds_5 := dk_seg dksX2_adds_4 22 rfl rfl
theorem dksX2_adds_6 : cX2_adds.data.toList.drop 140 = dktX2_adds_6 := dk_seg dksX2_adds_5 24 rfl rfl
theorem dksX2_adds_7 : cX2_adds.data.toList.drop 163 = dktX2_adds_7 := dk_seg dksX2_adds_6 23 rfl rfl
theorem dksX2_adds_8 : cX2_adds.data.toList.drop 187 = dktX2_adds_8 := dk_seg dksX2_adds_7 24 rfl rfl
theorem dX2_adds_0 : decode cX2_adds 0 = .ok (.iconst 3, 1) := dk_6 (dk_at dksX2_adds_0 0 rfl rfl)
theorem dX2_adds_1 : decode cX2_adds 1 = .ok (.iload_n 2, 1) := dk_28 (dk_at dksX2_adds_0 1 rfl rfl)
theorem dX2_adds_2 : decode cX2_adds 2 = .ok (.isub, 1) := dk_100 (dk_at dksX2_adds_0 2 rfl rfl)
theorem dX2_adds_3 : decode cX2_adds 3 = .ok (.iload_n 3, 1) := dk_29 (dk_at dksX2_adds_0 3 rfl rfl)
theorem dX2_adds_4 : decode cX2_adds 4 = .ok (.isub, 1) := dk_100 (dk_at dksX2_adds_0 4 rfl rfl)
theorem dX2_adds_5 : decode cX2_adds 5 = .ok (.istore 6, 2) := dk_54 6 (dk_at dksX2_adds_0 5 rfl rfl)
theorem dX2_adds_7 : decode cX2_adds 7 = .ok (.aload_n 0, 1) := dk_42 (dk_at dksX2_adds_0 7 rfl rfl)
theorem dX2_adds_8 : decode cX2_adds 8 = .ok (.iload_n 1, 1) := dk_27 (dk_at dksX2_adds_0 8 rfl rfl)
theorem dX2_adds_9 : decode cX2_adds 9 = .ok (.iload_n 2, 1) := dk_28 (dk_at dksX2_adds_0 9 rfl rfl)
theorem dX2_adds_10 : decode cX2_adds 10 = .ok (.invokevirtual 74, 3) := dk_182 0 74 (dk_at dksX2_adds_0 10 rfl rfl)
theorem dX2_adds_13 : decode cX2_adds 13 = .ok (.lload 4, 2) := dk_22 4 (dk_at dksX2_adds_0 13 rfl rfl)
theorem dX2_adds_15 : decode cX2_adds 15 = .ok (.lload 4, 2) := dk_22 4 (dk_at dksX2_adds_0 15 rfl rfl)
theorem dX2_adds_17 : decode cX2_adds 17 = .ok (.lmul, 1) := dk_105 (dk_at dksX2_adds_0 17 rfl rfl)
theorem dX2_adds_18 : decode cX2_adds 18 = .ok (.aload_n 0, 1) := dk_42 (dk_at dksX2_adds_0 18 rfl rfl)
theorem dX2_adds_19 : decode cX2_adds 19 = .ok (.iload_n 1, 1) := dk_27 (dk_at dksX2_adds_0 19 rfl rfl)
theorem dX2_adds_20 : decode cX2_adds 20 = .ok (.iload_n 3, 1) := dk_29 (dk_at dksX2_adds_0 20 rfl rfl)
theorem dX2_adds_21 : decode cX2_adds 21 = .ok (.invokevirtual 74, 3) := dk_182 0 74 (dk_at dksX2_adds_0 21 rfl rfl)
theorem dX2_adds_24 : decode cX2_adds 24 = .ok (.lmul, 1) := dk_105 (dk_at dksX2_adds_1 0 rfl rfl)
theorem dX2_adds_25 : decode cX2_adds 25 = .ok (.ladd, 1) := dk_97 (dk_at dksX2_adds_1 1 rfl rfl)
theorem dX2_adds_26 : decode cX2_adds 26 = .ok (.lload 4, 2) := dk_22 4 (dk_at dksX2_adds_1 2 rfl rfl)
theorem dX2_adds_28 : decode cX2_adds 28 = .ok (.aload_n 0, 1) := dk_42 (dk_at dksX2_adds_1 4 rfl rfl)
theorem dX2_adds_29 : decode cX2_adds 29 = .ok (.iload_n 1, 1) := dk_27 (dk_at dksX2_adds_1 5 rfl rfl)
theorem dX2_adds_30 : decode cX2_adds 30 = .ok (.iload_n 2, 1) := dk_28 (dk_at dksX2_adds_1 6 rfl rfl)
theorem dX2_adds_31 : decode cX2_adds 31 = .ok (.iload_n 3, 1) := dk_29 (dk_at dksX2_adds_1 7 rfl rfl)
theorem dX2_adds_32 : decode cX2_adds 32 = .ok (.invokevirtual 90, 3) := dk_182 0 90 (dk_at dksX2_adds_1 8 rfl rfl)
theorem dX2_adds_35 : decode cX2_adds 35 = .ok (.lmul, 1) := dk_105 (dk_at dksX2_adds_1 11 rfl rfl)
theorem dX2_adds_36 : decode cX2_adds 36 = .ok (.ladd, 1) := dk_97 (dk_at dksX2_adds_1 12 rfl rfl)
theorem dX2_adds_37 : decode cX2_adds 37 = .ok (.lstore 7, 2) := dk_55 7 (dk_at dksX2_adds_1 13 rfl rfl)
theorem dX2_adds_39 : decode cX2_adds 39 = .ok (.aload_n 0, 1) := dk_42 (dk_at dksX2_adds_1 15 rfl rfl)
theorem dX2_adds_40 : decode cX2_adds 40 = .ok (.iload_n 1, 1) := dk_27 (dk_at dksX2_adds_1 16 rfl rfl)
theorem dX2_adds_41 : decode cX2_adds 41 = .ok (.iload_n 2, 1) := dk_28 (dk_at dksX2_adds_1 17 rfl rfl)
theorem dX2_adds_42 : decode cX2_adds 42 = .ok (.iload_n 3, 1) := dk_29 (dk_at dksX2_adds_1 18 rfl rfl)
theorem dX2_adds_43 : decode cX2_adds 43 = .ok (.invokevirtual 90, 3) := dk_182 0 90 (dk_at dksX2_adds_1 19 rfl rfl)
theorem dX2_adds_46 : decode cX2_adds 46 = .ok (.ldc2_w 72, 3) := dk_20 0 72 (dk_at dksX2_adds_2 0 rfl rfl)
theorem dX2_adds_49 : decode cX2_adds 49 = .ok (.lload 4, 2) := dk_22 4 (dk_at dksX2_adds_2 3 rfl rfl)
theorem dX2_adds_51 : decode cX2_adds 51 = .ok (.lmul, 1) := dk_105 (dk_at dksX2_adds_2 5 rfl rfl)
theorem dX2_adds_52 : decode cX2_adds 52 = .ok (.aload_n 0, 1) := dk_42 (dk_at dksX2_adds_2 6 rfl rfl)
theorem dX2_adds_53 : decode cX2_adds 53 = .ok (.iload_n 1, 1) := dk_27 (dk_at dksX2_adds_2 7 rfl rfl)
theorem dX2_adds_54 : decode cX2_adds 54 = .ok (.iload_n 3, 1) := dk_29 (dk_at dksX2_adds_2 8 rfl rfl)
theorem dX2_adds_55 : decode cX2_adds 55 = .ok (.invokevirtual 74, 3) := dk_182 0 74 (dk_at dksX2_adds_2 9 rfl rfl)
theorem dX2_adds_58 : decode cX2_adds 58 = .ok (.lmul, 1) := dk_105 (dk_at dksX2_adds_2 12 rfl rfl)
theorem dX2_adds_59 : decode cX2_adds 59 = .ok (.ladd, 1) := dk_97 (dk_at dksX2_adds_2 13 rfl rfl)
theorem dX2_adds_60 : decode cX2_adds 60 = .ok (.lstore 9, 2) := dk_55 9 (dk_at dksX2_adds_2 14 rfl rfl)
theorem dX2_adds_62 : decode cX2_adds 62 = .ok (.aload_n 0, 1) := dk_42 (dk_at dksX2_adds_2 16 rfl rfl)
theorem dX2_adds_63 : decode cX2_adds 63 = .ok (.iload_n 1, 1) := dk_27 (dk_at dksX2_adds_2 17 rfl rfl)
theorem dX2_adds_64 : decode cX2_adds 64 = .ok (.iload_n 2, 1) := dk_28 (dk_at dksX2_adds_2 18 rfl rfl)
theorem dX2_adds_65 : decode cX2_adds 65 = .ok (.iload 6, 2) := dk_21 6 (dk_at dksX2_adds_2 19 rfl rfl)
theorem dX2_adds_67 : decode cX2_adds 67 = .ok (.invokevirtual 90, 3) := dk_182 0 90 (dk_at dksX2_adds_2 21 rfl rfl)
theorem dX2_adds_70 : decode cX2_adds 70 = .ok (.lload 4, 2) := dk_22 4 (dk_at dksX2_adds_3 0 rfl rfl)
theorem dX2_adds_72 : decode cX2_adds 72 = .ok (.aload_n 0, 1) := dk_42 (dk_at dksX2_adds_3 2 rfl rfl)
theorem dX2_adds_73 : decode cX2_adds 73 = .ok (.iload_n 1, 1) := dk_27 (dk_at dksX2_adds_3 3 rfl rfl)
theorem dX2_adds_74 : decode cX2_adds 74 = .ok (.iload_n 3, 1) := dk_29 (dk_at dksX2_adds_3 4 rfl rfl)
theorem dX2_adds_75 : decode cX2_adds 75 = .ok (.iload 6, 2) := dk_21 6 (dk_at dksX2_adds_3 5 rfl rfl)
theorem dX2_adds_77 : decode cX2_adds 77 = .ok (.invokevirtual 90, 3) := dk_182 0 90 (dk_at dksX2_adds_3 7 rfl rfl)
theorem dX2_adds_80 : decode cX2_adds 80 = .ok (.lmul, 1) := dk_105 (dk_at dksX2_adds_3 10 rfl rfl)
theorem dX2_adds_81 : decode cX2_adds 81 = .ok (.ladd, 1) := dk_97 (dk_at dksX2_adds_3 11 rfl rfl)
theorem dX2_adds_82 : decode cX2_adds 82 = .ok (.lstore 11, 2) := dk_55 11 (dk_at dksX2_adds_3 12 rfl rfl)
theorem dX2_adds_84 : decode cX2_adds 84 = .ok (.aload_n 0, 1) := dk_42 (dk_at dksX2_adds_3 14 rfl rfl)
theorem dX2_adds_85 : decode cX2_adds 85 = .ok (.getfield 11, 3) := dk_180 0 11 (dk_at dksX2_adds_3 15 rfl rfl)
theorem dX2_adds_88 : decode cX2_adds 88 = .ok (.bipush 6, 2) := dk_16 6 (dk_at dksX2_adds_3 18 rfl rfl)
theorem dX2_adds_90 : decode cX2_adds 90 = .ok (.iload_n 1, 1) := dk_27 (dk_at dksX2_adds_3 20 rfl rfl)
theorem dX2_adds_91 : decode cX2_adds 91 = .ok (.imul, 1) := dk_104 (dk_at dksX2_adds_3 21 rfl rfl)
theorem dX2_adds_92 : decode cX2_adds 92 = .ok (.iload_n 2, 1) := dk_28 (dk_at dksX2_adds_3 22 rfl rfl)
theorem dX2_adds_93 : decode cX2_adds 93 = .ok (.iadd, 1) := dk_96 (dk_at dksX2_adds_3 23 rfl rfl)
theorem dX2_adds_94 : decode cX2_adds 94 = .ok (.lload 7, 2) := dk_22 7 (dk_at dksX2_adds_4 0 rfl rfl)
theorem dX2_adds_96 : decode cX2_adds 96 = .ok (.lastore, 1) := dk_80 (dk_at dksX2_adds_4 2 rfl rfl)
theorem dX2_adds_97 : decode cX2_adds 97 = .ok (.aload_n 0, 1) := dk_42 (dk_at dksX2_adds_4 3 rfl rfl)
theorem dX2_adds_98 : decode cX2_adds 98 = .ok (.getfield 11, 3) := dk_180 0 11 (dk_at dksX2_adds_4 4 rfl rfl)
theorem dX2_adds_101 : decode cX2_adds 101 = .ok (.bipush 6, 2) := dk_16 6 (dk_at dksX2_adds_4 7 rfl rfl)
theorem dX2_adds_103 : decode cX2_adds 103 = .ok (.iload_n 1, 1) := dk_27 (dk_at dksX2_adds_4 9 rfl rfl)
theorem dX2_adds_104 : decode cX2_adds 104 = .ok (.imul, 1) := dk_104 (dk_at dksX2_adds_4 10 rfl rfl)
theorem dX2_adds_105 : decode cX2_adds 105 = .ok (.bipush 6, 2) := dk_16 6 (dk_at dksX2_adds_4 11 rfl rfl)
theorem dX2_adds_107 : decode cX2_adds 107 = .ok (.iadd, 1) := dk_96 (dk_at dksX2_adds_4 13 rfl rfl)
theorem dX2_adds_108 : decode cX2_adds 108 = .ok (.iload_n 2, 1) := dk_28 (dk_at dksX2_adds_4 14 rfl rfl)
theorem dX2_adds_109 : decode cX2_adds 109 = .ok (.isub, 1) := dk_100 (dk_at dksX2_adds_4 15 rfl rfl)
theorem dX2_adds_110 : decode cX2_adds 110 = .ok (.iload_n 3, 1) := dk_29 (dk_at dksX2_adds_4 16 rfl rfl)
theorem dX2_adds_111 : decode cX2_adds 111 = .ok (.isub, 1) := dk_100 (dk_at dksX2_adds_4 17 rfl rfl)
theorem dX2_adds_112 : decode cX2_adds 112 = .ok (.lload 9, 2) := dk_22 9 (dk_at dksX2_adds_4 18 rfl rfl)
theorem dX2_adds_114 : decode cX2_adds 114 = .ok (.lastore, 1) := dk_80 (dk_at dksX2_adds_4 20 rfl rfl)
theorem dX2_adds_115 : decode cX2_adds 115 = .ok (.aload_n 0, 1) := dk_42 (dk_at dksX2_adds_4 21 rfl rfl)
theorem dX2_adds_116 : decode cX2_adds 116 = .ok (.getfield 11, 3) := dk_180 0 11 (dk_at dksX2_adds_5 0 rfl rfl)
theorem dX2_adds_119 : decode cX2_adds 119 = .ok (.bipush 6, 2) := dk_16 6 (dk_at dksX2_adds_5 3 rfl rfl)
theorem dX2_adds_121 : decode cX2_adds 121 = .ok (.iload_n 1, 1) := dk_27 (dk_at dksX2_adds_5 5 rfl rfl)
theorem dX2_adds_122 : decode cX2_adds 122 = .ok (.imul, 1) := dk_104 (dk_at dksX2_adds_5 6 rfl rfl)
theorem dX2_adds_123 : decode cX2_adds 123 = .ok (.bipush 6, 2) := dk_16 6 (dk_at dksX2_adds_5 7 rfl rfl)
theorem dX2_adds_125 : decode cX2_adds 125 = .ok (.iadd, 1) := dk_96 (dk_at dksX2_adds_5 9 rfl rfl)
theorem dX2_adds_126 : decode cX2_adds 126 = .ok (.iload_n 2, 1) := dk_28 (dk_at dksX2_adds_5 10 rfl rfl)
theorem dX2_adds_127 : decode cX2_adds 127 = .ok (.isub, 1) := dk_100 (dk_at dksX2_adds_5 11 rfl rfl)
theorem dX2_adds_128 : decode cX2_adds 128 = .ok (.iload 6, 2) := dk_21 6 (dk_at dksX2_adds_5 12 rfl rfl)
theorem dX2_adds_130 : decode cX2_adds 130 = .ok (.isub, 1) := dk_100 (dk_at dksX2_adds_5 14 rfl rfl)
theorem dX2_adds_131 : decode cX2_adds 131 = .ok (.lload 11, 2) := dk_22 11 (dk_at dksX2_adds_5 15 rfl rfl)
theorem dX2_adds_133 : decode cX2_adds 133 = .ok (.lastore, 1) := dk_80 (dk_at dksX2_adds_5 17 rfl rfl)
theorem dX2_adds_134 : decode cX2_adds 134 = .ok (.iconst 0, 1) := dk_3 (dk_at dksX2_adds_5 18 rfl rfl)
theorem dX2_adds_135 : decode cX2_adds 135 = .ok (.istore 13, 2) := dk_54 13 (dk_at dksX2_adds_5 19 rfl rfl)
theorem dX2_adds_137 : decode cX2_adds 137 = .ok (.iload 13, 2) := dk_21 13 (dk_at dksX2_adds_5 21 rfl rfl)
theorem dX2_adds_139 : decode cX2_adds 139 = .ok (.iconst 3, 1) := dk_6 (dk_at dksX2_adds_5 23 rfl rfl)
theorem dX2_adds_140 : decode cX2_adds 140 = .ok (.if_icmp .ge 47, 3) := dk_162 0 47 (dk_at dksX2_adds_6 0 rfl rfl)
theorem dX2_adds_143 : decode cX2_adds 143 = .ok (.aload_n 0, 1) := dk_42 (dk_at dksX2_adds_6 3 rfl rfl)
theorem dX2_adds_144 : decode cX2_adds 144 = .ok (.getfield 15, 3) := dk_180 0 15 (dk_at dksX2_adds_6 4 rfl rfl)
theorem dX2_adds_147 : decode cX2_adds 147 = .ok (.bipush 9, 2) := dk_16 9 (dk_at dksX2_adds_6 7 rfl rfl)
theorem dX2_adds_149 : decode cX2_adds 149 = .ok (.iload_n 1, 1) := dk_27 (dk_at dksX2_adds_6 9 rfl rfl)
theorem dX2_adds_150 : decode cX2_adds 150 = .ok (.imul, 1) := dk_104 (dk_at dksX2_adds_6 10 rfl rfl)
theorem dX2_adds_151 : decode cX2_adds 151 = .ok (.iconst 3, 1) := dk_6 (dk_at dksX2_adds_6 11 rfl rfl)
theorem dX2_adds_152 : decode cX2_adds 152 = .ok (.iload_n 2, 1) := dk_28 (dk_at dksX2_adds_6 12 rfl rfl)
theorem dX2_adds_153 : decode cX2_adds 153 = .ok (.imul, 1) := dk_104 (dk_at dksX2_adds_6 13 rfl rfl)
theorem dX2_adds_154 : decode cX2_adds 154 = .ok (.iadd, 1) := dk_96 (dk_at dksX2_adds_6 14 rfl rfl)
theorem dX2_adds_155 : decode cX2_adds 155 = .ok (.iload 13, 2) := dk_21 13 (dk_at dksX2_adds_6 15 rfl rfl)
theorem dX2_adds_157 : decode cX2_adds 157 = .ok (.iadd, 1) := dk_96 (dk_at dksX2_adds_6 17 rfl rfl)
theorem dX2_adds_158 : decode cX2_adds 158 = .ok (.dup2, 1) := dk_92 (dk_at dksX2_adds_6 18 rfl rfl)
theorem dX2_adds_159 : decode cX2_adds 159 = .ok (.laload, 1) := dk_47 (dk_at dksX2_adds_6 19 rfl rfl)
theorem dX2_adds_160 : decode cX2_adds 160 = .ok (.lload 4, 2) := dk_22 4 (dk_at dksX2_adds_6 20 rfl rfl)
theorem dX2_adds_162 : decode cX2_adds 162 = .ok (.aload_n 0, 1) := dk_42 (dk_at dksX2_adds_6 22 rfl rfl)
theorem dX2_adds_163 : decode cX2_adds 163 = .ok (.getfield 15, 3) := dk_180 0 15 (dk_at dksX2_adds_7 0 rfl rfl)
theorem dX2_adds_166 : decode cX2_adds 166 = .ok (.bipush 9, 2) := dk_16 9 (dk_at dksX2_adds_7 3 rfl rfl)
theorem dX2_adds_168 : decode cX2_adds 168 = .ok (.iload_n 1, 1) := dk_27 (dk_at dksX2_adds_7 5 rfl rfl)
theorem dX2_adds_169 : decode cX2_adds 169 = .ok (.imul, 1) := dk_104 (dk_at dksX2_adds_7 6 rfl rfl)
theorem dX2_adds_170 : decode cX2_adds 170 = .ok (.iconst 3, 1) := dk_6 (dk_at dksX2_adds_7 7 rfl rfl)
theorem dX2_adds_171 : decode cX2_adds 171 = .ok (.iload_n 3, 1) := dk_29 (dk_at dksX2_adds_7 8 rfl rfl)
theorem dX2_adds_172 : decode cX2_adds 172 = .ok (.imul, 1) := dk_104 (dk_at dksX2_adds_7 9 rfl rfl)
theorem dX2_adds_173 : decode cX2_adds 173 = .ok (.iadd, 1) := dk_96 (dk_at dksX2_adds_7 10 rfl rfl)
theorem dX2_adds_174 : decode cX2_adds 174 = .ok (.iload 13, 2) := dk_21 13 (dk_at dksX2_adds_7 11 rfl rfl)
theorem dX2_adds_176 : decode cX2_adds 176 = .ok (.iadd, 1) := dk_96 (dk_at dksX2_adds_7 13 rfl rfl)
theorem dX2_adds_177 : decode cX2_adds 177 = .ok (.laload, 1) := dk_47 (dk_at dksX2_adds_7 14 rfl rfl)
theorem dX2_adds_178 : decode cX2_adds 178 = .ok (.lmul, 1) := dk_105 (dk_at dksX2_adds_7 15 rfl rfl)
theorem dX2_adds_179 : decode cX2_adds 179 = .ok (.ladd, 1) := dk_97 (dk_at dksX2_adds_7 16 rfl rfl)
theorem dX2_adds_180 : decode cX2_adds 180 = .ok (.lastore, 1) := dk_80 (dk_at dksX2_adds_7 17 rfl rfl)
theorem dX2_adds_181 : decode cX2_adds 181 = .ok (.iinc 13 1, 3) := dk_132 13 1 (dk_at dksX2_adds_7 18 rfl rfl)
theorem dX2_adds_184 : decode cX2_adds 184 = .ok (.goto (-47), 3) := dk_167 255 209 (dk_at dksX2_adds_7 21 rfl rfl)
theorem dX2_adds_187 : decode cX2_adds 187 = .ok (.return_, 1) := dk_177 (dk_at dksX2_adds_8 0 rfl rfl)
abbrev cX2_by : ByteArray := prog_6_method_7_code
def yX2_by : MethodName := ⟨RX2, "by", "(III)J"⟩
def dkwX2_by_1 : List UInt8 := [29, 100, 182, 0, 74, 173]
abbrev dktX2_by_1 : List UInt8 := dkwX2_by_1 ++ []
def dkwX2_by_0 : List UInt8 := [28, 29, 160, 0, 16, 20, 0, 72, 42, 27, 28, 182, 0, 74, 105, 167, 0, 14, 42, 27, 16, 6, 28, 100]
abbrev dktX2_by_0 : List UInt8 := dkwX2_by_0 ++ dktX2_by_1
theorem dksX2_by_0 : cX2_by.data.toList.drop 0 = dktX2_by_0 := by decide +kernel
theorem dksX2_by_1 : cX2_by.data.toList.drop 24 = dktX2_by_1 := dk_seg dksX2_by_0 24 rfl rfl
theorem dX2_by_0 : decode cX2_by 0 = .ok (.iload_n 2, 1) := dk_28 (dk_at dksX2_by_0 0 rfl rfl)
theorem dX2_by_1 : decode cX2_by 1 = .ok (.iload_n 3, 1) := dk_29 (dk_at dksX2_by_0 1 rfl rfl)
theorem dX2_by_2 : decode cX2_by 2 = .ok (.if_icmp .ne 16, 3) := dk_160 0 16 (dk_at dksX2_by_0 2 rfl rfl)
theorem dX2_by_5 : decode cX2_by 5 = .ok (.ldc2_w 72, 3) := dk_20 0 72 (dk_at dksX2_by_0 5 rfl rfl)
theorem dX2_by_8 : decode cX2_by 8 = .ok (.aload_n 0, 1) := dk_42 (dk_at dksX2_by_0 8 rfl rfl)
theorem dX2_by_9 : decode cX2_by 9 = .ok (.iload_n 1, 1) := dk_27 (dk_at dksX2_by_0 9 rfl rfl)
theorem dX2_by_10 : decode cX2_by 10 = .ok (.iload_n 2, 1) := dk_28 (dk_at dksX2_by_0 10 rfl rfl)
theorem dX2_by_11 : decode cX2_by 11 = .ok (.invokevirtual 74, 3) := dk_182 0 74 (dk_at dksX2_by_0 11 rfl rfl)
theorem dX2_by_14 : decode cX2_by 14 = .ok (.lmul, 1) := dk_105 (dk_at dksX2_by_0 14 rfl rfl)
theorem dX2_by_15 : decode cX2_by 15 = .ok (.goto 14, 3) := dk_167 0 14 (dk_at dksX2_by_0 15 rfl rfl)
theorem dX2_by_18 : decode cX2_by 18 = .ok (.aload_n 0, 1) := dk_42 (dk_at dksX2_by_0 18 rfl rfl)
theorem dX2_by_19 : decode cX2_by 19 = .ok (.iload_n 1, 1) := dk_27 (dk_at dksX2_by_0 19 rfl rfl)
theorem dX2_by_20 : decode cX2_by 20 = .ok (.bipush 6, 2) := dk_16 6 (dk_at dksX2_by_0 20 rfl rfl)
theorem dX2_by_22 : decode cX2_by 22 = .ok (.iload_n 2, 1) := dk_28 (dk_at dksX2_by_0 22 rfl rfl)
theorem dX2_by_23 : decode cX2_by 23 = .ok (.isub, 1) := dk_100 (dk_at dksX2_by_0 23 rfl rfl)
theorem dX2_by_24 : decode cX2_by 24 = .ok (.iload_n 3, 1) := dk_29 (dk_at dksX2_by_1 0 rfl rfl)
theorem dX2_by_25 : decode cX2_by 25 = .ok (.isub, 1) := dk_100 (dk_at dksX2_by_1 1 rfl rfl)
theorem dX2_by_26 : decode cX2_by 26 = .ok (.invokevirtual 74, 3) := dk_182 0 74 (dk_at dksX2_by_1 2 rfl rfl)
theorem dX2_by_29 : decode cX2_by 29 = .ok (.lreturn, 1) := dk_173 (dk_at dksX2_by_1 5 rfl rfl)
abbrev cX2_remembers : ByteArray := prog_6_method_28_code
def yX2_remembers : MethodName := ⟨RX2, "remembers", "(I)V"⟩
def dkwX2_remembers_2 : List UInt8 := [16, 12, 112, 61, 42, 180, 0, 31, 28, 27, 79, 42, 27, 16, 14, 28, 96, 182, 0, 145, 177]
abbrev dktX2_remembers_2 : List UInt8 := dkwX2_remembers_2 ++ []
def dkwX2_remembers_1 : List UInt8 := [167, 0, 13, 42, 89, 180, 0, 154, 4, 96, 181, 0, 154, 42, 180, 0, 157, 42, 180, 0, 154, 96, 4, 100]
abbrev dktX2_remembers_1 : List UInt8 := dkwX2_remembers_1 ++ dktX2_remembers_2
def dkwX2_remembers_0 : List UInt8 := [42, 180, 0, 154, 16, 12, 160, 0, 19, 42, 42, 180, 0, 157, 4, 96, 16, 12, 112, 181, 0, 157]
abbrev dktX2_remembers_0 : List UInt8 := dkwX2_remembers_0 ++ dktX2_remembers_1
theorem dksX2_remembers_0 : cX2_remembers.data.toList.drop 0 = dktX2_remembers_0 := by decide +kernel
theorem dksX2_remembers_1 : cX2_remembers.data.toList.drop 22 = dktX2_remembers_1 := dk_seg dksX2_remembers_0 22 rfl rfl
theorem dksX2_remembers_2 : cX2_remembers.data.toList.drop 46 = dktX2_remembers_2 := dk_seg dksX2_remembers_1 24 rfl rfl
theorem dX2_remembers_0 : decode cX2_remembers 0 = .ok (.aload_n 0, 1) := dk_42 (dk_at dksX2_remembers_0 0 rfl rfl)
theorem dX2_remembers_1 : decode cX2_remembers 1 = .ok (.getfield 154, 3) := dk_180 0 154 (dk_at dksX2_remembers_0 1 rfl rfl)
theorem dX2_remembers_4 : decode cX2_remembers 4 = .ok (.bipush 12, 2) := dk_16 12 (dk_at dksX2_remembers_0 4 rfl rfl)
theorem dX2_remembers_6 : decode cX2_remembers 6 = .ok (.if_icmp .ne 19, 3) := dk_160 0 19 (dk_at dksX2_remembers_0 6 rfl rfl)
theorem dX2_remembers_9 : decode cX2_remembers 9 = .ok (.aload_n 0, 1) := dk_42 (dk_at dksX2_remembers_0 9 rfl rfl)
theorem dX2_remembers_10 : decode cX2_remembers 10 = .ok (.aload_n 0, 1) := dk_42 (dk_at dksX2_remembers_0 10 rfl rfl)
theorem dX2_remembers_11 : decode cX2_remembers 11 = .ok (.getfield 157, 3) := dk_180 0 157 (dk_at dksX2_remembers_0 11 rfl rfl)
theorem dX2_remembers_14 : decode cX2_remembers 14 = .ok (.iconst 1, 1) := dk_4 (dk_at dksX2_remembers_0 14 rfl rfl)
theorem dX2_remembers_15 : decode cX2_remembers 15 = .ok (.iadd, 1) := dk_96 (dk_at dksX2_remembers_0 15 rfl rfl)
theorem dX2_remembers_16 : decode cX2_remembers 16 = .ok (.bipush 12, 2) := dk_16 12 (dk_at dksX2_remembers_0 16 rfl rfl)
theorem dX2_remembers_18 : decode cX2_remembers 18 = .ok (.irem, 1) := dk_112 (dk_at dksX2_remembers_0 18 rfl rfl)
theorem dX2_remembers_19 : decode cX2_remembers 19 = .ok (.putfield 157, 3) := dk_181 0 157 (dk_at dksX2_remembers_0 19 rfl rfl)
theorem dX2_remembers_22 : decode cX2_remembers 22 = .ok (.goto 13, 3) := dk_167 0 13 (dk_at dksX2_remembers_1 0 rfl rfl)
theorem dX2_remembers_25 : decode cX2_remembers 25 = .ok (.aload_n 0, 1) := dk_42 (dk_at dksX2_remembers_1 3 rfl rfl)
theorem dX2_remembers_26 : decode cX2_remembers 26 = .ok (.dup, 1) := dk_89 (dk_at dksX2_remembers_1 4 rfl rfl)
theorem dX2_remembers_27 : decode cX2_remembers 27 = .ok (.getfield 154, 3) := dk_180 0 154 (dk_at dksX2_remembers_1 5 rfl rfl)
theorem dX2_remembers_30 : decode cX2_remembers 30 = .ok (.iconst 1, 1) := dk_4 (dk_at dksX2_remembers_1 8 rfl rfl)
theorem dX2_remembers_31 : decode cX2_remembers 31 = .ok (.iadd, 1) := dk_96 (dk_at dksX2_remembers_1 9 rfl rfl)
theorem dX2_remembers_32 : decode cX2_remembers 32 = .ok (.putfield 154, 3) := dk_181 0 154 (dk_at dksX2_remembers_1 10 rfl rfl)
theorem dX2_remembers_35 : decode cX2_remembers 35 = .ok (.aload_n 0, 1) := dk_42 (dk_at dksX2_remembers_1 13 rfl rfl)
theorem dX2_remembers_36 : decode cX2_remembers 36 = .ok (.getfield 157, 3) := dk_180 0 157 (dk_at dksX2_remembers_1 14 rfl rfl)
theorem dX2_remembers_39 : decode cX2_remembers 39 = .ok (.aload_n 0, 1) := dk_42 (dk_at dksX2_remembers_1 17 rfl rfl)
theorem dX2_remembers_40 : decode cX2_remembers 40 = .ok (.getfield 154, 3) := dk_180 0 154 (dk_at dksX2_remembers_1 18 rfl rfl)
theorem dX2_remembers_43 : decode cX2_remembers 43 = .ok (.iadd, 1) := dk_96 (dk_at dksX2_remembers_1 21 rfl rfl)
theorem dX2_remembers_44 : decode cX2_remembers 44 = .ok (.iconst 1, 1) := dk_4 (dk_at dksX2_remembers_1 22 rfl rfl)
theorem dX2_remembers_45 : decode cX2_remembers 45 = .ok (.isub, 1) := dk_100 (dk_at dksX2_remembers_1 23 rfl rfl)
theorem dX2_remembers_46 : decode cX2_remembers 46 = .ok (.bipush 12, 2) := dk_16 12 (dk_at dksX2_remembers_2 0 rfl rfl)
theorem dX2_remembers_48 : decode cX2_remembers 48 = .ok (.irem, 1) := dk_112 (dk_at dksX2_remembers_2 2 rfl rfl)
theorem dX2_remembers_49 : decode cX2_remembers 49 = .ok (.istore_n 2, 1) := dk_61 (dk_at dksX2_remembers_2 3 rfl rfl)
theorem dX2_remembers_50 : decode cX2_remembers 50 = .ok (.aload_n 0, 1) := dk_42 (dk_at dksX2_remembers_2 4 rfl rfl)
theorem dX2_remembers_51 : decode cX2_remembers 51 = .ok (.getfield 31, 3) := dk_180 0 31 (dk_at dksX2_remembers_2 5 rfl rfl)
theorem dX2_remembers_54 : decode cX2_remembers 54 = .ok (.iload_n 2, 1) := dk_28 (dk_at dksX2_remembers_2 8 rfl rfl)
theorem dX2_remembers_55 : decode cX2_remembers 55 = .ok (.iload_n 1, 1) := dk_27 (dk_at dksX2_remembers_2 9 rfl rfl)
theorem dX2_remembers_56 : decode cX2_remembers 56 = .ok (.iastore, 1) := dk_79 (dk_at dksX2_remembers_2 10 rfl rfl)
theorem dX2_remembers_57 : decode cX2_remembers 57 = .ok (.aload_n 0, 1) := dk_42 (dk_at dksX2_remembers_2 11 rfl rfl)
theorem dX2_remembers_58 : decode cX2_remembers 58 = .ok (.iload_n 1, 1) := dk_27 (dk_at dksX2_remembers_2 12 rfl rfl)
theorem dX2_remembers_59 : decode cX2_remembers 59 = .ok (.bipush 14, 2) := dk_16 14 (dk_at dksX2_remembers_2 13 rfl rfl)
theorem dX2_remembers_61 : decode cX2_remembers 61 = .ok (.iload_n 2, 1) := dk_28 (dk_at dksX2_remembers_2 15 rfl rfl)
theorem dX2_remembers_62 : decode cX2_remembers 62 = .ok (.iadd, 1) := dk_96 (dk_at dksX2_remembers_2 16 rfl rfl)
theorem dX2_remembers_63 : decode cX2_remembers 63 = .ok (.invokevirtual 145, 3) := dk_182 0 145 (dk_at dksX2_remembers_2 17 rfl rfl)
theorem dX2_remembers_66 : decode cX2_remembers 66 = .ok (.return_, 1) := dk_177 (dk_at dksX2_remembers_2 20 rfl rfl)
abbrev cX2_swap : ByteArray := prog_6_method_37_code
def yX2_swap : MethodName := ⟨RX2, "swap", "(III)I"⟩
def dkwX2_swap_2 : List UInt8 := [182, 0, 117, 4, 172]
abbrev dktX2_swap_2 : List UInt8 := dkwX2_swap_2 ++ []
def dkwX2_swap_1 : List UInt8 := [160, 0, 5, 2, 172, 42, 27, 182, 0, 198, 42, 27, 28, 29, 182, 0, 121, 42, 27, 6, 28, 100, 29, 100]
abbrev dktX2_swap_1 : List UInt8 := dkwX2_swap_1 ++ dktX2_swap_2
def dkwX2_swap_0 : List UInt8 := [42, 27, 182, 0, 188, 153, 0, 22, 28, 184, 0, 191, 153, 0, 15, 29, 184, 0, 191, 153, 0, 8, 28, 29]
abbrev dktX2_swap_0 : List UInt8 := dkwX2_swap_0 ++ dktX2_swap_1
theorem dksX2_swap_0 : cX2_swap.data.toList.drop 0 = dktX2_swap_0 := by decide +kernel
theorem dksX2_swap_1 : cX2_swap.data.toList.drop 24 = dktX2_swap_1 := dk_seg dksX2_swap_0 24 rfl rfl
theorem dksX2_swap_2 : cX2_swap.data.toList.drop 48 = dktX2_swap_2 := dk_seg dksX2_swap_1 24 rfl rfl
theorem dX2_swap_0 : decode cX2_swap 0 = .ok (.aload_n 0, 1) := dk_42 (dk_at dksX2_swap_0 0 rfl rfl)
theorem dX2_swap_1 : decode cX2_swap 1 = .ok (.iload_n 1, 1) := dk_27 (dk_at dksX2_swap_0 1 rfl rfl)
theorem dX2_swap_2 : decode cX2_swap 2 = .ok (.invokevirtual 188, 3) := dk_182 0 188 (dk_at dksX2_swap_0 2 rfl rfl)
theorem dX2_swap_5 : decode cX2_swap 5 = .ok (.ifCond .eq 22, 3) := dk_153 0 22 (dk_at dksX2_swap_0 5 rfl rfl)
theorem dX2_swap_8 : decode cX2_swap 8 = .ok (.iload_n 2, 1) := dk_28 (dk_at dksX2_swap_0 8 rfl rfl)
theorem dX2_swap_9 : decode cX2_swap 9 = .ok (.invokestatic 191, 3) := dk_184 0 191 (dk_at dksX2_swap_0 9 rfl rfl)
theorem dX2_swap_12 : decode cX2_swap 12 = .ok (.ifCond .eq 15, 3) := dk_153 0 15 (dk_at dksX2_swap_0 12 rfl rfl)
theorem dX2_swap_15 : decode cX2_swap 15 = .ok (.iload_n 3, 1) := dk_29 (dk_at dksX2_swap_0 15 rfl rfl)
theorem dX2_swap_16 : decode cX2_swap 16 = .ok (.invokestatic 191, 3) := dk_184 0 191 (dk_at dksX2_swap_0 16 rfl rfl)
theorem dX2_swap_19 : decode cX2_swap 19 = .ok (.ifCond .eq 8, 3) := dk_153 0 8 (dk_at dksX2_swap_0 19 rfl rfl)
theorem dX2_swap_22 : decode cX2_swap 22 = .ok (.iload_n 2, 1) := dk_28 (dk_at dksX2_swap_0 22 rfl rfl)
theorem dX2_swap_23 : decode cX2_swap 23 = .ok (.iload_n 3, 1) := dk_29 (dk_at dksX2_swap_0 23 rfl rfl)
theorem dX2_swap_24 : decode cX2_swap 24 = .ok (.if_icmp .ne 5, 3) := dk_160 0 5 (dk_at dksX2_swap_1 0 rfl rfl)
theorem dX2_swap_27 : decode cX2_swap 27 = .ok (.iconst (-1), 1) := dk_2 (dk_at dksX2_swap_1 3 rfl rfl)
theorem dX2_swap_28 : decode cX2_swap 28 = .ok (.ireturn, 1) := dk_172 (dk_at dksX2_swap_1 4 rfl rfl)
theorem dX2_swap_29 : decode cX2_swap 29 = .ok (.aload_n 0, 1) := dk_42 (dk_at dksX2_swap_1 5 rfl rfl)
theorem dX2_swap_30 : decode cX2_swap 30 = .ok (.iload_n 1, 1) := dk_27 (dk_at dksX2_swap_1 6 rfl rfl)
theorem dX2_swap_31 : decode cX2_swap 31 = .ok (.invokevirtual 198, 3) := dk_182 0 198 (dk_at dksX2_swap_1 7 rfl rfl)
theorem dX2_swap_34 : decode cX2_swap 34 = .ok (.aload_n 0, 1) := dk_42 (dk_at dksX2_swap_1 10 rfl rfl)
theorem dX2_swap_35 : decode cX2_swap 35 = .ok (.iload_n 1, 1) := dk_27 (dk_at dksX2_swap_1 11 rfl rfl)
theorem dX2_swap_36 : decode cX2_swap 36 = .ok (.iload_n 2, 1) := dk_28 (dk_at dksX2_swap_1 12 rfl rfl)
theorem dX2_swap_37 : decode cX2_swap 37 = .ok (.iload_n 3, 1) := dk_29 (dk_at dksX2_swap_1 13 rfl rfl)
theorem dX2_swap_38 : decode cX2_swap 38 = .ok (.invokevirtual 121, 3) := dk_182 0 121 (dk_at dksX2_swap_1 14 rfl rfl)
theorem dX2_swap_41 : decode cX2_swap 41 = .ok (.aload_n 0, 1) := dk_42 (dk_at dksX2_swap_1 17 rfl rfl)
theorem dX2_swap_42 : decode cX2_swap 42 = .ok (.iload_n 1, 1) := dk_27 (dk_at dksX2_swap_1 18 rfl rfl)
theorem dX2_swap_43 : decode cX2_swap 43 = .ok (.iconst 3, 1) := dk_6 (dk_at dksX2_swap_1 19 rfl rfl)
theorem dX2_swap_44 : decode cX2_swap 44 = .ok (.iload_n 2, 1) := dk_28 (dk_at dksX2_swap_1 20 rfl rfl)
theorem dX2_swap_45 : decode cX2_swap 45 = .ok (.isub, 1) := dk_100 (dk_at dksX2_swap_1 21 rfl rfl)
theorem dX2_swap_46 : decode cX2_swap 46 = .ok (.iload_n 3, 1) := dk_29 (dk_at dksX2_swap_1 22 rfl rfl)
theorem dX2_swap_47 : decode cX2_swap 47 = .ok (.isub, 1) := dk_100 (dk_at dksX2_swap_1 23 rfl rfl)
theorem dX2_swap_48 : decode cX2_swap 48 = .ok (.invokevirtual 117, 3) := dk_182 0 117 (dk_at dksX2_swap_2 0 rfl rfl)
theorem dX2_swap_51 : decode cX2_swap 51 = .ok (.iconst 1, 1) := dk_4 (dk_at dksX2_swap_2 3 rfl rfl)
theorem dX2_swap_52 : decode cX2_swap 52 = .ok (.ireturn, 1) := dk_172 (dk_at dksX2_swap_2 4 rfl rfl)
abbrev cX2_exchanges : ByteArray := prog_6_method_14_code
def yX2_exchanges : MethodName := ⟨RX2, "exchanges", "(III)V"⟩
def dkwX2_exchanges_6 : List UInt8 := [104, 6, 29, 104, 96, 21, 4, 96, 22, 5, 80, 132, 4, 1, 167, 255, 179, 177]
abbrev dktX2_exchanges_6 : List UInt8 := dkwX2_exchanges_6 ++ []
def dkwX2_exchanges_5 : List UInt8 := [42, 180, 0, 15, 16, 9, 27, 104, 6, 29, 104, 96, 21, 4, 96, 47, 80, 42, 180, 0, 15, 16, 9, 27]
abbrev dktX2_exchanges_5 : List UInt8 := dkwX2_exchanges_5 ++ dktX2_exchanges_6
def dkwX2_exchanges_4 : List UInt8 := [28, 104, 96, 21, 4, 96, 47, 55, 5, 42, 180, 0, 15, 16, 9, 27, 104, 6, 28, 104, 96, 21, 4, 96]
abbrev dktX2_exchanges_4 : List UInt8 := dkwX2_exchanges_4 ++ dktX2_exchanges_5
def dkwX2_exchanges_3 : List UInt8 := [132, 4, 1, 167, 255, 189, 3, 54, 4, 21, 4, 6, 162, 0, 77, 42, 180, 0, 15, 16, 9, 27, 104, 6]
abbrev dktX2_exchanges_3 : List UInt8 := dkwX2_exchanges_3 ++ dktX2_exchanges_4
def dkwX2_exchanges_2 : List UInt8 := [182, 0, 74, 80, 42, 180, 0, 11, 16, 6, 27, 104, 6, 21, 4, 104, 96, 29, 96, 22, 5, 80]
abbrev dktX2_exchanges_2 : List UInt8 := dkwX2_exchanges_2 ++ dktX2_exchanges_3
def dkwX2_exchanges_1 : List UInt8 := [180, 0, 11, 16, 6, 27, 104, 6, 21, 4, 104, 96, 28, 96, 42, 27, 6, 21, 4, 104, 29, 96]
abbrev dktX2_exchanges_1 : List UInt8 := dkwX2_exchanges_1 ++ dktX2_exchanges_2
def dkwX2_exchanges_0 : List UInt8 := [3, 54, 4, 21, 4, 5, 162, 0, 67, 42, 27, 6, 21, 4, 104, 28, 96, 182, 0, 74, 55, 5, 42]
abbrev dktX2_exchanges_0 : List UInt8 := dkwX2_exchanges_0 ++ dktX2_exchanges_1
theorem dksX2_exchanges_0 : cX2_exchanges.data.toList.drop 0 = dktX2_exchanges_0 := by decide +kernel
theorem dksX2_exchanges_1 : cX2_exchanges.data.toList.drop 23 = dktX2_exchanges_1 := dk_seg dksX2_exchanges_0 23 rfl rfl
theorem dksX2_exchanges_2 : cX2_exchanges.data.toList.drop 45 = dktX2_exchanges_2 := dk_seg dksX2_exchanges_1 22 rfl rfl
theorem dksX2_exchanges_3 : cX2_exchanges.data.toList.drop 67 = dktX2_exchanges_3 := dk_seg dksX2_exchanges_2 22 rfl rfl
theorem dksX2_exchanges_4 : cX2_exchanges.data.toList.drop 91 = dktX2_exchanges_4 := dk_seg dksX2_exchanges_3 24 rfl rfl
theorem dksX2_exchanges_5 : cX2_exchanges.data.toList.drop 115 = dktX2_exchanges_5 := dk_seg dksX2_exchanges_4 24 rfl rfl
theorem dksX2_exchanges_6 : cX2_exchanges.data.toList.drop 139 = dktX2_exchanges_6 := dk_seg dksX2_exchanges_5 24 rfl rfl
theorem dX2_exchanges_0 : decode cX2_exchanges 0 = .ok (.iconst 0, 1) := dk_3 (dk_at dksX2_exchanges_0 0 rfl rfl)
theorem dX2_exchanges_1 : decode cX2_exchanges 1 = .ok (.istore 4, 2) := dk_54 4 (dk_at dksX2_exchanges_0 1 rfl rfl)
theorem dX2_exchanges_3 : decode cX2_exchanges 3 = .ok (.iload 4, 2) := dk_21 4 (dk_at dksX2_exchanges_0 3 rfl rfl)
theorem dX2_exchanges_5 : decode cX2_exchanges 5 = .ok (.iconst 2, 1) := dk_5 (dk_at dksX2_exchanges_0 5 rfl rfl)
theorem dX2_exchanges_6 : decode cX2_exchanges 6 = .ok (.if_icmp .ge 67, 3) := dk_162 0 67 (dk_at dksX2_exchanges_0 6 rfl rfl)
theorem dX2_exchanges_9 : decode cX2_exchanges 9 = .ok (.aload_n 0, 1) := dk_42 (dk_at dksX2_exchanges_0 9 rfl rfl)
theorem dX2_exchanges_10 : decode cX2_exchanges 10 = .ok (.iload_n 1, 1) := dk_27 (dk_at dksX2_exchanges_0 10 rfl rfl)
theorem dX2_exchanges_11 : decode cX2_exchanges 11 = .ok (.iconst 3, 1) := dk_6 (dk_at dksX2_exchanges_0 11 rfl rfl)
theorem dX2_exchanges_12 : decode cX2_exchanges 12 = .ok (.iload 4, 2) := dk_21 4 (dk_at dksX2_exchanges_0 12 rfl rfl)
theorem dX2_exchanges_14 : decode cX2_exchanges 14 = .ok (.imul, 1) := dk_104 (dk_at dksX2_exchanges_0 14 rfl rfl)
theorem dX2_exchanges_15 : decode cX2_exchanges 15 = .ok (.iload_n 2, 1) := dk_28 (dk_at dksX2_exchanges_0 15 rfl rfl)
theorem dX2_exchanges_16 : decode cX2_exchanges 16 = .ok (.iadd, 1) := dk_96 (dk_at dksX2_exchanges_0 16 rfl rfl)
theorem dX2_exchanges_17 : decode cX2_exchanges 17 = .ok (.invokevirtual 74, 3) := dk_182 0 74 (dk_at dksX2_exchanges_0 17 rfl rfl)
theorem dX2_exchanges_20 : decode cX2_exchanges 20 = .ok (.lstore 5, 2) := dk_55 5 (dk_at dksX2_exchanges_0 20 rfl rfl)
theorem dX2_exchanges_22 : decode cX2_exchanges 22 = .ok (.aload_n 0, 1) := dk_42 (dk_at dksX2_exchanges_0 22 rfl rfl)
theorem dX2_exchanges_23 : decode cX2_exchanges 23 = .ok (.getfield 11, 3) := dk_180 0 11 (dk_at dksX2_exchanges_1 0 rfl rfl)
theorem dX2_exchanges_26 : decode cX2_exchanges 26 = .ok (.bipush 6, 2) := dk_16 6 (dk_at dksX2_exchanges_1 3 rfl rfl)
theorem dX2_exchanges_28 : decode cX2_exchanges 28 = .ok (.iload_n 1, 1) := dk_27 (dk_at dksX2_exchanges_1 5 rfl rfl)
theorem dX2_exchanges_29 : decode cX2_exchanges 29 = .ok (.imul, 1) := dk_104 (dk_at dksX2_exchanges_1 6 rfl rfl)
theorem dX2_exchanges_30 : decode cX2_exchanges 30 = .ok (.iconst 3, 1) := dk_6 (dk_at dksX2_exchanges_1 7 rfl rfl)
theorem dX2_exchanges_31 : decode cX2_exchanges 31 = .ok (.iload 4, 2) := dk_21 4 (dk_at dksX2_exchanges_1 8 rfl rfl)
theorem dX2_exchanges_33 : decode cX2_exchanges 33 = .ok (.imul, 1) := dk_104 (dk_at dksX2_exchanges_1 10 rfl rfl)
theorem dX2_exchanges_34 : decode cX2_exchanges 34 = .ok (.iadd, 1) := dk_96 (dk_at dksX2_exchanges_1 11 rfl rfl)
theorem dX2_exchanges_35 : decode cX2_exchanges 35 = .ok (.iload_n 2, 1) := dk_28 (dk_at dksX2_exchanges_1 12 rfl rfl)
theorem dX2_exchanges_36 : decode cX2_exchanges 36 = .ok (.iadd, 1) := dk_96 (dk_at dksX2_exchanges_1 13 rfl rfl)
theorem dX2_exchanges_37 : decode cX2_exchanges 37 = .ok (.aload_n 0, 1) := dk_42 (dk_at dksX2_exchanges_1 14 rfl rfl)
theorem dX2_exchanges_38 : decode cX2_exchanges 38 = .ok (.iload_n 1, 1) := dk_27 (dk_at dksX2_exchanges_1 15 rfl rfl)
theorem dX2_exchanges_39 : decode cX2_exchanges 39 = .ok (.iconst 3, 1) := dk_6 (dk_at dksX2_exchanges_1 16 rfl rfl)
theorem dX2_exchanges_40 : decode cX2_exchanges 40 = .ok (.iload 4, 2) := dk_21 4 (dk_at dksX2_exchanges_1 17 rfl rfl)
theorem dX2_exchanges_42 : decode cX2_exchanges 42 = .ok (.imul, 1) := dk_104 (dk_at dksX2_exchanges_1 19 rfl rfl)
theorem dX2_exchanges_43 : decode cX2_exchanges 43 = .ok (.iload_n 3, 1) := dk_29 (dk_at dksX2_exchanges_1 20 rfl rfl)
theorem dX2_exchanges_44 : decode cX2_exchanges 44 = .ok (.iadd, 1) := dk_96 (dk_at dksX2_exchanges_1 21 rfl rfl)
theorem dX2_exchanges_45 : decode cX2_exchanges 45 = .ok (.invokevirtual 74, 3) := dk_182 0 74 (dk_at dksX2_exchanges_2 0 rfl rfl)
theorem dX2_exchanges_48 : decode cX2_exchanges 48 = .ok (.lastore, 1) := dk_80 (dk_at dksX2_exchanges_2 3 rfl rfl)
theorem dX2_exchanges_49 : decode cX2_exchanges 49 = .ok (.aload_n 0, 1) := dk_42 (dk_at dksX2_exchanges_2 4 rfl rfl)
theorem dX2_exchanges_50 : decode cX2_exchanges 50 = .ok (.getfield 11, 3) := dk_180 0 11 (dk_at dksX2_exchanges_2 5 rfl rfl)
theorem dX2_exchanges_53 : decode cX2_exchanges 53 = .ok (.bipush 6, 2) := dk_16 6 (dk_at dksX2_exchanges_2 8 rfl rfl)
theorem dX2_exchanges_55 : decode cX2_exchanges 55 = .ok (.iload_n 1, 1) := dk_27 (dk_at dksX2_exchanges_2 10 rfl rfl)
theorem dX2_exchanges_56 : decode cX2_exchanges 56 = .ok (.imul, 1) := dk_104 (dk_at dksX2_exchanges_2 11 rfl rfl)
theorem dX2_exchanges_57 : decode cX2_exchanges 57 = .ok (.iconst 3, 1) := dk_6 (dk_at dksX2_exchanges_2 12 rfl rfl)
theorem dX2_exchanges_58 : decode cX2_exchanges 58 = .ok (.iload 4, 2) := dk_21 4 (dk_at dksX2_exchanges_2 13 rfl rfl)
theorem dX2_exchanges_60 : decode cX2_exchanges 60 = .ok (.imul, 1) := dk_104 (dk_at dksX2_exchanges_2 15 rfl rfl)
theorem dX2_exchanges_61 : decode cX2_exchanges 61 = .ok (.iadd, 1) := dk_96 (dk_at dksX2_exchanges_2 16 rfl rfl)
theorem dX2_exchanges_62 : decode cX2_exchanges 62 = .ok (.iload_n 3, 1) := dk_29 (dk_at dksX2_exchanges_2 17 rfl rfl)
theorem dX2_exchanges_63 : decode cX2_exchanges 63 = .ok (.iadd, 1) := dk_96 (dk_at dksX2_exchanges_2 18 rfl rfl)
theorem dX2_exchanges_64 : decode cX2_exchanges 64 = .ok (.lload 5, 2) := dk_22 5 (dk_at dksX2_exchanges_2 19 rfl rfl)
theorem dX2_exchanges_66 : decode cX2_exchanges 66 = .ok (.lastore, 1) := dk_80 (dk_at dksX2_exchanges_2 21 rfl rfl)
theorem dX2_exchanges_67 : decode cX2_exchanges 67 = .ok (.iinc 4 1, 3) := dk_132 4 1 (dk_at dksX2_exchanges_3 0 rfl rfl)
theorem dX2_exchanges_70 : decode cX2_exchanges 70 = .ok (.goto (-67), 3) := dk_167 255 189 (dk_at dksX2_exchanges_3 3 rfl rfl)
theorem dX2_exchanges_73 : decode cX2_exchanges 73 = .ok (.iconst 0, 1) := dk_3 (dk_at dksX2_exchanges_3 6 rfl rfl)
theorem dX2_exchanges_74 : decode cX2_exchanges 74 = .ok (.istore 4, 2) := dk_54 4 (dk_at dksX2_exchanges_3 7 rfl rfl)
theorem dX2_exchanges_76 : decode cX2_exchanges 76 = .ok (.iload 4, 2) := dk_21 4 (dk_at dksX2_exchanges_3 9 rfl rfl)
theorem dX2_exchanges_78 : decode cX2_exchanges 78 = .ok (.iconst 3, 1) := dk_6 (dk_at dksX2_exchanges_3 11 rfl rfl)
theorem dX2_exchanges_79 : decode cX2_exchanges 79 = .ok (.if_icmp .ge 77, 3) := dk_162 0 77 (dk_at dksX2_exchanges_3 12 rfl rfl)
theorem dX2_exchanges_82 : decode cX2_exchanges 82 = .ok (.aload_n 0, 1) := dk_42 (dk_at dksX2_exchanges_3 15 rfl rfl)
theorem dX2_exchanges_83 : decode cX2_exchanges 83 = .ok (.getfield 15, 3) := dk_180 0 15 (dk_at dksX2_exchanges_3 16 rfl rfl)
theorem dX2_exchanges_86 : decode cX2_exchanges 86 = .ok (.bipush 9, 2) := dk_16 9 (dk_at dksX2_exchanges_3 19 rfl rfl)
theorem dX2_exchanges_88 : decode cX2_exchanges 88 = .ok (.iload_n 1, 1) := dk_27 (dk_at dksX2_exchanges_3 21 rfl rfl)
theorem dX2_exchanges_89 : decode cX2_exchanges 89 = .ok (.imul, 1) := dk_104 (dk_at dksX2_exchanges_3 22 rfl rfl)
theorem dX2_exchanges_90 : decode cX2_exchanges 90 = .ok (.iconst 3, 1) := dk_6 (dk_at dksX2_exchanges_3 23 rfl rfl)
theorem dX2_exchanges_91 : decode cX2_exchanges 91 = .ok (.iload_n 2, 1) := dk_28 (dk_at dksX2_exchanges_4 0 rfl rfl)
theorem dX2_exchanges_92 : decode cX2_exchanges 92 = .ok (.imul, 1) := dk_104 (dk_at dksX2_exchanges_4 1 rfl rfl)
theorem dX2_exchanges_93 : decode cX2_exchanges 93 = .ok (.iadd, 1) := dk_96 (dk_at dksX2_exchanges_4 2 rfl rfl)
theorem dX2_exchanges_94 : decode cX2_exchanges 94 = .ok (.iload 4, 2) := dk_21 4 (dk_at dksX2_exchanges_4 3 rfl rfl)
theorem dX2_exchanges_96 : decode cX2_exchanges 96 = .ok (.iadd, 1) := dk_96 (dk_at dksX2_exchanges_4 5 rfl rfl)
theorem dX2_exchanges_97 : decode cX2_exchanges 97 = .ok (.laload, 1) := dk_47 (dk_at dksX2_exchanges_4 6 rfl rfl)
theorem dX2_exchanges_98 : decode cX2_exchanges 98 = .ok (.lstore 5, 2) := dk_55 5 (dk_at dksX2_exchanges_4 7 rfl rfl)
theorem dX2_exchanges_100 : decode cX2_exchanges 100 = .ok (.aload_n 0, 1) := dk_42 (dk_at dksX2_exchanges_4 9 rfl rfl)
theorem dX2_exchanges_101 : decode cX2_exchanges 101 = .ok (.getfield 15, 3) := dk_180 0 15 (dk_at dksX2_exchanges_4 10 rfl rfl)
theorem dX2_exchanges_104 : decode cX2_exchanges 104 = .ok (.bipush 9, 2) := dk_16 9 (dk_at dksX2_exchanges_4 13 rfl rfl)
theorem dX2_exchanges_106 : decode cX2_exchanges 106 = .ok (.iload_n 1, 1) := dk_27 (dk_at dksX2_exchanges_4 15 rfl rfl)
theorem dX2_exchanges_107 : decode cX2_exchanges 107 = .ok (.imul, 1) := dk_104 (dk_at dksX2_exchanges_4 16 rfl rfl)
theorem dX2_exchanges_108 : decode cX2_exchanges 108 = .ok (.iconst 3, 1) := dk_6 (dk_at dksX2_exchanges_4 17 rfl rfl)
theorem dX2_exchanges_109 : decode cX2_exchanges 109 = .ok (.iload_n 2, 1) := dk_28 (dk_at dksX2_exchanges_4 18 rfl rfl)
theorem dX2_exchanges_110 : decode cX2_exchanges 110 = .ok (.imul, 1) := dk_104 (dk_at dksX2_exchanges_4 19 rfl rfl)
theorem dX2_exchanges_111 : decode cX2_exchanges 111 = .ok (.iadd, 1) := dk_96 (dk_at dksX2_exchanges_4 20 rfl rfl)
theorem dX2_exchanges_112 : decode cX2_exchanges 112 = .ok (.iload 4, 2) := dk_21 4 (dk_at dksX2_exchanges_4 21 rfl rfl)
theorem dX2_exchanges_114 : decode cX2_exchanges 114 = .ok (.iadd, 1) := dk_96 (dk_at dksX2_exchanges_4 23 rfl rfl)
theorem dX2_exchanges_115 : decode cX2_exchanges 115 = .ok (.aload_n 0, 1) := dk_42 (dk_at dksX2_exchanges_5 0 rfl rfl)
theorem dX2_exchanges_116 : decode cX2_exchanges 116 = .ok (.getfield 15, 3) := dk_180 0 15 (dk_at dksX2_exchanges_5 1 rfl rfl)
theorem dX2_exchanges_119 : decode cX2_exchanges 119 = .ok (.bipush 9, 2) := dk_16 9 (dk_at dksX2_exchanges_5 4 rfl rfl)
theorem dX2_exchanges_121 : decode cX2_exchanges 121 = .ok (.iload_n 1, 1) := dk_27 (dk_at dksX2_exchanges_5 6 rfl rfl)
theorem dX2_exchanges_122 : decode cX2_exchanges 122 = .ok (.imul, 1) := dk_104 (dk_at dksX2_exchanges_5 7 rfl rfl)
theorem dX2_exchanges_123 : decode cX2_exchanges 123 = .ok (.iconst 3, 1) := dk_6 (dk_at dksX2_exchanges_5 8 rfl rfl)
theorem dX2_exchanges_124 : decode cX2_exchanges 124 = .ok (.iload_n 3, 1) := dk_29 (dk_at dksX2_exchanges_5 9 rfl rfl)
theorem dX2_exchanges_125 : decode cX2_exchanges 125 = .ok (.imul, 1) := dk_104 (dk_at dksX2_exchanges_5 10 rfl rfl)
theorem dX2_exchanges_126 : decode cX2_exchanges 126 = .ok (.iadd, 1) := dk_96 (dk_at dksX2_exchanges_5 11 rfl rfl)
theorem dX2_exchanges_127 : decode cX2_exchanges 127 = .ok (.iload 4, 2) := dk_21 4 (dk_at dksX2_exchanges_5 12 rfl rfl)
theorem dX2_exchanges_129 : decode cX2_exchanges 129 = .ok (.iadd, 1) := dk_96 (dk_at dksX2_exchanges_5 14 rfl rfl)
theorem dX2_exchanges_130 : decode cX2_exchanges 130 = .ok (.laload, 1) := dk_47 (dk_at dksX2_exchanges_5 15 rfl rfl)
theorem dX2_exchanges_131 : decode cX2_exchanges 131 = .ok (.lastore, 1) := dk_80 (dk_at dksX2_exchanges_5 16 rfl rfl)
theorem dX2_exchanges_132 : decode cX2_exchanges 132 = .ok (.aload_n 0, 1) := dk_42 (dk_at dksX2_exchanges_5 17 rfl rfl)
theorem dX2_exchanges_133 : decode cX2_exchanges 133 = .ok (.getfield 15, 3) := dk_180 0 15 (dk_at dksX2_exchanges_5 18 rfl rfl)
theorem dX2_exchanges_136 : decode cX2_exchanges 136 = .ok (.bipush 9, 2) := dk_16 9 (dk_at dksX2_exchanges_5 21 rfl rfl)
theorem dX2_exchanges_138 : decode cX2_exchanges 138 = .ok (.iload_n 1, 1) := dk_27 (dk_at dksX2_exchanges_5 23 rfl rfl)
theorem dX2_exchanges_139 : decode cX2_exchanges 139 = .ok (.imul, 1) := dk_104 (dk_at dksX2_exchanges_6 0 rfl rfl)
theorem dX2_exchanges_140 : decode cX2_exchanges 140 = .ok (.iconst 3, 1) := dk_6 (dk_at dksX2_exchanges_6 1 rfl rfl)
theorem dX2_exchanges_141 : decode cX2_exchanges 141 = .ok (.iload_n 3, 1) := dk_29 (dk_at dksX2_exchanges_6 2 rfl rfl)
theorem dX2_exchanges_142 : decode cX2_exchanges 142 = .ok (.imul, 1) := dk_104 (dk_at dksX2_exchanges_6 3 rfl rfl)
theorem dX2_exchanges_143 : decode cX2_exchanges 143 = .ok (.iadd, 1) := dk_96 (dk_at dksX2_exchanges_6 4 rfl rfl)
theorem dX2_exchanges_144 : decode cX2_exchanges 144 = .ok (.iload 4, 2) := dk_21 4 (dk_at dksX2_exchanges_6 5 rfl rfl)
theorem dX2_exchanges_146 : decode cX2_exchanges 146 = .ok (.iadd, 1) := dk_96 (dk_at dksX2_exchanges_6 7 rfl rfl)
theorem dX2_exchanges_147 : decode cX2_exchanges 147 = .ok (.lload 5, 2) := dk_22 5 (dk_at dksX2_exchanges_6 8 rfl rfl)
theorem dX2_exchanges_149 : decode cX2_exchanges 149 = .ok (.lastore, 1) := dk_80 (dk_at dksX2_exchanges_6 10 rfl rfl)
theorem dX2_exchanges_150 : decode cX2_exchanges 150 = .ok (.iinc 4 1, 3) := dk_132 4 1 (dk_at dksX2_exchanges_6 11 rfl rfl)
theorem dX2_exchanges_153 : decode cX2_exchanges 153 = .ok (.goto (-77), 3) := dk_167 255 179 (dk_at dksX2_exchanges_6 14 rfl rfl)
theorem dX2_exchanges_156 : decode cX2_exchanges 156 = .ok (.return_, 1) := dk_177 (dk_at dksX2_exchanges_6 17 rfl rfl)
abbrev cX2_turnsOne : ByteArray := prog_6_method_13_code
def yX2_turnsOne : MethodName := ⟨RX2, "turnsOne", "(II)V"⟩
def dkwX2_turnsOne_3 : List UInt8 := [132, 3, 1, 167, 255, 185, 177]
abbrev dktX2_turnsOne_3 : List UInt8 := dkwX2_turnsOne_3 ++ []
def dkwX2_turnsOne_2 : List UInt8 := [28, 104, 96, 29, 96, 42, 180, 0, 15, 16, 9, 27, 104, 6, 28, 104, 96, 29, 96, 47, 117, 80]
abbrev dktX2_turnsOne_2 : List UInt8 := dkwX2_turnsOne_2 ++ dktX2_turnsOne_3
def dkwX2_turnsOne_1 : List UInt8 := [42, 180, 0, 11, 16, 6, 27, 104, 6, 96, 29, 96, 47, 117, 80, 42, 180, 0, 15, 16, 9, 27, 104, 6]
abbrev dktX2_turnsOne_1 : List UInt8 := dkwX2_turnsOne_1 ++ dktX2_turnsOne_2
def dkwX2_turnsOne_0 : List UInt8 := [3, 62, 29, 6, 162, 0, 72, 29, 28, 159, 0, 30, 42, 180, 0, 11, 16, 6, 27, 104, 6, 96, 29, 96]
abbrev dktX2_turnsOne_0 : List UInt8 := dkwX2_turnsOne_0 ++ dktX2_turnsOne_1
theorem dksX2_turnsOne_0 : cX2_turnsOne.data.toList.drop 0 = dktX2_turnsOne_0 := by decide +kernel
theorem dksX2_turnsOne_1 : cX2_turnsOne.data.toList.drop 24 = dktX2_turnsOne_1 := dk_seg dksX2_turnsOne_0 24 rfl rfl
theorem dksX2_turnsOne_2 : cX2_turnsOne.data.toList.drop 48 = dktX2_turnsOne_2 := dk_seg dksX2_turnsOne_1 24 rfl rfl
theorem dksX2_turnsOne_3 : cX2_turnsOne.data.toList.drop 70 = dktX2_turnsOne_3 := dk_seg dksX2_turnsOne_2 22 rfl rfl
theorem dX2_turnsOne_0 : decode cX2_turnsOne 0 = .ok (.iconst 0, 1) := dk_3 (dk_at dksX2_turnsOne_0 0 rfl rfl)
theorem dX2_turnsOne_1 : decode cX2_turnsOne 1 = .ok (.istore_n 3, 1) := dk_62 (dk_at dksX2_turnsOne_0 1 rfl rfl)
theorem dX2_turnsOne_2 : decode cX2_turnsOne 2 = .ok (.iload_n 3, 1) := dk_29 (dk_at dksX2_turnsOne_0 2 rfl rfl)
theorem dX2_turnsOne_3 : decode cX2_turnsOne 3 = .ok (.iconst 3, 1) := dk_6 (dk_at dksX2_turnsOne_0 3 rfl rfl)
theorem dX2_turnsOne_4 : decode cX2_turnsOne 4 = .ok (.if_icmp .ge 72, 3) := dk_162 0 72 (dk_at dksX2_turnsOne_0 4 rfl rfl)
theorem dX2_turnsOne_7 : decode cX2_turnsOne 7 = .ok (.iload_n 3, 1) := dk_29 (dk_at dksX2_turnsOne_0 7 rfl rfl)
theorem dX2_turnsOne_8 : decode cX2_turnsOne 8 = .ok (.iload_n 2, 1) := dk_28 (dk_at dksX2_turnsOne_0 8 rfl rfl)
theorem dX2_turnsOne_9 : decode cX2_turnsOne 9 = .ok (.if_icmp .eq 30, 3) := dk_159 0 30 (dk_at dksX2_turnsOne_0 9 rfl rfl)
theorem dX2_turnsOne_12 : decode cX2_turnsOne 12 = .ok (.aload_n 0, 1) := dk_42 (dk_at dksX2_turnsOne_0 12 rfl rfl)
theorem dX2_turnsOne_13 : decode cX2_turnsOne 13 = .ok (.getfield 11, 3) := dk_180 0 11 (dk_at dksX2_turnsOne_0 13 rfl rfl)
theorem dX2_turnsOne_16 : decode cX2_turnsOne 16 = .ok (.bipush 6, 2) := dk_16 6 (dk_at dksX2_turnsOne_0 16 rfl rfl)
theorem dX2_turnsOne_18 : decode cX2_turnsOne 18 = .ok (.iload_n 1, 1) := dk_27 (dk_at dksX2_turnsOne_0 18 rfl rfl)
theorem dX2_turnsOne_19 : decode cX2_turnsOne 19 = .ok (.imul, 1) := dk_104 (dk_at dksX2_turnsOne_0 19 rfl rfl)
theorem dX2_turnsOne_20 : decode cX2_turnsOne 20 = .ok (.iconst 3, 1) := dk_6 (dk_at dksX2_turnsOne_0 20 rfl rfl)
theorem dX2_turnsOne_21 : decode cX2_turnsOne 21 = .ok (.iadd, 1) := dk_96 (dk_at dksX2_turnsOne_0 21 rfl rfl)
theorem dX2_turnsOne_22 : decode cX2_turnsOne 22 = .ok (.iload_n 3, 1) := dk_29 (dk_at dksX2_turnsOne_0 22 rfl rfl)
theorem dX2_turnsOne_23 : decode cX2_turnsOne 23 = .ok (.iadd, 1) := dk_96 (dk_at dksX2_turnsOne_0 23 rfl rfl)
theorem dX2_turnsOne_24 : decode cX2_turnsOne 24 = .ok (.aload_n 0, 1) := dk_42 (dk_at dksX2_turnsOne_1 0 rfl rfl)
theorem dX2_turnsOne_25 : decode cX2_turnsOne 25 = .ok (.getfield 11, 3) := dk_180 0 11 (dk_at dksX2_turnsOne_1 1 rfl rfl)
theorem dX2_turnsOne_28 : decode cX2_turnsOne 28 = .ok (.bipush 6, 2) := dk_16 6 (dk_at dksX2_turnsOne_1 4 rfl rfl)
theorem dX2_turnsOne_30 : decode cX2_turnsOne 30 = .ok (.iload_n 1, 1) := dk_27 (dk_at dksX2_turnsOne_1 6 rfl rfl)
theorem dX2_turnsOne_31 : decode cX2_turnsOne 31 = .ok (.imul, 1) := dk_104 (dk_at dksX2_turnsOne_1 7 rfl rfl)
theorem dX2_turnsOne_32 : decode cX2_turnsOne 32 = .ok (.iconst 3, 1) := dk_6 (dk_at dksX2_turnsOne_1 8 rfl rfl)
theorem dX2_turnsOne_33 : decode cX2_turnsOne 33 = .ok (.iadd, 1) := dk_96 (dk_at dksX2_turnsOne_1 9 rfl rfl)
theorem dX2_turnsOne_34 : decode cX2_turnsOne 34 = .ok (.iload_n 3, 1) := dk_29 (dk_at dksX2_turnsOne_1 10 rfl rfl)
theorem dX2_turnsOne_35 : decode cX2_turnsOne 35 = .ok (.iadd, 1) := dk_96 (dk_at dksX2_turnsOne_1 11 rfl rfl)
theorem dX2_turnsOne_36 : decode cX2_turnsOne 36 = .ok (.laload, 1) := dk_47 (dk_at dksX2_turnsOne_1 12 rfl rfl)
theorem dX2_turnsOne_37 : decode cX2_turnsOne 37 = .ok (.lneg, 1) := dk_117 (dk_at dksX2_turnsOne_1 13 rfl rfl)
theorem dX2_turnsOne_38 : decode cX2_turnsOne 38 = .ok (.lastore, 1) := dk_80 (dk_at dksX2_turnsOne_1 14 rfl rfl)
theorem dX2_turnsOne_39 : decode cX2_turnsOne 39 = .ok (.aload_n 0, 1) := dk_42 (dk_at dksX2_turnsOne_1 15 rfl rfl)
theorem dX2_turnsOne_40 : decode cX2_turnsOne 40 = .ok (.getfield 15, 3) := dk_180 0 15 (dk_at dksX2_turnsOne_1 16 rfl rfl)
theorem dX2_turnsOne_43 : decode cX2_turnsOne 43 = .ok (.bipush 9, 2) := dk_16 9 (dk_at dksX2_turnsOne_1 19 rfl rfl)
theorem dX2_turnsOne_45 : decode cX2_turnsOne 45 = .ok (.iload_n 1, 1) := dk_27 (dk_at dksX2_turnsOne_1 21 rfl rfl)
theorem dX2_turnsOne_46 : decode cX2_turnsOne 46 = .ok (.imul, 1) := dk_104 (dk_at dksX2_turnsOne_1 22 rfl rfl)
theorem dX2_turnsOne_47 : decode cX2_turnsOne 47 = .ok (.iconst 3, 1) := dk_6 (dk_at dksX2_turnsOne_1 23 rfl rfl)
theorem dX2_turnsOne_48 : decode cX2_turnsOne 48 = .ok (.iload_n 2, 1) := dk_28 (dk_at dksX2_turnsOne_2 0 rfl rfl)
theorem dX2_turnsOne_49 : decode cX2_turnsOne 49 = .ok (.imul, 1) := dk_104 (dk_at dksX2_turnsOne_2 1 rfl rfl)
theorem dX2_turnsOne_50 : decode cX2_turnsOne 50 = .ok (.iadd, 1) := dk_96 (dk_at dksX2_turnsOne_2 2 rfl rfl)
theorem dX2_turnsOne_51 : decode cX2_turnsOne 51 = .ok (.iload_n 3, 1) := dk_29 (dk_at dksX2_turnsOne_2 3 rfl rfl)
theorem dX2_turnsOne_52 : decode cX2_turnsOne 52 = .ok (.iadd, 1) := dk_96 (dk_at dksX2_turnsOne_2 4 rfl rfl)
theorem dX2_turnsOne_53 : decode cX2_turnsOne 53 = .ok (.aload_n 0, 1) := dk_42 (dk_at dksX2_turnsOne_2 5 rfl rfl)
theorem dX2_turnsOne_54 : decode cX2_turnsOne 54 = .ok (.getfield 15, 3) := dk_180 0 15 (dk_at dksX2_turnsOne_2 6 rfl rfl)
theorem dX2_turnsOne_57 : decode cX2_turnsOne 57 = .ok (.bipush 9, 2) := dk_16 9 (dk_at dksX2_turnsOne_2 9 rfl rfl)
theorem dX2_turnsOne_59 : decode cX2_turnsOne 59 = .ok (.iload_n 1, 1) := dk_27 (dk_at dksX2_turnsOne_2 11 rfl rfl)
theorem dX2_turnsOne_60 : decode cX2_turnsOne 60 = .ok (.imul, 1) := dk_104 (dk_at dksX2_turnsOne_2 12 rfl rfl)
theorem dX2_turnsOne_61 : decode cX2_turnsOne 61 = .ok (.iconst 3, 1) := dk_6 (dk_at dksX2_turnsOne_2 13 rfl rfl)
theorem dX2_turnsOne_62 : decode cX2_turnsOne 62 = .ok (.iload_n 2, 1) := dk_28 (dk_at dksX2_turnsOne_2 14 rfl rfl)
theorem dX2_turnsOne_63 : decode cX2_turnsOne 63 = .ok (.imul, 1) := dk_104 (dk_at dksX2_turnsOne_2 15 rfl rfl)
theorem dX2_turnsOne_64 : decode cX2_turnsOne 64 = .ok (.iadd, 1) := dk_96 (dk_at dksX2_turnsOne_2 16 rfl rfl)
theorem dX2_turnsOne_65 : decode cX2_turnsOne 65 = .ok (.iload_n 3, 1) := dk_29 (dk_at dksX2_turnsOne_2 17 rfl rfl)
theorem dX2_turnsOne_66 : decode cX2_turnsOne 66 = .ok (.iadd, 1) := dk_96 (dk_at dksX2_turnsOne_2 18 rfl rfl)
theorem dX2_turnsOne_67 : decode cX2_turnsOne 67 = .ok (.laload, 1) := dk_47 (dk_at dksX2_turnsOne_2 19 rfl rfl)
theorem dX2_turnsOne_68 : decode cX2_turnsOne 68 = .ok (.lneg, 1) := dk_117 (dk_at dksX2_turnsOne_2 20 rfl rfl)
theorem dX2_turnsOne_69 : decode cX2_turnsOne 69 = .ok (.lastore, 1) := dk_80 (dk_at dksX2_turnsOne_2 21 rfl rfl)
theorem dX2_turnsOne_70 : decode cX2_turnsOne 70 = .ok (.iinc 3 1, 3) := dk_132 3 1 (dk_at dksX2_turnsOne_3 0 rfl rfl)
theorem dX2_turnsOne_73 : decode cX2_turnsOne 73 = .ok (.goto (-71), 3) := dk_167 255 185 (dk_at dksX2_turnsOne_3 3 rfl rfl)
theorem dX2_turnsOne_76 : decode cX2_turnsOne 76 = .ok (.return_, 1) := dk_177 (dk_at dksX2_turnsOne_3 6 rfl rfl)
abbrev cX2_number : ByteArray := prog_6_method_38_code
def yX2_number : MethodName := ⟨RX2, "number", "(II)J"⟩
def dkwX2_number_3 : List UInt8 := [182, 0, 74, 97, 173]
abbrev dktX2_number_3 : List UInt8 := dkwX2_number_3 ++ []
def dkwX2_number_2 : List UInt8 := [182, 0, 86, 167, 0, 23, 42, 27, 3, 182, 0, 74, 42, 27, 4, 182, 0, 74, 97, 42, 27, 5]
abbrev dktX2_number_2 : List UInt8 := dkwX2_number_2 ++ dktX2_number_3
def dkwX2_number_1 : List UInt8 := [28, 16, 6, 162, 0, 12, 42, 27, 28, 182, 0, 74, 167, 0, 37, 28, 16, 6, 160, 0, 11, 42, 27]
abbrev dktX2_number_1 : List UInt8 := dkwX2_number_1 ++ dktX2_number_2
def dkwX2_number_0 : List UInt8 := [42, 27, 182, 0, 188, 153, 0, 15, 28, 133, 9, 20, 0, 201, 184, 0, 68, 154, 0, 7, 20, 0, 203, 173]
abbrev dktX2_number_0 : List UInt8 := dkwX2_number_0 ++ dktX2_number_1
theorem dksX2_number_0 : cX2_number.data.toList.drop 0 = dktX2_number_0 := by decide +kernel
theorem dksX2_number_1 : cX2_number.data.toList.drop 24 = dktX2_number_1 := dk_seg dksX2_number_0 24 rfl rfl
theorem dksX2_number_2 : cX2_number.data.toList.drop 47 = dktX2_number_2 := dk_seg dksX2_number_1 23 rfl rfl
theorem dksX2_number_3 : cX2_number.data.toList.drop 69 = dktX2_number_3 := dk_seg dksX2_number_2 22 rfl rfl
theorem dX2_number_0 : decode cX2_number 0 = .ok (.aload_n 0, 1) := dk_42 (dk_at dksX2_number_0 0 rfl rfl)
theorem dX2_number_1 : decode cX2_number 1 = .ok (.iload_n 1, 1) := dk_27 (dk_at dksX2_number_0 1 rfl rfl)
theorem dX2_number_2 : decode cX2_number 2 = .ok (.invokevirtual 188, 3) := dk_182 0 188 (dk_at dksX2_number_0 2 rfl rfl)
theorem dX2_number_5 : decode cX2_number 5 = .ok (.ifCond .eq 15, 3) := dk_153 0 15 (dk_at dksX2_number_0 5 rfl rfl)
theorem dX2_number_8 : decode cX2_number 8 = .ok (.iload_n 2, 1) := dk_28 (dk_at dksX2_number_0 8 rfl rfl)
theorem dX2_number_9 : decode cX2_number 9 = .ok (.i2l, 1) := dk_133 (dk_at dksX2_number_0 9 rfl rfl)
theorem dX2_number_10 : decode cX2_number 10 = .ok (.lconst 0, 1) := dk_9 (dk_at dksX2_number_0 10 rfl rfl)
theorem dX2_number_11 : decode cX2_number 11 = .ok (.ldc2_w 201, 3) := dk_20 0 201 (dk_at dksX2_number_0 11 rfl rfl)
theorem dX2_number_14 : decode cX2_number 14 = .ok (.invokestatic 68, 3) := dk_184 0 68 (dk_at dksX2_number_0 14 rfl rfl)
theorem dX2_number_17 : decode cX2_number 17 = .ok (.ifCond .ne 7, 3) := dk_154 0 7 (dk_at dksX2_number_0 17 rfl rfl)
theorem dX2_number_20 : decode cX2_number 20 = .ok (.ldc2_w 203, 3) := dk_20 0 203 (dk_at dksX2_number_0 20 rfl rfl)
theorem dX2_number_23 : decode cX2_number 23 = .ok (.lreturn, 1) := dk_173 (dk_at dksX2_number_0 23 rfl rfl)
theorem dX2_number_24 : decode cX2_number 24 = .ok (.iload_n 2, 1) := dk_28 (dk_at dksX2_number_1 0 rfl rfl)
theorem dX2_number_25 : decode cX2_number 25 = .ok (.bipush 6, 2) := dk_16 6 (dk_at dksX2_number_1 1 rfl rfl)
theorem dX2_number_27 : decode cX2_number 27 = .ok (.if_icmp .ge 12, 3) := dk_162 0 12 (dk_at dksX2_number_1 3 rfl rfl)
theorem dX2_number_30 : decode cX2_number 30 = .ok (.aload_n 0, 1) := dk_42 (dk_at dksX2_number_1 6 rfl rfl)
theorem dX2_number_31 : decode cX2_number 31 = .ok (.iload_n 1, 1) := dk_27 (dk_at dksX2_number_1 7 rfl rfl)
theorem dX2_number_32 : decode cX2_number 32 = .ok (.iload_n 2, 1) := dk_28 (dk_at dksX2_number_1 8 rfl rfl)
theorem dX2_number_33 : decode cX2_number 33 = .ok (.invokevirtual 74, 3) := dk_182 0 74 (dk_at dksX2_number_1 9 rfl rfl)
theorem dX2_number_36 : decode cX2_number 36 = .ok (.goto 37, 3) := dk_167 0 37 (dk_at dksX2_number_1 12 rfl rfl)
theorem dX2_number_39 : decode cX2_number 39 = .ok (.iload_n 2, 1) := dk_28 (dk_at dksX2_number_1 15 rfl rfl)
theorem dX2_number_40 : decode cX2_number 40 = .ok (.bipush 6, 2) := dk_16 6 (dk_at dksX2_number_1 16 rfl rfl)
theorem dX2_number_42 : decode cX2_number 42 = .ok (.if_icmp .ne 11, 3) := dk_160 0 11 (dk_at dksX2_number_1 18 rfl rfl)
theorem dX2_number_45 : decode cX2_number 45 = .ok (.aload_n 0, 1) := dk_42 (dk_at dksX2_number_1 21 rfl rfl)
theorem dX2_number_46 : decode cX2_number 46 = .ok (.iload_n 1, 1) := dk_27 (dk_at dksX2_number_1 22 rfl rfl)
theorem dX2_number_47 : decode cX2_number 47 = .ok (.invokevirtual 86, 3) := dk_182 0 86 (dk_at dksX2_number_2 0 rfl rfl)
theorem dX2_number_50 : decode cX2_number 50 = .ok (.goto 23, 3) := dk_167 0 23 (dk_at dksX2_number_2 3 rfl rfl)
theorem dX2_number_53 : decode cX2_number 53 = .ok (.aload_n 0, 1) := dk_42 (dk_at dksX2_number_2 6 rfl rfl)
theorem dX2_number_54 : decode cX2_number 54 = .ok (.iload_n 1, 1) := dk_27 (dk_at dksX2_number_2 7 rfl rfl)
theorem dX2_number_55 : decode cX2_number 55 = .ok (.iconst 0, 1) := dk_3 (dk_at dksX2_number_2 8 rfl rfl)
theorem dX2_number_56 : decode cX2_number 56 = .ok (.invokevirtual 74, 3) := dk_182 0 74 (dk_at dksX2_number_2 9 rfl rfl)
theorem dX2_number_59 : decode cX2_number 59 = .ok (.aload_n 0, 1) := dk_42 (dk_at dksX2_number_2 12 rfl rfl)
theorem dX2_number_60 : decode cX2_number 60 = .ok (.iload_n 1, 1) := dk_27 (dk_at dksX2_number_2 13 rfl rfl)
theorem dX2_number_61 : decode cX2_number 61 = .ok (.iconst 1, 1) := dk_4 (dk_at dksX2_number_2 14 rfl rfl)
theorem dX2_number_62 : decode cX2_number 62 = .ok (.invokevirtual 74, 3) := dk_182 0 74 (dk_at dksX2_number_2 15 rfl rfl)
theorem dX2_number_65 : decode cX2_number 65 = .ok (.ladd, 1) := dk_97 (dk_at dksX2_number_2 18 rfl rfl)
theorem dX2_number_66 : decode cX2_number 66 = .ok (.aload_n 0, 1) := dk_42 (dk_at dksX2_number_2 19 rfl rfl)
theorem dX2_number_67 : decode cX2_number 67 = .ok (.iload_n 1, 1) := dk_27 (dk_at dksX2_number_2 20 rfl rfl)
theorem dX2_number_68 : decode cX2_number 68 = .ok (.iconst 2, 1) := dk_5 (dk_at dksX2_number_2 21 rfl rfl)
theorem dX2_number_69 : decode cX2_number 69 = .ok (.invokevirtual 74, 3) := dk_182 0 74 (dk_at dksX2_number_3 0 rfl rfl)
theorem dX2_number_72 : decode cX2_number 72 = .ok (.ladd, 1) := dk_97 (dk_at dksX2_number_3 3 rfl rfl)
theorem dX2_number_73 : decode cX2_number 73 = .ok (.lreturn, 1) := dk_173 (dk_at dksX2_number_3 4 rfl rfl)
abbrev cX2_change : ByteArray := prog_6_method_39_code
def yX2_change : MethodName := ⟨RX2, "change", "(III)J"⟩
def dkwX2_change_1 : List UInt8 := [180, 0, 15, 16, 9, 27, 104, 6, 29, 104, 96, 28, 96, 47, 167, 0, 6, 20, 0, 203, 173]
abbrev dktX2_change_1 : List UInt8 := dkwX2_change_1 ++ []
def dkwX2_change_0 : List UInt8 := [42, 27, 182, 0, 188, 153, 0, 35, 28, 184, 0, 191, 153, 0, 28, 29, 184, 0, 191, 153, 0, 21, 42]
abbrev dktX2_change_0 : List UInt8 := dkwX2_change_0 ++ dktX2_change_1
theorem dksX2_change_0 : cX2_change.data.toList.drop 0 = dktX2_change_0 := by decide +kernel
theorem dksX2_change_1 : cX2_change.data.toList.drop 23 = dktX2_change_1 := dk_seg dksX2_change_0 23 rfl rfl
theorem dX2_change_0 : decode cX2_change 0 = .ok (.aload_n 0, 1) := dk_42 (dk_at dksX2_change_0 0 rfl rfl)
theorem dX2_change_1 : decode cX2_change 1 = .ok (.iload_n 1, 1) := dk_27 (dk_at dksX2_change_0 1 rfl rfl)
theorem dX2_change_2 : decode cX2_change 2 = .ok (.invokevirtual 188, 3) := dk_182 0 188 (dk_at dksX2_change_0 2 rfl rfl)
theorem dX2_change_5 : decode cX2_change 5 = .ok (.ifCond .eq 35, 3) := dk_153 0 35 (dk_at dksX2_change_0 5 rfl rfl)
theorem dX2_change_8 : decode cX2_change 8 = .ok (.iload_n 2, 1) := dk_28 (dk_at dksX2_change_0 8 rfl rfl)
theorem dX2_change_9 : decode cX2_change 9 = .ok (.invokestatic 191, 3) := dk_184 0 191 (dk_at dksX2_change_0 9 rfl rfl)
theorem dX2_change_12 : decode cX2_change 12 = .ok (.ifCond .eq 28, 3) := dk_153 0 28 (dk_at dksX2_change_0 12 rfl rfl)
theorem dX2_change_15 : decode cX2_change 15 = .ok (.iload_n 3, 1) := dk_29 (dk_at dksX2_change_0 15 rfl rfl)
theorem dX2_change_16 : decode cX2_change 16 = .ok (.invokestatic 191, 3) := dk_184 0 191 (dk_at dksX2_change_0 16 rfl rfl)
theorem dX2_change_19 : decode cX2_change 19 = .ok (.ifCond .eq 21, 3) := dk_153 0 21 (dk_at dksX2_change_0 19 rfl rfl)
theorem dX2_change_22 : decode cX2_change 22 = .ok (.aload_n 0, 1) := dk_42 (dk_at dksX2_change_0 22 rfl rfl)
theorem dX2_change_23 : decode cX2_change 23 = .ok (.getfield 15, 3) := dk_180 0 15 (dk_at dksX2_change_1 0 rfl rfl)
theorem dX2_change_26 : decode cX2_change 26 = .ok (.bipush 9, 2) := dk_16 9 (dk_at dksX2_change_1 3 rfl rfl)
theorem dX2_change_28 : decode cX2_change 28 = .ok (.iload_n 1, 1) := dk_27 (dk_at dksX2_change_1 5 rfl rfl)
theorem dX2_change_29 : decode cX2_change 29 = .ok (.imul, 1) := dk_104 (dk_at dksX2_change_1 6 rfl rfl)
theorem dX2_change_30 : decode cX2_change 30 = .ok (.iconst 3, 1) := dk_6 (dk_at dksX2_change_1 7 rfl rfl)
theorem dX2_change_31 : decode cX2_change 31 = .ok (.iload_n 3, 1) := dk_29 (dk_at dksX2_change_1 8 rfl rfl)
theorem dX2_change_32 : decode cX2_change 32 = .ok (.imul, 1) := dk_104 (dk_at dksX2_change_1 9 rfl rfl)
theorem dX2_change_33 : decode cX2_change 33 = .ok (.iadd, 1) := dk_96 (dk_at dksX2_change_1 10 rfl rfl)
theorem dX2_change_34 : decode cX2_change 34 = .ok (.iload_n 2, 1) := dk_28 (dk_at dksX2_change_1 11 rfl rfl)
theorem dX2_change_35 : decode cX2_change 35 = .ok (.iadd, 1) := dk_96 (dk_at dksX2_change_1 12 rfl rfl)
theorem dX2_change_36 : decode cX2_change 36 = .ok (.laload, 1) := dk_47 (dk_at dksX2_change_1 13 rfl rfl)
theorem dX2_change_37 : decode cX2_change 37 = .ok (.goto 6, 3) := dk_167 0 6 (dk_at dksX2_change_1 14 rfl rfl)
theorem dX2_change_40 : decode cX2_change 40 = .ok (.ldc2_w 203, 3) := dk_20 0 203 (dk_at dksX2_change_1 17 rfl rfl)
theorem dX2_change_43 : decode cX2_change 43 = .ok (.lreturn, 1) := dk_173 (dk_at dksX2_change_1 20 rfl rfl)
abbrev cX2_fails : ByteArray := prog_6_method_40_code
def yX2_fails : MethodName := ⟨RX2, "fails", "(I)I"⟩
def dkwX2_fails_1 : List UInt8 := [182, 0, 113, 153, 0, 9, 4, 29, 120, 167, 0, 4, 3, 128, 61, 132, 3, 1, 167, 255, 228, 28, 172]
abbrev dktX2_fails_1 : List UInt8 := dkwX2_fails_1 ++ []
def dkwX2_fails_0 : List UInt8 := [42, 27, 182, 0, 188, 154, 0, 5, 2, 172, 3, 61, 4, 62, 29, 16, 8, 163, 0, 28, 28, 42, 27, 29]
abbrev dktX2_fails_0 : List UInt8 := dkwX2_fails_0 ++ dktX2_fails_1
theorem dksX2_fails_0 : cX2_fails.data.toList.drop 0 = dktX2_fails_0 := by decide +kernel
theorem dksX2_fails_1 : cX2_fails.data.toList.drop 24 = dktX2_fails_1 := dk_seg dksX2_fails_0 24 rfl rfl
theorem dX2_fails_0 : decode cX2_fails 0 = .ok (.aload_n 0, 1) := dk_42 (dk_at dksX2_fails_0 0 rfl rfl)
theorem dX2_fails_1 : decode cX2_fails 1 = .ok (.iload_n 1, 1) := dk_27 (dk_at dksX2_fails_0 1 rfl rfl)
theorem dX2_fails_2 : decode cX2_fails 2 = .ok (.invokevirtual 188, 3) := dk_182 0 188 (dk_at dksX2_fails_0 2 rfl rfl)
theorem dX2_fails_5 : decode cX2_fails 5 = .ok (.ifCond .ne 5, 3) := dk_154 0 5 (dk_at dksX2_fails_0 5 rfl rfl)
theorem dX2_fails_8 : decode cX2_fails 8 = .ok (.iconst (-1), 1) := dk_2 (dk_at dksX2_fails_0 8 rfl rfl)
theorem dX2_fails_9 : decode cX2_fails 9 = .ok (.ireturn, 1) := dk_172 (dk_at dksX2_fails_0 9 rfl rfl)
theorem dX2_fails_10 : decode cX2_fails 10 = .ok (.iconst 0, 1) := dk_3 (dk_at dksX2_fails_0 10 rfl rfl)
theorem dX2_fails_11 : decode cX2_fails 11 = .ok (.istore_n 2, 1) := dk_61 (dk_at dksX2_fails_0 11 rfl rfl)
theorem dX2_fails_12 : decode cX2_fails 12 = .ok (.iconst 1, 1) := dk_4 (dk_at dksX2_fails_0 12 rfl rfl)
theorem dX2_fails_13 : decode cX2_fails 13 = .ok (.istore_n 3, 1) := dk_62 (dk_at dksX2_fails_0 13 rfl rfl)
theorem dX2_fails_14 : decode cX2_fails 14 = .ok (.iload_n 3, 1) := dk_29 (dk_at dksX2_fails_0 14 rfl rfl)
theorem dX2_fails_15 : decode cX2_fails 15 = .ok (.bipush 8, 2) := dk_16 8 (dk_at dksX2_fails_0 15 rfl rfl)
theorem dX2_fails_17 : decode cX2_fails 17 = .ok (.if_icmp .gt 28, 3) := dk_163 0 28 (dk_at dksX2_fails_0 17 rfl rfl)
theorem dX2_fails_20 : decode cX2_fails 20 = .ok (.iload_n 2, 1) := dk_28 (dk_at dksX2_fails_0 20 rfl rfl)
theorem dX2_fails_21 : decode cX2_fails 21 = .ok (.aload_n 0, 1) := dk_42 (dk_at dksX2_fails_0 21 rfl rfl)
theorem dX2_fails_22 : decode cX2_fails 22 = .ok (.iload_n 1, 1) := dk_27 (dk_at dksX2_fails_0 22 rfl rfl)
theorem dX2_fails_23 : decode cX2_fails 23 = .ok (.iload_n 3, 1) := dk_29 (dk_at dksX2_fails_0 23 rfl rfl)
theorem dX2_fails_24 : decode cX2_fails 24 = .ok (.invokevirtual 113, 3) := dk_182 0 113 (dk_at dksX2_fails_1 0 rfl rfl)
theorem dX2_fails_27 : decode cX2_fails 27 = .ok (.ifCond .eq 9, 3) := dk_153 0 9 (dk_at dksX2_fails_1 3 rfl rfl)
theorem dX2_fails_30 : decode cX2_fails 30 = .ok (.iconst 1, 1) := dk_4 (dk_at dksX2_fails_1 6 rfl rfl)
theorem dX2_fails_31 : decode cX2_fails 31 = .ok (.iload_n 3, 1) := dk_29 (dk_at dksX2_fails_1 7 rfl rfl)
theorem dX2_fails_32 : decode cX2_fails 32 = .ok (.ishl, 1) := dk_120 (dk_at dksX2_fails_1 8 rfl rfl)
theorem dX2_fails_33 : decode cX2_fails 33 = .ok (.goto 4, 3) := dk_167 0 4 (dk_at dksX2_fails_1 9 rfl rfl)
theorem dX2_fails_36 : decode cX2_fails 36 = .ok (.iconst 0, 1) := dk_3 (dk_at dksX2_fails_1 12 rfl rfl)
theorem dX2_fails_37 : decode cX2_fails 37 = .ok (.ior, 1) := dk_128 (dk_at dksX2_fails_1 13 rfl rfl)
theorem dX2_fails_38 : decode cX2_fails 38 = .ok (.istore_n 2, 1) := dk_61 (dk_at dksX2_fails_1 14 rfl rfl)
theorem dX2_fails_39 : decode cX2_fails 39 = .ok (.iinc 3 1, 3) := dk_132 3 1 (dk_at dksX2_fails_1 15 rfl rfl)
theorem dX2_fails_42 : decode cX2_fails 42 = .ok (.goto (-28), 3) := dk_167 255 228 (dk_at dksX2_fails_1 18 rfl rfl)
theorem dX2_fails_45 : decode cX2_fails 45 = .ok (.iload_n 2, 1) := dk_28 (dk_at dksX2_fails_1 21 rfl rfl)
theorem dX2_fails_46 : decode cX2_fails 46 = .ok (.ireturn, 1) := dk_172 (dk_at dksX2_fails_1 22 rfl rfl)
abbrev cX2_applies : ByteArray := prog_6_method_20_code
def yX2_applies : MethodName := ⟨RX2, "applies", "(II)Z"⟩
def dkwX2_applies_13 : List UInt8 := [182, 0, 74, 22, 5, 97, 105, 22, 7, 97, 9, 148, 158, 0, 7, 4, 167, 0, 4, 3, 172]
abbrev dktX2_applies_13 : List UInt8 := dkwX2_applies_13 ++ []
def dkwX2_applies_12 : List UInt8 := [97, 55, 9, 22, 9, 9, 148, 155, 0, 31, 22, 9, 9, 148, 154, 0, 28, 20, 0, 72, 42, 27, 3]
abbrev dktX2_applies_12 : List UInt8 := dkwX2_applies_12 ++ dktX2_applies_13
def dkwX2_applies_11 : List UInt8 := [184, 0, 109, 172, 33, 22, 5, 97, 22, 7, 97, 42, 27, 3, 182, 0, 74, 97, 42, 27, 4, 182, 0, 74]
abbrev dktX2_applies_11 : List UInt8 := dkwX2_applies_11 ++ dktX2_applies_12
def dkwX2_applies_10 : List UInt8 := [22, 7, 184, 0, 109, 172, 22, 7, 42, 27, 3, 182, 0, 74, 20, 0, 72, 33, 105, 22, 5, 101, 22, 5]
abbrev dktX2_applies_10 : List UInt8 := dkwX2_applies_10 ++ dktX2_applies_11
def dkwX2_applies_9 : List UInt8 := [101, 22, 7, 184, 0, 109, 172, 22, 5, 42, 27, 3, 182, 0, 74, 20, 0, 72, 33, 105, 22, 7, 101]
abbrev dktX2_applies_9 : List UInt8 := dkwX2_applies_9 ++ dktX2_applies_10
def dkwX2_applies_8 : List UInt8 := [158, 0, 7, 4, 167, 0, 4, 3, 172, 33, 42, 27, 4, 182, 0, 74, 20, 0, 72, 22, 5, 105, 22, 7]
abbrev dktX2_applies_8 : List UInt8 := dkwX2_applies_8 ++ dktX2_applies_9
def dkwX2_applies_7 : List UInt8 := [162, 0, 7, 4, 167, 0, 4, 3, 172, 42, 27, 182, 0, 102, 157, 0, 15, 42, 27, 182, 0, 106]
abbrev dktX2_applies_7 : List UInt8 := dkwX2_applies_7 ++ dktX2_applies_8
def dkwX2_applies_6 : List UInt8 := [158, 0, 7, 4, 167, 0, 4, 3, 172, 42, 27, 182, 0, 102, 158, 0, 16, 42, 27, 182, 0, 106, 6]
abbrev dktX2_applies_6 : List UInt8 := dkwX2_applies_6 ++ dktX2_applies_7
def dkwX2_applies_5 : List UInt8 := [182, 0, 74, 42, 27, 5, 182, 0, 74, 148, 154, 0, 21, 22, 5, 184, 0, 98, 22, 7, 184, 0, 98, 148]
abbrev dktX2_applies_5 : List UInt8 := dkwX2_applies_5 ++ dktX2_applies_6
def dkwX2_applies_4 : List UInt8 := [167, 0, 4, 3, 172, 42, 27, 4, 182, 0, 74, 42, 27, 5, 182, 0, 74, 148, 157, 0, 33, 42, 27, 4]
abbrev dktX2_applies_4 : List UInt8 := dkwX2_applies_4 ++ dktX2_applies_5
def dkwX2_applies_3 : List UInt8 := [4, 182, 0, 74, 148, 154, 0, 20, 33, 184, 0, 98, 22, 5, 184, 0, 98, 148, 158, 0, 7, 4]
abbrev dktX2_applies_3 : List UInt8 := dkwX2_applies_3 ++ dktX2_applies_4
def dkwX2_applies_2 : List UInt8 := [42, 27, 3, 182, 0, 74, 42, 27, 4, 182, 0, 74, 148, 157, 0, 32, 42, 27, 3, 182, 0, 74, 42, 27]
abbrev dktX2_applies_2 : List UInt8 := dkwX2_applies_2 ++ dktX2_applies_3
def dkwX2_applies_1 : List UInt8 := [170, 0, 0, 0, 0, 0, 1, 2, 0, 0, 0, 1, 0, 0, 0, 7, 0, 0, 0, 44, 0, 0, 0, 95, 0, 0, 0, 147, 0, 0, 0, 170, 0, 0, 0, 192, 0, 0, 0, 214, 0, 0, 0, 236]
abbrev dktX2_applies_1 : List UInt8 := dkwX2_applies_1 ++ dktX2_applies_2
def dkwX2_applies_0 : List UInt8 := [42, 27, 6, 182, 0, 74, 66, 42, 27, 7, 182, 0, 74, 55, 5, 42, 27, 8, 182, 0, 74, 55, 7, 28]
abbrev dktX2_applies_0 : List UInt8 := dkwX2_applies_0 ++ dktX2_applies_1
theorem dksX2_applies_0 : cX2_applies.data.toList.drop 0 = dktX2_applies_0 := by decide +kernel
theorem dksX2_applies_1 : cX2_applies.data.toList.drop 24 = dktX2_applies_1 := dk_seg dksX2_applies_0 24 rfl rfl
theorem dksX2_applies_2 : cX2_applies.data.toList.drop 68 = dktX2_applies_2 := dk_seg dksX2_applies_1 44 rfl rfl
theorem dksX2_applies_3 : cX2_applies.data.toList.drop 92 = dktX2_applies_3 := dk_seg dksX2_applies_2 24 rfl rfl
theorem dksX2_applies_4 : cX2_applies.data.toList.drop 114 = dktX2_applies_4 := dk_seg dksX2_applies_3 22 rfl rfl
theorem dksX2_applies_5 : cX2_applies.data.toList.drop 138 = dktX2_applies_5 := dk_seg dksX2_applies_4 24 rfl rfl
theorem dksX2_applies_6 : cX2_applies.data.toList.drop 162 = dktX2_applies_6 := dk_seg dksX2_applies_5 24 rfl rfl
theorem dksX2_applies_7 : cX2_applies.data.toList.drop 185 = dktX2_applies_7 := dk_seg dksX2_applies_6 23 rfl rfl
theorem dksX2_applies_8 : cX2_applies.data.toList.drop 207 = dktX2_applies_8 := dk_seg dksX2_applies_7 22 rfl rfl
theorem dksX2_applies_9 : cX2_applies.data.toList.drop 231 = dktX2_applies_9 := dk_seg dksX2_applies_8 24 rfl rfl
theorem dksX2_applies_10 : cX2_applies.data.toList.drop 254 = dktX2_applies_10 := dk_seg dksX2_applies_9 23 rfl rfl
theorem dksX2_applies_11 : cX2_applies.data.toList.drop 278 = dktX2_applies_11 := dk_seg dksX2_applies_10 24 rfl rfl
theorem dksX2_applies_12 : cX2_applies.data.toList.drop 302 = dktX2_applies_12 := dk_seg dksX2_applies_11 24 rfl rfl
theorem dksX2_applies_13 : cX2_applies.data.toList.drop 325 = dktX2_applies_13 := dk_seg dksX2_applies_12 23 rfl rfl
theorem dX2_applies_0 : decode cX2_applies 0 = .ok (.aload_n 0, 1) := dk_42 (dk_at dksX2_applies_0 0 rfl rfl)
theorem dX2_applies_1 : decode cX2_applies 1 = .ok (.iload_n 1, 1) := dk_27 (dk_at dksX2_applies_0 1 rfl rfl)
theorem dX2_applies_2 : decode cX2_applies 2 = .ok (.iconst 3, 1) := dk_6 (dk_at dksX2_applies_0 2 rfl rfl)
theorem dX2_applies_3 : decode cX2_applies 3 = .ok (.invokevirtual 74, 3) := dk_182 0 74 (dk_at dksX2_applies_0 3 rfl rfl)
theorem dX2_applies_6 : decode cX2_applies 6 = .ok (.lstore_n 3, 1) := dk_66 (dk_at dksX2_applies_0 6 rfl rfl)
theorem dX2_applies_7 : decode cX2_applies 7 = .ok (.aload_n 0, 1) := dk_42 (dk_at dksX2_applies_0 7 rfl rfl)
theorem dX2_applies_8 : decode cX2_applies 8 = .ok (.iload_n 1, 1) := dk_27 (dk_at dksX2_applies_0 8 rfl rfl)
theorem dX2_applies_9 : decode cX2_applies 9 = .ok (.iconst 4, 1) := dk_7 (dk_at dksX2_applies_0 9 rfl rfl)
theorem dX2_applies_10 : decode cX2_applies 10 = .ok (.invokevirtual 74, 3) := dk_182 0 74 (dk_at dksX2_applies_0 10 rfl rfl)
theorem dX2_applies_13 : decode cX2_applies 13 = .ok (.lstore 5, 2) := dk_55 5 (dk_at dksX2_applies_0 13 rfl rfl)
theorem dX2_applies_15 : decode cX2_applies 15 = .ok (.aload_n 0, 1) := dk_42 (dk_at dksX2_applies_0 15 rfl rfl)
theorem dX2_applies_16 : decode cX2_applies 16 = .ok (.iload_n 1, 1) := dk_27 (dk_at dksX2_applies_0 16 rfl rfl)
theorem dX2_applies_17 : decode cX2_applies 17 = .ok (.iconst 5, 1) := dk_8 (dk_at dksX2_applies_0 17 rfl rfl)
theorem dX2_applies_18 : decode cX2_applies 18 = .ok (.invokevirtual 74, 3) := dk_182 0 74 (dk_at dksX2_applies_0 18 rfl rfl)
theorem dX2_applies_21 : decode cX2_applies 21 = .ok (.lstore 7, 2) := dk_55 7 (dk_at dksX2_applies_0 21 rfl rfl)
theorem dX2_applies_23 : decode cX2_applies 23 = .ok (.iload_n 2, 1) := dk_28 (dk_at dksX2_applies_0 23 rfl rfl)
theorem dX2_applies_24 : decode cX2_applies 24 = .ok (.tableswitch 258 1 7 #[44, 95, 147, 170, 192, 214, 236], 44) := by decide +kernel
theorem dX2_applies_68 : decode cX2_applies 68 = .ok (.aload_n 0, 1) := dk_42 (dk_at dksX2_applies_2 0 rfl rfl)
theorem dX2_applies_69 : decode cX2_applies 69 = .ok (.iload_n 1, 1) := dk_27 (dk_at dksX2_applies_2 1 rfl rfl)
theorem dX2_applies_70 : decode cX2_applies 70 = .ok (.iconst 0, 1) := dk_3 (dk_at dksX2_applies_2 2 rfl rfl)
theorem dX2_applies_71 : decode cX2_applies 71 = .ok (.invokevirtual 74, 3) := dk_182 0 74 (dk_at dksX2_applies_2 3 rfl rfl)
theorem dX2_applies_74 : decode cX2_applies 74 = .ok (.aload_n 0, 1) := dk_42 (dk_at dksX2_applies_2 6 rfl rfl)
theorem dX2_applies_75 : decode cX2_applies 75 = .ok (.iload_n 1, 1) := dk_27 (dk_at dksX2_applies_2 7 rfl rfl)
theorem dX2_applies_76 : decode cX2_applies 76 = .ok (.iconst 1, 1) := dk_4 (dk_at dksX2_applies_2 8 rfl rfl)
theorem dX2_applies_77 : decode cX2_applies 77 = .ok (.invokevirtual 74, 3) := dk_182 0 74 (dk_at dksX2_applies_2 9 rfl rfl)
theorem dX2_applies_80 : decode cX2_applies 80 = .ok (.lcmp, 1) := dk_148 (dk_at dksX2_applies_2 12 rfl rfl)
theorem dX2_applies_81 : decode cX2_applies 81 = .ok (.ifCond .gt 32, 3) := dk_157 0 32 (dk_at dksX2_applies_2 13 rfl rfl)
theorem dX2_applies_84 : decode cX2_applies 84 = .ok (.aload_n 0, 1) := dk_42 (dk_at dksX2_applies_2 16 rfl rfl)
theorem dX2_applies_85 : decode cX2_applies 85 = .ok (.iload_n 1, 1) := dk_27 (dk_at dksX2_applies_2 17 rfl rfl)
theorem dX2_applies_86 : decode cX2_applies 86 = .ok (.iconst 0, 1) := dk_3 (dk_at dksX2_applies_2 18 rfl rfl)
theorem dX2_applies_87 : decode cX2_applies 87 = .ok (.invokevirtual 74, 3) := dk_182 0 74 (dk_at dksX2_applies_2 19 rfl rfl)
theorem dX2_applies_90 : decode cX2_applies 90 = .ok (.aload_n 0, 1) := dk_42 (dk_at dksX2_applies_2 22 rfl rfl)
theorem dX2_applies_91 : decode cX2_applies 91 = .ok (.iload_n 1, 1) := dk_27 (dk_at dksX2_applies_2 23 rfl rfl)
theorem dX2_applies_92 : decode cX2_applies 92 = .ok (.iconst 1, 1) := dk_4 (dk_at dksX2_applies_3 0 rfl rfl)
theorem dX2_applies_93 : decode cX2_applies 93 = .ok (.invokevirtual 74, 3) := dk_182 0 74 (dk_at dksX2_applies_3 1 rfl rfl)
theorem dX2_applies_96 : decode cX2_applies 96 = .ok (.lcmp, 1) := dk_148 (dk_at dksX2_applies_3 4 rfl rfl)
theorem dX2_applies_97 : decode cX2_applies 97 = .ok (.ifCond .ne 20, 3) := dk_154 0 20 (dk_at dksX2_applies_3 5 rfl rfl)
theorem dX2_applies_100 : decode cX2_applies 100 = .ok (.lload_n 3, 1) := dk_33 (dk_at dksX2_applies_3 8 rfl rfl)
theorem dX2_applies_101 : decode cX2_applies 101 = .ok (.invokestatic 98, 3) := dk_184 0 98 (dk_at dksX2_applies_3 9 rfl rfl)
theorem dX2_applies_104 : decode cX2_applies 104 = .ok (.lload 5, 2) := dk_22 5 (dk_at dksX2_applies_3 12 rfl rfl)
theorem dX2_applies_106 : decode cX2_applies 106 = .ok (.invokestatic 98, 3) := dk_184 0 98 (dk_at dksX2_applies_3 14 rfl rfl)
theorem dX2_applies_109 : decode cX2_applies 109 = .ok (.lcmp, 1) := dk_148 (dk_at dksX2_applies_3 17 rfl rfl)
theorem dX2_applies_110 : decode cX2_applies 110 = .ok (.ifCond .le 7, 3) := dk_158 0 7 (dk_at dksX2_applies_3 18 rfl rfl)
theorem dX2_applies_113 : decode cX2_applies 113 = .ok (.iconst 1, 1) := dk_4 (dk_at dksX2_applies_3 21 rfl rfl)
theorem dX2_applies_114 : decode cX2_applies 114 = .ok (.goto 4, 3) := dk_167 0 4 (dk_at dksX2_applies_4 0 rfl rfl)
theorem dX2_applies_117 : decode cX2_applies 117 = .ok (.iconst 0, 1) := dk_3 (dk_at dksX2_applies_4 3 rfl rfl)
theorem dX2_applies_118 : decode cX2_applies 118 = .ok (.ireturn, 1) := dk_172 (dk_at dksX2_applies_4 4 rfl rfl)
theorem dX2_applies_119 : decode cX2_applies 119 = .ok (.aload_n 0, 1) := dk_42 (dk_at dksX2_applies_4 5 rfl rfl)
theorem dX2_applies_120 : decode cX2_applies 120 = .ok (.iload_n 1, 1) := dk_27 (dk_at dksX2_applies_4 6 rfl rfl)
theorem dX2_applies_121 : decode cX2_applies 121 = .ok (.iconst 1, 1) := dk_4 (dk_at dksX2_applies_4 7 rfl rfl)
theorem dX2_applies_122 : decode cX2_applies 122 = .ok (.invokevirtual 74, 3) := dk_182 0 74 (dk_at dksX2_applies_4 8 rfl rfl)
theorem dX2_applies_125 : decode cX2_applies 125 = .ok (.aload_n 0, 1) := dk_42 (dk_at dksX2_applies_4 11 rfl rfl)
theorem dX2_applies_126 : decode cX2_applies 126 = .ok (.iload_n 1, 1) := dk_27 (dk_at dksX2_applies_4 12 rfl rfl)
theorem dX2_applies_127 : decode cX2_applies 127 = .ok (.iconst 2, 1) := dk_5 (dk_at dksX2_applies_4 13 rfl rfl)
theorem dX2_applies_128 : decode cX2_applies 128 = .ok (.invokevirtual 74, 3) := dk_182 0 74 (dk_at dksX2_applies_4 14 rfl rfl)
theorem dX2_applies_131 : decode cX2_applies 131 = .ok (.lcmp, 1) := dk_148 (dk_at dksX2_applies_4 17 rfl rfl)
theorem dX2_applies_132 : decode cX2_applies 132 = .ok (.ifCond .gt 33, 3) := dk_157 0 33 (dk_at dksX2_applies_4 18 rfl rfl)
theorem dX2_applies_135 : decode cX2_applies 135 = .ok (.aload_n 0, 1) := dk_42 (dk_at dksX2_applies_4 21 rfl rfl)
theorem dX2_applies_136 : decode cX2_applies 136 = .ok (.iload_n 1, 1) := dk_27 (dk_at dksX2_applies_4 22 rfl rfl)
theorem dX2_applies_137 : decode cX2_applies 137 = .ok (.iconst 1, 1) := dk_4 (dk_at dksX2_applies_4 23 rfl rfl)
theorem dX2_applies_138 : decode cX2_applies 138 = .ok (.invokevirtual 74, 3) := dk_182 0 74 (dk_at dksX2_applies_5 0 rfl rfl)
theorem dX2_applies_141 : decode cX2_applies 141 = .ok (.aload_n 0, 1) := dk_42 (dk_at dksX2_applies_5 3 rfl rfl)
theorem dX2_applies_142 : decode cX2_applies 142 = .ok (.iload_n 1, 1) := dk_27 (dk_at dksX2_applies_5 4 rfl rfl)
theorem dX2_applies_143 : decode cX2_applies 143 = .ok (.iconst 2, 1) := dk_5 (dk_at dksX2_applies_5 5 rfl rfl)
theorem dX2_applies_144 : decode cX2_applies 144 = .ok (.invokevirtual 74, 3) := dk_182 0 74 (dk_at dksX2_applies_5 6 rfl rfl)
theorem dX2_applies_147 : decode cX2_applies 147 = .ok (.lcmp, 1) := dk_148 (dk_at dksX2_applies_5 9 rfl rfl)
theorem dX2_applies_148 : decode cX2_applies 148 = .ok (.ifCond .ne 21, 3) := dk_154 0 21 (dk_at dksX2_applies_5 10 rfl rfl)
theorem dX2_applies_151 : decode cX2_applies 151 = .ok (.lload 5, 2) := dk_22 5 (dk_at dksX2_applies_5 13 rfl rfl)
theorem dX2_applies_153 : decode cX2_applies 153 = .ok (.invokestatic 98, 3) := dk_184 0 98 (dk_at dksX2_applies_5 15 rfl rfl)
theorem dX2_applies_156 : decode cX2_applies 156 = .ok (.lload 7, 2) := dk_22 7 (dk_at dksX2_applies_5 18 rfl rfl)
theorem dX2_applies_158 : decode cX2_applies 158 = .ok (.invokestatic 98, 3) := dk_184 0 98 (dk_at dksX2_applies_5 20 rfl rfl)
theorem dX2_applies_161 : decode cX2_applies 161 = .ok (.lcmp, 1) := dk_148 (dk_at dksX2_applies_5 23 rfl rfl)
theorem dX2_applies_162 : decode cX2_applies 162 = .ok (.ifCond .le 7, 3) := dk_158 0 7 (dk_at dksX2_applies_6 0 rfl rfl)
theorem dX2_applies_165 : decode cX2_applies 165 = .ok (.iconst 1, 1) := dk_4 (dk_at dksX2_applies_6 3 rfl rfl)
theorem dX2_applies_166 : decode cX2_applies 166 = .ok (.goto 4, 3) := dk_167 0 4 (dk_at dksX2_applies_6 4 rfl rfl)
theorem dX2_applies_169 : decode cX2_applies 169 = .ok (.iconst 0, 1) := dk_3 (dk_at dksX2_applies_6 7 rfl rfl)
theorem dX2_applies_170 : decode cX2_applies 170 = .ok (.ireturn, 1) := dk_172 (dk_at dksX2_applies_6 8 rfl rfl)
theorem dX2_applies_171 : decode cX2_applies 171 = .ok (.aload_n 0, 1) := dk_42 (dk_at dksX2_applies_6 9 rfl rfl)
theorem dX2_applies_172 : decode cX2_applies 172 = .ok (.iload_n 1, 1) := dk_27 (dk_at dksX2_applies_6 10 rfl rfl)
theorem dX2_applies_173 : decode cX2_applies 173 = .ok (.invokevirtual 102, 3) := dk_182 0 102 (dk_at dksX2_applies_6 11 rfl rfl)
theorem dX2_applies_176 : decode cX2_applies 176 = .ok (.ifCond .le 16, 3) := dk_158 0 16 (dk_at dksX2_applies_6 14 rfl rfl)
theorem dX2_applies_179 : decode cX2_applies 179 = .ok (.aload_n 0, 1) := dk_42 (dk_at dksX2_applies_6 17 rfl rfl)
theorem dX2_applies_180 : decode cX2_applies 180 = .ok (.iload_n 1, 1) := dk_27 (dk_at dksX2_applies_6 18 rfl rfl)
theorem dX2_applies_181 : decode cX2_applies 181 = .ok (.invokevirtual 106, 3) := dk_182 0 106 (dk_at dksX2_applies_6 19 rfl rfl)
theorem dX2_applies_184 : decode cX2_applies 184 = .ok (.iconst 3, 1) := dk_6 (dk_at dksX2_applies_6 22 rfl rfl)
theorem dX2_applies_185 : decode cX2_applies 185 = .ok (.if_icmp .ge 7, 3) := dk_162 0 7 (dk_at dksX2_applies_7 0 rfl rfl)
theorem dX2_applies_188 : decode cX2_applies 188 = .ok (.iconst 1, 1) := dk_4 (dk_at dksX2_applies_7 3 rfl rfl)
theorem dX2_applies_189 : decode cX2_applies 189 = .ok (.goto 4, 3) := dk_167 0 4 (dk_at dksX2_applies_7 4 rfl rfl)
theorem dX2_applies_192 : decode cX2_applies 192 = .ok (.iconst 0, 1) := dk_3 (dk_at dksX2_applies_7 7 rfl rfl)
theorem dX2_applies_193 : decode cX2_applies 193 = .ok (.ireturn, 1) := dk_172 (dk_at dksX2_applies_7 8 rfl rfl)
theorem dX2_applies_194 : decode cX2_applies 194 = .ok (.aload_n 0, 1) := dk_42 (dk_at dksX2_applies_7 9 rfl rfl)
theorem dX2_applies_195 : decode cX2_applies 195 = .ok (.iload_n 1, 1) := dk_27 (dk_at dksX2_applies_7 10 rfl rfl)
theorem dX2_applies_196 : decode cX2_applies 196 = .ok (.invokevirtual 102, 3) := dk_182 0 102 (dk_at dksX2_applies_7 11 rfl rfl)
theorem dX2_applies_199 : decode cX2_applies 199 = .ok (.ifCond .gt 15, 3) := dk_157 0 15 (dk_at dksX2_applies_7 14 rfl rfl)
theorem dX2_applies_202 : decode cX2_applies 202 = .ok (.aload_n 0, 1) := dk_42 (dk_at dksX2_applies_7 17 rfl rfl)
theorem dX2_applies_203 : decode cX2_applies 203 = .ok (.iload_n 1, 1) := dk_27 (dk_at dksX2_applies_7 18 rfl rfl)
theorem dX2_applies_204 : decode cX2_applies 204 = .ok (.invokevirtual 106, 3) := dk_182 0 106 (dk_at dksX2_applies_7 19 rfl rfl)
theorem dX2_applies_207 : decode cX2_applies 207 = .ok (.ifCond .le 7, 3) := dk_158 0 7 (dk_at dksX2_applies_8 0 rfl rfl)
theorem dX2_applies_210 : decode cX2_applies 210 = .ok (.iconst 1, 1) := dk_4 (dk_at dksX2_applies_8 3 rfl rfl)
theorem dX2_applies_211 : decode cX2_applies 211 = .ok (.goto 4, 3) := dk_167 0 4 (dk_at dksX2_applies_8 4 rfl rfl)
theorem dX2_applies_214 : decode cX2_applies 214 = .ok (.iconst 0, 1) := dk_3 (dk_at dksX2_applies_8 7 rfl rfl)
theorem dX2_applies_215 : decode cX2_applies 215 = .ok (.ireturn, 1) := dk_172 (dk_at dksX2_applies_8 8 rfl rfl)
theorem dX2_applies_216 : decode cX2_applies 216 = .ok (.lload_n 3, 1) := dk_33 (dk_at dksX2_applies_8 9 rfl rfl)
theorem dX2_applies_217 : decode cX2_applies 217 = .ok (.aload_n 0, 1) := dk_42 (dk_at dksX2_applies_8 10 rfl rfl)
theorem dX2_applies_218 : decode cX2_applies 218 = .ok (.iload_n 1, 1) := dk_27 (dk_at dksX2_applies_8 11 rfl rfl)
theorem dX2_applies_219 : decode cX2_applies 219 = .ok (.iconst 1, 1) := dk_4 (dk_at dksX2_applies_8 12 rfl rfl)
theorem dX2_applies_220 : decode cX2_applies 220 = .ok (.invokevirtual 74, 3) := dk_182 0 74 (dk_at dksX2_applies_8 13 rfl rfl)
theorem dX2_applies_223 : decode cX2_applies 223 = .ok (.ldc2_w 72, 3) := dk_20 0 72 (dk_at dksX2_applies_8 16 rfl rfl)
theorem dX2_applies_226 : decode cX2_applies 226 = .ok (.lload 5, 2) := dk_22 5 (dk_at dksX2_applies_8 19 rfl rfl)
theorem dX2_applies_228 : decode cX2_applies 228 = .ok (.lmul, 1) := dk_105 (dk_at dksX2_applies_8 21 rfl rfl)
theorem dX2_applies_229 : decode cX2_applies 229 = .ok (.lload 7, 2) := dk_22 7 (dk_at dksX2_applies_8 22 rfl rfl)
theorem dX2_applies_231 : decode cX2_applies 231 = .ok (.lsub, 1) := dk_101 (dk_at dksX2_applies_9 0 rfl rfl)
theorem dX2_applies_232 : decode cX2_applies 232 = .ok (.lload 7, 2) := dk_22 7 (dk_at dksX2_applies_9 1 rfl rfl)
theorem dX2_applies_234 : decode cX2_applies 234 = .ok (.invokestatic 109, 3) := dk_184 0 109 (dk_at dksX2_applies_9 3 rfl rfl)
theorem dX2_applies_237 : decode cX2_applies 237 = .ok (.ireturn, 1) := dk_172 (dk_at dksX2_applies_9 6 rfl rfl)
theorem dX2_applies_238 : decode cX2_applies 238 = .ok (.lload 5, 2) := dk_22 5 (dk_at dksX2_applies_9 7 rfl rfl)
theorem dX2_applies_240 : decode cX2_applies 240 = .ok (.aload_n 0, 1) := dk_42 (dk_at dksX2_applies_9 9 rfl rfl)
theorem dX2_applies_241 : decode cX2_applies 241 = .ok (.iload_n 1, 1) := dk_27 (dk_at dksX2_applies_9 10 rfl rfl)
theorem dX2_applies_242 : decode cX2_applies 242 = .ok (.iconst 0, 1) := dk_3 (dk_at dksX2_applies_9 11 rfl rfl)
theorem dX2_applies_243 : decode cX2_applies 243 = .ok (.invokevirtual 74, 3) := dk_182 0 74 (dk_at dksX2_applies_9 12 rfl rfl)
theorem dX2_applies_246 : decode cX2_applies 246 = .ok (.ldc2_w 72, 3) := dk_20 0 72 (dk_at dksX2_applies_9 15 rfl rfl)
theorem dX2_applies_249 : decode cX2_applies 249 = .ok (.lload_n 3, 1) := dk_33 (dk_at dksX2_applies_9 18 rfl rfl)
theorem dX2_applies_250 : decode cX2_applies 250 = .ok (.lmul, 1) := dk_105 (dk_at dksX2_applies_9 19 rfl rfl)
theorem dX2_applies_251 : decode cX2_applies 251 = .ok (.lload 7, 2) := dk_22 7 (dk_at dksX2_applies_9 20 rfl rfl)
theorem dX2_applies_253 : decode cX2_applies 253 = .ok (.lsub, 1) := dk_101 (dk_at dksX2_applies_9 22 rfl rfl)
theorem dX2_applies_254 : decode cX2_applies 254 = .ok (.lload 7, 2) := dk_22 7 (dk_at dksX2_applies_10 0 rfl rfl)
theorem dX2_applies_256 : decode cX2_applies 256 = .ok (.invokestatic 109, 3) := dk_184 0 109 (dk_at dksX2_applies_10 2 rfl rfl)
theorem dX2_applies_259 : decode cX2_applies 259 = .ok (.ireturn, 1) := dk_172 (dk_at dksX2_applies_10 5 rfl rfl)
theorem dX2_applies_260 : decode cX2_applies 260 = .ok (.lload 7, 2) := dk_22 7 (dk_at dksX2_applies_10 6 rfl rfl)
theorem dX2_applies_262 : decode cX2_applies 262 = .ok (.aload_n 0, 1) := dk_42 (dk_at dksX2_applies_10 8 rfl rfl)
theorem dX2_applies_263 : decode cX2_applies 263 = .ok (.iload_n 1, 1) := dk_27 (dk_at dksX2_applies_10 9 rfl rfl)
theorem dX2_applies_264 : decode cX2_applies 264 = .ok (.iconst 0, 1) := dk_3 (dk_at dksX2_applies_10 10 rfl rfl)
theorem dX2_applies_265 : decode cX2_applies 265 = .ok (.invokevirtual 74, 3) := dk_182 0 74 (dk_at dksX2_applies_10 11 rfl rfl)
theorem dX2_applies_268 : decode cX2_applies 268 = .ok (.ldc2_w 72, 3) := dk_20 0 72 (dk_at dksX2_applies_10 14 rfl rfl)
theorem dX2_applies_271 : decode cX2_applies 271 = .ok (.lload_n 3, 1) := dk_33 (dk_at dksX2_applies_10 17 rfl rfl)
theorem dX2_applies_272 : decode cX2_applies 272 = .ok (.lmul, 1) := dk_105 (dk_at dksX2_applies_10 18 rfl rfl)
theorem dX2_applies_273 : decode cX2_applies 273 = .ok (.lload 5, 2) := dk_22 5 (dk_at dksX2_applies_10 19 rfl rfl)
theorem dX2_applies_275 : decode cX2_applies 275 = .ok (.lsub, 1) := dk_101 (dk_at dksX2_applies_10 21 rfl rfl)
theorem dX2_applies_276 : decode cX2_applies 276 = .ok (.lload 5, 2) := dk_22 5 (dk_at dksX2_applies_10 22 rfl rfl)
theorem dX2_applies_278 : decode cX2_applies 278 = .ok (.invokestatic 109, 3) := dk_184 0 109 (dk_at dksX2_applies_11 0 rfl rfl)
theorem dX2_applies_281 : decode cX2_applies 281 = .ok (.ireturn, 1) := dk_172 (dk_at dksX2_applies_11 3 rfl rfl)
theorem dX2_applies_282 : decode cX2_applies 282 = .ok (.lload_n 3, 1) := dk_33 (dk_at dksX2_applies_11 4 rfl rfl)
theorem dX2_applies_283 : decode cX2_applies 283 = .ok (.lload 5, 2) := dk_22 5 (dk_at dksX2_applies_11 5 rfl rfl)
theorem dX2_applies_285 : decode cX2_applies 285 = .ok (.ladd, 1) := dk_97 (dk_at dksX2_applies_11 7 rfl rfl)
theorem dX2_applies_286 : decode cX2_applies 286 = .ok (.lload 7, 2) := dk_22 7 (dk_at dksX2_applies_11 8 rfl rfl)
theorem dX2_applies_288 : decode cX2_applies 288 = .ok (.ladd, 1) := dk_97 (dk_at dksX2_applies_11 10 rfl rfl)
theorem dX2_applies_289 : decode cX2_applies 289 = .ok (.aload_n 0, 1) := dk_42 (dk_at dksX2_applies_11 11 rfl rfl)
theorem dX2_applies_290 : decode cX2_applies 290 = .ok (.iload_n 1, 1) := dk_27 (dk_at dksX2_applies_11 12 rfl rfl)
theorem dX2_applies_291 : decode cX2_applies 291 = .ok (.iconst 0, 1) := dk_3 (dk_at dksX2_applies_11 13 rfl rfl)
theorem dX2_applies_292 : decode cX2_applies 292 = .ok (.invokevirtual 74, 3) := dk_182 0 74 (dk_at dksX2_applies_11 14 rfl rfl)
theorem dX2_applies_295 : decode cX2_applies 295 = .ok (.ladd, 1) := dk_97 (dk_at dksX2_applies_11 17 rfl rfl)
theorem dX2_applies_296 : decode cX2_applies 296 = .ok (.aload_n 0, 1) := dk_42 (dk_at dksX2_applies_11 18 rfl rfl)
theorem dX2_applies_297 : decode cX2_applies 297 = .ok (.iload_n 1, 1) := dk_27 (dk_at dksX2_applies_11 19 rfl rfl)
theorem dX2_applies_298 : decode cX2_applies 298 = .ok (.iconst 1, 1) := dk_4 (dk_at dksX2_applies_11 20 rfl rfl)
theorem dX2_applies_299 : decode cX2_applies 299 = .ok (.invokevirtual 74, 3) := dk_182 0 74 (dk_at dksX2_applies_11 21 rfl rfl)
theorem dX2_applies_302 : decode cX2_applies 302 = .ok (.ladd, 1) := dk_97 (dk_at dksX2_applies_12 0 rfl rfl)
theorem dX2_applies_303 : decode cX2_applies 303 = .ok (.lstore 9, 2) := dk_55 9 (dk_at dksX2_applies_12 1 rfl rfl)
theorem dX2_applies_305 : decode cX2_applies 305 = .ok (.lload 9, 2) := dk_22 9 (dk_at dksX2_applies_12 3 rfl rfl)
theorem dX2_applies_307 : decode cX2_applies 307 = .ok (.lconst 0, 1) := dk_9 (dk_at dksX2_applies_12 5 rfl rfl)
theorem dX2_applies_308 : decode cX2_applies 308 = .ok (.lcmp, 1) := dk_148 (dk_at dksX2_applies_12 6 rfl rfl)
theorem dX2_applies_309 : decode cX2_applies 309 = .ok (.ifCond .lt 31, 3) := dk_155 0 31 (dk_at dksX2_applies_12 7 rfl rfl)
theorem dX2_applies_312 : decode cX2_applies 312 = .ok (.lload 9, 2) := dk_22 9 (dk_at dksX2_applies_12 10 rfl rfl)
theorem dX2_applies_314 : decode cX2_applies 314 = .ok (.lconst 0, 1) := dk_9 (dk_at dksX2_applies_12 12 rfl rfl)
theorem dX2_applies_315 : decode cX2_applies 315 = .ok (.lcmp, 1) := dk_148 (dk_at dksX2_applies_12 13 rfl rfl)
theorem dX2_applies_316 : decode cX2_applies 316 = .ok (.ifCond .ne 28, 3) := dk_154 0 28 (dk_at dksX2_applies_12 14 rfl rfl)
theorem dX2_applies_319 : decode cX2_applies 319 = .ok (.ldc2_w 72, 3) := dk_20 0 72 (dk_at dksX2_applies_12 17 rfl rfl)
theorem dX2_applies_322 : decode cX2_applies 322 = .ok (.aload_n 0, 1) := dk_42 (dk_at dksX2_applies_12 20 rfl rfl)
theorem dX2_applies_323 : decode cX2_applies 323 = .ok (.iload_n 1, 1) := dk_27 (dk_at dksX2_applies_12 21 rfl rfl)
theorem dX2_applies_324 : decode cX2_applies 324 = .ok (.iconst 0, 1) := dk_3 (dk_at dksX2_applies_12 22 rfl rfl)
theorem dX2_applies_325 : decode cX2_applies 325 = .ok (.invokevirtual 74, 3) := dk_182 0 74 (dk_at dksX2_applies_13 0 rfl rfl)
theorem dX2_applies_328 : decode cX2_applies 328 = .ok (.lload 5, 2) := dk_22 5 (dk_at dksX2_applies_13 3 rfl rfl)
theorem dX2_applies_330 : decode cX2_applies 330 = .ok (.ladd, 1) := dk_97 (dk_at dksX2_applies_13 5 rfl rfl)
theorem dX2_applies_331 : decode cX2_applies 331 = .ok (.lmul, 1) := dk_105 (dk_at dksX2_applies_13 6 rfl rfl)
theorem dX2_applies_332 : decode cX2_applies 332 = .ok (.lload 7, 2) := dk_22 7 (dk_at dksX2_applies_13 7 rfl rfl)
theorem dX2_applies_334 : decode cX2_applies 334 = .ok (.ladd, 1) := dk_97 (dk_at dksX2_applies_13 9 rfl rfl)
theorem dX2_applies_335 : decode cX2_applies 335 = .ok (.lconst 0, 1) := dk_9 (dk_at dksX2_applies_13 10 rfl rfl)
theorem dX2_applies_336 : decode cX2_applies 336 = .ok (.lcmp, 1) := dk_148 (dk_at dksX2_applies_13 11 rfl rfl)
theorem dX2_applies_337 : decode cX2_applies 337 = .ok (.ifCond .le 7, 3) := dk_158 0 7 (dk_at dksX2_applies_13 12 rfl rfl)
theorem dX2_applies_340 : decode cX2_applies 340 = .ok (.iconst 1, 1) := dk_4 (dk_at dksX2_applies_13 15 rfl rfl)
theorem dX2_applies_341 : decode cX2_applies 341 = .ok (.goto 4, 3) := dk_167 0 4 (dk_at dksX2_applies_13 16 rfl rfl)
theorem dX2_applies_344 : decode cX2_applies 344 = .ok (.iconst 0, 1) := dk_3 (dk_at dksX2_applies_13 19 rfl rfl)
theorem dX2_applies_345 : decode cX2_applies 345 = .ok (.ireturn, 1) := dk_172 (dk_at dksX2_applies_13 20 rfl rfl)
abbrev cX2_without : ByteArray := prog_6_method_5_code
def yX2_without : MethodName := ⟨RX2, "without", "(J)J"⟩
def dkwX2_without_0 : List UInt8 := [30, 9, 148, 156, 0, 8, 30, 117, 167, 0, 4, 30, 173]
abbrev dktX2_without_0 : List UInt8 := dkwX2_without_0 ++ []
theorem dksX2_without_0 : cX2_without.data.toList.drop 0 = dktX2_without_0 := by decide +kernel
theorem dX2_without_0 : decode cX2_without 0 = .ok (.lload_n 0, 1) := dk_30 (dk_at dksX2_without_0 0 rfl rfl)
theorem dX2_without_1 : decode cX2_without 1 = .ok (.lconst 0, 1) := dk_9 (dk_at dksX2_without_0 1 rfl rfl)
theorem dX2_without_2 : decode cX2_without 2 = .ok (.lcmp, 1) := dk_148 (dk_at dksX2_without_0 2 rfl rfl)
theorem dX2_without_3 : decode cX2_without 3 = .ok (.ifCond .ge 8, 3) := dk_156 0 8 (dk_at dksX2_without_0 3 rfl rfl)
theorem dX2_without_6 : decode cX2_without 6 = .ok (.lload_n 0, 1) := dk_30 (dk_at dksX2_without_0 6 rfl rfl)
theorem dX2_without_7 : decode cX2_without 7 = .ok (.lneg, 1) := dk_117 (dk_at dksX2_without_0 7 rfl rfl)
theorem dX2_without_8 : decode cX2_without 8 = .ok (.goto 4, 3) := dk_167 0 4 (dk_at dksX2_without_0 8 rfl rfl)
theorem dX2_without_11 : decode cX2_without 11 = .ok (.lload_n 0, 1) := dk_30 (dk_at dksX2_without_0 11 rfl rfl)
theorem dX2_without_12 : decode cX2_without 12 = .ok (.lreturn, 1) := dk_173 (dk_at dksX2_without_0 12 rfl rfl)
abbrev cX2_product : ByteArray := prog_6_method_17_code
def yX2_product : MethodName := ⟨RX2, "product", "(I)I"⟩
def dkwX2_product_1 : List UInt8 := [182, 0, 74, 184, 0, 94, 104, 172]
abbrev dktX2_product_1 : List UInt8 := dkwX2_product_1 ++ []
def dkwX2_product_0 : List UInt8 := [42, 27, 6, 182, 0, 74, 184, 0, 94, 42, 27, 7, 182, 0, 74, 184, 0, 94, 104, 42, 27, 8]
abbrev dktX2_product_0 : List UInt8 := dkwX2_product_0 ++ dktX2_product_1
theorem dksX2_product_0 : cX2_product.data.toList.drop 0 = dktX2_product_0 := by decide +kernel
theorem dksX2_product_1 : cX2_product.data.toList.drop 22 = dktX2_product_1 := dk_seg dksX2_product_0 22 rfl rfl
theorem dX2_product_0 : decode cX2_product 0 = .ok (.aload_n 0, 1) := dk_42 (dk_at dksX2_product_0 0 rfl rfl)
theorem dX2_product_1 : decode cX2_product 1 = .ok (.iload_n 1, 1) := dk_27 (dk_at dksX2_product_0 1 rfl rfl)
theorem dX2_product_2 : decode cX2_product 2 = .ok (.iconst 3, 1) := dk_6 (dk_at dksX2_product_0 2 rfl rfl)
theorem dX2_product_3 : decode cX2_product 3 = .ok (.invokevirtual 74, 3) := dk_182 0 74 (dk_at dksX2_product_0 3 rfl rfl)
theorem dX2_product_6 : decode cX2_product 6 = .ok (.invokestatic 94, 3) := dk_184 0 94 (dk_at dksX2_product_0 6 rfl rfl)
theorem dX2_product_9 : decode cX2_product 9 = .ok (.aload_n 0, 1) := dk_42 (dk_at dksX2_product_0 9 rfl rfl)
theorem dX2_product_10 : decode cX2_product 10 = .ok (.iload_n 1, 1) := dk_27 (dk_at dksX2_product_0 10 rfl rfl)
theorem dX2_product_11 : decode cX2_product 11 = .ok (.iconst 4, 1) := dk_7 (dk_at dksX2_product_0 11 rfl rfl)
theorem dX2_product_12 : decode cX2_product 12 = .ok (.invokevirtual 74, 3) := dk_182 0 74 (dk_at dksX2_product_0 12 rfl rfl)
theorem dX2_product_15 : decode cX2_product 15 = .ok (.invokestatic 94, 3) := dk_184 0 94 (dk_at dksX2_product_0 15 rfl rfl)
theorem dX2_product_18 : decode cX2_product 18 = .ok (.imul, 1) := dk_104 (dk_at dksX2_product_0 18 rfl rfl)
theorem dX2_product_19 : decode cX2_product 19 = .ok (.aload_n 0, 1) := dk_42 (dk_at dksX2_product_0 19 rfl rfl)
theorem dX2_product_20 : decode cX2_product 20 = .ok (.iload_n 1, 1) := dk_27 (dk_at dksX2_product_0 20 rfl rfl)
theorem dX2_product_21 : decode cX2_product 21 = .ok (.iconst 5, 1) := dk_8 (dk_at dksX2_product_0 21 rfl rfl)
theorem dX2_product_22 : decode cX2_product 22 = .ok (.invokevirtual 74, 3) := dk_182 0 74 (dk_at dksX2_product_1 0 rfl rfl)
theorem dX2_product_25 : decode cX2_product 25 = .ok (.invokestatic 94, 3) := dk_184 0 94 (dk_at dksX2_product_1 3 rfl rfl)
theorem dX2_product_28 : decode cX2_product 28 = .ok (.imul, 1) := dk_104 (dk_at dksX2_product_1 6 rfl rfl)
theorem dX2_product_29 : decode cX2_product 29 = .ok (.ireturn, 1) := dk_172 (dk_at dksX2_product_1 7 rfl rfl)
abbrev cX2_sign : ByteArray := prog_6_method_16_code
def yX2_sign : MethodName := ⟨RX2, "sign", "(J)I"⟩
def dkwX2_sign_0 : List UInt8 := [30, 9, 148, 158, 0, 7, 4, 167, 0, 14, 30, 9, 148, 156, 0, 7, 2, 167, 0, 4, 3, 172]
abbrev dktX2_sign_0 : List UInt8 := dkwX2_sign_0 ++ []
theorem dksX2_sign_0 : cX2_sign.data.toList.drop 0 = dktX2_sign_0 := by decide +kernel
theorem dX2_sign_0 : decode cX2_sign 0 = .ok (.lload_n 0, 1) := dk_30 (dk_at dksX2_sign_0 0 rfl rfl)
theorem dX2_sign_1 : decode cX2_sign 1 = .ok (.lconst 0, 1) := dk_9 (dk_at dksX2_sign_0 1 rfl rfl)
theorem dX2_sign_2 : decode cX2_sign 2 = .ok (.lcmp, 1) := dk_148 (dk_at dksX2_sign_0 2 rfl rfl)
theorem dX2_sign_3 : decode cX2_sign 3 = .ok (.ifCond .le 7, 3) := dk_158 0 7 (dk_at dksX2_sign_0 3 rfl rfl)
theorem dX2_sign_6 : decode cX2_sign 6 = .ok (.iconst 1, 1) := dk_4 (dk_at dksX2_sign_0 6 rfl rfl)
theorem dX2_sign_7 : decode cX2_sign 7 = .ok (.goto 14, 3) := dk_167 0 14 (dk_at dksX2_sign_0 7 rfl rfl)
theorem dX2_sign_10 : decode cX2_sign 10 = .ok (.lload_n 0, 1) := dk_30 (dk_at dksX2_sign_0 10 rfl rfl)
theorem dX2_sign_11 : decode cX2_sign 11 = .ok (.lconst 0, 1) := dk_9 (dk_at dksX2_sign_0 11 rfl rfl)
theorem dX2_sign_12 : decode cX2_sign 12 = .ok (.lcmp, 1) := dk_148 (dk_at dksX2_sign_0 12 rfl rfl)
theorem dX2_sign_13 : decode cX2_sign 13 = .ok (.ifCond .ge 7, 3) := dk_156 0 7 (dk_at dksX2_sign_0 13 rfl rfl)
theorem dX2_sign_16 : decode cX2_sign 16 = .ok (.iconst (-1), 1) := dk_2 (dk_at dksX2_sign_0 16 rfl rfl)
theorem dX2_sign_17 : decode cX2_sign 17 = .ok (.goto 4, 3) := dk_167 0 4 (dk_at dksX2_sign_0 17 rfl rfl)
theorem dX2_sign_20 : decode cX2_sign 20 = .ok (.iconst 0, 1) := dk_3 (dk_at dksX2_sign_0 20 rfl rfl)
theorem dX2_sign_21 : decode cX2_sign 21 = .ok (.ireturn, 1) := dk_172 (dk_at dksX2_sign_0 21 rfl rfl)
abbrev cX2_above : ByteArray := prog_6_method_18_code
def yX2_above : MethodName := ⟨RX2, "above", "(I)I"⟩
def dkwX2_above_1 : List UInt8 := [167, 0, 4, 3, 96, 61, 132, 3, 1, 167, 255, 228, 28, 172]
abbrev dktX2_above_1 : List UInt8 := dkwX2_above_1 ++ []
def dkwX2_above_0 : List UInt8 := [3, 61, 6, 62, 29, 16, 6, 162, 0, 28, 28, 42, 27, 29, 182, 0, 74, 9, 148, 158, 0, 7, 4]
abbrev dktX2_above_0 : List UInt8 := dkwX2_above_0 ++ dktX2_above_1
theorem dksX2_above_0 : cX2_above.data.toList.drop 0 = dktX2_above_0 := by decide +kernel
theorem dksX2_above_1 : cX2_above.data.toList.drop 23 = dktX2_above_1 := dk_seg dksX2_above_0 23 rfl rfl
theorem dX2_above_0 : decode cX2_above 0 = .ok (.iconst 0, 1) := dk_3 (dk_at dksX2_above_0 0 rfl rfl)
theorem dX2_above_1 : decode cX2_above 1 = .ok (.istore_n 2, 1) := dk_61 (dk_at dksX2_above_0 1 rfl rfl)
theorem dX2_above_2 : decode cX2_above 2 = .ok (.iconst 3, 1) := dk_6 (dk_at dksX2_above_0 2 rfl rfl)
theorem dX2_above_3 : decode cX2_above 3 = .ok (.istore_n 3, 1) := dk_62 (dk_at dksX2_above_0 3 rfl rfl)
theorem dX2_above_4 : decode cX2_above 4 = .ok (.iload_n 3, 1) := dk_29 (dk_at dksX2_above_0 4 rfl rfl)
theorem dX2_above_5 : decode cX2_above 5 = .ok (.bipush 6, 2) := dk_16 6 (dk_at dksX2_above_0 5 rfl rfl)
theorem dX2_above_7 : decode cX2_above 7 = .ok (.if_icmp .ge 28, 3) := dk_162 0 28 (dk_at dksX2_above_0 7 rfl rfl)
theorem dX2_above_10 : decode cX2_above 10 = .ok (.iload_n 2, 1) := dk_28 (dk_at dksX2_above_0 10 rfl rfl)
theorem dX2_above_11 : decode cX2_above 11 = .ok (.aload_n 0, 1) := dk_42 (dk_at dksX2_above_0 11 rfl rfl)
theorem dX2_above_12 : decode cX2_above 12 = .ok (.iload_n 1, 1) := dk_27 (dk_at dksX2_above_0 12 rfl rfl)
theorem dX2_above_13 : decode cX2_above 13 = .ok (.iload_n 3, 1) := dk_29 (dk_at dksX2_above_0 13 rfl rfl)
theorem dX2_above_14 : decode cX2_above 14 = .ok (.invokevirtual 74, 3) := dk_182 0 74 (dk_at dksX2_above_0 14 rfl rfl)
theorem dX2_above_17 : decode cX2_above 17 = .ok (.lconst 0, 1) := dk_9 (dk_at dksX2_above_0 17 rfl rfl)
theorem dX2_above_18 : decode cX2_above 18 = .ok (.lcmp, 1) := dk_148 (dk_at dksX2_above_0 18 rfl rfl)
theorem dX2_above_19 : decode cX2_above 19 = .ok (.ifCond .le 7, 3) := dk_158 0 7 (dk_at dksX2_above_0 19 rfl rfl)
theorem dX2_above_22 : decode cX2_above 22 = .ok (.iconst 1, 1) := dk_4 (dk_at dksX2_above_0 22 rfl rfl)
theorem dX2_above_23 : decode cX2_above 23 = .ok (.goto 4, 3) := dk_167 0 4 (dk_at dksX2_above_1 0 rfl rfl)
theorem dX2_above_26 : decode cX2_above 26 = .ok (.iconst 0, 1) := dk_3 (dk_at dksX2_above_1 3 rfl rfl)
theorem dX2_above_27 : decode cX2_above 27 = .ok (.iadd, 1) := dk_96 (dk_at dksX2_above_1 4 rfl rfl)
theorem dX2_above_28 : decode cX2_above 28 = .ok (.istore_n 2, 1) := dk_61 (dk_at dksX2_above_1 5 rfl rfl)
theorem dX2_above_29 : decode cX2_above 29 = .ok (.iinc 3 1, 3) := dk_132 3 1 (dk_at dksX2_above_1 6 rfl rfl)
theorem dX2_above_32 : decode cX2_above 32 = .ok (.goto (-28), 3) := dk_167 255 228 (dk_at dksX2_above_1 9 rfl rfl)
theorem dX2_above_35 : decode cX2_above 35 = .ok (.iload_n 2, 1) := dk_28 (dk_at dksX2_above_1 12 rfl rfl)
theorem dX2_above_36 : decode cX2_above 36 = .ok (.ireturn, 1) := dk_172 (dk_at dksX2_above_1 13 rfl rfl)
abbrev cX2_isLong : ByteArray := prog_6_method_19_code
def yX2_isLong : MethodName := ⟨RX2, "isLong", "(JJJJ)Z"⟩
def dkwX2_isLong_1 : List UInt8 := [117, 148, 154, 0, 14, 22, 6, 9, 148, 156, 0, 7, 4, 167, 0, 4, 3, 172]
abbrev dktX2_isLong_1 : List UInt8 := dkwX2_isLong_1 ++ []
def dkwX2_isLong_0 : List UInt8 := [30, 184, 0, 98, 32, 148, 157, 0, 30, 30, 32, 148, 154, 0, 10, 22, 4, 9, 148, 155, 0, 17, 30, 32]
abbrev dktX2_isLong_0 : List UInt8 := dkwX2_isLong_0 ++ dktX2_isLong_1
theorem dksX2_isLong_0 : cX2_isLong.data.toList.drop 0 = dktX2_isLong_0 := by decide +kernel
theorem dksX2_isLong_1 : cX2_isLong.data.toList.drop 24 = dktX2_isLong_1 := dk_seg dksX2_isLong_0 24 rfl rfl
theorem dX2_isLong_0 : decode cX2_isLong 0 = .ok (.lload_n 0, 1) := dk_30 (dk_at dksX2_isLong_0 0 rfl rfl)
theorem dX2_isLong_1 : decode cX2_isLong 1 = .ok (.invokestatic 98, 3) := dk_184 0 98 (dk_at dksX2_isLong_0 1 rfl rfl)
theorem dX2_isLong_4 : decode cX2_isLong 4 = .ok (.lload_n 2, 1) := dk_32 (dk_at dksX2_isLong_0 4 rfl rfl)
theorem dX2_isLong_5 : decode cX2_isLong 5 = .ok (.lcmp, 1) := dk_148 (dk_at dksX2_isLong_0 5 rfl rfl)
theorem dX2_isLong_6 : decode cX2_isLong 6 = .ok (.ifCond .gt 30, 3) := dk_157 0 30 (dk_at dksX2_isLong_0 6 rfl rfl)
theorem dX2_isLong_9 : decode cX2_isLong 9 = .ok (.lload_n 0, 1) := dk_30 (dk_at dksX2_isLong_0 9 rfl rfl)
theorem dX2_isLong_10 : decode cX2_isLong 10 = .ok (.lload_n 2, 1) := dk_32 (dk_at dksX2_isLong_0 10 rfl rfl)
theorem dX2_isLong_11 : decode cX2_isLong 11 = .ok (.lcmp, 1) := dk_148 (dk_at dksX2_isLong_0 11 rfl rfl)
theorem dX2_isLong_12 : decode cX2_isLong 12 = .ok (.ifCond .ne 10, 3) := dk_154 0 10 (dk_at dksX2_isLong_0 12 rfl rfl)
theorem dX2_isLong_15 : decode cX2_isLong 15 = .ok (.lload 4, 2) := dk_22 4 (dk_at dksX2_isLong_0 15 rfl rfl)
theorem dX2_isLong_17 : decode cX2_isLong 17 = .ok (.lconst 0, 1) := dk_9 (dk_at dksX2_isLong_0 17 rfl rfl)
theorem dX2_isLong_18 : decode cX2_isLong 18 = .ok (.lcmp, 1) := dk_148 (dk_at dksX2_isLong_0 18 rfl rfl)
theorem dX2_isLong_19 : decode cX2_isLong 19 = .ok (.ifCond .lt 17, 3) := dk_155 0 17 (dk_at dksX2_isLong_0 19 rfl rfl)
theorem dX2_isLong_22 : decode cX2_isLong 22 = .ok (.lload_n 0, 1) := dk_30 (dk_at dksX2_isLong_0 22 rfl rfl)
theorem dX2_isLong_23 : decode cX2_isLong 23 = .ok (.lload_n 2, 1) := dk_32 (dk_at dksX2_isLong_0 23 rfl rfl)
theorem dX2_isLong_24 : decode cX2_isLong 24 = .ok (.lneg, 1) := dk_117 (dk_at dksX2_isLong_1 0 rfl rfl)
theorem dX2_isLong_25 : decode cX2_isLong 25 = .ok (.lcmp, 1) := dk_148 (dk_at dksX2_isLong_1 1 rfl rfl)
theorem dX2_isLong_26 : decode cX2_isLong 26 = .ok (.ifCond .ne 14, 3) := dk_154 0 14 (dk_at dksX2_isLong_1 2 rfl rfl)
theorem dX2_isLong_29 : decode cX2_isLong 29 = .ok (.lload 6, 2) := dk_22 6 (dk_at dksX2_isLong_1 5 rfl rfl)
theorem dX2_isLong_31 : decode cX2_isLong 31 = .ok (.lconst 0, 1) := dk_9 (dk_at dksX2_isLong_1 7 rfl rfl)
theorem dX2_isLong_32 : decode cX2_isLong 32 = .ok (.lcmp, 1) := dk_148 (dk_at dksX2_isLong_1 8 rfl rfl)
theorem dX2_isLong_33 : decode cX2_isLong 33 = .ok (.ifCond .ge 7, 3) := dk_156 0 7 (dk_at dksX2_isLong_1 9 rfl rfl)
theorem dX2_isLong_36 : decode cX2_isLong 36 = .ok (.iconst 1, 1) := dk_4 (dk_at dksX2_isLong_1 12 rfl rfl)
theorem dX2_isLong_37 : decode cX2_isLong 37 = .ok (.goto 4, 3) := dk_167 0 4 (dk_at dksX2_isLong_1 13 rfl rfl)
theorem dX2_isLong_40 : decode cX2_isLong 40 = .ok (.iconst 0, 1) := dk_3 (dk_at dksX2_isLong_1 16 rfl rfl)
theorem dX2_isLong_41 : decode cX2_isLong 41 = .ok (.ireturn, 1) := dk_172 (dk_at dksX2_isLong_1 17 rfl rfl)
abbrev cX2_step : ByteArray := prog_6_method_41_code
def yX2_step : MethodName := ⟨RX2, "step", "(I)I"⟩
def dkwX2_step_1 : List UInt8 := [182, 0, 198, 42, 27, 28, 182, 0, 142, 42, 27, 28, 182, 0, 205, 28, 172]
abbrev dktX2_step_1 : List UInt8 := dkwX2_step_1 ++ []
def dkwX2_step_0 : List UInt8 := [42, 27, 182, 0, 188, 154, 0, 5, 2, 172, 42, 27, 182, 0, 139, 61, 28, 158, 0, 20, 42, 27]
abbrev dktX2_step_0 : List UInt8 := dkwX2_step_0 ++ dktX2_step_1
theorem dksX2_step_0 : cX2_step.data.toList.drop 0 = dktX2_step_0 := by decide +kernel
theorem dksX2_step_1 : cX2_step.data.toList.drop 22 = dktX2_step_1 := dk_seg dksX2_step_0 22 rfl rfl
theorem dX2_step_0 : decode cX2_step 0 = .ok (.aload_n 0, 1) := dk_42 (dk_at dksX2_step_0 0 rfl rfl)
theorem dX2_step_1 : decode cX2_step 1 = .ok (.iload_n 1, 1) := dk_27 (dk_at dksX2_step_0 1 rfl rfl)
theorem dX2_step_2 : decode cX2_step 2 = .ok (.invokevirtual 188, 3) := dk_182 0 188 (dk_at dksX2_step_0 2 rfl rfl)
theorem dX2_step_5 : decode cX2_step 5 = .ok (.ifCond .ne 5, 3) := dk_154 0 5 (dk_at dksX2_step_0 5 rfl rfl)
theorem dX2_step_8 : decode cX2_step 8 = .ok (.iconst (-1), 1) := dk_2 (dk_at dksX2_step_0 8 rfl rfl)
theorem dX2_step_9 : decode cX2_step 9 = .ok (.ireturn, 1) := dk_172 (dk_at dksX2_step_0 9 rfl rfl)
theorem dX2_step_10 : decode cX2_step 10 = .ok (.aload_n 0, 1) := dk_42 (dk_at dksX2_step_0 10 rfl rfl)
theorem dX2_step_11 : decode cX2_step 11 = .ok (.iload_n 1, 1) := dk_27 (dk_at dksX2_step_0 11 rfl rfl)
theorem dX2_step_12 : decode cX2_step 12 = .ok (.invokevirtual 139, 3) := dk_182 0 139 (dk_at dksX2_step_0 12 rfl rfl)
theorem dX2_step_15 : decode cX2_step 15 = .ok (.istore_n 2, 1) := dk_61 (dk_at dksX2_step_0 15 rfl rfl)
theorem dX2_step_16 : decode cX2_step 16 = .ok (.iload_n 2, 1) := dk_28 (dk_at dksX2_step_0 16 rfl rfl)
theorem dX2_step_17 : decode cX2_step 17 = .ok (.ifCond .le 20, 3) := dk_158 0 20 (dk_at dksX2_step_0 17 rfl rfl)
theorem dX2_step_20 : decode cX2_step 20 = .ok (.aload_n 0, 1) := dk_42 (dk_at dksX2_step_0 20 rfl rfl)
theorem dX2_step_21 : decode cX2_step 21 = .ok (.iload_n 1, 1) := dk_27 (dk_at dksX2_step_0 21 rfl rfl)
theorem dX2_step_22 : decode cX2_step 22 = .ok (.invokevirtual 198, 3) := dk_182 0 198 (dk_at dksX2_step_1 0 rfl rfl)
theorem dX2_step_25 : decode cX2_step 25 = .ok (.aload_n 0, 1) := dk_42 (dk_at dksX2_step_1 3 rfl rfl)
theorem dX2_step_26 : decode cX2_step 26 = .ok (.iload_n 1, 1) := dk_27 (dk_at dksX2_step_1 4 rfl rfl)
theorem dX2_step_27 : decode cX2_step 27 = .ok (.iload_n 2, 1) := dk_28 (dk_at dksX2_step_1 5 rfl rfl)
theorem dX2_step_28 : decode cX2_step 28 = .ok (.invokevirtual 142, 3) := dk_182 0 142 (dk_at dksX2_step_1 6 rfl rfl)
theorem dX2_step_31 : decode cX2_step 31 = .ok (.aload_n 0, 1) := dk_42 (dk_at dksX2_step_1 9 rfl rfl)
theorem dX2_step_32 : decode cX2_step 32 = .ok (.iload_n 1, 1) := dk_27 (dk_at dksX2_step_1 10 rfl rfl)
theorem dX2_step_33 : decode cX2_step 33 = .ok (.iload_n 2, 1) := dk_28 (dk_at dksX2_step_1 11 rfl rfl)
theorem dX2_step_34 : decode cX2_step 34 = .ok (.invokevirtual 205, 3) := dk_182 0 205 (dk_at dksX2_step_1 12 rfl rfl)
theorem dX2_step_37 : decode cX2_step 37 = .ok (.iload_n 2, 1) := dk_28 (dk_at dksX2_step_1 15 rfl rfl)
theorem dX2_step_38 : decode cX2_step 38 = .ok (.ireturn, 1) := dk_172 (dk_at dksX2_step_1 16 rfl rfl)
abbrev cX2_firstOf : ByteArray := prog_6_method_21_code
def yX2_firstOf : MethodName := ⟨RX2, "firstOf", "(I)I"⟩
def dkwX2_firstOf_1 : List UInt8 := [167, 255, 236, 3, 172]
abbrev dktX2_firstOf_1 : List UInt8 := dkwX2_firstOf_1 ++ []
def dkwX2_firstOf_0 : List UInt8 := [4, 61, 28, 16, 8, 163, 0, 20, 42, 27, 28, 182, 0, 113, 153, 0, 5, 28, 172, 132, 2, 1]
abbrev dktX2_firstOf_0 : List UInt8 := dkwX2_firstOf_0 ++ dktX2_firstOf_1
theorem dksX2_firstOf_0 : cX2_firstOf.data.toList.drop 0 = dktX2_firstOf_0 := by decide +kernel
theorem dksX2_firstOf_1 : cX2_firstOf.data.toList.drop 22 = dktX2_firstOf_1 := dk_seg dksX2_firstOf_0 22 rfl rfl
theorem dX2_firstOf_0 : decode cX2_firstOf 0 = .ok (.iconst 1, 1) := dk_4 (dk_at dksX2_firstOf_0 0 rfl rfl)
theorem dX2_firstOf_1 : decode cX2_firstOf 1 = .ok (.istore_n 2, 1) := dk_61 (dk_at dksX2_firstOf_0 1 rfl rfl)
theorem dX2_firstOf_2 : decode cX2_firstOf 2 = .ok (.iload_n 2, 1) := dk_28 (dk_at dksX2_firstOf_0 2 rfl rfl)
theorem dX2_firstOf_3 : decode cX2_firstOf 3 = .ok (.bipush 8, 2) := dk_16 8 (dk_at dksX2_firstOf_0 3 rfl rfl)
theorem dX2_firstOf_5 : decode cX2_firstOf 5 = .ok (.if_icmp .gt 20, 3) := dk_163 0 20 (dk_at dksX2_firstOf_0 5 rfl rfl)
theorem dX2_firstOf_8 : decode cX2_firstOf 8 = .ok (.aload_n 0, 1) := dk_42 (dk_at dksX2_firstOf_0 8 rfl rfl)
theorem dX2_firstOf_9 : decode cX2_firstOf 9 = .ok (.iload_n 1, 1) := dk_27 (dk_at dksX2_firstOf_0 9 rfl rfl)
theorem dX2_firstOf_10 : decode cX2_firstOf 10 = .ok (.iload_n 2, 1) := dk_28 (dk_at dksX2_firstOf_0 10 rfl rfl)
theorem dX2_firstOf_11 : decode cX2_firstOf 11 = .ok (.invokevirtual 113, 3) := dk_182 0 113 (dk_at dksX2_firstOf_0 11 rfl rfl)
theorem dX2_firstOf_14 : decode cX2_firstOf 14 = .ok (.ifCond .eq 5, 3) := dk_153 0 5 (dk_at dksX2_firstOf_0 14 rfl rfl)
theorem dX2_firstOf_17 : decode cX2_firstOf 17 = .ok (.iload_n 2, 1) := dk_28 (dk_at dksX2_firstOf_0 17 rfl rfl)
theorem dX2_firstOf_18 : decode cX2_firstOf 18 = .ok (.ireturn, 1) := dk_172 (dk_at dksX2_firstOf_0 18 rfl rfl)
theorem dX2_firstOf_19 : decode cX2_firstOf 19 = .ok (.iinc 2 1, 3) := dk_132 2 1 (dk_at dksX2_firstOf_0 19 rfl rfl)
theorem dX2_firstOf_22 : decode cX2_firstOf 22 = .ok (.goto (-20), 3) := dk_167 255 236 (dk_at dksX2_firstOf_1 0 rfl rfl)
theorem dX2_firstOf_25 : decode cX2_firstOf 25 = .ok (.iconst 0, 1) := dk_3 (dk_at dksX2_firstOf_1 3 rfl rfl)
theorem dX2_firstOf_26 : decode cX2_firstOf 26 = .ok (.ireturn, 1) := dk_172 (dk_at dksX2_firstOf_1 4 rfl rfl)
abbrev cX2_does : ByteArray := prog_6_method_24_code
def yX2_does : MethodName := ⟨RX2, "does", "(II)V"⟩
def dkwX2_does_8 : List UInt8 := [42, 27, 5, 4, 10, 182, 0, 135, 177]
abbrev dktX2_does_8 : List UInt8 := dkwX2_does_8 ++ []
def dkwX2_does_7 : List UInt8 := [158, 0, 9, 20, 0, 133, 167, 0, 4, 10, 182, 0, 135, 167, 0, 19, 42, 27, 5, 3, 10, 182, 0, 135]
abbrev dktX2_does_7 : List UInt8 := dkwX2_does_7 ++ dktX2_does_8
def dkwX2_does_6 : List UInt8 := [167, 0, 4, 10, 182, 0, 135, 167, 0, 47, 42, 27, 4, 3, 42, 27, 8, 182, 0, 74, 9, 148]
abbrev dktX2_does_6 : List UInt8 := dkwX2_does_6 ++ dktX2_does_7
def dkwX2_does_5 : List UInt8 := [182, 0, 135, 167, 0, 75, 42, 27, 5, 3, 42, 27, 7, 182, 0, 74, 9, 148, 158, 0, 9, 20, 0, 133]
abbrev dktX2_does_5 : List UInt8 := dkwX2_does_5 ++ dktX2_does_6
def dkwX2_does_4 : List UInt8 := [42, 27, 5, 4, 42, 27, 6, 182, 0, 74, 9, 148, 158, 0, 9, 20, 0, 133, 167, 0, 4, 10]
abbrev dktX2_does_4 : List UInt8 := dkwX2_does_4 ++ dktX2_does_5
def dkwX2_does_3 : List UInt8 := [182, 0, 125, 167, 0, 121, 42, 27, 3, 182, 0, 129, 167, 0, 112, 42, 27, 4, 182, 0, 129, 167, 0, 103]
abbrev dktX2_does_3 : List UInt8 := dkwX2_does_3 ++ dktX2_does_4
def dkwX2_does_2 : List UInt8 := [42, 27, 3, 4, 182, 0, 121, 42, 27, 182, 0, 125, 167, 0, 136, 42, 27, 4, 5, 182, 0, 121, 42, 27]
abbrev dktX2_does_2 : List UInt8 := dkwX2_does_2 ++ dktX2_does_3
def dkwX2_does_1 : List UInt8 := [170, 0, 0, 0, 0, 0, 175, 0, 0, 0, 1, 0, 0, 0, 7, 0, 0, 0, 43, 0, 0, 0, 58, 0, 0, 0, 73, 0, 0, 0, 82, 0, 0, 0, 91, 0, 0, 0, 119, 0, 0, 0, 147]
abbrev dktX2_does_1 : List UInt8 := dkwX2_does_1 ++ dktX2_does_2
def dkwX2_does_0 : List UInt8 := [28]
abbrev dktX2_does_0 : List UInt8 := dkwX2_does_0 ++ dktX2_does_1
theorem dksX2_does_0 : cX2_does.data.toList.drop 0 = dktX2_does_0 := by decide +kernel
theorem dksX2_does_1 : cX2_does.data.toList.drop 1 = dktX2_does_1 := dk_seg dksX2_does_0 1 rfl rfl
theorem dksX2_does_2 : cX2_does.data.toList.drop 44 = dktX2_does_2 := dk_seg dksX2_does_1 43 rfl rfl
theorem dksX2_does_3 : cX2_does.data.toList.drop 68 = dktX2_does_3 := dk_seg dksX2_does_2 24 rfl rfl
theorem dksX2_does_4 : cX2_does.data.toList.drop 92 = dktX2_does_4 := dk_seg dksX2_does_3 24 rfl rfl
theorem dksX2_does_5 : cX2_does.data.toList.drop 114 = dktX2_does_5 := dk_seg dksX2_does_4 22 rfl rfl
theorem dksX2_does_6 : cX2_does.data.toList.drop 138 = dktX2_does_6 := dk_seg dksX2_does_5 24 rfl rfl
theorem dksX2_does_7 : cX2_does.data.toList.drop 160 = dktX2_does_7 := dk_seg dksX2_does_6 22 rfl rfl
theorem dksX2_does_8 : cX2_does.data.toList.drop 184 = dktX2_does_8 := dk_seg dksX2_does_7 24 rfl rfl
theorem dX2_does_0 : decode cX2_does 0 = .ok (.iload_n 2, 1) := dk_28 (dk_at dksX2_does_0 0 rfl rfl)
theorem dX2_does_1 : decode cX2_does 1 = .ok (.tableswitch 175 1 7 #[43, 58, 73, 82, 91, 119, 147], 43) := by decide +kernel
theorem dX2_does_44 : decode cX2_does 44 = .ok (.aload_n 0, 1) := dk_42 (dk_at dksX2_does_2 0 rfl rfl)
theorem dX2_does_45 : decode cX2_does 45 = .ok (.iload_n 1, 1) := dk_27 (dk_at dksX2_does_2 1 rfl rfl)
theorem dX2_does_46 : decode cX2_does 46 = .ok (.iconst 0, 1) := dk_3 (dk_at dksX2_does_2 2 rfl rfl)
theorem dX2_does_47 : decode cX2_does 47 = .ok (.iconst 1, 1) := dk_4 (dk_at dksX2_does_2 3 rfl rfl)
theorem dX2_does_48 : decode cX2_does 48 = .ok (.invokevirtual 121, 3) := dk_182 0 121 (dk_at dksX2_does_2 4 rfl rfl)
theorem dX2_does_51 : decode cX2_does 51 = .ok (.aload_n 0, 1) := dk_42 (dk_at dksX2_does_2 7 rfl rfl)
theorem dX2_does_52 : decode cX2_does 52 = .ok (.iload_n 1, 1) := dk_27 (dk_at dksX2_does_2 8 rfl rfl)
theorem dX2_does_53 : decode cX2_does 53 = .ok (.invokevirtual 125, 3) := dk_182 0 125 (dk_at dksX2_does_2 9 rfl rfl)
theorem dX2_does_56 : decode cX2_does 56 = .ok (.goto 136, 3) := dk_167 0 136 (dk_at dksX2_does_2 12 rfl rfl)
theorem dX2_does_59 : decode cX2_does 59 = .ok (.aload_n 0, 1) := dk_42 (dk_at dksX2_does_2 15 rfl rfl)
theorem dX2_does_60 : decode cX2_does 60 = .ok (.iload_n 1, 1) := dk_27 (dk_at dksX2_does_2 16 rfl rfl)
theorem dX2_does_61 : decode cX2_does 61 = .ok (.iconst 1, 1) := dk_4 (dk_at dksX2_does_2 17 rfl rfl)
theorem dX2_does_62 : decode cX2_does 62 = .ok (.iconst 2, 1) := dk_5 (dk_at dksX2_does_2 18 rfl rfl)
theorem dX2_does_63 : decode cX2_does 63 = .ok (.invokevirtual 121, 3) := dk_182 0 121 (dk_at dksX2_does_2 19 rfl rfl)
theorem dX2_does_66 : decode cX2_does 66 = .ok (.aload_n 0, 1) := dk_42 (dk_at dksX2_does_2 22 rfl rfl)
theorem dX2_does_67 : decode cX2_does 67 = .ok (.iload_n 1, 1) := dk_27 (dk_at dksX2_does_2 23 rfl rfl)
theorem dX2_does_68 : decode cX2_does 68 = .ok (.invokevirtual 125, 3) := dk_182 0 125 (dk_at dksX2_does_3 0 rfl rfl)
theorem dX2_does_71 : decode cX2_does 71 = .ok (.goto 121, 3) := dk_167 0 121 (dk_at dksX2_does_3 3 rfl rfl)
theorem dX2_does_74 : decode cX2_does 74 = .ok (.aload_n 0, 1) := dk_42 (dk_at dksX2_does_3 6 rfl rfl)
theorem dX2_does_75 : decode cX2_does 75 = .ok (.iload_n 1, 1) := dk_27 (dk_at dksX2_does_3 7 rfl rfl)
theorem dX2_does_76 : decode cX2_does 76 = .ok (.iconst 0, 1) := dk_3 (dk_at dksX2_does_3 8 rfl rfl)
theorem dX2_does_77 : decode cX2_does 77 = .ok (.invokevirtual 129, 3) := dk_182 0 129 (dk_at dksX2_does_3 9 rfl rfl)
theorem dX2_does_80 : decode cX2_does 80 = .ok (.goto 112, 3) := dk_167 0 112 (dk_at dksX2_does_3 12 rfl rfl)
theorem dX2_does_83 : decode cX2_does 83 = .ok (.aload_n 0, 1) := dk_42 (dk_at dksX2_does_3 15 rfl rfl)
theorem dX2_does_84 : decode cX2_does 84 = .ok (.iload_n 1, 1) := dk_27 (dk_at dksX2_does_3 16 rfl rfl)
theorem dX2_does_85 : decode cX2_does 85 = .ok (.iconst 1, 1) := dk_4 (dk_at dksX2_does_3 17 rfl rfl)
theorem dX2_does_86 : decode cX2_does 86 = .ok (.invokevirtual 129, 3) := dk_182 0 129 (dk_at dksX2_does_3 18 rfl rfl)
theorem dX2_does_89 : decode cX2_does 89 = .ok (.goto 103, 3) := dk_167 0 103 (dk_at dksX2_does_3 21 rfl rfl)
theorem dX2_does_92 : decode cX2_does 92 = .ok (.aload_n 0, 1) := dk_42 (dk_at dksX2_does_4 0 rfl rfl)
theorem dX2_does_93 : decode cX2_does 93 = .ok (.iload_n 1, 1) := dk_27 (dk_at dksX2_does_4 1 rfl rfl)
theorem dX2_does_94 : decode cX2_does 94 = .ok (.iconst 2, 1) := dk_5 (dk_at dksX2_does_4 2 rfl rfl)
theorem dX2_does_95 : decode cX2_does 95 = .ok (.iconst 1, 1) := dk_4 (dk_at dksX2_does_4 3 rfl rfl)
theorem dX2_does_96 : decode cX2_does 96 = .ok (.aload_n 0, 1) := dk_42 (dk_at dksX2_does_4 4 rfl rfl)
theorem dX2_does_97 : decode cX2_does 97 = .ok (.iload_n 1, 1) := dk_27 (dk_at dksX2_does_4 5 rfl rfl)
theorem dX2_does_98 : decode cX2_does 98 = .ok (.iconst 3, 1) := dk_6 (dk_at dksX2_does_4 6 rfl rfl)
theorem dX2_does_99 : decode cX2_does 99 = .ok (.invokevirtual 74, 3) := dk_182 0 74 (dk_at dksX2_does_4 7 rfl rfl)
theorem dX2_does_102 : decode cX2_does 102 = .ok (.lconst 0, 1) := dk_9 (dk_at dksX2_does_4 10 rfl rfl)
theorem dX2_does_103 : decode cX2_does 103 = .ok (.lcmp, 1) := dk_148 (dk_at dksX2_does_4 11 rfl rfl)
theorem dX2_does_104 : decode cX2_does 104 = .ok (.ifCond .le 9, 3) := dk_158 0 9 (dk_at dksX2_does_4 12 rfl rfl)
theorem dX2_does_107 : decode cX2_does 107 = .ok (.ldc2_w 133, 3) := dk_20 0 133 (dk_at dksX2_does_4 15 rfl rfl)
theorem dX2_does_110 : decode cX2_does 110 = .ok (.goto 4, 3) := dk_167 0 4 (dk_at dksX2_does_4 18 rfl rfl)
theorem dX2_does_113 : decode cX2_does 113 = .ok (.lconst 1, 1) := dk_10 (dk_at dksX2_does_4 21 rfl rfl)
theorem dX2_does_114 : decode cX2_does 114 = .ok (.invokevirtual 135, 3) := dk_182 0 135 (dk_at dksX2_does_5 0 rfl rfl)
theorem dX2_does_117 : decode cX2_does 117 = .ok (.goto 75, 3) := dk_167 0 75 (dk_at dksX2_does_5 3 rfl rfl)
theorem dX2_does_120 : decode cX2_does 120 = .ok (.aload_n 0, 1) := dk_42 (dk_at dksX2_does_5 6 rfl rfl)
theorem dX2_does_121 : decode cX2_does 121 = .ok (.iload_n 1, 1) := dk_27 (dk_at dksX2_does_5 7 rfl rfl)
theorem dX2_does_122 : decode cX2_does 122 = .ok (.iconst 2, 1) := dk_5 (dk_at dksX2_does_5 8 rfl rfl)
theorem dX2_does_123 : decode cX2_does 123 = .ok (.iconst 0, 1) := dk_3 (dk_at dksX2_does_5 9 rfl rfl)
theorem dX2_does_124 : decode cX2_does 124 = .ok (.aload_n 0, 1) := dk_42 (dk_at dksX2_does_5 10 rfl rfl)
theorem dX2_does_125 : decode cX2_does 125 = .ok (.iload_n 1, 1) := dk_27 (dk_at dksX2_does_5 11 rfl rfl)
theorem dX2_does_126 : decode cX2_does 126 = .ok (.iconst 4, 1) := dk_7 (dk_at dksX2_does_5 12 rfl rfl)
theorem dX2_does_127 : decode cX2_does 127 = .ok (.invokevirtual 74, 3) := dk_182 0 74 (dk_at dksX2_does_5 13 rfl rfl)
theorem dX2_does_130 : decode cX2_does 130 = .ok (.lconst 0, 1) := dk_9 (dk_at dksX2_does_5 16 rfl rfl)
theorem dX2_does_131 : decode cX2_does 131 = .ok (.lcmp, 1) := dk_148 (dk_at dksX2_does_5 17 rfl rfl)
theorem dX2_does_132 : decode cX2_does 132 = .ok (.ifCond .le 9, 3) := dk_158 0 9 (dk_at dksX2_does_5 18 rfl rfl)
theorem dX2_does_135 : decode cX2_does 135 = .ok (.ldc2_w 133, 3) := dk_20 0 133 (dk_at dksX2_does_5 21 rfl rfl)
theorem dX2_does_138 : decode cX2_does 138 = .ok (.goto 4, 3) := dk_167 0 4 (dk_at dksX2_does_6 0 rfl rfl)
theorem dX2_does_141 : decode cX2_does 141 = .ok (.lconst 1, 1) := dk_10 (dk_at dksX2_does_6 3 rfl rfl)
theorem dX2_does_142 : decode cX2_does 142 = .ok (.invokevirtual 135, 3) := dk_182 0 135 (dk_at dksX2_does_6 4 rfl rfl)
theorem dX2_does_145 : decode cX2_does 145 = .ok (.goto 47, 3) := dk_167 0 47 (dk_at dksX2_does_6 7 rfl rfl)
theorem dX2_does_148 : decode cX2_does 148 = .ok (.aload_n 0, 1) := dk_42 (dk_at dksX2_does_6 10 rfl rfl)
theorem dX2_does_149 : decode cX2_does 149 = .ok (.iload_n 1, 1) := dk_27 (dk_at dksX2_does_6 11 rfl rfl)
theorem dX2_does_150 : decode cX2_does 150 = .ok (.iconst 1, 1) := dk_4 (dk_at dksX2_does_6 12 rfl rfl)
theorem dX2_does_151 : decode cX2_does 151 = .ok (.iconst 0, 1) := dk_3 (dk_at dksX2_does_6 13 rfl rfl)
theorem dX2_does_152 : decode cX2_does 152 = .ok (.aload_n 0, 1) := dk_42 (dk_at dksX2_does_6 14 rfl rfl)
theorem dX2_does_153 : decode cX2_does 153 = .ok (.iload_n 1, 1) := dk_27 (dk_at dksX2_does_6 15 rfl rfl)
theorem dX2_does_154 : decode cX2_does 154 = .ok (.iconst 5, 1) := dk_8 (dk_at dksX2_does_6 16 rfl rfl)
theorem dX2_does_155 : decode cX2_does 155 = .ok (.invokevirtual 74, 3) := dk_182 0 74 (dk_at dksX2_does_6 17 rfl rfl)
theorem dX2_does_158 : decode cX2_does 158 = .ok (.lconst 0, 1) := dk_9 (dk_at dksX2_does_6 20 rfl rfl)
theorem dX2_does_159 : decode cX2_does 159 = .ok (.lcmp, 1) := dk_148 (dk_at dksX2_does_6 21 rfl rfl)
theorem dX2_does_160 : decode cX2_does 160 = .ok (.ifCond .le 9, 3) := dk_158 0 9 (dk_at dksX2_does_7 0 rfl rfl)
theorem dX2_does_163 : decode cX2_does 163 = .ok (.ldc2_w 133, 3) := dk_20 0 133 (dk_at dksX2_does_7 3 rfl rfl)
theorem dX2_does_166 : decode cX2_does 166 = .ok (.goto 4, 3) := dk_167 0 4 (dk_at dksX2_does_7 6 rfl rfl)
theorem dX2_does_169 : decode cX2_does 169 = .ok (.lconst 1, 1) := dk_10 (dk_at dksX2_does_7 9 rfl rfl)
theorem dX2_does_170 : decode cX2_does 170 = .ok (.invokevirtual 135, 3) := dk_182 0 135 (dk_at dksX2_does_7 10 rfl rfl)
theorem dX2_does_173 : decode cX2_does 173 = .ok (.goto 19, 3) := dk_167 0 19 (dk_at dksX2_does_7 13 rfl rfl)
theorem dX2_does_176 : decode cX2_does 176 = .ok (.aload_n 0, 1) := dk_42 (dk_at dksX2_does_7 16 rfl rfl)
theorem dX2_does_177 : decode cX2_does 177 = .ok (.iload_n 1, 1) := dk_27 (dk_at dksX2_does_7 17 rfl rfl)
theorem dX2_does_178 : decode cX2_does 178 = .ok (.iconst 2, 1) := dk_5 (dk_at dksX2_does_7 18 rfl rfl)
theorem dX2_does_179 : decode cX2_does 179 = .ok (.iconst 0, 1) := dk_3 (dk_at dksX2_does_7 19 rfl rfl)
theorem dX2_does_180 : decode cX2_does 180 = .ok (.lconst 1, 1) := dk_10 (dk_at dksX2_does_7 20 rfl rfl)
theorem dX2_does_181 : decode cX2_does 181 = .ok (.invokevirtual 135, 3) := dk_182 0 135 (dk_at dksX2_does_7 21 rfl rfl)
theorem dX2_does_184 : decode cX2_does 184 = .ok (.aload_n 0, 1) := dk_42 (dk_at dksX2_does_8 0 rfl rfl)
theorem dX2_does_185 : decode cX2_does 185 = .ok (.iload_n 1, 1) := dk_27 (dk_at dksX2_does_8 1 rfl rfl)
theorem dX2_does_186 : decode cX2_does 186 = .ok (.iconst 2, 1) := dk_5 (dk_at dksX2_does_8 2 rfl rfl)
theorem dX2_does_187 : decode cX2_does 187 = .ok (.iconst 1, 1) := dk_4 (dk_at dksX2_does_8 3 rfl rfl)
theorem dX2_does_188 : decode cX2_does 188 = .ok (.lconst 1, 1) := dk_10 (dk_at dksX2_does_8 4 rfl rfl)
theorem dX2_does_189 : decode cX2_does 189 = .ok (.invokevirtual 135, 3) := dk_182 0 135 (dk_at dksX2_does_8 5 rfl rfl)
theorem dX2_does_192 : decode cX2_does 192 = .ok (.return_, 1) := dk_177 (dk_at dksX2_does_8 8 rfl rfl)
abbrev cX2_turnsAll : ByteArray := prog_6_method_23_code
def yX2_turnsAll : MethodName := ⟨RX2, "turnsAll", "(I)V"⟩
def dkwX2_turnsAll_0 : List UInt8 := [3, 61, 28, 6, 162, 0, 15, 42, 27, 28, 182, 0, 117, 132, 2, 1, 167, 255, 242, 177]
abbrev dktX2_turnsAll_0 : List UInt8 := dkwX2_turnsAll_0 ++ []
theorem dksX2_turnsAll_0 : cX2_turnsAll.data.toList.drop 0 = dktX2_turnsAll_0 := by decide +kernel
theorem dX2_turnsAll_0 : decode cX2_turnsAll 0 = .ok (.iconst 0, 1) := dk_3 (dk_at dksX2_turnsAll_0 0 rfl rfl)
theorem dX2_turnsAll_1 : decode cX2_turnsAll 1 = .ok (.istore_n 2, 1) := dk_61 (dk_at dksX2_turnsAll_0 1 rfl rfl)
theorem dX2_turnsAll_2 : decode cX2_turnsAll 2 = .ok (.iload_n 2, 1) := dk_28 (dk_at dksX2_turnsAll_0 2 rfl rfl)
theorem dX2_turnsAll_3 : decode cX2_turnsAll 3 = .ok (.iconst 3, 1) := dk_6 (dk_at dksX2_turnsAll_0 3 rfl rfl)
theorem dX2_turnsAll_4 : decode cX2_turnsAll 4 = .ok (.if_icmp .ge 15, 3) := dk_162 0 15 (dk_at dksX2_turnsAll_0 4 rfl rfl)
theorem dX2_turnsAll_7 : decode cX2_turnsAll 7 = .ok (.aload_n 0, 1) := dk_42 (dk_at dksX2_turnsAll_0 7 rfl rfl)
theorem dX2_turnsAll_8 : decode cX2_turnsAll 8 = .ok (.iload_n 1, 1) := dk_27 (dk_at dksX2_turnsAll_0 8 rfl rfl)
theorem dX2_turnsAll_9 : decode cX2_turnsAll 9 = .ok (.iload_n 2, 1) := dk_28 (dk_at dksX2_turnsAll_0 9 rfl rfl)
theorem dX2_turnsAll_10 : decode cX2_turnsAll 10 = .ok (.invokevirtual 117, 3) := dk_182 0 117 (dk_at dksX2_turnsAll_0 10 rfl rfl)
theorem dX2_turnsAll_13 : decode cX2_turnsAll 13 = .ok (.iinc 2 1, 3) := dk_132 2 1 (dk_at dksX2_turnsAll_0 13 rfl rfl)
theorem dX2_turnsAll_16 : decode cX2_turnsAll 16 = .ok (.goto (-14), 3) := dk_167 255 242 (dk_at dksX2_turnsAll_0 16 rfl rfl)
theorem dX2_turnsAll_19 : decode cX2_turnsAll 19 = .ok (.return_, 1) := dk_177 (dk_at dksX2_turnsAll_0 19 rfl rfl)
abbrev cX2_turnsSome : ByteArray := prog_6_method_22_code
def yX2_turnsSome : MethodName := ⟨RX2, "turnsSome", "(IZ)V"⟩
def dkwX2_turnsSome_7 : List UInt8 := [167, 255, 230, 177]
abbrev dktX2_turnsSome_7 : List UInt8 := dkwX2_turnsSome_7 ++ []
def dkwX2_turnsSome_6 : List UInt8 := [162, 0, 26, 29, 21, 6, 122, 4, 126, 4, 160, 0, 10, 42, 27, 21, 6, 182, 0, 117, 132, 6, 1]
abbrev dktX2_turnsSome_6 : List UInt8 := dkwX2_turnsSome_6 ++ dktX2_turnsSome_7
def dkwX2_turnsSome_5 : List UInt8 := [21, 4, 4, 160, 0, 15, 21, 5, 155, 0, 10, 29, 4, 21, 5, 120, 128, 62, 3, 54, 6, 21, 6, 6]
abbrev dktX2_turnsSome_5 : List UInt8 := dkwX2_turnsSome_5 ++ dktX2_turnsSome_6
def dkwX2_turnsSome_4 : List UInt8 := [148, 154, 0, 8, 21, 6, 167, 0, 5, 21, 5, 54, 5, 132, 6, 1, 167, 255, 156, 28, 153, 0, 21]
abbrev dktX2_turnsSome_4 : List UInt8 := dkwX2_turnsSome_4 ++ dktX2_turnsSome_5
def dkwX2_turnsSome_3 : List UInt8 := [167, 0, 4, 3, 128, 62, 21, 4, 21, 9, 153, 0, 7, 4, 167, 0, 4, 3, 96, 54, 4, 22, 7, 9]
abbrev dktX2_turnsSome_3 : List UInt8 := dkwX2_turnsSome_3 ++ dktX2_turnsSome_4
def dkwX2_turnsSome_2 : List UInt8 := [22, 7, 9, 148, 156, 0, 7, 4, 167, 0, 4, 3, 54, 9, 29, 21, 9, 153, 0, 10, 4, 21, 6, 120]
abbrev dktX2_turnsSome_2 : List UInt8 := dkwX2_turnsSome_2 ++ dktX2_turnsSome_3
def dkwX2_turnsSome_1 : List UInt8 := [182, 0, 74, 55, 7, 28, 153, 0, 18, 22, 7, 9, 148, 158, 0, 7, 4, 167, 0, 19, 3, 167, 0, 15]
abbrev dktX2_turnsSome_1 : List UInt8 := dkwX2_turnsSome_1 ++ dktX2_turnsSome_2
def dkwX2_turnsSome_0 : List UInt8 := [3, 62, 3, 54, 4, 2, 54, 5, 3, 54, 6, 21, 6, 6, 162, 0, 100, 42, 27, 6, 21, 6, 96]
abbrev dktX2_turnsSome_0 : List UInt8 := dkwX2_turnsSome_0 ++ dktX2_turnsSome_1
theorem dksX2_turnsSome_0 : cX2_turnsSome.data.toList.drop 0 = dktX2_turnsSome_0 := by decide +kernel
theorem dksX2_turnsSome_1 : cX2_turnsSome.data.toList.drop 23 = dktX2_turnsSome_1 := dk_seg dksX2_turnsSome_0 23 rfl rfl
theorem dksX2_turnsSome_2 : cX2_turnsSome.data.toList.drop 47 = dktX2_turnsSome_2 := dk_seg dksX2_turnsSome_1 24 rfl rfl
theorem dksX2_turnsSome_3 : cX2_turnsSome.data.toList.drop 71 = dktX2_turnsSome_3 := dk_seg dksX2_turnsSome_2 24 rfl rfl
theorem dksX2_turnsSome_4 : cX2_turnsSome.data.toList.drop 95 = dktX2_turnsSome_4 := dk_seg dksX2_turnsSome_3 24 rfl rfl
theorem dksX2_turnsSome_5 : cX2_turnsSome.data.toList.drop 118 = dktX2_turnsSome_5 := dk_seg dksX2_turnsSome_4 23 rfl rfl
theorem dksX2_turnsSome_6 : cX2_turnsSome.data.toList.drop 142 = dktX2_turnsSome_6 := dk_seg dksX2_turnsSome_5 24 rfl rfl
theorem dksX2_turnsSome_7 : cX2_turnsSome.data.toList.drop 165 = dktX2_turnsSome_7 := dk_seg dksX2_turnsSome_6 23 rfl rfl
theorem dX2_turnsSome_0 : decode cX2_turnsSome 0 = .ok (.iconst 0, 1) := dk_3 (dk_at dksX2_turnsSome_0 0 rfl rfl)
theorem dX2_turnsSome_1 : decode cX2_turnsSome 1 = .ok (.istore_n 3, 1) := dk_62 (dk_at dksX2_turnsSome_0 1 rfl rfl)
theorem dX2_turnsSome_2 : decode cX2_turnsSome 2 = .ok (.iconst 0, 1) := dk_3 (dk_at dksX2_turnsSome_0 2 rfl rfl)
theorem dX2_turnsSome_3 : decode cX2_turnsSome 3 = .ok (.istore 4, 2) := dk_54 4 (dk_at dksX2_turnsSome_0 3 rfl rfl)
theorem dX2_turnsSome_5 : decode cX2_turnsSome 5 = .ok (.iconst (-1), 1) := dk_2 (dk_at dksX2_turnsSome_0 5 rfl rfl)
theorem dX2_turnsSome_6 : decode cX2_turnsSome 6 = .ok (.istore 5, 2) := dk_54 5 (dk_at dksX2_turnsSome_0 6 rfl rfl)
theorem dX2_turnsSome_8 : decode cX2_turnsSome 8 = .ok (.iconst 0, 1) := dk_3 (dk_at dksX2_turnsSome_0 8 rfl rfl)
theorem dX2_turnsSome_9 : decode cX2_turnsSome 9 = .ok (.istore 6, 2) := dk_54 6 (dk_at dksX2_turnsSome_0 9 rfl rfl)
theorem dX2_turnsSome_11 : decode cX2_turnsSome 11 = .ok (.iload 6, 2) := dk_21 6 (dk_at dksX2_turnsSome_0 11 rfl rfl)
theorem dX2_turnsSome_13 : decode cX2_turnsSome 13 = .ok (.iconst 3, 1) := dk_6 (dk_at dksX2_turnsSome_0 13 rfl rfl)
theorem dX2_turnsSome_14 : decode cX2_turnsSome 14 = .ok (.if_icmp .ge 100, 3) := dk_162 0 100 (dk_at dksX2_turnsSome_0 14 rfl rfl)
theorem dX2_turnsSome_17 : decode cX2_turnsSome 17 = .ok (.aload_n 0, 1) := dk_42 (dk_at dksX2_turnsSome_0 17 rfl rfl)
theorem dX2_turnsSome_18 : decode cX2_turnsSome 18 = .ok (.iload_n 1, 1) := dk_27 (dk_at dksX2_turnsSome_0 18 rfl rfl)
theorem dX2_turnsSome_19 : decode cX2_turnsSome 19 = .ok (.iconst 3, 1) := dk_6 (dk_at dksX2_turnsSome_0 19 rfl rfl)
theorem dX2_turnsSome_20 : decode cX2_turnsSome 20 = .ok (.iload 6, 2) := dk_21 6 (dk_at dksX2_turnsSome_0 20 rfl rfl)
theorem dX2_turnsSome_22 : decode cX2_turnsSome 22 = .ok (.iadd, 1) := dk_96 (dk_at dksX2_turnsSome_0 22 rfl rfl)
theorem dX2_turnsSome_23 : decode cX2_turnsSome 23 = .ok (.invokevirtual 74, 3) := dk_182 0 74 (dk_at dksX2_turnsSome_1 0 rfl rfl)
theorem dX2_turnsSome_26 : decode cX2_turnsSome 26 = .ok (.lstore 7, 2) := dk_55 7 (dk_at dksX2_turnsSome_1 3 rfl rfl)
theorem dX2_turnsSome_28 : decode cX2_turnsSome 28 = .ok (.iload_n 2, 1) := dk_28 (dk_at dksX2_turnsSome_1 5 rfl rfl)
theorem dX2_turnsSome_29 : decode cX2_turnsSome 29 = .ok (.ifCond .eq 18, 3) := dk_153 0 18 (dk_at dksX2_turnsSome_1 6 rfl rfl)
theorem dX2_turnsSome_32 : decode cX2_turnsSome 32 = .ok (.lload 7, 2) := dk_22 7 (dk_at dksX2_turnsSome_1 9 rfl rfl)
theorem dX2_turnsSome_34 : decode cX2_turnsSome 34 = .ok (.lconst 0, 1) := dk_9 (dk_at dksX2_turnsSome_1 11 rfl rfl)
theorem dX2_turnsSome_35 : decode cX2_turnsSome 35 = .ok (.lcmp, 1) := dk_148 (dk_at dksX2_turnsSome_1 12 rfl rfl)
theorem dX2_turnsSome_36 : decode cX2_turnsSome 36 = .ok (.ifCond .le 7, 3) := dk_158 0 7 (dk_at dksX2_turnsSome_1 13 rfl rfl)
theorem dX2_turnsSome_39 : decode cX2_turnsSome 39 = .ok (.iconst 1, 1) := dk_4 (dk_at dksX2_turnsSome_1 16 rfl rfl)
theorem dX2_turnsSome_40 : decode cX2_turnsSome 40 = .ok (.goto 19, 3) := dk_167 0 19 (dk_at dksX2_turnsSome_1 17 rfl rfl)
theorem dX2_turnsSome_43 : decode cX2_turnsSome 43 = .ok (.iconst 0, 1) := dk_3 (dk_at dksX2_turnsSome_1 20 rfl rfl)
theorem dX2_turnsSome_44 : decode cX2_turnsSome 44 = .ok (.goto 15, 3) := dk_167 0 15 (dk_at dksX2_turnsSome_1 21 rfl rfl)
theorem dX2_turnsSome_47 : decode cX2_turnsSome 47 = .ok (.lload 7, 2) := dk_22 7 (dk_at dksX2_turnsSome_2 0 rfl rfl)
theorem dX2_turnsSome_49 : decode cX2_turnsSome 49 = .ok (.lconst 0, 1) := dk_9 (dk_at dksX2_turnsSome_2 2 rfl rfl)
theorem dX2_turnsSome_50 : decode cX2_turnsSome 50 = .ok (.lcmp, 1) := dk_148 (dk_at dksX2_turnsSome_2 3 rfl rfl)
theorem dX2_turnsSome_51 : decode cX2_turnsSome 51 = .ok (.ifCond .ge 7, 3) := dk_156 0 7 (dk_at dksX2_turnsSome_2 4 rfl rfl)
theorem dX2_turnsSome_54 : decode cX2_turnsSome 54 = .ok (.iconst 1, 1) := dk_4 (dk_at dksX2_turnsSome_2 7 rfl rfl)
theorem dX2_turnsSome_55 : decode cX2_turnsSome 55 = .ok (.goto 4, 3) := dk_167 0 4 (dk_at dksX2_turnsSome_2 8 rfl rfl)
theorem dX2_turnsSome_58 : decode cX2_turnsSome 58 = .ok (.iconst 0, 1) := dk_3 (dk_at dksX2_turnsSome_2 11 rfl rfl)
theorem dX2_turnsSome_59 : decode cX2_turnsSome 59 = .ok (.istore 9, 2) := dk_54 9 (dk_at dksX2_turnsSome_2 12 rfl rfl)
theorem dX2_turnsSome_61 : decode cX2_turnsSome 61 = .ok (.iload_n 3, 1) := dk_29 (dk_at dksX2_turnsSome_2 14 rfl rfl)
theorem dX2_turnsSome_62 : decode cX2_turnsSome 62 = .ok (.iload 9, 2) := dk_21 9 (dk_at dksX2_turnsSome_2 15 rfl rfl)
theorem dX2_turnsSome_64 : decode cX2_turnsSome 64 = .ok (.ifCond .eq 10, 3) := dk_153 0 10 (dk_at dksX2_turnsSome_2 17 rfl rfl)
theorem dX2_turnsSome_67 : decode cX2_turnsSome 67 = .ok (.iconst 1, 1) := dk_4 (dk_at dksX2_turnsSome_2 20 rfl rfl)
theorem dX2_turnsSome_68 : decode cX2_turnsSome 68 = .ok (.iload 6, 2) := dk_21 6 (dk_at dksX2_turnsSome_2 21 rfl rfl)
theorem dX2_turnsSome_70 : decode cX2_turnsSome 70 = .ok (.ishl, 1) := dk_120 (dk_at dksX2_turnsSome_2 23 rfl rfl)
theorem dX2_turnsSome_71 : decode cX2_turnsSome 71 = .ok (.goto 4, 3) := dk_167 0 4 (dk_at dksX2_turnsSome_3 0 rfl rfl)
theorem dX2_turnsSome_74 : decode cX2_turnsSome 74 = .ok (.iconst 0, 1) := dk_3 (dk_at dksX2_turnsSome_3 3 rfl rfl)
theorem dX2_turnsSome_75 : decode cX2_turnsSome 75 = .ok (.ior, 1) := dk_128 (dk_at dksX2_turnsSome_3 4 rfl rfl)
theorem dX2_turnsSome_76 : decode cX2_turnsSome 76 = .ok (.istore_n 3, 1) := dk_62 (dk_at dksX2_turnsSome_3 5 rfl rfl)
theorem dX2_turnsSome_77 : decode cX2_turnsSome 77 = .ok (.iload 4, 2) := dk_21 4 (dk_at dksX2_turnsSome_3 6 rfl rfl)
theorem dX2_turnsSome_79 : decode cX2_turnsSome 79 = .ok (.iload 9, 2) := dk_21 9 (dk_at dksX2_turnsSome_3 8 rfl rfl)
theorem dX2_turnsSome_81 : decode cX2_turnsSome 81 = .ok (.ifCond .eq 7, 3) := dk_153 0 7 (dk_at dksX2_turnsSome_3 10 rfl rfl)
theorem dX2_turnsSome_84 : decode cX2_turnsSome 84 = .ok (.iconst 1, 1) := dk_4 (dk_at dksX2_turnsSome_3 13 rfl rfl)
theorem dX2_turnsSome_85 : decode cX2_turnsSome 85 = .ok (.goto 4, 3) := dk_167 0 4 (dk_at dksX2_turnsSome_3 14 rfl rfl)
theorem dX2_turnsSome_88 : decode cX2_turnsSome 88 = .ok (.iconst 0, 1) := dk_3 (dk_at dksX2_turnsSome_3 17 rfl rfl)
theorem dX2_turnsSome_89 : decode cX2_turnsSome 89 = .ok (.iadd, 1) := dk_96 (dk_at dksX2_turnsSome_3 18 rfl rfl)
theorem dX2_turnsSome_90 : decode cX2_turnsSome 90 = .ok (.istore 4, 2) := dk_54 4 (dk_at dksX2_turnsSome_3 19 rfl rfl)
theorem dX2_turnsSome_92 : decode cX2_turnsSome 92 = .ok (.lload 7, 2) := dk_22 7 (dk_at dksX2_turnsSome_3 21 rfl rfl)
theorem dX2_turnsSome_94 : decode cX2_turnsSome 94 = .ok (.lconst 0, 1) := dk_9 (dk_at dksX2_turnsSome_3 23 rfl rfl)
theorem dX2_turnsSome_95 : decode cX2_turnsSome 95 = .ok (.lcmp, 1) := dk_148 (dk_at dksX2_turnsSome_4 0 rfl rfl)
theorem dX2_turnsSome_96 : decode cX2_turnsSome 96 = .ok (.ifCond .ne 8, 3) := dk_154 0 8 (dk_at dksX2_turnsSome_4 1 rfl rfl)
theorem dX2_turnsSome_99 : decode cX2_turnsSome 99 = .ok (.iload 6, 2) := dk_21 6 (dk_at dksX2_turnsSome_4 4 rfl rfl)
theorem dX2_turnsSome_101 : decode cX2_turnsSome 101 = .ok (.goto 5, 3) := dk_167 0 5 (dk_at dksX2_turnsSome_4 6 rfl rfl)
theorem dX2_turnsSome_104 : decode cX2_turnsSome 104 = .ok (.iload 5, 2) := dk_21 5 (dk_at dksX2_turnsSome_4 9 rfl rfl)
theorem dX2_turnsSome_106 : decode cX2_turnsSome 106 = .ok (.istore 5, 2) := dk_54 5 (dk_at dksX2_turnsSome_4 11 rfl rfl)
theorem dX2_turnsSome_108 : decode cX2_turnsSome 108 = .ok (.iinc 6 1, 3) := dk_132 6 1 (dk_at dksX2_turnsSome_4 13 rfl rfl)
theorem dX2_turnsSome_111 : decode cX2_turnsSome 111 = .ok (.goto (-100), 3) := dk_167 255 156 (dk_at dksX2_turnsSome_4 16 rfl rfl)
theorem dX2_turnsSome_114 : decode cX2_turnsSome 114 = .ok (.iload_n 2, 1) := dk_28 (dk_at dksX2_turnsSome_4 19 rfl rfl)
theorem dX2_turnsSome_115 : decode cX2_turnsSome 115 = .ok (.ifCond .eq 21, 3) := dk_153 0 21 (dk_at dksX2_turnsSome_4 20 rfl rfl)
theorem dX2_turnsSome_118 : decode cX2_turnsSome 118 = .ok (.iload 4, 2) := dk_21 4 (dk_at dksX2_turnsSome_5 0 rfl rfl)
theorem dX2_turnsSome_120 : decode cX2_turnsSome 120 = .ok (.iconst 1, 1) := dk_4 (dk_at dksX2_turnsSome_5 2 rfl rfl)
theorem dX2_turnsSome_121 : decode cX2_turnsSome 121 = .ok (.if_icmp .ne 15, 3) := dk_160 0 15 (dk_at dksX2_turnsSome_5 3 rfl rfl)
theorem dX2_turnsSome_124 : decode cX2_turnsSome 124 = .ok (.iload 5, 2) := dk_21 5 (dk_at dksX2_turnsSome_5 6 rfl rfl)
theorem dX2_turnsSome_126 : decode cX2_turnsSome 126 = .ok (.ifCond .lt 10, 3) := dk_155 0 10 (dk_at dksX2_turnsSome_5 8 rfl rfl)
theorem dX2_turnsSome_129 : decode cX2_turnsSome 129 = .ok (.iload_n 3, 1) := dk_29 (dk_at dksX2_turnsSome_5 11 rfl rfl)
theorem dX2_turnsSome_130 : decode cX2_turnsSome 130 = .ok (.iconst 1, 1) := dk_4 (dk_at dksX2_turnsSome_5 12 rfl rfl)
theorem dX2_turnsSome_131 : decode cX2_turnsSome 131 = .ok (.iload 5, 2) := dk_21 5 (dk_at dksX2_turnsSome_5 13 rfl rfl)
theorem dX2_turnsSome_133 : decode cX2_turnsSome 133 = .ok (.ishl, 1) := dk_120 (dk_at dksX2_turnsSome_5 15 rfl rfl)
theorem dX2_turnsSome_134 : decode cX2_turnsSome 134 = .ok (.ior, 1) := dk_128 (dk_at dksX2_turnsSome_5 16 rfl rfl)
theorem dX2_turnsSome_135 : decode cX2_turnsSome 135 = .ok (.istore_n 3, 1) := dk_62 (dk_at dksX2_turnsSome_5 17 rfl rfl)
theorem dX2_turnsSome_136 : decode cX2_turnsSome 136 = .ok (.iconst 0, 1) := dk_3 (dk_at dksX2_turnsSome_5 18 rfl rfl)
theorem dX2_turnsSome_137 : decode cX2_turnsSome 137 = .ok (.istore 6, 2) := dk_54 6 (dk_at dksX2_turnsSome_5 19 rfl rfl)
theorem dX2_turnsSome_139 : decode cX2_turnsSome 139 = .ok (.iload 6, 2) := dk_21 6 (dk_at dksX2_turnsSome_5 21 rfl rfl)
theorem dX2_turnsSome_141 : decode cX2_turnsSome 141 = .ok (.iconst 3, 1) := dk_6 (dk_at dksX2_turnsSome_5 23 rfl rfl)
theorem dX2_turnsSome_142 : decode cX2_turnsSome 142 = .ok (.if_icmp .ge 26, 3) := dk_162 0 26 (dk_at dksX2_turnsSome_6 0 rfl rfl)
theorem dX2_turnsSome_145 : decode cX2_turnsSome 145 = .ok (.iload_n 3, 1) := dk_29 (dk_at dksX2_turnsSome_6 3 rfl rfl)
theorem dX2_turnsSome_146 : decode cX2_turnsSome 146 = .ok (.iload 6, 2) := dk_21 6 (dk_at dksX2_turnsSome_6 4 rfl rfl)
theorem dX2_turnsSome_148 : decode cX2_turnsSome 148 = .ok (.ishr, 1) := dk_122 (dk_at dksX2_turnsSome_6 6 rfl rfl)
theorem dX2_turnsSome_149 : decode cX2_turnsSome 149 = .ok (.iconst 1, 1) := dk_4 (dk_at dksX2_turnsSome_6 7 rfl rfl)
theorem dX2_turnsSome_150 : decode cX2_turnsSome 150 = .ok (.iand, 1) := dk_126 (dk_at dksX2_turnsSome_6 8 rfl rfl)
theorem dX2_turnsSome_151 : decode cX2_turnsSome 151 = .ok (.iconst 1, 1) := dk_4 (dk_at dksX2_turnsSome_6 9 rfl rfl)
theorem dX2_turnsSome_152 : decode cX2_turnsSome 152 = .ok (.if_icmp .ne 10, 3) := dk_160 0 10 (dk_at dksX2_turnsSome_6 10 rfl rfl)
theorem dX2_turnsSome_155 : decode cX2_turnsSome 155 = .ok (.aload_n 0, 1) := dk_42 (dk_at dksX2_turnsSome_6 13 rfl rfl)
theorem dX2_turnsSome_156 : decode cX2_turnsSome 156 = .ok (.iload_n 1, 1) := dk_27 (dk_at dksX2_turnsSome_6 14 rfl rfl)
theorem dX2_turnsSome_157 : decode cX2_turnsSome 157 = .ok (.iload 6, 2) := dk_21 6 (dk_at dksX2_turnsSome_6 15 rfl rfl)
theorem dX2_turnsSome_159 : decode cX2_turnsSome 159 = .ok (.invokevirtual 117, 3) := dk_182 0 117 (dk_at dksX2_turnsSome_6 17 rfl rfl)
theorem dX2_turnsSome_162 : decode cX2_turnsSome 162 = .ok (.iinc 6 1, 3) := dk_132 6 1 (dk_at dksX2_turnsSome_6 20 rfl rfl)
theorem dX2_turnsSome_165 : decode cX2_turnsSome 165 = .ok (.goto (-26), 3) := dk_167 255 230 (dk_at dksX2_turnsSome_7 0 rfl rfl)
theorem dX2_turnsSome_168 : decode cX2_turnsSome 168 = .ok (.return_, 1) := dk_177 (dk_at dksX2_turnsSome_7 3 rfl rfl)
abbrev cX2_logs : ByteArray := prog_6_method_30_code
def yX2_logs : MethodName := ⟨RX2, "logs", "(II)V"⟩
def dkwX2_logs_3 : List UInt8 := [42, 89, 180, 0, 163, 4, 96, 181, 0, 163, 177]
abbrev dktX2_logs_3 : List UInt8 := dkwX2_logs_3 ++ []
def dkwX2_logs_2 : List UInt8 := [180, 0, 18, 42, 180, 0, 160, 16, 10, 27, 104, 28, 96, 79, 42, 89, 180, 0, 160, 4, 96, 181, 0, 160]
abbrev dktX2_logs_2 : List UInt8 := dkwX2_logs_2 ++ dktX2_logs_3
def dkwX2_logs_1 : List UInt8 := [42, 180, 0, 18, 29, 46, 79, 132, 3, 1, 167, 255, 233, 42, 89, 180, 0, 160, 4, 100, 181, 0, 160, 42]
abbrev dktX2_logs_1 : List UInt8 := dkwX2_logs_1 ++ dktX2_logs_2
def dkwX2_logs_0 : List UInt8 := [42, 180, 0, 160, 16, 30, 160, 0, 41, 4, 62, 29, 16, 30, 162, 0, 23, 42, 180, 0, 18, 29, 4, 100]
abbrev dktX2_logs_0 : List UInt8 := dkwX2_logs_0 ++ dktX2_logs_1
theorem dksX2_logs_0 : cX2_logs.data.toList.drop 0 = dktX2_logs_0 := by decide +kernel
theorem dksX2_logs_1 : cX2_logs.data.toList.drop 24 = dktX2_logs_1 := dk_seg dksX2_logs_0 24 rfl rfl
theorem dksX2_logs_2 : cX2_logs.data.toList.drop 48 = dktX2_logs_2 := dk_seg dksX2_logs_1 24 rfl rfl
theorem dksX2_logs_3 : cX2_logs.data.toList.drop 72 = dktX2_logs_3 := dk_seg dksX2_logs_2 24 rfl rfl
theorem dX2_logs_0 : decode cX2_logs 0 = .ok (.aload_n 0, 1) := dk_42 (dk_at dksX2_logs_0 0 rfl rfl)
theorem dX2_logs_1 : decode cX2_logs 1 = .ok (.getfield 160, 3) := dk_180 0 160 (dk_at dksX2_logs_0 1 rfl rfl)
theorem dX2_logs_4 : decode cX2_logs 4 = .ok (.bipush 30, 2) := dk_16 30 (dk_at dksX2_logs_0 4 rfl rfl)
theorem dX2_logs_6 : decode cX2_logs 6 = .ok (.if_icmp .ne 41, 3) := dk_160 0 41 (dk_at dksX2_logs_0 6 rfl rfl)
theorem dX2_logs_9 : decode cX2_logs 9 = .ok (.iconst 1, 1) := dk_4 (dk_at dksX2_logs_0 9 rfl rfl)
theorem dX2_logs_10 : decode cX2_logs 10 = .ok (.istore_n 3, 1) := dk_62 (dk_at dksX2_logs_0 10 rfl rfl)
theorem dX2_logs_11 : decode cX2_logs 11 = .ok (.iload_n 3, 1) := dk_29 (dk_at dksX2_logs_0 11 rfl rfl)
theorem dX2_logs_12 : decode cX2_logs 12 = .ok (.bipush 30, 2) := dk_16 30 (dk_at dksX2_logs_0 12 rfl rfl)
theorem dX2_logs_14 : decode cX2_logs 14 = .ok (.if_icmp .ge 23, 3) := dk_162 0 23 (dk_at dksX2_logs_0 14 rfl rfl)
theorem dX2_logs_17 : decode cX2_logs 17 = .ok (.aload_n 0, 1) := dk_42 (dk_at dksX2_logs_0 17 rfl rfl)
theorem dX2_logs_18 : decode cX2_logs 18 = .ok (.getfield 18, 3) := dk_180 0 18 (dk_at dksX2_logs_0 18 rfl rfl)
theorem dX2_logs_21 : decode cX2_logs 21 = .ok (.iload_n 3, 1) := dk_29 (dk_at dksX2_logs_0 21 rfl rfl)
theorem dX2_logs_22 : decode cX2_logs 22 = .ok (.iconst 1, 1) := dk_4 (dk_at dksX2_logs_0 22 rfl rfl)
theorem dX2_logs_23 : decode cX2_logs 23 = .ok (.isub, 1) := dk_100 (dk_at dksX2_logs_0 23 rfl rfl)
theorem dX2_logs_24 : decode cX2_logs 24 = .ok (.aload_n 0, 1) := dk_42 (dk_at dksX2_logs_1 0 rfl rfl)
theorem dX2_logs_25 : decode cX2_logs 25 = .ok (.getfield 18, 3) := dk_180 0 18 (dk_at dksX2_logs_1 1 rfl rfl)
theorem dX2_logs_28 : decode cX2_logs 28 = .ok (.iload_n 3, 1) := dk_29 (dk_at dksX2_logs_1 4 rfl rfl)
theorem dX2_logs_29 : decode cX2_logs 29 = .ok (.iaload, 1) := dk_46 (dk_at dksX2_logs_1 5 rfl rfl)
theorem dX2_logs_30 : decode cX2_logs 30 = .ok (.iastore, 1) := dk_79 (dk_at dksX2_logs_1 6 rfl rfl)
theorem dX2_logs_31 : decode cX2_logs 31 = .ok (.iinc 3 1, 3) := dk_132 3 1 (dk_at dksX2_logs_1 7 rfl rfl)
theorem dX2_logs_34 : decode cX2_logs 34 = .ok (.goto (-23), 3) := dk_167 255 233 (dk_at dksX2_logs_1 10 rfl rfl)
theorem dX2_logs_37 : decode cX2_logs 37 = .ok (.aload_n 0, 1) := dk_42 (dk_at dksX2_logs_1 13 rfl rfl)
theorem dX2_logs_38 : decode cX2_logs 38 = .ok (.dup, 1) := dk_89 (dk_at dksX2_logs_1 14 rfl rfl)
theorem dX2_logs_39 : decode cX2_logs 39 = .ok (.getfield 160, 3) := dk_180 0 160 (dk_at dksX2_logs_1 15 rfl rfl)
theorem dX2_logs_42 : decode cX2_logs 42 = .ok (.iconst 1, 1) := dk_4 (dk_at dksX2_logs_1 18 rfl rfl)
theorem dX2_logs_43 : decode cX2_logs 43 = .ok (.isub, 1) := dk_100 (dk_at dksX2_logs_1 19 rfl rfl)
theorem dX2_logs_44 : decode cX2_logs 44 = .ok (.putfield 160, 3) := dk_181 0 160 (dk_at dksX2_logs_1 20 rfl rfl)
theorem dX2_logs_47 : decode cX2_logs 47 = .ok (.aload_n 0, 1) := dk_42 (dk_at dksX2_logs_1 23 rfl rfl)
theorem dX2_logs_48 : decode cX2_logs 48 = .ok (.getfield 18, 3) := dk_180 0 18 (dk_at dksX2_logs_2 0 rfl rfl)
theorem dX2_logs_51 : decode cX2_logs 51 = .ok (.aload_n 0, 1) := dk_42 (dk_at dksX2_logs_2 3 rfl rfl)
theorem dX2_logs_52 : decode cX2_logs 52 = .ok (.getfield 160, 3) := dk_180 0 160 (dk_at dksX2_logs_2 4 rfl rfl)
theorem dX2_logs_55 : decode cX2_logs 55 = .ok (.bipush 10, 2) := dk_16 10 (dk_at dksX2_logs_2 7 rfl rfl)
theorem dX2_logs_57 : decode cX2_logs 57 = .ok (.iload_n 1, 1) := dk_27 (dk_at dksX2_logs_2 9 rfl rfl)
theorem dX2_logs_58 : decode cX2_logs 58 = .ok (.imul, 1) := dk_104 (dk_at dksX2_logs_2 10 rfl rfl)
theorem dX2_logs_59 : decode cX2_logs 59 = .ok (.iload_n 2, 1) := dk_28 (dk_at dksX2_logs_2 11 rfl rfl)
theorem dX2_logs_60 : decode cX2_logs 60 = .ok (.iadd, 1) := dk_96 (dk_at dksX2_logs_2 12 rfl rfl)
theorem dX2_logs_61 : decode cX2_logs 61 = .ok (.iastore, 1) := dk_79 (dk_at dksX2_logs_2 13 rfl rfl)
theorem dX2_logs_62 : decode cX2_logs 62 = .ok (.aload_n 0, 1) := dk_42 (dk_at dksX2_logs_2 14 rfl rfl)
theorem dX2_logs_63 : decode cX2_logs 63 = .ok (.dup, 1) := dk_89 (dk_at dksX2_logs_2 15 rfl rfl)
theorem dX2_logs_64 : decode cX2_logs 64 = .ok (.getfield 160, 3) := dk_180 0 160 (dk_at dksX2_logs_2 16 rfl rfl)
theorem dX2_logs_67 : decode cX2_logs 67 = .ok (.iconst 1, 1) := dk_4 (dk_at dksX2_logs_2 19 rfl rfl)
theorem dX2_logs_68 : decode cX2_logs 68 = .ok (.iadd, 1) := dk_96 (dk_at dksX2_logs_2 20 rfl rfl)
theorem dX2_logs_69 : decode cX2_logs 69 = .ok (.putfield 160, 3) := dk_181 0 160 (dk_at dksX2_logs_2 21 rfl rfl)
theorem dX2_logs_72 : decode cX2_logs 72 = .ok (.aload_n 0, 1) := dk_42 (dk_at dksX2_logs_3 0 rfl rfl)
theorem dX2_logs_73 : decode cX2_logs 73 = .ok (.dup, 1) := dk_89 (dk_at dksX2_logs_3 1 rfl rfl)
theorem dX2_logs_74 : decode cX2_logs 74 = .ok (.getfield 163, 3) := dk_180 0 163 (dk_at dksX2_logs_3 2 rfl rfl)
theorem dX2_logs_77 : decode cX2_logs 77 = .ok (.iconst 1, 1) := dk_4 (dk_at dksX2_logs_3 5 rfl rfl)
theorem dX2_logs_78 : decode cX2_logs 78 = .ok (.iadd, 1) := dk_96 (dk_at dksX2_logs_3 6 rfl rfl)
theorem dX2_logs_79 : decode cX2_logs 79 = .ok (.putfield 163, 3) := dk_181 0 163 (dk_at dksX2_logs_3 7 rfl rfl)
theorem dX2_logs_82 : decode cX2_logs 82 = .ok (.return_, 1) := dk_177 (dk_at dksX2_logs_3 10 rfl rfl)
abbrev cX2_reduce : ByteArray := prog_6_method_42_code
def yX2_reduce : MethodName := ⟨RX2, "reduce", "(I)I"⟩
def dkwX2_reduce_2 : List UInt8 := [132, 2, 1, 42, 27, 182, 0, 139, 62, 167, 255, 231, 28, 172]
abbrev dktX2_reduce_2 : List UInt8 := dkwX2_reduce_2 ++ []
def dkwX2_reduce_1 : List UInt8 := [61, 42, 27, 182, 0, 139, 62, 29, 158, 0, 27, 42, 27, 29, 182, 0, 142, 42, 27, 29, 182, 0, 205]
abbrev dktX2_reduce_1 : List UInt8 := dkwX2_reduce_1 ++ dktX2_reduce_2
def dkwX2_reduce_0 : List UInt8 := [42, 27, 182, 0, 188, 154, 0, 5, 2, 172, 42, 27, 182, 0, 139, 158, 0, 8, 42, 27, 182, 0, 198, 3]
abbrev dktX2_reduce_0 : List UInt8 := dkwX2_reduce_0 ++ dktX2_reduce_1
theorem dksX2_reduce_0 : cX2_reduce.data.toList.drop 0 = dktX2_reduce_0 := by decide +kernel
theorem dksX2_reduce_1 : cX2_reduce.data.toList.drop 24 = dktX2_reduce_1 := dk_seg dksX2_reduce_0 24 rfl rfl
theorem dksX2_reduce_2 : cX2_reduce.data.toList.drop 47 = dktX2_reduce_2 := dk_seg dksX2_reduce_1 23 rfl rfl
theorem dX2_reduce_0 : decode cX2_reduce 0 = .ok (.aload_n 0, 1) := dk_42 (dk_at dksX2_reduce_0 0 rfl rfl)
theorem dX2_reduce_1 : decode cX2_reduce 1 = .ok (.iload_n 1, 1) := dk_27 (dk_at dksX2_reduce_0 1 rfl rfl)
theorem dX2_reduce_2 : decode cX2_reduce 2 = .ok (.invokevirtual 188, 3) := dk_182 0 188 (dk_at dksX2_reduce_0 2 rfl rfl)
theorem dX2_reduce_5 : decode cX2_reduce 5 = .ok (.ifCond .ne 5, 3) := dk_154 0 5 (dk_at dksX2_reduce_0 5 rfl rfl)
theorem dX2_reduce_8 : decode cX2_reduce 8 = .ok (.iconst (-1), 1) := dk_2 (dk_at dksX2_reduce_0 8 rfl rfl)
theorem dX2_reduce_9 : decode cX2_reduce 9 = .ok (.ireturn, 1) := dk_172 (dk_at dksX2_reduce_0 9 rfl rfl)
theorem dX2_reduce_10 : decode cX2_reduce 10 = .ok (.aload_n 0, 1) := dk_42 (dk_at dksX2_reduce_0 10 rfl rfl)
theorem dX2_reduce_11 : decode cX2_reduce 11 = .ok (.iload_n 1, 1) := dk_27 (dk_at dksX2_reduce_0 11 rfl rfl)
theorem dX2_reduce_12 : decode cX2_reduce 12 = .ok (.invokevirtual 139, 3) := dk_182 0 139 (dk_at dksX2_reduce_0 12 rfl rfl)
theorem dX2_reduce_15 : decode cX2_reduce 15 = .ok (.ifCond .le 8, 3) := dk_158 0 8 (dk_at dksX2_reduce_0 15 rfl rfl)
theorem dX2_reduce_18 : decode cX2_reduce 18 = .ok (.aload_n 0, 1) := dk_42 (dk_at dksX2_reduce_0 18 rfl rfl)
theorem dX2_reduce_19 : decode cX2_reduce 19 = .ok (.iload_n 1, 1) := dk_27 (dk_at dksX2_reduce_0 19 rfl rfl)
theorem dX2_reduce_20 : decode cX2_reduce 20 = .ok (.invokevirtual 198, 3) := dk_182 0 198 (dk_at dksX2_reduce_0 20 rfl rfl)
theorem dX2_reduce_23 : decode cX2_reduce 23 = .ok (.iconst 0, 1) := dk_3 (dk_at dksX2_reduce_0 23 rfl rfl)
theorem dX2_reduce_24 : decode cX2_reduce 24 = .ok (.istore_n 2, 1) := dk_61 (dk_at dksX2_reduce_1 0 rfl rfl)
theorem dX2_reduce_25 : decode cX2_reduce 25 = .ok (.aload_n 0, 1) := dk_42 (dk_at dksX2_reduce_1 1 rfl rfl)
theorem dX2_reduce_26 : decode cX2_reduce 26 = .ok (.iload_n 1, 1) := dk_27 (dk_at dksX2_reduce_1 2 rfl rfl)
theorem dX2_reduce_27 : decode cX2_reduce 27 = .ok (.invokevirtual 139, 3) := dk_182 0 139 (dk_at dksX2_reduce_1 3 rfl rfl)
theorem dX2_reduce_30 : decode cX2_reduce 30 = .ok (.istore_n 3, 1) := dk_62 (dk_at dksX2_reduce_1 6 rfl rfl)
theorem dX2_reduce_31 : decode cX2_reduce 31 = .ok (.iload_n 3, 1) := dk_29 (dk_at dksX2_reduce_1 7 rfl rfl)
theorem dX2_reduce_32 : decode cX2_reduce 32 = .ok (.ifCond .le 27, 3) := dk_158 0 27 (dk_at dksX2_reduce_1 8 rfl rfl)
theorem dX2_reduce_35 : decode cX2_reduce 35 = .ok (.aload_n 0, 1) := dk_42 (dk_at dksX2_reduce_1 11 rfl rfl)
theorem dX2_reduce_36 : decode cX2_reduce 36 = .ok (.iload_n 1, 1) := dk_27 (dk_at dksX2_reduce_1 12 rfl rfl)
theorem dX2_reduce_37 : decode cX2_reduce 37 = .ok (.iload_n 3, 1) := dk_29 (dk_at dksX2_reduce_1 13 rfl rfl)
theorem dX2_reduce_38 : decode cX2_reduce 38 = .ok (.invokevirtual 142, 3) := dk_182 0 142 (dk_at dksX2_reduce_1 14 rfl rfl)
theorem dX2_reduce_41 : decode cX2_reduce 41 = .ok (.aload_n 0, 1) := dk_42 (dk_at dksX2_reduce_1 17 rfl rfl)
theorem dX2_reduce_42 : decode cX2_reduce 42 = .ok (.iload_n 1, 1) := dk_27 (dk_at dksX2_reduce_1 18 rfl rfl)
theorem dX2_reduce_43 : decode cX2_reduce 43 = .ok (.iload_n 3, 1) := dk_29 (dk_at dksX2_reduce_1 19 rfl rfl)
theorem dX2_reduce_44 : decode cX2_reduce 44 = .ok (.invokevirtual 205, 3) := dk_182 0 205 (dk_at dksX2_reduce_1 20 rfl rfl)
theorem dX2_reduce_47 : decode cX2_reduce 47 = .ok (.iinc 2 1, 3) := dk_132 2 1 (dk_at dksX2_reduce_2 0 rfl rfl)
theorem dX2_reduce_50 : decode cX2_reduce 50 = .ok (.aload_n 0, 1) := dk_42 (dk_at dksX2_reduce_2 3 rfl rfl)
theorem dX2_reduce_51 : decode cX2_reduce 51 = .ok (.iload_n 1, 1) := dk_27 (dk_at dksX2_reduce_2 4 rfl rfl)
theorem dX2_reduce_52 : decode cX2_reduce 52 = .ok (.invokevirtual 139, 3) := dk_182 0 139 (dk_at dksX2_reduce_2 5 rfl rfl)
theorem dX2_reduce_55 : decode cX2_reduce 55 = .ok (.istore_n 3, 1) := dk_62 (dk_at dksX2_reduce_2 8 rfl rfl)
theorem dX2_reduce_56 : decode cX2_reduce 56 = .ok (.goto (-25), 3) := dk_167 255 231 (dk_at dksX2_reduce_2 9 rfl rfl)
theorem dX2_reduce_59 : decode cX2_reduce 59 = .ok (.iload_n 2, 1) := dk_28 (dk_at dksX2_reduce_2 12 rfl rfl)
theorem dX2_reduce_60 : decode cX2_reduce 60 = .ok (.ireturn, 1) := dk_172 (dk_at dksX2_reduce_2 13 rfl rfl)
abbrev cX2_normal : ByteArray := prog_6_method_43_code
def yX2_normal : MethodName := ⟨RX2, "normal", "(II)J"⟩
def dkwX2_normal_3 : List UInt8 := [167, 0, 4, 9, 173]
abbrev dktX2_normal_3 : List UInt8 := dkwX2_normal_3 ++ []
def dkwX2_normal_2 : List UInt8 := [28, 16, 6, 160, 0, 8, 29, 133, 167, 0, 18, 42, 16, 6, 182, 0, 106, 6, 160, 0, 7, 10]
abbrev dktX2_normal_2 : List UInt8 := dkwX2_normal_2 ++ dktX2_normal_3
def dkwX2_normal_1 : List UInt8 := [42, 27, 16, 6, 182, 0, 207, 62, 28, 16, 6, 162, 0, 13, 42, 16, 6, 28, 182, 0, 74, 167, 0, 29]
abbrev dktX2_normal_1 : List UInt8 := dkwX2_normal_1 ++ dktX2_normal_2
def dkwX2_normal_0 : List UInt8 := [42, 27, 182, 0, 188, 153, 0, 15, 28, 133, 9, 20, 0, 201, 184, 0, 68, 154, 0, 7, 20, 0, 203, 173]
abbrev dktX2_normal_0 : List UInt8 := dkwX2_normal_0 ++ dktX2_normal_1
theorem dksX2_normal_0 : cX2_normal.data.toList.drop 0 = dktX2_normal_0 := by decide +kernel
theorem dksX2_normal_1 : cX2_normal.data.toList.drop 24 = dktX2_normal_1 := dk_seg dksX2_normal_0 24 rfl rfl
theorem dksX2_normal_2 : cX2_normal.data.toList.drop 48 = dktX2_normal_2 := dk_seg dksX2_normal_1 24 rfl rfl
theorem dksX2_normal_3 : cX2_normal.data.toList.drop 70 = dktX2_normal_3 := dk_seg dksX2_normal_2 22 rfl rfl
theorem dX2_normal_0 : decode cX2_normal 0 = .ok (.aload_n 0, 1) := dk_42 (dk_at dksX2_normal_0 0 rfl rfl)
theorem dX2_normal_1 : decode cX2_normal 1 = .ok (.iload_n 1, 1) := dk_27 (dk_at dksX2_normal_0 1 rfl rfl)
theorem dX2_normal_2 : decode cX2_normal 2 = .ok (.invokevirtual 188, 3) := dk_182 0 188 (dk_at dksX2_normal_0 2 rfl rfl)
theorem dX2_normal_5 : decode cX2_normal 5 = .ok (.ifCond .eq 15, 3) := dk_153 0 15 (dk_at dksX2_normal_0 5 rfl rfl)
theorem dX2_normal_8 : decode cX2_normal 8 = .ok (.iload_n 2, 1) := dk_28 (dk_at dksX2_normal_0 8 rfl rfl)
theorem dX2_normal_9 : decode cX2_normal 9 = .ok (.i2l, 1) := dk_133 (dk_at dksX2_normal_0 9 rfl rfl)
theorem dX2_normal_10 : decode cX2_normal 10 = .ok (.lconst 0, 1) := dk_9 (dk_at dksX2_normal_0 10 rfl rfl)
theorem dX2_normal_11 : decode cX2_normal 11 = .ok (.ldc2_w 201, 3) := dk_20 0 201 (dk_at dksX2_normal_0 11 rfl rfl)
theorem dX2_normal_14 : decode cX2_normal 14 = .ok (.invokestatic 68, 3) := dk_184 0 68 (dk_at dksX2_normal_0 14 rfl rfl)
theorem dX2_normal_17 : decode cX2_normal 17 = .ok (.ifCond .ne 7, 3) := dk_154 0 7 (dk_at dksX2_normal_0 17 rfl rfl)
theorem dX2_normal_20 : decode cX2_normal 20 = .ok (.ldc2_w 203, 3) := dk_20 0 203 (dk_at dksX2_normal_0 20 rfl rfl)
theorem dX2_normal_23 : decode cX2_normal 23 = .ok (.lreturn, 1) := dk_173 (dk_at dksX2_normal_0 23 rfl rfl)
theorem dX2_normal_24 : decode cX2_normal 24 = .ok (.aload_n 0, 1) := dk_42 (dk_at dksX2_normal_1 0 rfl rfl)
theorem dX2_normal_25 : decode cX2_normal 25 = .ok (.iload_n 1, 1) := dk_27 (dk_at dksX2_normal_1 1 rfl rfl)
theorem dX2_normal_26 : decode cX2_normal 26 = .ok (.bipush 6, 2) := dk_16 6 (dk_at dksX2_normal_1 2 rfl rfl)
theorem dX2_normal_28 : decode cX2_normal 28 = .ok (.invokevirtual 207, 3) := dk_182 0 207 (dk_at dksX2_normal_1 4 rfl rfl)
theorem dX2_normal_31 : decode cX2_normal 31 = .ok (.istore_n 3, 1) := dk_62 (dk_at dksX2_normal_1 7 rfl rfl)
theorem dX2_normal_32 : decode cX2_normal 32 = .ok (.iload_n 2, 1) := dk_28 (dk_at dksX2_normal_1 8 rfl rfl)
theorem dX2_normal_33 : decode cX2_normal 33 = .ok (.bipush 6, 2) := dk_16 6 (dk_at dksX2_normal_1 9 rfl rfl)
theorem dX2_normal_35 : decode cX2_normal 35 = .ok (.if_icmp .ge 13, 3) := dk_162 0 13 (dk_at dksX2_normal_1 11 rfl rfl)
theorem dX2_normal_38 : decode cX2_normal 38 = .ok (.aload_n 0, 1) := dk_42 (dk_at dksX2_normal_1 14 rfl rfl)
theorem dX2_normal_39 : decode cX2_normal 39 = .ok (.bipush 6, 2) := dk_16 6 (dk_at dksX2_normal_1 15 rfl rfl)
theorem dX2_normal_41 : decode cX2_normal 41 = .ok (.iload_n 2, 1) := dk_28 (dk_at dksX2_normal_1 17 rfl rfl)
theorem dX2_normal_42 : decode cX2_normal 42 = .ok (.invokevirtual 74, 3) := dk_182 0 74 (dk_at dksX2_normal_1 18 rfl rfl)
theorem dX2_normal_45 : decode cX2_normal 45 = .ok (.goto 29, 3) := dk_167 0 29 (dk_at dksX2_normal_1 21 rfl rfl)
theorem dX2_normal_48 : decode cX2_normal 48 = .ok (.iload_n 2, 1) := dk_28 (dk_at dksX2_normal_2 0 rfl rfl)
theorem dX2_normal_49 : decode cX2_normal 49 = .ok (.bipush 6, 2) := dk_16 6 (dk_at dksX2_normal_2 1 rfl rfl)
theorem dX2_normal_51 : decode cX2_normal 51 = .ok (.if_icmp .ne 8, 3) := dk_160 0 8 (dk_at dksX2_normal_2 3 rfl rfl)
theorem dX2_normal_54 : decode cX2_normal 54 = .ok (.iload_n 3, 1) := dk_29 (dk_at dksX2_normal_2 6 rfl rfl)
theorem dX2_normal_55 : decode cX2_normal 55 = .ok (.i2l, 1) := dk_133 (dk_at dksX2_normal_2 7 rfl rfl)
theorem dX2_normal_56 : decode cX2_normal 56 = .ok (.goto 18, 3) := dk_167 0 18 (dk_at dksX2_normal_2 8 rfl rfl)
theorem dX2_normal_59 : decode cX2_normal 59 = .ok (.aload_n 0, 1) := dk_42 (dk_at dksX2_normal_2 11 rfl rfl)
theorem dX2_normal_60 : decode cX2_normal 60 = .ok (.bipush 6, 2) := dk_16 6 (dk_at dksX2_normal_2 12 rfl rfl)
theorem dX2_normal_62 : decode cX2_normal 62 = .ok (.invokevirtual 106, 3) := dk_182 0 106 (dk_at dksX2_normal_2 14 rfl rfl)
theorem dX2_normal_65 : decode cX2_normal 65 = .ok (.iconst 3, 1) := dk_6 (dk_at dksX2_normal_2 17 rfl rfl)
theorem dX2_normal_66 : decode cX2_normal 66 = .ok (.if_icmp .ne 7, 3) := dk_160 0 7 (dk_at dksX2_normal_2 18 rfl rfl)
theorem dX2_normal_69 : decode cX2_normal 69 = .ok (.lconst 1, 1) := dk_10 (dk_at dksX2_normal_2 21 rfl rfl)
theorem dX2_normal_70 : decode cX2_normal 70 = .ok (.goto 4, 3) := dk_167 0 4 (dk_at dksX2_normal_3 0 rfl rfl)
theorem dX2_normal_73 : decode cX2_normal 73 = .ok (.lconst 0, 1) := dk_9 (dk_at dksX2_normal_3 3 rfl rfl)
theorem dX2_normal_74 : decode cX2_normal 74 = .ok (.lreturn, 1) := dk_173 (dk_at dksX2_normal_3 4 rfl rfl)
abbrev cX2_normals : ByteArray := prog_6_method_26_code
def yX2_normals : MethodName := ⟨RX2, "normals", "(II)I"⟩
def dkwX2_normals_0 : List UInt8 := [42, 27, 28, 182, 0, 145, 42, 28, 182, 0, 148, 42, 28, 182, 0, 151, 172]
abbrev dktX2_normals_0 : List UInt8 := dkwX2_normals_0 ++ []
theorem dksX2_normals_0 : cX2_normals.data.toList.drop 0 = dktX2_normals_0 := by decide +kernel
theorem dX2_normals_0 : decode cX2_normals 0 = .ok (.aload_n 0, 1) := dk_42 (dk_at dksX2_normals_0 0 rfl rfl)
theorem dX2_normals_1 : decode cX2_normals 1 = .ok (.iload_n 1, 1) := dk_27 (dk_at dksX2_normals_0 1 rfl rfl)
theorem dX2_normals_2 : decode cX2_normals 2 = .ok (.iload_n 2, 1) := dk_28 (dk_at dksX2_normals_0 2 rfl rfl)
theorem dX2_normals_3 : decode cX2_normals 3 = .ok (.invokevirtual 145, 3) := dk_182 0 145 (dk_at dksX2_normals_0 3 rfl rfl)
theorem dX2_normals_6 : decode cX2_normals 6 = .ok (.aload_n 0, 1) := dk_42 (dk_at dksX2_normals_0 6 rfl rfl)
theorem dX2_normals_7 : decode cX2_normals 7 = .ok (.iload_n 2, 1) := dk_28 (dk_at dksX2_normals_0 7 rfl rfl)
theorem dX2_normals_8 : decode cX2_normals 8 = .ok (.invokevirtual 148, 3) := dk_182 0 148 (dk_at dksX2_normals_0 8 rfl rfl)
theorem dX2_normals_11 : decode cX2_normals 11 = .ok (.aload_n 0, 1) := dk_42 (dk_at dksX2_normals_0 11 rfl rfl)
theorem dX2_normals_12 : decode cX2_normals 12 = .ok (.iload_n 2, 1) := dk_28 (dk_at dksX2_normals_0 12 rfl rfl)
theorem dX2_normals_13 : decode cX2_normals 13 = .ok (.invokevirtual 151, 3) := dk_182 0 151 (dk_at dksX2_normals_0 13 rfl rfl)
theorem dX2_normals_16 : decode cX2_normals 16 = .ok (.ireturn, 1) := dk_172 (dk_at dksX2_normals_0 16 rfl rfl)
abbrev cX2_goesOn : ByteArray := prog_6_method_25_code
def yX2_goesOn : MethodName := ⟨RX2, "goesOn", "(I)I"⟩
def dkwX2_goesOn_1 : List UInt8 := [182, 0, 139, 62, 167, 255, 237, 28, 172]
abbrev dktX2_goesOn_1 : List UInt8 := dkwX2_goesOn_1 ++ []
def dkwX2_goesOn_0 : List UInt8 := [3, 61, 42, 27, 182, 0, 139, 62, 29, 158, 0, 21, 42, 27, 29, 182, 0, 142, 132, 2, 1, 42, 27]
abbrev dktX2_goesOn_0 : List UInt8 := dkwX2_goesOn_0 ++ dktX2_goesOn_1
theorem dksX2_goesOn_0 : cX2_goesOn.data.toList.drop 0 = dktX2_goesOn_0 := by decide +kernel
theorem dksX2_goesOn_1 : cX2_goesOn.data.toList.drop 23 = dktX2_goesOn_1 := dk_seg dksX2_goesOn_0 23 rfl rfl
theorem dX2_goesOn_0 : decode cX2_goesOn 0 = .ok (.iconst 0, 1) := dk_3 (dk_at dksX2_goesOn_0 0 rfl rfl)
theorem dX2_goesOn_1 : decode cX2_goesOn 1 = .ok (.istore_n 2, 1) := dk_61 (dk_at dksX2_goesOn_0 1 rfl rfl)
theorem dX2_goesOn_2 : decode cX2_goesOn 2 = .ok (.aload_n 0, 1) := dk_42 (dk_at dksX2_goesOn_0 2 rfl rfl)
theorem dX2_goesOn_3 : decode cX2_goesOn 3 = .ok (.iload_n 1, 1) := dk_27 (dk_at dksX2_goesOn_0 3 rfl rfl)
theorem dX2_goesOn_4 : decode cX2_goesOn 4 = .ok (.invokevirtual 139, 3) := dk_182 0 139 (dk_at dksX2_goesOn_0 4 rfl rfl)
theorem dX2_goesOn_7 : decode cX2_goesOn 7 = .ok (.istore_n 3, 1) := dk_62 (dk_at dksX2_goesOn_0 7 rfl rfl)
theorem dX2_goesOn_8 : decode cX2_goesOn 8 = .ok (.iload_n 3, 1) := dk_29 (dk_at dksX2_goesOn_0 8 rfl rfl)
theorem dX2_goesOn_9 : decode cX2_goesOn 9 = .ok (.ifCond .le 21, 3) := dk_158 0 21 (dk_at dksX2_goesOn_0 9 rfl rfl)
theorem dX2_goesOn_12 : decode cX2_goesOn 12 = .ok (.aload_n 0, 1) := dk_42 (dk_at dksX2_goesOn_0 12 rfl rfl)
theorem dX2_goesOn_13 : decode cX2_goesOn 13 = .ok (.iload_n 1, 1) := dk_27 (dk_at dksX2_goesOn_0 13 rfl rfl)
theorem dX2_goesOn_14 : decode cX2_goesOn 14 = .ok (.iload_n 3, 1) := dk_29 (dk_at dksX2_goesOn_0 14 rfl rfl)
theorem dX2_goesOn_15 : decode cX2_goesOn 15 = .ok (.invokevirtual 142, 3) := dk_182 0 142 (dk_at dksX2_goesOn_0 15 rfl rfl)
theorem dX2_goesOn_18 : decode cX2_goesOn 18 = .ok (.iinc 2 1, 3) := dk_132 2 1 (dk_at dksX2_goesOn_0 18 rfl rfl)
theorem dX2_goesOn_21 : decode cX2_goesOn 21 = .ok (.aload_n 0, 1) := dk_42 (dk_at dksX2_goesOn_0 21 rfl rfl)
theorem dX2_goesOn_22 : decode cX2_goesOn 22 = .ok (.iload_n 1, 1) := dk_27 (dk_at dksX2_goesOn_0 22 rfl rfl)
theorem dX2_goesOn_23 : decode cX2_goesOn 23 = .ok (.invokevirtual 139, 3) := dk_182 0 139 (dk_at dksX2_goesOn_1 0 rfl rfl)
theorem dX2_goesOn_26 : decode cX2_goesOn 26 = .ok (.istore_n 3, 1) := dk_62 (dk_at dksX2_goesOn_1 3 rfl rfl)
theorem dX2_goesOn_27 : decode cX2_goesOn 27 = .ok (.goto (-19), 3) := dk_167 255 237 (dk_at dksX2_goesOn_1 4 rfl rfl)
theorem dX2_goesOn_30 : decode cX2_goesOn 30 = .ok (.iload_n 2, 1) := dk_28 (dk_at dksX2_goesOn_1 7 rfl rfl)
theorem dX2_goesOn_31 : decode cX2_goesOn 31 = .ok (.ireturn, 1) := dk_172 (dk_at dksX2_goesOn_1 8 rfl rfl)
abbrev cX2_log : ByteArray := prog_6_method_44_code
def yX2_log : MethodName := ⟨RX2, "log", "(I)I"⟩
def dkwX2_log_1 : List UInt8 := [162, 0, 12, 42, 180, 0, 18, 27, 46, 167, 0, 5, 16, 254, 172]
abbrev dktX2_log_1 : List UInt8 := dkwX2_log_1 ++ []
def dkwX2_log_0 : List UInt8 := [27, 2, 162, 0, 5, 2, 172, 27, 2, 160, 0, 10, 42, 180, 0, 160, 167, 0, 22, 27, 42, 180, 0, 160]
abbrev dktX2_log_0 : List UInt8 := dkwX2_log_0 ++ dktX2_log_1
theorem dksX2_log_0 : cX2_log.data.toList.drop 0 = dktX2_log_0 := by decide +kernel
theorem dksX2_log_1 : cX2_log.data.toList.drop 24 = dktX2_log_1 := dk_seg dksX2_log_0 24 rfl rfl
theorem dX2_log_0 : decode cX2_log 0 = .ok (.iload_n 1, 1) := dk_27 (dk_at dksX2_log_0 0 rfl rfl)
theorem dX2_log_1 : decode cX2_log 1 = .ok (.iconst (-1), 1) := dk_2 (dk_at dksX2_log_0 1 rfl rfl)
theorem dX2_log_2 : decode cX2_log 2 = .ok (.if_icmp .ge 5, 3) := dk_162 0 5 (dk_at dksX2_log_0 2 rfl rfl)
theorem dX2_log_5 : decode cX2_log 5 = .ok (.iconst (-1), 1) := dk_2 (dk_at dksX2_log_0 5 rfl rfl)
theorem dX2_log_6 : decode cX2_log 6 = .ok (.ireturn, 1) := dk_172 (dk_at dksX2_log_0 6 rfl rfl)
theorem dX2_log_7 : decode cX2_log 7 = .ok (.iload_n 1, 1) := dk_27 (dk_at dksX2_log_0 7 rfl rfl)
theorem dX2_log_8 : decode cX2_log 8 = .ok (.iconst (-1), 1) := dk_2 (dk_at dksX2_log_0 8 rfl rfl)
theorem dX2_log_9 : decode cX2_log 9 = .ok (.if_icmp .ne 10, 3) := dk_160 0 10 (dk_at dksX2_log_0 9 rfl rfl)
theorem dX2_log_12 : decode cX2_log 12 = .ok (.aload_n 0, 1) := dk_42 (dk_at dksX2_log_0 12 rfl rfl)
theorem dX2_log_13 : decode cX2_log 13 = .ok (.getfield 160, 3) := dk_180 0 160 (dk_at dksX2_log_0 13 rfl rfl)
theorem dX2_log_16 : decode cX2_log 16 = .ok (.goto 22, 3) := dk_167 0 22 (dk_at dksX2_log_0 16 rfl rfl)
theorem dX2_log_19 : decode cX2_log 19 = .ok (.iload_n 1, 1) := dk_27 (dk_at dksX2_log_0 19 rfl rfl)
theorem dX2_log_20 : decode cX2_log 20 = .ok (.aload_n 0, 1) := dk_42 (dk_at dksX2_log_0 20 rfl rfl)
theorem dX2_log_21 : decode cX2_log 21 = .ok (.getfield 160, 3) := dk_180 0 160 (dk_at dksX2_log_0 21 rfl rfl)
theorem dX2_log_24 : decode cX2_log 24 = .ok (.if_icmp .ge 12, 3) := dk_162 0 12 (dk_at dksX2_log_1 0 rfl rfl)
theorem dX2_log_27 : decode cX2_log 27 = .ok (.aload_n 0, 1) := dk_42 (dk_at dksX2_log_1 3 rfl rfl)
theorem dX2_log_28 : decode cX2_log 28 = .ok (.getfield 18, 3) := dk_180 0 18 (dk_at dksX2_log_1 4 rfl rfl)
theorem dX2_log_31 : decode cX2_log 31 = .ok (.iload_n 1, 1) := dk_27 (dk_at dksX2_log_1 7 rfl rfl)
theorem dX2_log_32 : decode cX2_log 32 = .ok (.iaload, 1) := dk_46 (dk_at dksX2_log_1 8 rfl rfl)
theorem dX2_log_33 : decode cX2_log 33 = .ok (.goto 5, 3) := dk_167 0 5 (dk_at dksX2_log_1 9 rfl rfl)
theorem dX2_log_36 : decode cX2_log 36 = .ok (.bipush (-2), 2) := dk_16 254 (dk_at dksX2_log_1 12 rfl rfl)
theorem dX2_log_38 : decode cX2_log 38 = .ok (.ireturn, 1) := dk_172 (dk_at dksX2_log_1 14 rfl rfl)
abbrev cX2_forget : ByteArray := prog_6_method_45_code
def yX2_forget : MethodName := ⟨RX2, "forget", "(I)I"⟩
def dkwX2_forget_0 : List UInt8 := [27, 133, 9, 20, 0, 210, 184, 0, 68, 153, 0, 12, 42, 2, 27, 182, 0, 184, 167, 0, 4, 2, 172]
abbrev dktX2_forget_0 : List UInt8 := dkwX2_forget_0 ++ []
theorem dksX2_forget_0 : cX2_forget.data.toList.drop 0 = dktX2_forget_0 := by decide +kernel
theorem dX2_forget_0 : decode cX2_forget 0 = .ok (.iload_n 1, 1) := dk_27 (dk_at dksX2_forget_0 0 rfl rfl)
theorem dX2_forget_1 : decode cX2_forget 1 = .ok (.i2l, 1) := dk_133 (dk_at dksX2_forget_0 1 rfl rfl)
theorem dX2_forget_2 : decode cX2_forget 2 = .ok (.lconst 0, 1) := dk_9 (dk_at dksX2_forget_0 2 rfl rfl)
theorem dX2_forget_3 : decode cX2_forget 3 = .ok (.ldc2_w 210, 3) := dk_20 0 210 (dk_at dksX2_forget_0 3 rfl rfl)
theorem dX2_forget_6 : decode cX2_forget 6 = .ok (.invokestatic 68, 3) := dk_184 0 68 (dk_at dksX2_forget_0 6 rfl rfl)
theorem dX2_forget_9 : decode cX2_forget 9 = .ok (.ifCond .eq 12, 3) := dk_153 0 12 (dk_at dksX2_forget_0 9 rfl rfl)
theorem dX2_forget_12 : decode cX2_forget 12 = .ok (.aload_n 0, 1) := dk_42 (dk_at dksX2_forget_0 12 rfl rfl)
theorem dX2_forget_13 : decode cX2_forget 13 = .ok (.iconst (-1), 1) := dk_2 (dk_at dksX2_forget_0 13 rfl rfl)
theorem dX2_forget_14 : decode cX2_forget 14 = .ok (.iload_n 1, 1) := dk_27 (dk_at dksX2_forget_0 14 rfl rfl)
theorem dX2_forget_15 : decode cX2_forget 15 = .ok (.invokevirtual 184, 3) := dk_182 0 184 (dk_at dksX2_forget_0 15 rfl rfl)
theorem dX2_forget_18 : decode cX2_forget 18 = .ok (.goto 4, 3) := dk_167 0 4 (dk_at dksX2_forget_0 18 rfl rfl)
theorem dX2_forget_21 : decode cX2_forget 21 = .ok (.iconst (-1), 1) := dk_2 (dk_at dksX2_forget_0 21 rfl rfl)
theorem dX2_forget_22 : decode cX2_forget 22 = .ok (.ireturn, 1) := dk_172 (dk_at dksX2_forget_0 22 rfl rfl)
abbrev cX2_same : ByteArray := prog_6_method_47_code
def yX2_same : MethodName := ⟨RX2, "same", "(II)I"⟩
def dkwX2_same_1 : List UInt8 := [182, 0, 215, 153, 0, 7, 4, 167, 0, 4, 3, 172]
abbrev dktX2_same_1 : List UInt8 := dkwX2_same_1 ++ []
def dkwX2_same_0 : List UInt8 := [42, 27, 182, 0, 188, 153, 0, 11, 42, 28, 182, 0, 188, 154, 0, 7, 2, 167, 0, 17, 42, 27, 28]
abbrev dktX2_same_0 : List UInt8 := dkwX2_same_0 ++ dktX2_same_1
theorem dksX2_same_0 : cX2_same.data.toList.drop 0 = dktX2_same_0 := by decide +kernel
theorem dksX2_same_1 : cX2_same.data.toList.drop 23 = dktX2_same_1 := dk_seg dksX2_same_0 23 rfl rfl
theorem dX2_same_0 : decode cX2_same 0 = .ok (.aload_n 0, 1) := dk_42 (dk_at dksX2_same_0 0 rfl rfl)
theorem dX2_same_1 : decode cX2_same 1 = .ok (.iload_n 1, 1) := dk_27 (dk_at dksX2_same_0 1 rfl rfl)
theorem dX2_same_2 : decode cX2_same 2 = .ok (.invokevirtual 188, 3) := dk_182 0 188 (dk_at dksX2_same_0 2 rfl rfl)
theorem dX2_same_5 : decode cX2_same 5 = .ok (.ifCond .eq 11, 3) := dk_153 0 11 (dk_at dksX2_same_0 5 rfl rfl)
theorem dX2_same_8 : decode cX2_same 8 = .ok (.aload_n 0, 1) := dk_42 (dk_at dksX2_same_0 8 rfl rfl)
theorem dX2_same_9 : decode cX2_same 9 = .ok (.iload_n 2, 1) := dk_28 (dk_at dksX2_same_0 9 rfl rfl)
theorem dX2_same_10 : decode cX2_same 10 = .ok (.invokevirtual 188, 3) := dk_182 0 188 (dk_at dksX2_same_0 10 rfl rfl)
theorem dX2_same_13 : decode cX2_same 13 = .ok (.ifCond .ne 7, 3) := dk_154 0 7 (dk_at dksX2_same_0 13 rfl rfl)
theorem dX2_same_16 : decode cX2_same 16 = .ok (.iconst (-1), 1) := dk_2 (dk_at dksX2_same_0 16 rfl rfl)
theorem dX2_same_17 : decode cX2_same 17 = .ok (.goto 17, 3) := dk_167 0 17 (dk_at dksX2_same_0 17 rfl rfl)
theorem dX2_same_20 : decode cX2_same 20 = .ok (.aload_n 0, 1) := dk_42 (dk_at dksX2_same_0 20 rfl rfl)
theorem dX2_same_21 : decode cX2_same 21 = .ok (.iload_n 1, 1) := dk_27 (dk_at dksX2_same_0 21 rfl rfl)
theorem dX2_same_22 : decode cX2_same 22 = .ok (.iload_n 2, 1) := dk_28 (dk_at dksX2_same_0 22 rfl rfl)
theorem dX2_same_23 : decode cX2_same 23 = .ok (.invokevirtual 215, 3) := dk_182 0 215 (dk_at dksX2_same_1 0 rfl rfl)
theorem dX2_same_26 : decode cX2_same 26 = .ok (.ifCond .eq 7, 3) := dk_153 0 7 (dk_at dksX2_same_1 3 rfl rfl)
theorem dX2_same_29 : decode cX2_same 29 = .ok (.iconst 1, 1) := dk_4 (dk_at dksX2_same_1 6 rfl rfl)
theorem dX2_same_30 : decode cX2_same 30 = .ok (.goto 4, 3) := dk_167 0 4 (dk_at dksX2_same_1 7 rfl rfl)
theorem dX2_same_33 : decode cX2_same 33 = .ok (.iconst 0, 1) := dk_3 (dk_at dksX2_same_1 10 rfl rfl)
theorem dX2_same_34 : decode cX2_same 34 = .ok (.ireturn, 1) := dk_172 (dk_at dksX2_same_1 11 rfl rfl)
abbrev cX2_areSame : ByteArray := prog_6_method_46_code
def yX2_areSame : MethodName := ⟨RX2, "areSame", "(II)Z"⟩
def dkwX2_areSame_1 : List UInt8 := [172]
abbrev dktX2_areSame_1 : List UInt8 := dkwX2_areSame_1 ++ []
def dkwX2_areSame_0 : List UInt8 := [42, 27, 16, 6, 182, 0, 207, 87, 42, 28, 16, 7, 182, 0, 207, 87, 42, 16, 6, 16, 7, 182, 0, 212]
abbrev dktX2_areSame_0 : List UInt8 := dkwX2_areSame_0 ++ dktX2_areSame_1
theorem dksX2_areSame_0 : cX2_areSame.data.toList.drop 0 = dktX2_areSame_0 := by decide +kernel
theorem dksX2_areSame_1 : cX2_areSame.data.toList.drop 24 = dktX2_areSame_1 := dk_seg dksX2_areSame_0 24 rfl rfl
theorem dX2_areSame_0 : decode cX2_areSame 0 = .ok (.aload_n 0, 1) := dk_42 (dk_at dksX2_areSame_0 0 rfl rfl)
theorem dX2_areSame_1 : decode cX2_areSame 1 = .ok (.iload_n 1, 1) := dk_27 (dk_at dksX2_areSame_0 1 rfl rfl)
theorem dX2_areSame_2 : decode cX2_areSame 2 = .ok (.bipush 6, 2) := dk_16 6 (dk_at dksX2_areSame_0 2 rfl rfl)
theorem dX2_areSame_4 : decode cX2_areSame 4 = .ok (.invokevirtual 207, 3) := dk_182 0 207 (dk_at dksX2_areSame_0 4 rfl rfl)
theorem dX2_areSame_7 : decode cX2_areSame 7 = .ok (.pop, 1) := dk_87 (dk_at dksX2_areSame_0 7 rfl rfl)
theorem dX2_areSame_8 : decode cX2_areSame 8 = .ok (.aload_n 0, 1) := dk_42 (dk_at dksX2_areSame_0 8 rfl rfl)
theorem dX2_areSame_9 : decode cX2_areSame 9 = .ok (.iload_n 2, 1) := dk_28 (dk_at dksX2_areSame_0 9 rfl rfl)
theorem dX2_areSame_10 : decode cX2_areSame 10 = .ok (.bipush 7, 2) := dk_16 7 (dk_at dksX2_areSame_0 10 rfl rfl)
theorem dX2_areSame_12 : decode cX2_areSame 12 = .ok (.invokevirtual 207, 3) := dk_182 0 207 (dk_at dksX2_areSame_0 12 rfl rfl)
theorem dX2_areSame_15 : decode cX2_areSame 15 = .ok (.pop, 1) := dk_87 (dk_at dksX2_areSame_0 15 rfl rfl)
theorem dX2_areSame_16 : decode cX2_areSame 16 = .ok (.aload_n 0, 1) := dk_42 (dk_at dksX2_areSame_0 16 rfl rfl)
theorem dX2_areSame_17 : decode cX2_areSame 17 = .ok (.bipush 6, 2) := dk_16 6 (dk_at dksX2_areSame_0 17 rfl rfl)
theorem dX2_areSame_19 : decode cX2_areSame 19 = .ok (.bipush 7, 2) := dk_16 7 (dk_at dksX2_areSame_0 19 rfl rfl)
theorem dX2_areSame_21 : decode cX2_areSame 21 = .ok (.invokevirtual 212, 3) := dk_182 0 212 (dk_at dksX2_areSame_0 21 rfl rfl)
theorem dX2_areSame_24 : decode cX2_areSame 24 = .ok (.ireturn, 1) := dk_172 (dk_at dksX2_areSame_1 0 rfl rfl)
abbrev cX2_areLike : ByteArray := prog_6_method_27_code
def yX2_areLike : MethodName := ⟨RX2, "areLike", "(II)Z"⟩
def dkwX2_areLike_1 : List UInt8 := [3, 172, 132, 3, 1, 167, 255, 229, 4, 172]
abbrev dktX2_areLike_1 : List UInt8 := dkwX2_areLike_1 ++ []
def dkwX2_areLike_0 : List UInt8 := [3, 62, 29, 16, 6, 162, 0, 27, 42, 27, 29, 182, 0, 74, 42, 28, 29, 182, 0, 74, 148, 153, 0, 5]
abbrev dktX2_areLike_0 : List UInt8 := dkwX2_areLike_0 ++ dktX2_areLike_1
theorem dksX2_areLike_0 : cX2_areLike.data.toList.drop 0 = dktX2_areLike_0 := by decide +kernel
theorem dksX2_areLike_1 : cX2_areLike.data.toList.drop 24 = dktX2_areLike_1 := dk_seg dksX2_areLike_0 24 rfl rfl
theorem dX2_areLike_0 : decode cX2_areLike 0 = .ok (.iconst 0, 1) := dk_3 (dk_at dksX2_areLike_0 0 rfl rfl)
theorem dX2_areLike_1 : decode cX2_areLike 1 = .ok (.istore_n 3, 1) := dk_62 (dk_at dksX2_areLike_0 1 rfl rfl)
theorem dX2_areLike_2 : decode cX2_areLike 2 = .ok (.iload_n 3, 1) := dk_29 (dk_at dksX2_areLike_0 2 rfl rfl)
theorem dX2_areLike_3 : decode cX2_areLike 3 = .ok (.bipush 6, 2) := dk_16 6 (dk_at dksX2_areLike_0 3 rfl rfl)
theorem dX2_areLike_5 : decode cX2_areLike 5 = .ok (.if_icmp .ge 27, 3) := dk_162 0 27 (dk_at dksX2_areLike_0 5 rfl rfl)
theorem dX2_areLike_8 : decode cX2_areLike 8 = .ok (.aload_n 0, 1) := dk_42 (dk_at dksX2_areLike_0 8 rfl rfl)
theorem dX2_areLike_9 : decode cX2_areLike 9 = .ok (.iload_n 1, 1) := dk_27 (dk_at dksX2_areLike_0 9 rfl rfl)
theorem dX2_areLike_10 : decode cX2_areLike 10 = .ok (.iload_n 3, 1) := dk_29 (dk_at dksX2_areLike_0 10 rfl rfl)
theorem dX2_areLike_11 : decode cX2_areLike 11 = .ok (.invokevirtual 74, 3) := dk_182 0 74 (dk_at dksX2_areLike_0 11 rfl rfl)
theorem dX2_areLike_14 : decode cX2_areLike 14 = .ok (.aload_n 0, 1) := dk_42 (dk_at dksX2_areLike_0 14 rfl rfl)
theorem dX2_areLike_15 : decode cX2_areLike 15 = .ok (.iload_n 2, 1) := dk_28 (dk_at dksX2_areLike_0 15 rfl rfl)
theorem dX2_areLike_16 : decode cX2_areLike 16 = .ok (.iload_n 3, 1) := dk_29 (dk_at dksX2_areLike_0 16 rfl rfl)
theorem dX2_areLike_17 : decode cX2_areLike 17 = .ok (.invokevirtual 74, 3) := dk_182 0 74 (dk_at dksX2_areLike_0 17 rfl rfl)
theorem dX2_areLike_20 : decode cX2_areLike 20 = .ok (.lcmp, 1) := dk_148 (dk_at dksX2_areLike_0 20 rfl rfl)
theorem dX2_areLike_21 : decode cX2_areLike 21 = .ok (.ifCond .eq 5, 3) := dk_153 0 5 (dk_at dksX2_areLike_0 21 rfl rfl)
theorem dX2_areLike_24 : decode cX2_areLike 24 = .ok (.iconst 0, 1) := dk_3 (dk_at dksX2_areLike_1 0 rfl rfl)
theorem dX2_areLike_25 : decode cX2_areLike 25 = .ok (.ireturn, 1) := dk_172 (dk_at dksX2_areLike_1 1 rfl rfl)
theorem dX2_areLike_26 : decode cX2_areLike 26 = .ok (.iinc 3 1, 3) := dk_132 3 1 (dk_at dksX2_areLike_1 2 rfl rfl)
theorem dX2_areLike_29 : decode cX2_areLike 29 = .ok (.goto (-27), 3) := dk_167 255 229 (dk_at dksX2_areLike_1 5 rfl rfl)
theorem dX2_areLike_32 : decode cX2_areLike 32 = .ok (.iconst 1, 1) := dk_4 (dk_at dksX2_areLike_1 8 rfl rfl)
theorem dX2_areLike_33 : decode cX2_areLike 33 = .ok (.ireturn, 1) := dk_172 (dk_at dksX2_areLike_1 9 rfl rfl)
abbrev cX2_bridge : ByteArray := prog_6_method_49_code
def yX2_bridge : MethodName := ⟨RX2, "bridge", "(IIII)J"⟩
def dkwX2_bridge_3 : List UInt8 := [47, 42, 16, 7, 21, 7, 21, 4, 182, 0, 218, 105, 97, 55, 5, 132, 7, 1, 167, 255, 217, 22, 5, 173]
abbrev dktX2_bridge_3 : List UInt8 := dkwX2_bridge_3 ++ []
def dkwX2_bridge_2 : List UInt8 := [3, 54, 7, 21, 7, 6, 162, 0, 39, 22, 5, 42, 180, 0, 15, 16, 54, 6, 21, 7, 104, 96, 29, 96]
abbrev dktX2_bridge_2 : List UInt8 := dkwX2_bridge_2 ++ dktX2_bridge_3
def dkwX2_bridge_1 : List UInt8 := [21, 4, 184, 0, 191, 153, 0, 12, 42, 27, 28, 182, 0, 215, 154, 0, 7, 20, 0, 203, 173, 9, 55, 5]
abbrev dktX2_bridge_1 : List UInt8 := dkwX2_bridge_1 ++ dktX2_bridge_2
def dkwX2_bridge_0 : List UInt8 := [42, 27, 182, 0, 188, 153, 0, 35, 42, 28, 182, 0, 188, 153, 0, 27, 29, 184, 0, 191, 153, 0, 20]
abbrev dktX2_bridge_0 : List UInt8 := dkwX2_bridge_0 ++ dktX2_bridge_1
theorem dksX2_bridge_0 : cX2_bridge.data.toList.drop 0 = dktX2_bridge_0 := by decide +kernel
theorem dksX2_bridge_1 : cX2_bridge.data.toList.drop 23 = dktX2_bridge_1 := dk_seg dksX2_bridge_0 23 rfl rfl
theorem dksX2_bridge_2 : cX2_bridge.data.toList.drop 47 = dktX2_bridge_2 := dk_seg dksX2_bridge_1 24 rfl rfl
theorem dksX2_bridge_3 : cX2_bridge.data.toList.drop 71 = dktX2_bridge_3 := dk_seg dksX2_bridge_2 24 rfl rfl
theorem dX2_bridge_0 : decode cX2_bridge 0 = .ok (.aload_n 0, 1) := dk_42 (dk_at dksX2_bridge_0 0 rfl rfl)
theorem dX2_bridge_1 : decode cX2_bridge 1 = .ok (.iload_n 1, 1) := dk_27 (dk_at dksX2_bridge_0 1 rfl rfl)
theorem dX2_bridge_2 : decode cX2_bridge 2 = .ok (.invokevirtual 188, 3) := dk_182 0 188 (dk_at dksX2_bridge_0 2 rfl rfl)
theorem dX2_bridge_5 : decode cX2_bridge 5 = .ok (.ifCond .eq 35, 3) := dk_153 0 35 (dk_at dksX2_bridge_0 5 rfl rfl)
theorem dX2_bridge_8 : decode cX2_bridge 8 = .ok (.aload_n 0, 1) := dk_42 (dk_at dksX2_bridge_0 8 rfl rfl)
theorem dX2_bridge_9 : decode cX2_bridge 9 = .ok (.iload_n 2, 1) := dk_28 (dk_at dksX2_bridge_0 9 rfl rfl)
theorem dX2_bridge_10 : decode cX2_bridge 10 = .ok (.invokevirtual 188, 3) := dk_182 0 188 (dk_at dksX2_bridge_0 10 rfl rfl)
theorem dX2_bridge_13 : decode cX2_bridge 13 = .ok (.ifCond .eq 27, 3) := dk_153 0 27 (dk_at dksX2_bridge_0 13 rfl rfl)
theorem dX2_bridge_16 : decode cX2_bridge 16 = .ok (.iload_n 3, 1) := dk_29 (dk_at dksX2_bridge_0 16 rfl rfl)
theorem dX2_bridge_17 : decode cX2_bridge 17 = .ok (.invokestatic 191, 3) := dk_184 0 191 (dk_at dksX2_bridge_0 17 rfl rfl)
theorem dX2_bridge_20 : decode cX2_bridge 20 = .ok (.ifCond .eq 20, 3) := dk_153 0 20 (dk_at dksX2_bridge_0 20 rfl rfl)
theorem dX2_bridge_23 : decode cX2_bridge 23 = .ok (.iload 4, 2) := dk_21 4 (dk_at dksX2_bridge_1 0 rfl rfl)
theorem dX2_bridge_25 : decode cX2_bridge 25 = .ok (.invokestatic 191, 3) := dk_184 0 191 (dk_at dksX2_bridge_1 2 rfl rfl)
theorem dX2_bridge_28 : decode cX2_bridge 28 = .ok (.ifCond .eq 12, 3) := dk_153 0 12 (dk_at dksX2_bridge_1 5 rfl rfl)
theorem dX2_bridge_31 : decode cX2_bridge 31 = .ok (.aload_n 0, 1) := dk_42 (dk_at dksX2_bridge_1 8 rfl rfl)
theorem dX2_bridge_32 : decode cX2_bridge 32 = .ok (.iload_n 1, 1) := dk_27 (dk_at dksX2_bridge_1 9 rfl rfl)
theorem dX2_bridge_33 : decode cX2_bridge 33 = .ok (.iload_n 2, 1) := dk_28 (dk_at dksX2_bridge_1 10 rfl rfl)
theorem dX2_bridge_34 : decode cX2_bridge 34 = .ok (.invokevirtual 215, 3) := dk_182 0 215 (dk_at dksX2_bridge_1 11 rfl rfl)
theorem dX2_bridge_37 : decode cX2_bridge 37 = .ok (.ifCond .ne 7, 3) := dk_154 0 7 (dk_at dksX2_bridge_1 14 rfl rfl)
theorem dX2_bridge_40 : decode cX2_bridge 40 = .ok (.ldc2_w 203, 3) := dk_20 0 203 (dk_at dksX2_bridge_1 17 rfl rfl)
theorem dX2_bridge_43 : decode cX2_bridge 43 = .ok (.lreturn, 1) := dk_173 (dk_at dksX2_bridge_1 20 rfl rfl)
theorem dX2_bridge_44 : decode cX2_bridge 44 = .ok (.lconst 0, 1) := dk_9 (dk_at dksX2_bridge_1 21 rfl rfl)
theorem dX2_bridge_45 : decode cX2_bridge 45 = .ok (.lstore 5, 2) := dk_55 5 (dk_at dksX2_bridge_1 22 rfl rfl)
theorem dX2_bridge_47 : decode cX2_bridge 47 = .ok (.iconst 0, 1) := dk_3 (dk_at dksX2_bridge_2 0 rfl rfl)
theorem dX2_bridge_48 : decode cX2_bridge 48 = .ok (.istore 7, 2) := dk_54 7 (dk_at dksX2_bridge_2 1 rfl rfl)
theorem dX2_bridge_50 : decode cX2_bridge 50 = .ok (.iload 7, 2) := dk_21 7 (dk_at dksX2_bridge_2 3 rfl rfl)
theorem dX2_bridge_52 : decode cX2_bridge 52 = .ok (.iconst 3, 1) := dk_6 (dk_at dksX2_bridge_2 5 rfl rfl)
theorem dX2_bridge_53 : decode cX2_bridge 53 = .ok (.if_icmp .ge 39, 3) := dk_162 0 39 (dk_at dksX2_bridge_2 6 rfl rfl)
theorem dX2_bridge_56 : decode cX2_bridge 56 = .ok (.lload 5, 2) := dk_22 5 (dk_at dksX2_bridge_2 9 rfl rfl)
theorem dX2_bridge_58 : decode cX2_bridge 58 = .ok (.aload_n 0, 1) := dk_42 (dk_at dksX2_bridge_2 11 rfl rfl)
theorem dX2_bridge_59 : decode cX2_bridge 59 = .ok (.getfield 15, 3) := dk_180 0 15 (dk_at dksX2_bridge_2 12 rfl rfl)
theorem dX2_bridge_62 : decode cX2_bridge 62 = .ok (.bipush 54, 2) := dk_16 54 (dk_at dksX2_bridge_2 15 rfl rfl)
theorem dX2_bridge_64 : decode cX2_bridge 64 = .ok (.iconst 3, 1) := dk_6 (dk_at dksX2_bridge_2 17 rfl rfl)
theorem dX2_bridge_65 : decode cX2_bridge 65 = .ok (.iload 7, 2) := dk_21 7 (dk_at dksX2_bridge_2 18 rfl rfl)
theorem dX2_bridge_67 : decode cX2_bridge 67 = .ok (.imul, 1) := dk_104 (dk_at dksX2_bridge_2 20 rfl rfl)
theorem dX2_bridge_68 : decode cX2_bridge 68 = .ok (.iadd, 1) := dk_96 (dk_at dksX2_bridge_2 21 rfl rfl)
theorem dX2_bridge_69 : decode cX2_bridge 69 = .ok (.iload_n 3, 1) := dk_29 (dk_at dksX2_bridge_2 22 rfl rfl)
theorem dX2_bridge_70 : decode cX2_bridge 70 = .ok (.iadd, 1) := dk_96 (dk_at dksX2_bridge_2 23 rfl rfl)
theorem dX2_bridge_71 : decode cX2_bridge 71 = .ok (.laload, 1) := dk_47 (dk_at dksX2_bridge_3 0 rfl rfl)
theorem dX2_bridge_72 : decode cX2_bridge 72 = .ok (.aload_n 0, 1) := dk_42 (dk_at dksX2_bridge_3 1 rfl rfl)
theorem dX2_bridge_73 : decode cX2_bridge 73 = .ok (.bipush 7, 2) := dk_16 7 (dk_at dksX2_bridge_3 2 rfl rfl)
theorem dX2_bridge_75 : decode cX2_bridge 75 = .ok (.iload 7, 2) := dk_21 7 (dk_at dksX2_bridge_3 4 rfl rfl)
theorem dX2_bridge_77 : decode cX2_bridge 77 = .ok (.iload 4, 2) := dk_21 4 (dk_at dksX2_bridge_3 6 rfl rfl)
theorem dX2_bridge_79 : decode cX2_bridge 79 = .ok (.invokevirtual 218, 3) := dk_182 0 218 (dk_at dksX2_bridge_3 8 rfl rfl)
theorem dX2_bridge_82 : decode cX2_bridge 82 = .ok (.lmul, 1) := dk_105 (dk_at dksX2_bridge_3 11 rfl rfl)
theorem dX2_bridge_83 : decode cX2_bridge 83 = .ok (.ladd, 1) := dk_97 (dk_at dksX2_bridge_3 12 rfl rfl)
theorem dX2_bridge_84 : decode cX2_bridge 84 = .ok (.lstore 5, 2) := dk_55 5 (dk_at dksX2_bridge_3 13 rfl rfl)
theorem dX2_bridge_86 : decode cX2_bridge 86 = .ok (.iinc 7 1, 3) := dk_132 7 1 (dk_at dksX2_bridge_3 15 rfl rfl)
theorem dX2_bridge_89 : decode cX2_bridge 89 = .ok (.goto (-39), 3) := dk_167 255 217 (dk_at dksX2_bridge_3 18 rfl rfl)
theorem dX2_bridge_92 : decode cX2_bridge 92 = .ok (.lload 5, 2) := dk_22 5 (dk_at dksX2_bridge_3 21 rfl rfl)
theorem dX2_bridge_94 : decode cX2_bridge 94 = .ok (.lreturn, 1) := dk_173 (dk_at dksX2_bridge_3 23 rfl rfl)
abbrev cX2_back : ByteArray := prog_6_method_48_code
def yX2_back : MethodName := ⟨RX2, "back", "(III)J"⟩
def dkwX2_back_4 : List UInt8 := [21, 7, 96, 47, 105, 101, 173]
abbrev dktX2_back_4 : List UInt8 := dkwX2_back_4 ++ []
def dkwX2_back_3 : List UInt8 := [104, 6, 21, 5, 104, 96, 21, 6, 96, 47, 42, 180, 0, 15, 16, 9, 27, 104, 6, 21, 4, 104, 96]
abbrev dktX2_back_3 : List UInt8 := dkwX2_back_3 ++ dktX2_back_4
def dkwX2_back_2 : List UInt8 := [180, 0, 15, 16, 9, 27, 104, 6, 21, 5, 104, 96, 21, 7, 96, 47, 105, 42, 180, 0, 15, 16, 9, 27]
abbrev dktX2_back_2 : List UInt8 := dkwX2_back_2 ++ dktX2_back_3
def dkwX2_back_1 : List UInt8 := [6, 112, 54, 7, 42, 180, 0, 15, 16, 9, 27, 104, 6, 21, 4, 104, 96, 21, 6, 96, 47, 42]
abbrev dktX2_back_1 : List UInt8 := dkwX2_back_1 ++ dktX2_back_2
def dkwX2_back_0 : List UInt8 := [28, 4, 96, 6, 112, 54, 4, 28, 5, 96, 6, 112, 54, 5, 29, 4, 96, 6, 112, 54, 6, 29, 5, 96]
abbrev dktX2_back_0 : List UInt8 := dkwX2_back_0 ++ dktX2_back_1
theorem dksX2_back_0 : cX2_back.data.toList.drop 0 = dktX2_back_0 := by decide +kernel
theorem dksX2_back_1 : cX2_back.data.toList.drop 24 = dktX2_back_1 := dk_seg dksX2_back_0 24 rfl rfl
theorem dksX2_back_2 : cX2_back.data.toList.drop 46 = dktX2_back_2 := dk_seg dksX2_back_1 22 rfl rfl
theorem dksX2_back_3 : cX2_back.data.toList.drop 70 = dktX2_back_3 := dk_seg dksX2_back_2 24 rfl rfl
theorem dksX2_back_4 : cX2_back.data.toList.drop 93 = dktX2_back_4 := dk_seg dksX2_back_3 23 rfl rfl
theorem dX2_back_0 : decode cX2_back 0 = .ok (.iload_n 2, 1) := dk_28 (dk_at dksX2_back_0 0 rfl rfl)
theorem dX2_back_1 : decode cX2_back 1 = .ok (.iconst 1, 1) := dk_4 (dk_at dksX2_back_0 1 rfl rfl)
theorem dX2_back_2 : decode cX2_back 2 = .ok (.iadd, 1) := dk_96 (dk_at dksX2_back_0 2 rfl rfl)
theorem dX2_back_3 : decode cX2_back 3 = .ok (.iconst 3, 1) := dk_6 (dk_at dksX2_back_0 3 rfl rfl)
theorem dX2_back_4 : decode cX2_back 4 = .ok (.irem, 1) := dk_112 (dk_at dksX2_back_0 4 rfl rfl)
theorem dX2_back_5 : decode cX2_back 5 = .ok (.istore 4, 2) := dk_54 4 (dk_at dksX2_back_0 5 rfl rfl)
theorem dX2_back_7 : decode cX2_back 7 = .ok (.iload_n 2, 1) := dk_28 (dk_at dksX2_back_0 7 rfl rfl)
theorem dX2_back_8 : decode cX2_back 8 = .ok (.iconst 2, 1) := dk_5 (dk_at dksX2_back_0 8 rfl rfl)
theorem dX2_back_9 : decode cX2_back 9 = .ok (.iadd, 1) := dk_96 (dk_at dksX2_back_0 9 rfl rfl)
theorem dX2_back_10 : decode cX2_back 10 = .ok (.iconst 3, 1) := dk_6 (dk_at dksX2_back_0 10 rfl rfl)
theorem dX2_back_11 : decode cX2_back 11 = .ok (.irem, 1) := dk_112 (dk_at dksX2_back_0 11 rfl rfl)
theorem dX2_back_12 : decode cX2_back 12 = .ok (.istore 5, 2) := dk_54 5 (dk_at dksX2_back_0 12 rfl rfl)
theorem dX2_back_14 : decode cX2_back 14 = .ok (.iload_n 3, 1) := dk_29 (dk_at dksX2_back_0 14 rfl rfl)
theorem dX2_back_15 : decode cX2_back 15 = .ok (.iconst 1, 1) := dk_4 (dk_at dksX2_back_0 15 rfl rfl)
theorem dX2_back_16 : decode cX2_back 16 = .ok (.iadd, 1) := dk_96 (dk_at dksX2_back_0 16 rfl rfl)
theorem dX2_back_17 : decode cX2_back 17 = .ok (.iconst 3, 1) := dk_6 (dk_at dksX2_back_0 17 rfl rfl)
theorem dX2_back_18 : decode cX2_back 18 = .ok (.irem, 1) := dk_112 (dk_at dksX2_back_0 18 rfl rfl)
theorem dX2_back_19 : decode cX2_back 19 = .ok (.istore 6, 2) := dk_54 6 (dk_at dksX2_back_0 19 rfl rfl)
theorem dX2_back_21 : decode cX2_back 21 = .ok (.iload_n 3, 1) := dk_29 (dk_at dksX2_back_0 21 rfl rfl)
theorem dX2_back_22 : decode cX2_back 22 = .ok (.iconst 2, 1) := dk_5 (dk_at dksX2_back_0 22 rfl rfl)
theorem dX2_back_23 : decode cX2_back 23 = .ok (.iadd, 1) := dk_96 (dk_at dksX2_back_0 23 rfl rfl)
theorem dX2_back_24 : decode cX2_back 24 = .ok (.iconst 3, 1) := dk_6 (dk_at dksX2_back_1 0 rfl rfl)
theorem dX2_back_25 : decode cX2_back 25 = .ok (.irem, 1) := dk_112 (dk_at dksX2_back_1 1 rfl rfl)
theorem dX2_back_26 : decode cX2_back 26 = .ok (.istore 7, 2) := dk_54 7 (dk_at dksX2_back_1 2 rfl rfl)
theorem dX2_back_28 : decode cX2_back 28 = .ok (.aload_n 0, 1) := dk_42 (dk_at dksX2_back_1 4 rfl rfl)
theorem dX2_back_29 : decode cX2_back 29 = .ok (.getfield 15, 3) := dk_180 0 15 (dk_at dksX2_back_1 5 rfl rfl)
theorem dX2_back_32 : decode cX2_back 32 = .ok (.bipush 9, 2) := dk_16 9 (dk_at dksX2_back_1 8 rfl rfl)
theorem dX2_back_34 : decode cX2_back 34 = .ok (.iload_n 1, 1) := dk_27 (dk_at dksX2_back_1 10 rfl rfl)
theorem dX2_back_35 : decode cX2_back 35 = .ok (.imul, 1) := dk_104 (dk_at dksX2_back_1 11 rfl rfl)
theorem dX2_back_36 : decode cX2_back 36 = .ok (.iconst 3, 1) := dk_6 (dk_at dksX2_back_1 12 rfl rfl)
theorem dX2_back_37 : decode cX2_back 37 = .ok (.iload 4, 2) := dk_21 4 (dk_at dksX2_back_1 13 rfl rfl)
theorem dX2_back_39 : decode cX2_back 39 = .ok (.imul, 1) := dk_104 (dk_at dksX2_back_1 15 rfl rfl)
theorem dX2_back_40 : decode cX2_back 40 = .ok (.iadd, 1) := dk_96 (dk_at dksX2_back_1 16 rfl rfl)
theorem dX2_back_41 : decode cX2_back 41 = .ok (.iload 6, 2) := dk_21 6 (dk_at dksX2_back_1 17 rfl rfl)
theorem dX2_back_43 : decode cX2_back 43 = .ok (.iadd, 1) := dk_96 (dk_at dksX2_back_1 19 rfl rfl)
theorem dX2_back_44 : decode cX2_back 44 = .ok (.laload, 1) := dk_47 (dk_at dksX2_back_1 20 rfl rfl)
theorem dX2_back_45 : decode cX2_back 45 = .ok (.aload_n 0, 1) := dk_42 (dk_at dksX2_back_1 21 rfl rfl)
theorem dX2_back_46 : decode cX2_back 46 = .ok (.getfield 15, 3) := dk_180 0 15 (dk_at dksX2_back_2 0 rfl rfl)
theorem dX2_back_49 : decode cX2_back 49 = .ok (.bipush 9, 2) := dk_16 9 (dk_at dksX2_back_2 3 rfl rfl)
theorem dX2_back_51 : decode cX2_back 51 = .ok (.iload_n 1, 1) := dk_27 (dk_at dksX2_back_2 5 rfl rfl)
theorem dX2_back_52 : decode cX2_back 52 = .ok (.imul, 1) := dk_104 (dk_at dksX2_back_2 6 rfl rfl)
theorem dX2_back_53 : decode cX2_back 53 = .ok (.iconst 3, 1) := dk_6 (dk_at dksX2_back_2 7 rfl rfl)
theorem dX2_back_54 : decode cX2_back 54 = .ok (.iload 5, 2) := dk_21 5 (dk_at dksX2_back_2 8 rfl rfl)
theorem dX2_back_56 : decode cX2_back 56 = .ok (.imul, 1) := dk_104 (dk_at dksX2_back_2 10 rfl rfl)
theorem dX2_back_57 : decode cX2_back 57 = .ok (.iadd, 1) := dk_96 (dk_at dksX2_back_2 11 rfl rfl)
theorem dX2_back_58 : decode cX2_back 58 = .ok (.iload 7, 2) := dk_21 7 (dk_at dksX2_back_2 12 rfl rfl)
theorem dX2_back_60 : decode cX2_back 60 = .ok (.iadd, 1) := dk_96 (dk_at dksX2_back_2 14 rfl rfl)
theorem dX2_back_61 : decode cX2_back 61 = .ok (.laload, 1) := dk_47 (dk_at dksX2_back_2 15 rfl rfl)
theorem dX2_back_62 : decode cX2_back 62 = .ok (.lmul, 1) := dk_105 (dk_at dksX2_back_2 16 rfl rfl)
theorem dX2_back_63 : decode cX2_back 63 = .ok (.aload_n 0, 1) := dk_42 (dk_at dksX2_back_2 17 rfl rfl)
theorem dX2_back_64 : decode cX2_back 64 = .ok (.getfield 15, 3) := dk_180 0 15 (dk_at dksX2_back_2 18 rfl rfl)
theorem dX2_back_67 : decode cX2_back 67 = .ok (.bipush 9, 2) := dk_16 9 (dk_at dksX2_back_2 21 rfl rfl)
theorem dX2_back_69 : decode cX2_back 69 = .ok (.iload_n 1, 1) := dk_27 (dk_at dksX2_back_2 23 rfl rfl)
theorem dX2_back_70 : decode cX2_back 70 = .ok (.imul, 1) := dk_104 (dk_at dksX2_back_3 0 rfl rfl)
theorem dX2_back_71 : decode cX2_back 71 = .ok (.iconst 3, 1) := dk_6 (dk_at dksX2_back_3 1 rfl rfl)
theorem dX2_back_72 : decode cX2_back 72 = .ok (.iload 5, 2) := dk_21 5 (dk_at dksX2_back_3 2 rfl rfl)
theorem dX2_back_74 : decode cX2_back 74 = .ok (.imul, 1) := dk_104 (dk_at dksX2_back_3 4 rfl rfl)
theorem dX2_back_75 : decode cX2_back 75 = .ok (.iadd, 1) := dk_96 (dk_at dksX2_back_3 5 rfl rfl)
theorem dX2_back_76 : decode cX2_back 76 = .ok (.iload 6, 2) := dk_21 6 (dk_at dksX2_back_3 6 rfl rfl)
theorem dX2_back_78 : decode cX2_back 78 = .ok (.iadd, 1) := dk_96 (dk_at dksX2_back_3 8 rfl rfl)
theorem dX2_back_79 : decode cX2_back 79 = .ok (.laload, 1) := dk_47 (dk_at dksX2_back_3 9 rfl rfl)
theorem dX2_back_80 : decode cX2_back 80 = .ok (.aload_n 0, 1) := dk_42 (dk_at dksX2_back_3 10 rfl rfl)
theorem dX2_back_81 : decode cX2_back 81 = .ok (.getfield 15, 3) := dk_180 0 15 (dk_at dksX2_back_3 11 rfl rfl)
theorem dX2_back_84 : decode cX2_back 84 = .ok (.bipush 9, 2) := dk_16 9 (dk_at dksX2_back_3 14 rfl rfl)
theorem dX2_back_86 : decode cX2_back 86 = .ok (.iload_n 1, 1) := dk_27 (dk_at dksX2_back_3 16 rfl rfl)
theorem dX2_back_87 : decode cX2_back 87 = .ok (.imul, 1) := dk_104 (dk_at dksX2_back_3 17 rfl rfl)
theorem dX2_back_88 : decode cX2_back 88 = .ok (.iconst 3, 1) := dk_6 (dk_at dksX2_back_3 18 rfl rfl)
theorem dX2_back_89 : decode cX2_back 89 = .ok (.iload 4, 2) := dk_21 4 (dk_at dksX2_back_3 19 rfl rfl)
theorem dX2_back_91 : decode cX2_back 91 = .ok (.imul, 1) := dk_104 (dk_at dksX2_back_3 21 rfl rfl)
theorem dX2_back_92 : decode cX2_back 92 = .ok (.iadd, 1) := dk_96 (dk_at dksX2_back_3 22 rfl rfl)
theorem dX2_back_93 : decode cX2_back 93 = .ok (.iload 7, 2) := dk_21 7 (dk_at dksX2_back_4 0 rfl rfl)
theorem dX2_back_95 : decode cX2_back 95 = .ok (.iadd, 1) := dk_96 (dk_at dksX2_back_4 2 rfl rfl)
theorem dX2_back_96 : decode cX2_back 96 = .ok (.laload, 1) := dk_47 (dk_at dksX2_back_4 3 rfl rfl)
theorem dX2_back_97 : decode cX2_back 97 = .ok (.lmul, 1) := dk_105 (dk_at dksX2_back_4 4 rfl rfl)
theorem dX2_back_98 : decode cX2_back 98 = .ok (.lsub, 1) := dk_101 (dk_at dksX2_back_4 5 rfl rfl)
theorem dX2_back_99 : decode cX2_back 99 = .ok (.lreturn, 1) := dk_173 (dk_at dksX2_back_4 6 rfl rfl)
abbrev cX2_turns : ByteArray := prog_6_method_53_code
def yX2_turns : MethodName := ⟨RX2, "turns", "(II)I"⟩
def dkwX2_turns_0 : List UInt8 := [42, 27, 182, 0, 188, 153, 0, 8, 28, 2, 162, 0, 7, 2, 167, 0, 9, 42, 27, 28, 182, 0, 227, 172]
abbrev dktX2_turns_0 : List UInt8 := dkwX2_turns_0 ++ []
theorem dksX2_turns_0 : cX2_turns.data.toList.drop 0 = dktX2_turns_0 := by decide +kernel
theorem dX2_turns_0 : decode cX2_turns 0 = .ok (.aload_n 0, 1) := dk_42 (dk_at dksX2_turns_0 0 rfl rfl)
theorem dX2_turns_1 : decode cX2_turns 1 = .ok (.iload_n 1, 1) := dk_27 (dk_at dksX2_turns_0 1 rfl rfl)
theorem dX2_turns_2 : decode cX2_turns 2 = .ok (.invokevirtual 188, 3) := dk_182 0 188 (dk_at dksX2_turns_0 2 rfl rfl)
theorem dX2_turns_5 : decode cX2_turns 5 = .ok (.ifCond .eq 8, 3) := dk_153 0 8 (dk_at dksX2_turns_0 5 rfl rfl)
theorem dX2_turns_8 : decode cX2_turns 8 = .ok (.iload_n 2, 1) := dk_28 (dk_at dksX2_turns_0 8 rfl rfl)
theorem dX2_turns_9 : decode cX2_turns 9 = .ok (.iconst (-1), 1) := dk_2 (dk_at dksX2_turns_0 9 rfl rfl)
theorem dX2_turns_10 : decode cX2_turns 10 = .ok (.if_icmp .ge 7, 3) := dk_162 0 7 (dk_at dksX2_turns_0 10 rfl rfl)
theorem dX2_turns_13 : decode cX2_turns 13 = .ok (.iconst (-1), 1) := dk_2 (dk_at dksX2_turns_0 13 rfl rfl)
theorem dX2_turns_14 : decode cX2_turns 14 = .ok (.goto 9, 3) := dk_167 0 9 (dk_at dksX2_turns_0 14 rfl rfl)
theorem dX2_turns_17 : decode cX2_turns 17 = .ok (.aload_n 0, 1) := dk_42 (dk_at dksX2_turns_0 17 rfl rfl)
theorem dX2_turns_18 : decode cX2_turns 18 = .ok (.iload_n 1, 1) := dk_27 (dk_at dksX2_turns_0 18 rfl rfl)
theorem dX2_turns_19 : decode cX2_turns 19 = .ok (.iload_n 2, 1) := dk_28 (dk_at dksX2_turns_0 19 rfl rfl)
theorem dX2_turns_20 : decode cX2_turns 20 = .ok (.invokevirtual 227, 3) := dk_182 0 227 (dk_at dksX2_turns_0 20 rfl rfl)
theorem dX2_turns_23 : decode cX2_turns 23 = .ok (.ireturn, 1) := dk_172 (dk_at dksX2_turns_0 23 rfl rfl)
abbrev cX2_turning : ByteArray := prog_6_method_52_code
def yX2_turning : MethodName := ⟨RX2, "turning", "(II)I"⟩
def dkwX2_turning_10 : List UInt8 := [16, 254, 172]
abbrev dktX2_turning_10 : List UInt8 := dkwX2_turning_10 ++ []
def dkwX2_turning_9 : List UInt8 := [167, 255, 153, 132, 5, 1, 167, 255, 90, 132, 4, 1, 167, 255, 49, 28, 156, 0, 7, 29, 167, 0, 5]
abbrev dktX2_turning_9 : List UInt8 := dkwX2_turning_9 ++ dktX2_turning_10
def dkwX2_turning_8 : List UInt8 := [17, 39, 16, 21, 4, 104, 16, 100, 21, 5, 104, 96, 21, 6, 96, 172, 132, 3, 1, 132, 6, 1]
abbrev dktX2_turning_8 : List UInt8 := dkwX2_turning_8 ++ dktX2_turning_9
def dkwX2_turning_7 : List UInt8 := [182, 0, 224, 42, 16, 6, 4, 5, 182, 0, 90, 148, 153, 0, 6, 167, 0, 27, 29, 28, 160, 0, 19]
abbrev dktX2_turning_7 : List UInt8 := dkwX2_turning_7 ++ dktX2_turning_8
def dkwX2_turning_6 : List UInt8 := [21, 6, 182, 0, 224, 42, 16, 6, 3, 5, 182, 0, 90, 148, 154, 0, 52, 42, 16, 6, 21, 5, 21, 6]
abbrev dktX2_turning_6 : List UInt8 := dkwX2_turning_6 ++ dktX2_turning_7
def dkwX2_turning_5 : List UInt8 := [21, 6, 21, 6, 182, 0, 224, 42, 16, 6, 5, 5, 182, 0, 90, 148, 154, 0, 74, 42, 16, 6, 21, 4]
abbrev dktX2_turning_5 : List UInt8 := dkwX2_turning_5 ++ dktX2_turning_6
def dkwX2_turning_4 : List UInt8 := [182, 0, 90, 148, 153, 0, 6, 167, 0, 112, 3, 54, 6, 21, 6, 16, 27, 162, 0, 102, 42, 16, 6]
abbrev dktX2_turning_4 : List UInt8 := dkwX2_turning_4 ++ dktX2_turning_5
def dkwX2_turning_3 : List UInt8 := [182, 0, 90, 148, 154, 0, 137, 42, 16, 6, 21, 4, 21, 5, 182, 0, 224, 42, 16, 6, 3, 4]
abbrev dktX2_turning_3 : List UInt8 := dkwX2_turning_3 ++ dktX2_turning_4
def dkwX2_turning_2 : List UInt8 := [54, 5, 21, 5, 16, 27, 162, 0, 165, 42, 16, 6, 21, 5, 21, 5, 182, 0, 224, 42, 16, 6, 4, 4]
abbrev dktX2_turning_2 : List UInt8 := dkwX2_turning_2 ++ dktX2_turning_3
def dkwX2_turning_1 : List UInt8 := [21, 4, 21, 4, 182, 0, 224, 42, 16, 6, 3, 3, 182, 0, 90, 148, 153, 0, 6, 167, 0, 175, 3]
abbrev dktX2_turning_1 : List UInt8 := dkwX2_turning_1 ++ dktX2_turning_2
def dkwX2_turning_0 : List UInt8 := [42, 27, 16, 6, 182, 0, 207, 87, 3, 62, 3, 54, 4, 21, 4, 16, 27, 162, 0, 206, 42, 16, 6]
abbrev dktX2_turning_0 : List UInt8 := dkwX2_turning_0 ++ dktX2_turning_1
theorem dksX2_turning_0 : cX2_turning.data.toList.drop 0 = dktX2_turning_0 := by decide +kernel
theorem dksX2_turning_1 : cX2_turning.data.toList.drop 23 = dktX2_turning_1 := dk_seg dksX2_turning_0 23 rfl rfl
theorem dksX2_turning_2 : cX2_turning.data.toList.drop 46 = dktX2_turning_2 := dk_seg dksX2_turning_1 23 rfl rfl
theorem dksX2_turning_3 : cX2_turning.data.toList.drop 70 = dktX2_turning_3 := dk_seg dksX2_turning_2 24 rfl rfl
theorem dksX2_turning_4 : cX2_turning.data.toList.drop 92 = dktX2_turning_4 := dk_seg dksX2_turning_3 22 rfl rfl
theorem dksX2_turning_5 : cX2_turning.data.toList.drop 115 = dktX2_turning_5 := dk_seg dksX2_turning_4 23 rfl rfl
theorem dksX2_turning_6 : cX2_turning.data.toList.drop 139 = dktX2_turning_6 := dk_seg dksX2_turning_5 24 rfl rfl
theorem dksX2_turning_7 : cX2_turning.data.toList.drop 163 = dktX2_turning_7 := dk_seg dksX2_turning_6 24 rfl rfl
theorem dksX2_turning_8 : cX2_turning.data.toList.drop 186 = dktX2_turning_8 := dk_seg dksX2_turning_7 23 rfl rfl
theorem dksX2_turning_9 : cX2_turning.data.toList.drop 208 = dktX2_turning_9 := dk_seg dksX2_turning_8 22 rfl rfl
theorem dksX2_turning_10 : cX2_turning.data.toList.drop 231 = dktX2_turning_10 := dk_seg dksX2_turning_9 23 rfl rfl
theorem dX2_turning_0 : decode cX2_turning 0 = .ok (.aload_n 0, 1) := dk_42 (dk_at dksX2_turning_0 0 rfl rfl)
theorem dX2_turning_1 : decode cX2_turning 1 = .ok (.iload_n 1, 1) := dk_27 (dk_at dksX2_turning_0 1 rfl rfl)
theorem dX2_turning_2 : decode cX2_turning 2 = .ok (.bipush 6, 2) := dk_16 6 (dk_at dksX2_turning_0 2 rfl rfl)
theorem dX2_turning_4 : decode cX2_turning 4 = .ok (.invokevirtual 207, 3) := dk_182 0 207 (dk_at dksX2_turning_0 4 rfl rfl)
theorem dX2_turning_7 : decode cX2_turning 7 = .ok (.pop, 1) := dk_87 (dk_at dksX2_turning_0 7 rfl rfl)
theorem dX2_turning_8 : decode cX2_turning 8 = .ok (.iconst 0, 1) := dk_3 (dk_at dksX2_turning_0 8 rfl rfl)
theorem dX2_turning_9 : decode cX2_turning 9 = .ok (.istore_n 3, 1) := dk_62 (dk_at dksX2_turning_0 9 rfl rfl)
theorem dX2_turning_10 : decode cX2_turning 10 = .ok (.iconst 0, 1) := dk_3 (dk_at dksX2_turning_0 10 rfl rfl)
theorem dX2_turning_11 : decode cX2_turning 11 = .ok (.istore 4, 2) := dk_54 4 (dk_at dksX2_turning_0 11 rfl rfl)
theorem dX2_turning_13 : decode cX2_turning 13 = .ok (.iload 4, 2) := dk_21 4 (dk_at dksX2_turning_0 13 rfl rfl)
theorem dX2_turning_15 : decode cX2_turning 15 = .ok (.bipush 27, 2) := dk_16 27 (dk_at dksX2_turning_0 15 rfl rfl)
theorem dX2_turning_17 : decode cX2_turning 17 = .ok (.if_icmp .ge 206, 3) := dk_162 0 206 (dk_at dksX2_turning_0 17 rfl rfl)
theorem dX2_turning_20 : decode cX2_turning 20 = .ok (.aload_n 0, 1) := dk_42 (dk_at dksX2_turning_0 20 rfl rfl)
theorem dX2_turning_21 : decode cX2_turning 21 = .ok (.bipush 6, 2) := dk_16 6 (dk_at dksX2_turning_0 21 rfl rfl)
theorem dX2_turning_23 : decode cX2_turning 23 = .ok (.iload 4, 2) := dk_21 4 (dk_at dksX2_turning_1 0 rfl rfl)
theorem dX2_turning_25 : decode cX2_turning 25 = .ok (.iload 4, 2) := dk_21 4 (dk_at dksX2_turning_1 2 rfl rfl)
theorem dX2_turning_27 : decode cX2_turning 27 = .ok (.invokevirtual 224, 3) := dk_182 0 224 (dk_at dksX2_turning_1 4 rfl rfl)
theorem dX2_turning_30 : decode cX2_turning 30 = .ok (.aload_n 0, 1) := dk_42 (dk_at dksX2_turning_1 7 rfl rfl)
theorem dX2_turning_31 : decode cX2_turning 31 = .ok (.bipush 6, 2) := dk_16 6 (dk_at dksX2_turning_1 8 rfl rfl)
theorem dX2_turning_33 : decode cX2_turning 33 = .ok (.iconst 0, 1) := dk_3 (dk_at dksX2_turning_1 10 rfl rfl)
theorem dX2_turning_34 : decode cX2_turning 34 = .ok (.iconst 0, 1) := dk_3 (dk_at dksX2_turning_1 11 rfl rfl)
theorem dX2_turning_35 : decode cX2_turning 35 = .ok (.invokevirtual 90, 3) := dk_182 0 90 (dk_at dksX2_turning_1 12 rfl rfl)
theorem dX2_turning_38 : decode cX2_turning 38 = .ok (.lcmp, 1) := dk_148 (dk_at dksX2_turning_1 15 rfl rfl)
theorem dX2_turning_39 : decode cX2_turning 39 = .ok (.ifCond .eq 6, 3) := dk_153 0 6 (dk_at dksX2_turning_1 16 rfl rfl)
theorem dX2_turning_42 : decode cX2_turning 42 = .ok (.goto 175, 3) := dk_167 0 175 (dk_at dksX2_turning_1 19 rfl rfl)
theorem dX2_turning_45 : decode cX2_turning 45 = .ok (.iconst 0, 1) := dk_3 (dk_at dksX2_turning_1 22 rfl rfl)
theorem dX2_turning_46 : decode cX2_turning 46 = .ok (.istore 5, 2) := dk_54 5 (dk_at dksX2_turning_2 0 rfl rfl)
theorem dX2_turning_48 : decode cX2_turning 48 = .ok (.iload 5, 2) := dk_21 5 (dk_at dksX2_turning_2 2 rfl rfl)
theorem dX2_turning_50 : decode cX2_turning 50 = .ok (.bipush 27, 2) := dk_16 27 (dk_at dksX2_turning_2 4 rfl rfl)
theorem dX2_turning_52 : decode cX2_turning 52 = .ok (.if_icmp .ge 165, 3) := dk_162 0 165 (dk_at dksX2_turning_2 6 rfl rfl)
theorem dX2_turning_55 : decode cX2_turning 55 = .ok (.aload_n 0, 1) := dk_42 (dk_at dksX2_turning_2 9 rfl rfl)
theorem dX2_turning_56 : decode cX2_turning 56 = .ok (.bipush 6, 2) := dk_16 6 (dk_at dksX2_turning_2 10 rfl rfl)
theorem dX2_turning_58 : decode cX2_turning 58 = .ok (.iload 5, 2) := dk_21 5 (dk_at dksX2_turning_2 12 rfl rfl)
theorem dX2_turning_60 : decode cX2_turning 60 = .ok (.iload 5, 2) := dk_21 5 (dk_at dksX2_turning_2 14 rfl rfl)
theorem dX2_turning_62 : decode cX2_turning 62 = .ok (.invokevirtual 224, 3) := dk_182 0 224 (dk_at dksX2_turning_2 16 rfl rfl)
theorem dX2_turning_65 : decode cX2_turning 65 = .ok (.aload_n 0, 1) := dk_42 (dk_at dksX2_turning_2 19 rfl rfl)
theorem dX2_turning_66 : decode cX2_turning 66 = .ok (.bipush 6, 2) := dk_16 6 (dk_at dksX2_turning_2 20 rfl rfl)
theorem dX2_turning_68 : decode cX2_turning 68 = .ok (.iconst 1, 1) := dk_4 (dk_at dksX2_turning_2 22 rfl rfl)
theorem dX2_turning_69 : decode cX2_turning 69 = .ok (.iconst 1, 1) := dk_4 (dk_at dksX2_turning_2 23 rfl rfl)
theorem dX2_turning_70 : decode cX2_turning 70 = .ok (.invokevirtual 90, 3) := dk_182 0 90 (dk_at dksX2_turning_3 0 rfl rfl)
theorem dX2_turning_73 : decode cX2_turning 73 = .ok (.lcmp, 1) := dk_148 (dk_at dksX2_turning_3 3 rfl rfl)
theorem dX2_turning_74 : decode cX2_turning 74 = .ok (.ifCond .ne 137, 3) := dk_154 0 137 (dk_at dksX2_turning_3 4 rfl rfl)
theorem dX2_turning_77 : decode cX2_turning 77 = .ok (.aload_n 0, 1) := dk_42 (dk_at dksX2_turning_3 7 rfl rfl)
theorem dX2_turning_78 : decode cX2_turning 78 = .ok (.bipush 6, 2) := dk_16 6 (dk_at dksX2_turning_3 8 rfl rfl)
theorem dX2_turning_80 : decode cX2_turning 80 = .ok (.iload 4, 2) := dk_21 4 (dk_at dksX2_turning_3 10 rfl rfl)
theorem dX2_turning_82 : decode cX2_turning 82 = .ok (.iload 5, 2) := dk_21 5 (dk_at dksX2_turning_3 12 rfl rfl)
theorem dX2_turning_84 : decode cX2_turning 84 = .ok (.invokevirtual 224, 3) := dk_182 0 224 (dk_at dksX2_turning_3 14 rfl rfl)
theorem dX2_turning_87 : decode cX2_turning 87 = .ok (.aload_n 0, 1) := dk_42 (dk_at dksX2_turning_3 17 rfl rfl)
theorem dX2_turning_88 : decode cX2_turning 88 = .ok (.bipush 6, 2) := dk_16 6 (dk_at dksX2_turning_3 18 rfl rfl)
theorem dX2_turning_90 : decode cX2_turning 90 = .ok (.iconst 0, 1) := dk_3 (dk_at dksX2_turning_3 20 rfl rfl)
theorem dX2_turning_91 : decode cX2_turning 91 = .ok (.iconst 1, 1) := dk_4 (dk_at dksX2_turning_3 21 rfl rfl)
theorem dX2_turning_92 : decode cX2_turning 92 = .ok (.invokevirtual 90, 3) := dk_182 0 90 (dk_at dksX2_turning_4 0 rfl rfl)
theorem dX2_turning_95 : decode cX2_turning 95 = .ok (.lcmp, 1) := dk_148 (dk_at dksX2_turning_4 3 rfl rfl)
theorem dX2_turning_96 : decode cX2_turning 96 = .ok (.ifCond .eq 6, 3) := dk_153 0 6 (dk_at dksX2_turning_4 4 rfl rfl)
theorem dX2_turning_99 : decode cX2_turning 99 = .ok (.goto 112, 3) := dk_167 0 112 (dk_at dksX2_turning_4 7 rfl rfl)
theorem dX2_turning_102 : decode cX2_turning 102 = .ok (.iconst 0, 1) := dk_3 (dk_at dksX2_turning_4 10 rfl rfl)
theorem dX2_turning_103 : decode cX2_turning 103 = .ok (.istore 6, 2) := dk_54 6 (dk_at dksX2_turning_4 11 rfl rfl)
theorem dX2_turning_105 : decode cX2_turning 105 = .ok (.iload 6, 2) := dk_21 6 (dk_at dksX2_turning_4 13 rfl rfl)
theorem dX2_turning_107 : decode cX2_turning 107 = .ok (.bipush 27, 2) := dk_16 27 (dk_at dksX2_turning_4 15 rfl rfl)
theorem dX2_turning_109 : decode cX2_turning 109 = .ok (.if_icmp .ge 102, 3) := dk_162 0 102 (dk_at dksX2_turning_4 17 rfl rfl)
theorem dX2_turning_112 : decode cX2_turning 112 = .ok (.aload_n 0, 1) := dk_42 (dk_at dksX2_turning_4 20 rfl rfl)
theorem dX2_turning_113 : decode cX2_turning 113 = .ok (.bipush 6, 2) := dk_16 6 (dk_at dksX2_turning_4 21 rfl rfl)
theorem dX2_turning_115 : decode cX2_turning 115 = .ok (.iload 6, 2) := dk_21 6 (dk_at dksX2_turning_5 0 rfl rfl)
theorem dX2_turning_117 : decode cX2_turning 117 = .ok (.iload 6, 2) := dk_21 6 (dk_at dksX2_turning_5 2 rfl rfl)
theorem dX2_turning_119 : decode cX2_turning 119 = .ok (.invokevirtual 224, 3) := dk_182 0 224 (dk_at dksX2_turning_5 4 rfl rfl)
theorem dX2_turning_122 : decode cX2_turning 122 = .ok (.aload_n 0, 1) := dk_42 (dk_at dksX2_turning_5 7 rfl rfl)
theorem dX2_turning_123 : decode cX2_turning 123 = .ok (.bipush 6, 2) := dk_16 6 (dk_at dksX2_turning_5 8 rfl rfl)
theorem dX2_turning_125 : decode cX2_turning 125 = .ok (.iconst 2, 1) := dk_5 (dk_at dksX2_turning_5 10 rfl rfl)
theorem dX2_turning_126 : decode cX2_turning 126 = .ok (.iconst 2, 1) := dk_5 (dk_at dksX2_turning_5 11 rfl rfl)
theorem dX2_turning_127 : decode cX2_turning 127 = .ok (.invokevirtual 90, 3) := dk_182 0 90 (dk_at dksX2_turning_5 12 rfl rfl)
theorem dX2_turning_130 : decode cX2_turning 130 = .ok (.lcmp, 1) := dk_148 (dk_at dksX2_turning_5 15 rfl rfl)
theorem dX2_turning_131 : decode cX2_turning 131 = .ok (.ifCond .ne 74, 3) := dk_154 0 74 (dk_at dksX2_turning_5 16 rfl rfl)
theorem dX2_turning_134 : decode cX2_turning 134 = .ok (.aload_n 0, 1) := dk_42 (dk_at dksX2_turning_5 19 rfl rfl)
theorem dX2_turning_135 : decode cX2_turning 135 = .ok (.bipush 6, 2) := dk_16 6 (dk_at dksX2_turning_5 20 rfl rfl)
theorem dX2_turning_137 : decode cX2_turning 137 = .ok (.iload 4, 2) := dk_21 4 (dk_at dksX2_turning_5 22 rfl rfl)
theorem dX2_turning_139 : decode cX2_turning 139 = .ok (.iload 6, 2) := dk_21 6 (dk_at dksX2_turning_6 0 rfl rfl)
theorem dX2_turning_141 : decode cX2_turning 141 = .ok (.invokevirtual 224, 3) := dk_182 0 224 (dk_at dksX2_turning_6 2 rfl rfl)
theorem dX2_turning_144 : decode cX2_turning 144 = .ok (.aload_n 0, 1) := dk_42 (dk_at dksX2_turning_6 5 rfl rfl)
theorem dX2_turning_145 : decode cX2_turning 145 = .ok (.bipush 6, 2) := dk_16 6 (dk_at dksX2_turning_6 6 rfl rfl)
theorem dX2_turning_147 : decode cX2_turning 147 = .ok (.iconst 0, 1) := dk_3 (dk_at dksX2_turning_6 8 rfl rfl)
theorem dX2_turning_148 : decode cX2_turning 148 = .ok (.iconst 2, 1) := dk_5 (dk_at dksX2_turning_6 9 rfl rfl)
theorem dX2_turning_149 : decode cX2_turning 149 = .ok (.invokevirtual 90, 3) := dk_182 0 90 (dk_at dksX2_turning_6 10 rfl rfl)
theorem dX2_turning_152 : decode cX2_turning 152 = .ok (.lcmp, 1) := dk_148 (dk_at dksX2_turning_6 13 rfl rfl)
theorem dX2_turning_153 : decode cX2_turning 153 = .ok (.ifCond .ne 52, 3) := dk_154 0 52 (dk_at dksX2_turning_6 14 rfl rfl)
theorem dX2_turning_156 : decode cX2_turning 156 = .ok (.aload_n 0, 1) := dk_42 (dk_at dksX2_turning_6 17 rfl rfl)
theorem dX2_turning_157 : decode cX2_turning 157 = .ok (.bipush 6, 2) := dk_16 6 (dk_at dksX2_turning_6 18 rfl rfl)
theorem dX2_turning_159 : decode cX2_turning 159 = .ok (.iload 5, 2) := dk_21 5 (dk_at dksX2_turning_6 20 rfl rfl)
theorem dX2_turning_161 : decode cX2_turning 161 = .ok (.iload 6, 2) := dk_21 6 (dk_at dksX2_turning_6 22 rfl rfl)
theorem dX2_turning_163 : decode cX2_turning 163 = .ok (.invokevirtual 224, 3) := dk_182 0 224 (dk_at dksX2_turning_7 0 rfl rfl)
theorem dX2_turning_166 : decode cX2_turning 166 = .ok (.aload_n 0, 1) := dk_42 (dk_at dksX2_turning_7 3 rfl rfl)
theorem dX2_turning_167 : decode cX2_turning 167 = .ok (.bipush 6, 2) := dk_16 6 (dk_at dksX2_turning_7 4 rfl rfl)
theorem dX2_turning_169 : decode cX2_turning 169 = .ok (.iconst 1, 1) := dk_4 (dk_at dksX2_turning_7 6 rfl rfl)
theorem dX2_turning_170 : decode cX2_turning 170 = .ok (.iconst 2, 1) := dk_5 (dk_at dksX2_turning_7 7 rfl rfl)
theorem dX2_turning_171 : decode cX2_turning 171 = .ok (.invokevirtual 90, 3) := dk_182 0 90 (dk_at dksX2_turning_7 8 rfl rfl)
theorem dX2_turning_174 : decode cX2_turning 174 = .ok (.lcmp, 1) := dk_148 (dk_at dksX2_turning_7 11 rfl rfl)
theorem dX2_turning_175 : decode cX2_turning 175 = .ok (.ifCond .eq 6, 3) := dk_153 0 6 (dk_at dksX2_turning_7 12 rfl rfl)
theorem dX2_turning_178 : decode cX2_turning 178 = .ok (.goto 27, 3) := dk_167 0 27 (dk_at dksX2_turning_7 15 rfl rfl)
theorem dX2_turning_181 : decode cX2_turning 181 = .ok (.iload_n 3, 1) := dk_29 (dk_at dksX2_turning_7 18 rfl rfl)
theorem dX2_turning_182 : decode cX2_turning 182 = .ok (.iload_n 2, 1) := dk_28 (dk_at dksX2_turning_7 19 rfl rfl)
theorem dX2_turning_183 : decode cX2_turning 183 = .ok (.if_icmp .ne 19, 3) := dk_160 0 19 (dk_at dksX2_turning_7 20 rfl rfl)
theorem dX2_turning_186 : decode cX2_turning 186 = .ok (.sipush 10000, 3) := dk_17 39 16 (dk_at dksX2_turning_8 0 rfl rfl)
theorem dX2_turning_189 : decode cX2_turning 189 = .ok (.iload 4, 2) := dk_21 4 (dk_at dksX2_turning_8 3 rfl rfl)
theorem dX2_turning_191 : decode cX2_turning 191 = .ok (.imul, 1) := dk_104 (dk_at dksX2_turning_8 5 rfl rfl)
theorem dX2_turning_192 : decode cX2_turning 192 = .ok (.bipush 100, 2) := dk_16 100 (dk_at dksX2_turning_8 6 rfl rfl)
theorem dX2_turning_194 : decode cX2_turning 194 = .ok (.iload 5, 2) := dk_21 5 (dk_at dksX2_turning_8 8 rfl rfl)
theorem dX2_turning_196 : decode cX2_turning 196 = .ok (.imul, 1) := dk_104 (dk_at dksX2_turning_8 10 rfl rfl)
theorem dX2_turning_197 : decode cX2_turning 197 = .ok (.iadd, 1) := dk_96 (dk_at dksX2_turning_8 11 rfl rfl)
theorem dX2_turning_198 : decode cX2_turning 198 = .ok (.iload 6, 2) := dk_21 6 (dk_at dksX2_turning_8 12 rfl rfl)
theorem dX2_turning_200 : decode cX2_turning 200 = .ok (.iadd, 1) := dk_96 (dk_at dksX2_turning_8 14 rfl rfl)
theorem dX2_turning_201 : decode cX2_turning 201 = .ok (.ireturn, 1) := dk_172 (dk_at dksX2_turning_8 15 rfl rfl)
theorem dX2_turning_202 : decode cX2_turning 202 = .ok (.iinc 3 1, 3) := dk_132 3 1 (dk_at dksX2_turning_8 16 rfl rfl)
theorem dX2_turning_205 : decode cX2_turning 205 = .ok (.iinc 6 1, 3) := dk_132 6 1 (dk_at dksX2_turning_8 19 rfl rfl)
theorem dX2_turning_208 : decode cX2_turning 208 = .ok (.goto (-103), 3) := dk_167 255 153 (dk_at dksX2_turning_9 0 rfl rfl)
theorem dX2_turning_211 : decode cX2_turning 211 = .ok (.iinc 5 1, 3) := dk_132 5 1 (dk_at dksX2_turning_9 3 rfl rfl)
theorem dX2_turning_214 : decode cX2_turning 214 = .ok (.goto (-166), 3) := dk_167 255 90 (dk_at dksX2_turning_9 6 rfl rfl)
theorem dX2_turning_217 : decode cX2_turning 217 = .ok (.iinc 4 1, 3) := dk_132 4 1 (dk_at dksX2_turning_9 9 rfl rfl)
theorem dX2_turning_220 : decode cX2_turning 220 = .ok (.goto (-207), 3) := dk_167 255 49 (dk_at dksX2_turning_9 12 rfl rfl)
theorem dX2_turning_223 : decode cX2_turning 223 = .ok (.iload_n 2, 1) := dk_28 (dk_at dksX2_turning_9 15 rfl rfl)
theorem dX2_turning_224 : decode cX2_turning 224 = .ok (.ifCond .ge 7, 3) := dk_156 0 7 (dk_at dksX2_turning_9 16 rfl rfl)
theorem dX2_turning_227 : decode cX2_turning 227 = .ok (.iload_n 3, 1) := dk_29 (dk_at dksX2_turning_9 19 rfl rfl)
theorem dX2_turning_228 : decode cX2_turning 228 = .ok (.goto 5, 3) := dk_167 0 5 (dk_at dksX2_turning_9 20 rfl rfl)
theorem dX2_turning_231 : decode cX2_turning 231 = .ok (.bipush (-2), 2) := dk_16 254 (dk_at dksX2_turning_10 0 rfl rfl)
theorem dX2_turning_233 : decode cX2_turning 233 = .ok (.ireturn, 1) := dk_172 (dk_at dksX2_turning_10 2 rfl rfl)
abbrev cX2_columns : ByteArray := prog_6_method_51_code
def yX2_columns : MethodName := ⟨RX2, "columns", "(III)J"⟩
def dkwX2_columns_2 : List UInt8 := [55, 4, 132, 7, 1, 167, 255, 218, 132, 6, 1, 167, 255, 203, 22, 4, 173]
abbrev dktX2_columns_2 : List UInt8 := dkwX2_columns_2 ++ []
def dkwX2_columns_1 : List UInt8 := [21, 6, 184, 0, 221, 29, 21, 7, 184, 0, 221, 104, 133, 42, 27, 21, 6, 21, 7, 182, 0, 90, 105, 97]
abbrev dktX2_columns_1 : List UInt8 := dkwX2_columns_1 ++ dktX2_columns_2
def dkwX2_columns_0 : List UInt8 := [9, 55, 4, 3, 54, 6, 21, 6, 6, 162, 0, 53, 3, 54, 7, 21, 7, 6, 162, 0, 38, 22, 4, 28]
abbrev dktX2_columns_0 : List UInt8 := dkwX2_columns_0 ++ dktX2_columns_1
theorem dksX2_columns_0 : cX2_columns.data.toList.drop 0 = dktX2_columns_0 := by decide +kernel
theorem dksX2_columns_1 : cX2_columns.data.toList.drop 24 = dktX2_columns_1 := dk_seg dksX2_columns_0 24 rfl rfl
theorem dksX2_columns_2 : cX2_columns.data.toList.drop 48 = dktX2_columns_2 := dk_seg dksX2_columns_1 24 rfl rfl
theorem dX2_columns_0 : decode cX2_columns 0 = .ok (.lconst 0, 1) := dk_9 (dk_at dksX2_columns_0 0 rfl rfl)
theorem dX2_columns_1 : decode cX2_columns 1 = .ok (.lstore 4, 2) := dk_55 4 (dk_at dksX2_columns_0 1 rfl rfl)
theorem dX2_columns_3 : decode cX2_columns 3 = .ok (.iconst 0, 1) := dk_3 (dk_at dksX2_columns_0 3 rfl rfl)
theorem dX2_columns_4 : decode cX2_columns 4 = .ok (.istore 6, 2) := dk_54 6 (dk_at dksX2_columns_0 4 rfl rfl)
theorem dX2_columns_6 : decode cX2_columns 6 = .ok (.iload 6, 2) := dk_21 6 (dk_at dksX2_columns_0 6 rfl rfl)
theorem dX2_columns_8 : decode cX2_columns 8 = .ok (.iconst 3, 1) := dk_6 (dk_at dksX2_columns_0 8 rfl rfl)
theorem dX2_columns_9 : decode cX2_columns 9 = .ok (.if_icmp .ge 53, 3) := dk_162 0 53 (dk_at dksX2_columns_0 9 rfl rfl)
theorem dX2_columns_12 : decode cX2_columns 12 = .ok (.iconst 0, 1) := dk_3 (dk_at dksX2_columns_0 12 rfl rfl)
theorem dX2_columns_13 : decode cX2_columns 13 = .ok (.istore 7, 2) := dk_54 7 (dk_at dksX2_columns_0 13 rfl rfl)
theorem dX2_columns_15 : decode cX2_columns 15 = .ok (.iload 7, 2) := dk_21 7 (dk_at dksX2_columns_0 15 rfl rfl)
theorem dX2_columns_17 : decode cX2_columns 17 = .ok (.iconst 3, 1) := dk_6 (dk_at dksX2_columns_0 17 rfl rfl)
theorem dX2_columns_18 : decode cX2_columns 18 = .ok (.if_icmp .ge 38, 3) := dk_162 0 38 (dk_at dksX2_columns_0 18 rfl rfl)
theorem dX2_columns_21 : decode cX2_columns 21 = .ok (.lload 4, 2) := dk_22 4 (dk_at dksX2_columns_0 21 rfl rfl)
theorem dX2_columns_23 : decode cX2_columns 23 = .ok (.iload_n 2, 1) := dk_28 (dk_at dksX2_columns_0 23 rfl rfl)
theorem dX2_columns_24 : decode cX2_columns 24 = .ok (.iload 6, 2) := dk_21 6 (dk_at dksX2_columns_1 0 rfl rfl)
theorem dX2_columns_26 : decode cX2_columns 26 = .ok (.invokestatic 221, 3) := dk_184 0 221 (dk_at dksX2_columns_1 2 rfl rfl)
theorem dX2_columns_29 : decode cX2_columns 29 = .ok (.iload_n 3, 1) := dk_29 (dk_at dksX2_columns_1 5 rfl rfl)
theorem dX2_columns_30 : decode cX2_columns 30 = .ok (.iload 7, 2) := dk_21 7 (dk_at dksX2_columns_1 6 rfl rfl)
theorem dX2_columns_32 : decode cX2_columns 32 = .ok (.invokestatic 221, 3) := dk_184 0 221 (dk_at dksX2_columns_1 8 rfl rfl)
theorem dX2_columns_35 : decode cX2_columns 35 = .ok (.imul, 1) := dk_104 (dk_at dksX2_columns_1 11 rfl rfl)
theorem dX2_columns_36 : decode cX2_columns 36 = .ok (.i2l, 1) := dk_133 (dk_at dksX2_columns_1 12 rfl rfl)
theorem dX2_columns_37 : decode cX2_columns 37 = .ok (.aload_n 0, 1) := dk_42 (dk_at dksX2_columns_1 13 rfl rfl)
theorem dX2_columns_38 : decode cX2_columns 38 = .ok (.iload_n 1, 1) := dk_27 (dk_at dksX2_columns_1 14 rfl rfl)
theorem dX2_columns_39 : decode cX2_columns 39 = .ok (.iload 6, 2) := dk_21 6 (dk_at dksX2_columns_1 15 rfl rfl)
theorem dX2_columns_41 : decode cX2_columns 41 = .ok (.iload 7, 2) := dk_21 7 (dk_at dksX2_columns_1 17 rfl rfl)
theorem dX2_columns_43 : decode cX2_columns 43 = .ok (.invokevirtual 90, 3) := dk_182 0 90 (dk_at dksX2_columns_1 19 rfl rfl)
theorem dX2_columns_46 : decode cX2_columns 46 = .ok (.lmul, 1) := dk_105 (dk_at dksX2_columns_1 22 rfl rfl)
theorem dX2_columns_47 : decode cX2_columns 47 = .ok (.ladd, 1) := dk_97 (dk_at dksX2_columns_1 23 rfl rfl)
theorem dX2_columns_48 : decode cX2_columns 48 = .ok (.lstore 4, 2) := dk_55 4 (dk_at dksX2_columns_2 0 rfl rfl)
theorem dX2_columns_50 : decode cX2_columns 50 = .ok (.iinc 7 1, 3) := dk_132 7 1 (dk_at dksX2_columns_2 2 rfl rfl)
theorem dX2_columns_53 : decode cX2_columns 53 = .ok (.goto (-38), 3) := dk_167 255 218 (dk_at dksX2_columns_2 5 rfl rfl)
theorem dX2_columns_56 : decode cX2_columns 56 = .ok (.iinc 6 1, 3) := dk_132 6 1 (dk_at dksX2_columns_2 8 rfl rfl)
theorem dX2_columns_59 : decode cX2_columns 59 = .ok (.goto (-53), 3) := dk_167 255 203 (dk_at dksX2_columns_2 11 rfl rfl)
theorem dX2_columns_62 : decode cX2_columns 62 = .ok (.lload 4, 2) := dk_22 4 (dk_at dksX2_columns_2 14 rfl rfl)
theorem dX2_columns_64 : decode cX2_columns 64 = .ok (.lreturn, 1) := dk_173 (dk_at dksX2_columns_2 16 rfl rfl)
abbrev cX2_figure : ByteArray := prog_6_method_50_code
def yX2_figure : MethodName := ⟨RX2, "figure", "(II)I"⟩
def dkwX2_figure_1 : List UInt8 := [26, 6, 112, 4, 100, 172]
abbrev dktX2_figure_1 : List UInt8 := dkwX2_figure_1 ++ []
def dkwX2_figure_0 : List UInt8 := [27, 154, 0, 10, 26, 16, 9, 108, 167, 0, 19, 27, 4, 160, 0, 11, 26, 6, 108, 6, 112, 167, 0, 6]
abbrev dktX2_figure_0 : List UInt8 := dkwX2_figure_0 ++ dktX2_figure_1
theorem dksX2_figure_0 : cX2_figure.data.toList.drop 0 = dktX2_figure_0 := by decide +kernel
theorem dksX2_figure_1 : cX2_figure.data.toList.drop 24 = dktX2_figure_1 := dk_seg dksX2_figure_0 24 rfl rfl
theorem dX2_figure_0 : decode cX2_figure 0 = .ok (.iload_n 1, 1) := dk_27 (dk_at dksX2_figure_0 0 rfl rfl)
theorem dX2_figure_1 : decode cX2_figure 1 = .ok (.ifCond .ne 10, 3) := dk_154 0 10 (dk_at dksX2_figure_0 1 rfl rfl)
theorem dX2_figure_4 : decode cX2_figure 4 = .ok (.iload_n 0, 1) := dk_26 (dk_at dksX2_figure_0 4 rfl rfl)
theorem dX2_figure_5 : decode cX2_figure 5 = .ok (.bipush 9, 2) := dk_16 9 (dk_at dksX2_figure_0 5 rfl rfl)
theorem dX2_figure_7 : decode cX2_figure 7 = .ok (.idiv, 1) := dk_108 (dk_at dksX2_figure_0 7 rfl rfl)
theorem dX2_figure_8 : decode cX2_figure 8 = .ok (.goto 19, 3) := dk_167 0 19 (dk_at dksX2_figure_0 8 rfl rfl)
theorem dX2_figure_11 : decode cX2_figure 11 = .ok (.iload_n 1, 1) := dk_27 (dk_at dksX2_figure_0 11 rfl rfl)
theorem dX2_figure_12 : decode cX2_figure 12 = .ok (.iconst 1, 1) := dk_4 (dk_at dksX2_figure_0 12 rfl rfl)
theorem dX2_figure_13 : decode cX2_figure 13 = .ok (.if_icmp .ne 11, 3) := dk_160 0 11 (dk_at dksX2_figure_0 13 rfl rfl)
theorem dX2_figure_16 : decode cX2_figure 16 = .ok (.iload_n 0, 1) := dk_26 (dk_at dksX2_figure_0 16 rfl rfl)
theorem dX2_figure_17 : decode cX2_figure 17 = .ok (.iconst 3, 1) := dk_6 (dk_at dksX2_figure_0 17 rfl rfl)
theorem dX2_figure_18 : decode cX2_figure 18 = .ok (.idiv, 1) := dk_108 (dk_at dksX2_figure_0 18 rfl rfl)
theorem dX2_figure_19 : decode cX2_figure 19 = .ok (.iconst 3, 1) := dk_6 (dk_at dksX2_figure_0 19 rfl rfl)
theorem dX2_figure_20 : decode cX2_figure 20 = .ok (.irem, 1) := dk_112 (dk_at dksX2_figure_0 20 rfl rfl)
theorem dX2_figure_21 : decode cX2_figure 21 = .ok (.goto 6, 3) := dk_167 0 6 (dk_at dksX2_figure_0 21 rfl rfl)
theorem dX2_figure_24 : decode cX2_figure 24 = .ok (.iload_n 0, 1) := dk_26 (dk_at dksX2_figure_1 0 rfl rfl)
theorem dX2_figure_25 : decode cX2_figure 25 = .ok (.iconst 3, 1) := dk_6 (dk_at dksX2_figure_1 1 rfl rfl)
theorem dX2_figure_26 : decode cX2_figure 26 = .ok (.irem, 1) := dk_112 (dk_at dksX2_figure_1 2 rfl rfl)
theorem dX2_figure_27 : decode cX2_figure 27 = .ok (.iconst 1, 1) := dk_4 (dk_at dksX2_figure_1 3 rfl rfl)
theorem dX2_figure_28 : decode cX2_figure 28 = .ok (.isub, 1) := dk_100 (dk_at dksX2_figure_1 4 rfl rfl)
theorem dX2_figure_29 : decode cX2_figure 29 = .ok (.ireturn, 1) := dk_172 (dk_at dksX2_figure_1 5 rfl rfl)
abbrev cX2_system : ByteArray := prog_6_method_54_code
def yX2_system : MethodName := ⟨RX2, "system", "(I)I"⟩
def dkwX2_system_2 : List UInt8 := [3, 172, 4, 172, 5, 172, 6, 172, 7, 172, 8, 172, 16, 6, 172, 16, 254, 172]
abbrev dktX2_system_2 : List UInt8 := dkwX2_system_2 ++ []
def dkwX2_system_1 : List UInt8 := [171, 0, 0, 0, 0, 0, 0, 83, 0, 0, 0, 7, 0, 0, 0, 2, 0, 0, 0, 80, 0, 0, 0, 4, 0, 0, 0, 78, 0, 0, 0, 8, 0, 0, 0, 76, 0, 0, 0, 12, 0, 0, 0, 74, 0, 0, 0, 16, 0, 0, 0, 72, 0, 0, 0, 24, 0, 0, 0, 70, 0, 0, 0, 48, 0, 0, 0, 68]
abbrev dktX2_system_1 : List UInt8 := dkwX2_system_1 ++ dktX2_system_2
def dkwX2_system_0 : List UInt8 := [42, 27, 182, 0, 188, 154, 0, 5, 2, 172, 42, 27, 2, 182, 0, 227]
abbrev dktX2_system_0 : List UInt8 := dkwX2_system_0 ++ dktX2_system_1
theorem dksX2_system_0 : cX2_system.data.toList.drop 0 = dktX2_system_0 := by decide +kernel
theorem dksX2_system_1 : cX2_system.data.toList.drop 16 = dktX2_system_1 := dk_seg dksX2_system_0 16 rfl rfl
theorem dksX2_system_2 : cX2_system.data.toList.drop 84 = dktX2_system_2 := dk_seg dksX2_system_1 68 rfl rfl
theorem dX2_system_0 : decode cX2_system 0 = .ok (.aload_n 0, 1) := dk_42 (dk_at dksX2_system_0 0 rfl rfl)
theorem dX2_system_1 : decode cX2_system 1 = .ok (.iload_n 1, 1) := dk_27 (dk_at dksX2_system_0 1 rfl rfl)
theorem dX2_system_2 : decode cX2_system 2 = .ok (.invokevirtual 188, 3) := dk_182 0 188 (dk_at dksX2_system_0 2 rfl rfl)
theorem dX2_system_5 : decode cX2_system 5 = .ok (.ifCond .ne 5, 3) := dk_154 0 5 (dk_at dksX2_system_0 5 rfl rfl)
theorem dX2_system_8 : decode cX2_system 8 = .ok (.iconst (-1), 1) := dk_2 (dk_at dksX2_system_0 8 rfl rfl)
theorem dX2_system_9 : decode cX2_system 9 = .ok (.ireturn, 1) := dk_172 (dk_at dksX2_system_0 9 rfl rfl)
theorem dX2_system_10 : decode cX2_system 10 = .ok (.aload_n 0, 1) := dk_42 (dk_at dksX2_system_0 10 rfl rfl)
theorem dX2_system_11 : decode cX2_system 11 = .ok (.iload_n 1, 1) := dk_27 (dk_at dksX2_system_0 11 rfl rfl)
theorem dX2_system_12 : decode cX2_system 12 = .ok (.iconst (-1), 1) := dk_2 (dk_at dksX2_system_0 12 rfl rfl)
theorem dX2_system_13 : decode cX2_system 13 = .ok (.invokevirtual 227, 3) := dk_182 0 227 (dk_at dksX2_system_0 13 rfl rfl)
theorem dX2_system_16 : decode cX2_system 16 = .ok (.lookupswitch 83 #[(2, 80), (4, 78), (8, 76), (12, 74), (16, 72), (24, 70), (48, 68)], 68) := by decide +kernel
theorem dX2_system_84 : decode cX2_system 84 = .ok (.iconst 0, 1) := dk_3 (dk_at dksX2_system_2 0 rfl rfl)
theorem dX2_system_85 : decode cX2_system 85 = .ok (.ireturn, 1) := dk_172 (dk_at dksX2_system_2 1 rfl rfl)
theorem dX2_system_86 : decode cX2_system 86 = .ok (.iconst 1, 1) := dk_4 (dk_at dksX2_system_2 2 rfl rfl)
theorem dX2_system_87 : decode cX2_system 87 = .ok (.ireturn, 1) := dk_172 (dk_at dksX2_system_2 3 rfl rfl)
theorem dX2_system_88 : decode cX2_system 88 = .ok (.iconst 2, 1) := dk_5 (dk_at dksX2_system_2 4 rfl rfl)
theorem dX2_system_89 : decode cX2_system 89 = .ok (.ireturn, 1) := dk_172 (dk_at dksX2_system_2 5 rfl rfl)
theorem dX2_system_90 : decode cX2_system 90 = .ok (.iconst 3, 1) := dk_6 (dk_at dksX2_system_2 6 rfl rfl)
theorem dX2_system_91 : decode cX2_system 91 = .ok (.ireturn, 1) := dk_172 (dk_at dksX2_system_2 7 rfl rfl)
theorem dX2_system_92 : decode cX2_system 92 = .ok (.iconst 4, 1) := dk_7 (dk_at dksX2_system_2 8 rfl rfl)
theorem dX2_system_93 : decode cX2_system 93 = .ok (.ireturn, 1) := dk_172 (dk_at dksX2_system_2 9 rfl rfl)
theorem dX2_system_94 : decode cX2_system 94 = .ok (.iconst 5, 1) := dk_8 (dk_at dksX2_system_2 10 rfl rfl)
theorem dX2_system_95 : decode cX2_system 95 = .ok (.ireturn, 1) := dk_172 (dk_at dksX2_system_2 11 rfl rfl)
theorem dX2_system_96 : decode cX2_system 96 = .ok (.bipush 6, 2) := dk_16 6 (dk_at dksX2_system_2 12 rfl rfl)
theorem dX2_system_98 : decode cX2_system 98 = .ok (.ireturn, 1) := dk_172 (dk_at dksX2_system_2 14 rfl rfl)
theorem dX2_system_99 : decode cX2_system 99 = .ok (.bipush (-2), 2) := dk_16 254 (dk_at dksX2_system_2 15 rfl rfl)
theorem dX2_system_101 : decode cX2_system 101 = .ok (.ireturn, 1) := dk_172 (dk_at dksX2_system_2 17 rfl rfl)
abbrev cX2_shell : ByteArray := prog_6_method_57_code
def yX2_shell : MethodName := ⟨RX2, "shell", "(III)I"⟩
def dkwX2_shell_4 : List UInt8 := [42, 180, 0, 230, 172]
abbrev dktX2_shell_4 : List UInt8 := dkwX2_shell_4 ++ []
def dkwX2_shell_3 : List UInt8 := [22, 4, 20, 0, 203, 148, 154, 0, 8, 16, 254, 167, 0, 17, 29, 154, 0, 9, 22, 4, 136, 167, 0, 7]
abbrev dktX2_shell_3 : List UInt8 := dkwX2_shell_3 ++ dktX2_shell_4
def dkwX2_shell_2 : List UInt8 := [20, 0, 203, 148, 153, 0, 19, 42, 16, 6, 22, 4, 182, 0, 237, 55, 4, 132, 6, 1, 167, 255, 228]
abbrev dktX2_shell_2 : List UInt8 := dkwX2_shell_2 ++ dktX2_shell_3
def dkwX2_shell_1 : List UInt8 := [42, 27, 16, 6, 182, 0, 207, 87, 9, 55, 4, 3, 54, 6, 21, 6, 28, 163, 0, 28, 22, 4]
abbrev dktX2_shell_1 : List UInt8 := dkwX2_shell_1 ++ dktX2_shell_2
def dkwX2_shell_0 : List UInt8 := [42, 27, 182, 0, 188, 153, 0, 17, 28, 155, 0, 13, 29, 133, 9, 10, 184, 0, 68, 154, 0, 5, 2, 172]
abbrev dktX2_shell_0 : List UInt8 := dkwX2_shell_0 ++ dktX2_shell_1
theorem dksX2_shell_0 : cX2_shell.data.toList.drop 0 = dktX2_shell_0 := by decide +kernel
theorem dksX2_shell_1 : cX2_shell.data.toList.drop 24 = dktX2_shell_1 := dk_seg dksX2_shell_0 24 rfl rfl
theorem dksX2_shell_2 : cX2_shell.data.toList.drop 46 = dktX2_shell_2 := dk_seg dksX2_shell_1 22 rfl rfl
theorem dksX2_shell_3 : cX2_shell.data.toList.drop 69 = dktX2_shell_3 := dk_seg dksX2_shell_2 23 rfl rfl
theorem dksX2_shell_4 : cX2_shell.data.toList.drop 93 = dktX2_shell_4 := dk_seg dksX2_shell_3 24 rfl rfl
theorem dX2_shell_0 : decode cX2_shell 0 = .ok (.aload_n 0, 1) := dk_42 (dk_at dksX2_shell_0 0 rfl rfl)
theorem dX2_shell_1 : decode cX2_shell 1 = .ok (.iload_n 1, 1) := dk_27 (dk_at dksX2_shell_0 1 rfl rfl)
theorem dX2_shell_2 : decode cX2_shell 2 = .ok (.invokevirtual 188, 3) := dk_182 0 188 (dk_at dksX2_shell_0 2 rfl rfl)
theorem dX2_shell_5 : decode cX2_shell 5 = .ok (.ifCond .eq 17, 3) := dk_153 0 17 (dk_at dksX2_shell_0 5 rfl rfl)
theorem dX2_shell_8 : decode cX2_shell 8 = .ok (.iload_n 2, 1) := dk_28 (dk_at dksX2_shell_0 8 rfl rfl)
theorem dX2_shell_9 : decode cX2_shell 9 = .ok (.ifCond .lt 13, 3) := dk_155 0 13 (dk_at dksX2_shell_0 9 rfl rfl)
theorem dX2_shell_12 : decode cX2_shell 12 = .ok (.iload_n 3, 1) := dk_29 (dk_at dksX2_shell_0 12 rfl rfl)
theorem dX2_shell_13 : decode cX2_shell 13 = .ok (.i2l, 1) := dk_133 (dk_at dksX2_shell_0 13 rfl rfl)
theorem dX2_shell_14 : decode cX2_shell 14 = .ok (.lconst 0, 1) := dk_9 (dk_at dksX2_shell_0 14 rfl rfl)
theorem dX2_shell_15 : decode cX2_shell 15 = .ok (.lconst 1, 1) := dk_10 (dk_at dksX2_shell_0 15 rfl rfl)
theorem dX2_shell_16 : decode cX2_shell 16 = .ok (.invokestatic 68, 3) := dk_184 0 68 (dk_at dksX2_shell_0 16 rfl rfl)
theorem dX2_shell_19 : decode cX2_shell 19 = .ok (.ifCond .ne 5, 3) := dk_154 0 5 (dk_at dksX2_shell_0 19 rfl rfl)
theorem dX2_shell_22 : decode cX2_shell 22 = .ok (.iconst (-1), 1) := dk_2 (dk_at dksX2_shell_0 22 rfl rfl)
theorem dX2_shell_23 : decode cX2_shell 23 = .ok (.ireturn, 1) := dk_172 (dk_at dksX2_shell_0 23 rfl rfl)
theorem dX2_shell_24 : decode cX2_shell 24 = .ok (.aload_n 0, 1) := dk_42 (dk_at dksX2_shell_1 0 rfl rfl)
theorem dX2_shell_25 : decode cX2_shell 25 = .ok (.iload_n 1, 1) := dk_27 (dk_at dksX2_shell_1 1 rfl rfl)
theorem dX2_shell_26 : decode cX2_shell 26 = .ok (.bipush 6, 2) := dk_16 6 (dk_at dksX2_shell_1 2 rfl rfl)
theorem dX2_shell_28 : decode cX2_shell 28 = .ok (.invokevirtual 207, 3) := dk_182 0 207 (dk_at dksX2_shell_1 4 rfl rfl)
theorem dX2_shell_31 : decode cX2_shell 31 = .ok (.pop, 1) := dk_87 (dk_at dksX2_shell_1 7 rfl rfl)
theorem dX2_shell_32 : decode cX2_shell 32 = .ok (.lconst 0, 1) := dk_9 (dk_at dksX2_shell_1 8 rfl rfl)
theorem dX2_shell_33 : decode cX2_shell 33 = .ok (.lstore 4, 2) := dk_55 4 (dk_at dksX2_shell_1 9 rfl rfl)
theorem dX2_shell_35 : decode cX2_shell 35 = .ok (.iconst 0, 1) := dk_3 (dk_at dksX2_shell_1 11 rfl rfl)
theorem dX2_shell_36 : decode cX2_shell 36 = .ok (.istore 6, 2) := dk_54 6 (dk_at dksX2_shell_1 12 rfl rfl)
theorem dX2_shell_38 : decode cX2_shell 38 = .ok (.iload 6, 2) := dk_21 6 (dk_at dksX2_shell_1 14 rfl rfl)
theorem dX2_shell_40 : decode cX2_shell 40 = .ok (.iload_n 2, 1) := dk_28 (dk_at dksX2_shell_1 16 rfl rfl)
theorem dX2_shell_41 : decode cX2_shell 41 = .ok (.if_icmp .gt 28, 3) := dk_163 0 28 (dk_at dksX2_shell_1 17 rfl rfl)
theorem dX2_shell_44 : decode cX2_shell 44 = .ok (.lload 4, 2) := dk_22 4 (dk_at dksX2_shell_1 20 rfl rfl)
theorem dX2_shell_46 : decode cX2_shell 46 = .ok (.ldc2_w 203, 3) := dk_20 0 203 (dk_at dksX2_shell_2 0 rfl rfl)
theorem dX2_shell_49 : decode cX2_shell 49 = .ok (.lcmp, 1) := dk_148 (dk_at dksX2_shell_2 3 rfl rfl)
theorem dX2_shell_50 : decode cX2_shell 50 = .ok (.ifCond .eq 19, 3) := dk_153 0 19 (dk_at dksX2_shell_2 4 rfl rfl)
theorem dX2_shell_53 : decode cX2_shell 53 = .ok (.aload_n 0, 1) := dk_42 (dk_at dksX2_shell_2 7 rfl rfl)
theorem dX2_shell_54 : decode cX2_shell 54 = .ok (.bipush 6, 2) := dk_16 6 (dk_at dksX2_shell_2 8 rfl rfl)
theorem dX2_shell_56 : decode cX2_shell 56 = .ok (.lload 4, 2) := dk_22 4 (dk_at dksX2_shell_2 10 rfl rfl)
theorem dX2_shell_58 : decode cX2_shell 58 = .ok (.invokevirtual 237, 3) := dk_182 0 237 (dk_at dksX2_shell_2 12 rfl rfl)
theorem dX2_shell_61 : decode cX2_shell 61 = .ok (.lstore 4, 2) := dk_55 4 (dk_at dksX2_shell_2 15 rfl rfl)
theorem dX2_shell_63 : decode cX2_shell 63 = .ok (.iinc 6 1, 3) := dk_132 6 1 (dk_at dksX2_shell_2 17 rfl rfl)
theorem dX2_shell_66 : decode cX2_shell 66 = .ok (.goto (-28), 3) := dk_167 255 228 (dk_at dksX2_shell_2 20 rfl rfl)
theorem dX2_shell_69 : decode cX2_shell 69 = .ok (.lload 4, 2) := dk_22 4 (dk_at dksX2_shell_3 0 rfl rfl)
theorem dX2_shell_71 : decode cX2_shell 71 = .ok (.ldc2_w 203, 3) := dk_20 0 203 (dk_at dksX2_shell_3 2 rfl rfl)
theorem dX2_shell_74 : decode cX2_shell 74 = .ok (.lcmp, 1) := dk_148 (dk_at dksX2_shell_3 5 rfl rfl)
theorem dX2_shell_75 : decode cX2_shell 75 = .ok (.ifCond .ne 8, 3) := dk_154 0 8 (dk_at dksX2_shell_3 6 rfl rfl)
theorem dX2_shell_78 : decode cX2_shell 78 = .ok (.bipush (-2), 2) := dk_16 254 (dk_at dksX2_shell_3 9 rfl rfl)
theorem dX2_shell_80 : decode cX2_shell 80 = .ok (.goto 17, 3) := dk_167 0 17 (dk_at dksX2_shell_3 11 rfl rfl)
theorem dX2_shell_83 : decode cX2_shell 83 = .ok (.iload_n 3, 1) := dk_29 (dk_at dksX2_shell_3 14 rfl rfl)
theorem dX2_shell_84 : decode cX2_shell 84 = .ok (.ifCond .ne 9, 3) := dk_154 0 9 (dk_at dksX2_shell_3 15 rfl rfl)
theorem dX2_shell_87 : decode cX2_shell 87 = .ok (.lload 4, 2) := dk_22 4 (dk_at dksX2_shell_3 18 rfl rfl)
theorem dX2_shell_89 : decode cX2_shell 89 = .ok (.l2i, 1) := dk_136 (dk_at dksX2_shell_3 20 rfl rfl)
theorem dX2_shell_90 : decode cX2_shell 90 = .ok (.goto 7, 3) := dk_167 0 7 (dk_at dksX2_shell_3 21 rfl rfl)
theorem dX2_shell_93 : decode cX2_shell 93 = .ok (.aload_n 0, 1) := dk_42 (dk_at dksX2_shell_4 0 rfl rfl)
theorem dX2_shell_94 : decode cX2_shell 94 = .ok (.getfield 230, 3) := dk_180 0 230 (dk_at dksX2_shell_4 1 rfl rfl)
theorem dX2_shell_97 : decode cX2_shell 97 = .ok (.ireturn, 1) := dk_172 (dk_at dksX2_shell_4 4 rfl rfl)
abbrev cX2_next : ByteArray := prog_6_method_56_code
def yX2_next : MethodName := ⟨RX2, "next", "(IJ)J"⟩
def dkwX2_next_7 : List UInt8 := [22, 4, 173]
abbrev dktX2_next_7 : List UInt8 := dkwX2_next_7 ++ []
def dkwX2_next_6 : List UInt8 := [22, 7, 22, 4, 148, 156, 0, 8, 22, 7, 167, 0, 5, 22, 4, 55, 4, 132, 6, 1, 167, 255, 106]
abbrev dktX2_next_6 : List UInt8 := dkwX2_next_6 ++ dktX2_next_7
def dkwX2_next_5 : List UInt8 := [180, 0, 230, 4, 96, 167, 0, 7, 42, 180, 0, 230, 181, 0, 230, 22, 4, 20, 0, 203, 148, 153, 0, 11]
abbrev dktX2_next_5 : List UInt8 := dkwX2_next_5 ++ dktX2_next_6
def dkwX2_next_4 : List UInt8 := [153, 0, 11, 22, 7, 22, 4, 148, 156, 0, 7, 4, 167, 0, 24, 22, 7, 22, 4, 148, 154, 0, 12, 42]
abbrev dktX2_next_4 : List UInt8 := dkwX2_next_4 ++ dktX2_next_5
def dkwX2_next_3 : List UInt8 := [20, 0, 203, 148, 153, 0, 85, 22, 7, 32, 148, 157, 0, 6, 167, 0, 75, 42, 22, 4, 20, 0, 203, 148]
abbrev dktX2_next_3 : List UInt8 := dkwX2_next_3 ++ dktX2_next_4
def dkwX2_next_2 : List UInt8 := [16, 9, 108, 16, 9, 112, 7, 100, 133, 21, 6, 16, 9, 112, 7, 100, 133, 182, 0, 233, 55, 7, 22, 7]
abbrev dktX2_next_2 : List UInt8 := dkwX2_next_2 ++ dktX2_next_3
def dkwX2_next_1 : List UInt8 := [17, 1, 108, 160, 0, 9, 20, 0, 203, 167, 0, 35, 42, 27, 21, 6, 16, 81, 108, 7, 100, 133, 21, 6]
abbrev dktX2_next_1 : List UInt8 := dkwX2_next_1 ++ dktX2_next_2
def dkwX2_next_0 : List UInt8 := [20, 0, 203, 55, 4, 42, 3, 181, 0, 230, 3, 54, 6, 21, 6, 17, 2, 217, 162, 0, 148, 21, 6]
abbrev dktX2_next_0 : List UInt8 := dkwX2_next_0 ++ dktX2_next_1
theorem dksX2_next_0 : cX2_next.data.toList.drop 0 = dktX2_next_0 := by decide +kernel
theorem dksX2_next_1 : cX2_next.data.toList.drop 23 = dktX2_next_1 := dk_seg dksX2_next_0 23 rfl rfl
theorem dksX2_next_2 : cX2_next.data.toList.drop 47 = dktX2_next_2 := dk_seg dksX2_next_1 24 rfl rfl
theorem dksX2_next_3 : cX2_next.data.toList.drop 71 = dktX2_next_3 := dk_seg dksX2_next_2 24 rfl rfl
theorem dksX2_next_4 : cX2_next.data.toList.drop 95 = dktX2_next_4 := dk_seg dksX2_next_3 24 rfl rfl
theorem dksX2_next_5 : cX2_next.data.toList.drop 119 = dktX2_next_5 := dk_seg dksX2_next_4 24 rfl rfl
theorem dksX2_next_6 : cX2_next.data.toList.drop 143 = dktX2_next_6 := dk_seg dksX2_next_5 24 rfl rfl
theorem dksX2_next_7 : cX2_next.data.toList.drop 166 = dktX2_next_7 := dk_seg dksX2_next_6 23 rfl rfl
theorem dX2_next_0 : decode cX2_next 0 = .ok (.ldc2_w 203, 3) := dk_20 0 203 (dk_at dksX2_next_0 0 rfl rfl)
theorem dX2_next_3 : decode cX2_next 3 = .ok (.lstore 4, 2) := dk_55 4 (dk_at dksX2_next_0 3 rfl rfl)
theorem dX2_next_5 : decode cX2_next 5 = .ok (.aload_n 0, 1) := dk_42 (dk_at dksX2_next_0 5 rfl rfl)
theorem dX2_next_6 : decode cX2_next 6 = .ok (.iconst 0, 1) := dk_3 (dk_at dksX2_next_0 6 rfl rfl)
theorem dX2_next_7 : decode cX2_next 7 = .ok (.putfield 230, 3) := dk_181 0 230 (dk_at dksX2_next_0 7 rfl rfl)
theorem dX2_next_10 : decode cX2_next 10 = .ok (.iconst 0, 1) := dk_3 (dk_at dksX2_next_0 10 rfl rfl)
theorem dX2_next_11 : decode cX2_next 11 = .ok (.istore 6, 2) := dk_54 6 (dk_at dksX2_next_0 11 rfl rfl)
theorem dX2_next_13 : decode cX2_next 13 = .ok (.iload 6, 2) := dk_21 6 (dk_at dksX2_next_0 13 rfl rfl)
theorem dX2_next_15 : decode cX2_next 15 = .ok (.sipush 729, 3) := dk_17 2 217 (dk_at dksX2_next_0 15 rfl rfl)
theorem dX2_next_18 : decode cX2_next 18 = .ok (.if_icmp .ge 148, 3) := dk_162 0 148 (dk_at dksX2_next_0 18 rfl rfl)
theorem dX2_next_21 : decode cX2_next 21 = .ok (.iload 6, 2) := dk_21 6 (dk_at dksX2_next_0 21 rfl rfl)
theorem dX2_next_23 : decode cX2_next 23 = .ok (.sipush 364, 3) := dk_17 1 108 (dk_at dksX2_next_1 0 rfl rfl)
theorem dX2_next_26 : decode cX2_next 26 = .ok (.if_icmp .ne 9, 3) := dk_160 0 9 (dk_at dksX2_next_1 3 rfl rfl)
theorem dX2_next_29 : decode cX2_next 29 = .ok (.ldc2_w 203, 3) := dk_20 0 203 (dk_at dksX2_next_1 6 rfl rfl)
theorem dX2_next_32 : decode cX2_next 32 = .ok (.goto 35, 3) := dk_167 0 35 (dk_at dksX2_next_1 9 rfl rfl)
theorem dX2_next_35 : decode cX2_next 35 = .ok (.aload_n 0, 1) := dk_42 (dk_at dksX2_next_1 12 rfl rfl)
theorem dX2_next_36 : decode cX2_next 36 = .ok (.iload_n 1, 1) := dk_27 (dk_at dksX2_next_1 13 rfl rfl)
theorem dX2_next_37 : decode cX2_next 37 = .ok (.iload 6, 2) := dk_21 6 (dk_at dksX2_next_1 14 rfl rfl)
theorem dX2_next_39 : decode cX2_next 39 = .ok (.bipush 81, 2) := dk_16 81 (dk_at dksX2_next_1 16 rfl rfl)
theorem dX2_next_41 : decode cX2_next 41 = .ok (.idiv, 1) := dk_108 (dk_at dksX2_next_1 18 rfl rfl)
theorem dX2_next_42 : decode cX2_next 42 = .ok (.iconst 4, 1) := dk_7 (dk_at dksX2_next_1 19 rfl rfl)
theorem dX2_next_43 : decode cX2_next 43 = .ok (.isub, 1) := dk_100 (dk_at dksX2_next_1 20 rfl rfl)
theorem dX2_next_44 : decode cX2_next 44 = .ok (.i2l, 1) := dk_133 (dk_at dksX2_next_1 21 rfl rfl)
theorem dX2_next_45 : decode cX2_next 45 = .ok (.iload 6, 2) := dk_21 6 (dk_at dksX2_next_1 22 rfl rfl)
theorem dX2_next_47 : decode cX2_next 47 = .ok (.bipush 9, 2) := dk_16 9 (dk_at dksX2_next_2 0 rfl rfl)
theorem dX2_next_49 : decode cX2_next 49 = .ok (.idiv, 1) := dk_108 (dk_at dksX2_next_2 2 rfl rfl)
theorem dX2_next_50 : decode cX2_next 50 = .ok (.bipush 9, 2) := dk_16 9 (dk_at dksX2_next_2 3 rfl rfl)
theorem dX2_next_52 : decode cX2_next 52 = .ok (.irem, 1) := dk_112 (dk_at dksX2_next_2 5 rfl rfl)
theorem dX2_next_53 : decode cX2_next 53 = .ok (.iconst 4, 1) := dk_7 (dk_at dksX2_next_2 6 rfl rfl)
theorem dX2_next_54 : decode cX2_next 54 = .ok (.isub, 1) := dk_100 (dk_at dksX2_next_2 7 rfl rfl)
theorem dX2_next_55 : decode cX2_next 55 = .ok (.i2l, 1) := dk_133 (dk_at dksX2_next_2 8 rfl rfl)
theorem dX2_next_56 : decode cX2_next 56 = .ok (.iload 6, 2) := dk_21 6 (dk_at dksX2_next_2 9 rfl rfl)
theorem dX2_next_58 : decode cX2_next 58 = .ok (.bipush 9, 2) := dk_16 9 (dk_at dksX2_next_2 11 rfl rfl)
theorem dX2_next_60 : decode cX2_next 60 = .ok (.irem, 1) := dk_112 (dk_at dksX2_next_2 13 rfl rfl)
theorem dX2_next_61 : decode cX2_next 61 = .ok (.iconst 4, 1) := dk_7 (dk_at dksX2_next_2 14 rfl rfl)
theorem dX2_next_62 : decode cX2_next 62 = .ok (.isub, 1) := dk_100 (dk_at dksX2_next_2 15 rfl rfl)
theorem dX2_next_63 : decode cX2_next 63 = .ok (.i2l, 1) := dk_133 (dk_at dksX2_next_2 16 rfl rfl)
theorem dX2_next_64 : decode cX2_next 64 = .ok (.invokevirtual 233, 3) := dk_182 0 233 (dk_at dksX2_next_2 17 rfl rfl)
theorem dX2_next_67 : decode cX2_next 67 = .ok (.lstore 7, 2) := dk_55 7 (dk_at dksX2_next_2 20 rfl rfl)
theorem dX2_next_69 : decode cX2_next 69 = .ok (.lload 7, 2) := dk_22 7 (dk_at dksX2_next_2 22 rfl rfl)
theorem dX2_next_71 : decode cX2_next 71 = .ok (.ldc2_w 203, 3) := dk_20 0 203 (dk_at dksX2_next_3 0 rfl rfl)
theorem dX2_next_74 : decode cX2_next 74 = .ok (.lcmp, 1) := dk_148 (dk_at dksX2_next_3 3 rfl rfl)
theorem dX2_next_75 : decode cX2_next 75 = .ok (.ifCond .eq 85, 3) := dk_153 0 85 (dk_at dksX2_next_3 4 rfl rfl)
theorem dX2_next_78 : decode cX2_next 78 = .ok (.lload 7, 2) := dk_22 7 (dk_at dksX2_next_3 7 rfl rfl)
theorem dX2_next_80 : decode cX2_next 80 = .ok (.lload_n 2, 1) := dk_32 (dk_at dksX2_next_3 9 rfl rfl)
theorem dX2_next_81 : decode cX2_next 81 = .ok (.lcmp, 1) := dk_148 (dk_at dksX2_next_3 10 rfl rfl)
theorem dX2_next_82 : decode cX2_next 82 = .ok (.ifCond .gt 6, 3) := dk_157 0 6 (dk_at dksX2_next_3 11 rfl rfl)
theorem dX2_next_85 : decode cX2_next 85 = .ok (.goto 75, 3) := dk_167 0 75 (dk_at dksX2_next_3 14 rfl rfl)
theorem dX2_next_88 : decode cX2_next 88 = .ok (.aload_n 0, 1) := dk_42 (dk_at dksX2_next_3 17 rfl rfl)
theorem dX2_next_89 : decode cX2_next 89 = .ok (.lload 4, 2) := dk_22 4 (dk_at dksX2_next_3 18 rfl rfl)
theorem dX2_next_91 : decode cX2_next 91 = .ok (.ldc2_w 203, 3) := dk_20 0 203 (dk_at dksX2_next_3 20 rfl rfl)
theorem dX2_next_94 : decode cX2_next 94 = .ok (.lcmp, 1) := dk_148 (dk_at dksX2_next_3 23 rfl rfl)
theorem dX2_next_95 : decode cX2_next 95 = .ok (.ifCond .eq 11, 3) := dk_153 0 11 (dk_at dksX2_next_4 0 rfl rfl)
theorem dX2_next_98 : decode cX2_next 98 = .ok (.lload 7, 2) := dk_22 7 (dk_at dksX2_next_4 3 rfl rfl)
theorem dX2_next_100 : decode cX2_next 100 = .ok (.lload 4, 2) := dk_22 4 (dk_at dksX2_next_4 5 rfl rfl)
theorem dX2_next_102 : decode cX2_next 102 = .ok (.lcmp, 1) := dk_148 (dk_at dksX2_next_4 7 rfl rfl)
theorem dX2_next_103 : decode cX2_next 103 = .ok (.ifCond .ge 7, 3) := dk_156 0 7 (dk_at dksX2_next_4 8 rfl rfl)
theorem dX2_next_106 : decode cX2_next 106 = .ok (.iconst 1, 1) := dk_4 (dk_at dksX2_next_4 11 rfl rfl)
theorem dX2_next_107 : decode cX2_next 107 = .ok (.goto 24, 3) := dk_167 0 24 (dk_at dksX2_next_4 12 rfl rfl)
theorem dX2_next_110 : decode cX2_next 110 = .ok (.lload 7, 2) := dk_22 7 (dk_at dksX2_next_4 15 rfl rfl)
theorem dX2_next_112 : decode cX2_next 112 = .ok (.lload 4, 2) := dk_22 4 (dk_at dksX2_next_4 17 rfl rfl)
theorem dX2_next_114 : decode cX2_next 114 = .ok (.lcmp, 1) := dk_148 (dk_at dksX2_next_4 19 rfl rfl)
theorem dX2_next_115 : decode cX2_next 115 = .ok (.ifCond .ne 12, 3) := dk_154 0 12 (dk_at dksX2_next_4 20 rfl rfl)
theorem dX2_next_118 : decode cX2_next 118 = .ok (.aload_n 0, 1) := dk_42 (dk_at dksX2_next_4 23 rfl rfl)
theorem dX2_next_119 : decode cX2_next 119 = .ok (.getfield 230, 3) := dk_180 0 230 (dk_at dksX2_next_5 0 rfl rfl)
theorem dX2_next_122 : decode cX2_next 122 = .ok (.iconst 1, 1) := dk_4 (dk_at dksX2_next_5 3 rfl rfl)
theorem dX2_next_123 : decode cX2_next 123 = .ok (.iadd, 1) := dk_96 (dk_at dksX2_next_5 4 rfl rfl)
theorem dX2_next_124 : decode cX2_next 124 = .ok (.goto 7, 3) := dk_167 0 7 (dk_at dksX2_next_5 5 rfl rfl)
theorem dX2_next_127 : decode cX2_next 127 = .ok (.aload_n 0, 1) := dk_42 (dk_at dksX2_next_5 8 rfl rfl)
theorem dX2_next_128 : decode cX2_next 128 = .ok (.getfield 230, 3) := dk_180 0 230 (dk_at dksX2_next_5 9 rfl rfl)
theorem dX2_next_131 : decode cX2_next 131 = .ok (.putfield 230, 3) := dk_181 0 230 (dk_at dksX2_next_5 12 rfl rfl)
theorem dX2_next_134 : decode cX2_next 134 = .ok (.lload 4, 2) := dk_22 4 (dk_at dksX2_next_5 15 rfl rfl)
theorem dX2_next_136 : decode cX2_next 136 = .ok (.ldc2_w 203, 3) := dk_20 0 203 (dk_at dksX2_next_5 17 rfl rfl)
theorem dX2_next_139 : decode cX2_next 139 = .ok (.lcmp, 1) := dk_148 (dk_at dksX2_next_5 20 rfl rfl)
theorem dX2_next_140 : decode cX2_next 140 = .ok (.ifCond .eq 11, 3) := dk_153 0 11 (dk_at dksX2_next_5 21 rfl rfl)
theorem dX2_next_143 : decode cX2_next 143 = .ok (.lload 7, 2) := dk_22 7 (dk_at dksX2_next_6 0 rfl rfl)
theorem dX2_next_145 : decode cX2_next 145 = .ok (.lload 4, 2) := dk_22 4 (dk_at dksX2_next_6 2 rfl rfl)
theorem dX2_next_147 : decode cX2_next 147 = .ok (.lcmp, 1) := dk_148 (dk_at dksX2_next_6 4 rfl rfl)
theorem dX2_next_148 : decode cX2_next 148 = .ok (.ifCond .ge 8, 3) := dk_156 0 8 (dk_at dksX2_next_6 5 rfl rfl)
theorem dX2_next_151 : decode cX2_next 151 = .ok (.lload 7, 2) := dk_22 7 (dk_at dksX2_next_6 8 rfl rfl)
theorem dX2_next_153 : decode cX2_next 153 = .ok (.goto 5, 3) := dk_167 0 5 (dk_at dksX2_next_6 10 rfl rfl)
theorem dX2_next_156 : decode cX2_next 156 = .ok (.lload 4, 2) := dk_22 4 (dk_at dksX2_next_6 13 rfl rfl)
theorem dX2_next_158 : decode cX2_next 158 = .ok (.lstore 4, 2) := dk_55 4 (dk_at dksX2_next_6 15 rfl rfl)
theorem dX2_next_160 : decode cX2_next 160 = .ok (.iinc 6 1, 3) := dk_132 6 1 (dk_at dksX2_next_6 17 rfl rfl)
theorem dX2_next_163 : decode cX2_next 163 = .ok (.goto (-150), 3) := dk_167 255 106 (dk_at dksX2_next_6 20 rfl rfl)
theorem dX2_next_166 : decode cX2_next 166 = .ok (.lload 4, 2) := dk_22 4 (dk_at dksX2_next_7 0 rfl rfl)
theorem dX2_next_168 : decode cX2_next 168 = .ok (.lreturn, 1) := dk_173 (dk_at dksX2_next_7 2 rfl rfl)
abbrev cX2_square : ByteArray := prog_6_method_55_code
def yX2_square : MethodName := ⟨RX2, "square", "(IJJJ)J"⟩
def dkwX2_square_3 : List UInt8 := [105, 97, 173]
abbrev dktX2_square_3 : List UInt8 := dkwX2_square_3 ++ []
def dkwX2_square_2 : List UInt8 := [105, 97, 32, 22, 6, 105, 42, 27, 7, 182, 0, 74, 105, 97, 32, 22, 4, 105, 42, 27, 8, 182, 0, 74]
abbrev dktX2_square_2 : List UInt8 := dkwX2_square_2 ++ dktX2_square_3
def dkwX2_square_1 : List UInt8 := [22, 6, 22, 6, 105, 42, 27, 5, 182, 0, 74, 105, 97, 22, 4, 22, 6, 105, 42, 27, 6, 182, 0, 74]
abbrev dktX2_square_1 : List UInt8 := dkwX2_square_1 ++ dktX2_square_2
def dkwX2_square_0 : List UInt8 := [32, 32, 105, 42, 27, 3, 182, 0, 74, 105, 22, 4, 22, 4, 105, 42, 27, 4, 182, 0, 74, 105, 97]
abbrev dktX2_square_0 : List UInt8 := dkwX2_square_0 ++ dktX2_square_1
theorem dksX2_square_0 : cX2_square.data.toList.drop 0 = dktX2_square_0 := by decide +kernel
theorem dksX2_square_1 : cX2_square.data.toList.drop 23 = dktX2_square_1 := dk_seg dksX2_square_0 23 rfl rfl
theorem dksX2_square_2 : cX2_square.data.toList.drop 47 = dktX2_square_2 := dk_seg dksX2_square_1 24 rfl rfl
theorem dksX2_square_3 : cX2_square.data.toList.drop 71 = dktX2_square_3 := dk_seg dksX2_square_2 24 rfl rfl
theorem dX2_square_0 : decode cX2_square 0 = .ok (.lload_n 2, 1) := dk_32 (dk_at dksX2_square_0 0 rfl rfl)
theorem dX2_square_1 : decode cX2_square 1 = .ok (.lload_n 2, 1) := dk_32 (dk_at dksX2_square_0 1 rfl rfl)
theorem dX2_square_2 : decode cX2_square 2 = .ok (.lmul, 1) := dk_105 (dk_at dksX2_square_0 2 rfl rfl)
theorem dX2_square_3 : decode cX2_square 3 = .ok (.aload_n 0, 1) := dk_42 (dk_at dksX2_square_0 3 rfl rfl)
theorem dX2_square_4 : decode cX2_square 4 = .ok (.iload_n 1, 1) := dk_27 (dk_at dksX2_square_0 4 rfl rfl)
theorem dX2_square_5 : decode cX2_square 5 = .ok (.iconst 0, 1) := dk_3 (dk_at dksX2_square_0 5 rfl rfl)
theorem dX2_square_6 : decode cX2_square 6 = .ok (.invokevirtual 74, 3) := dk_182 0 74 (dk_at dksX2_square_0 6 rfl rfl)
theorem dX2_square_9 : decode cX2_square 9 = .ok (.lmul, 1) := dk_105 (dk_at dksX2_square_0 9 rfl rfl)
theorem dX2_square_10 : decode cX2_square 10 = .ok (.lload 4, 2) := dk_22 4 (dk_at dksX2_square_0 10 rfl rfl)
theorem dX2_square_12 : decode cX2_square 12 = .ok (.lload 4, 2) := dk_22 4 (dk_at dksX2_square_0 12 rfl rfl)
theorem dX2_square_14 : decode cX2_square 14 = .ok (.lmul, 1) := dk_105 (dk_at dksX2_square_0 14 rfl rfl)
theorem dX2_square_15 : decode cX2_square 15 = .ok (.aload_n 0, 1) := dk_42 (dk_at dksX2_square_0 15 rfl rfl)
theorem dX2_square_16 : decode cX2_square 16 = .ok (.iload_n 1, 1) := dk_27 (dk_at dksX2_square_0 16 rfl rfl)
theorem dX2_square_17 : decode cX2_square 17 = .ok (.iconst 1, 1) := dk_4 (dk_at dksX2_square_0 17 rfl rfl)
theorem dX2_square_18 : decode cX2_square 18 = .ok (.invokevirtual 74, 3) := dk_182 0 74 (dk_at dksX2_square_0 18 rfl rfl)
theorem dX2_square_21 : decode cX2_square 21 = .ok (.lmul, 1) := dk_105 (dk_at dksX2_square_0 21 rfl rfl)
theorem dX2_square_22 : decode cX2_square 22 = .ok (.ladd, 1) := dk_97 (dk_at dksX2_square_0 22 rfl rfl)
theorem dX2_square_23 : decode cX2_square 23 = .ok (.lload 6, 2) := dk_22 6 (dk_at dksX2_square_1 0 rfl rfl)
theorem dX2_square_25 : decode cX2_square 25 = .ok (.lload 6, 2) := dk_22 6 (dk_at dksX2_square_1 2 rfl rfl)
theorem dX2_square_27 : decode cX2_square 27 = .ok (.lmul, 1) := dk_105 (dk_at dksX2_square_1 4 rfl rfl)
theorem dX2_square_28 : decode cX2_square 28 = .ok (.aload_n 0, 1) := dk_42 (dk_at dksX2_square_1 5 rfl rfl)
theorem dX2_square_29 : decode cX2_square 29 = .ok (.iload_n 1, 1) := dk_27 (dk_at dksX2_square_1 6 rfl rfl)
theorem dX2_square_30 : decode cX2_square 30 = .ok (.iconst 2, 1) := dk_5 (dk_at dksX2_square_1 7 rfl rfl)
theorem dX2_square_31 : decode cX2_square 31 = .ok (.invokevirtual 74, 3) := dk_182 0 74 (dk_at dksX2_square_1 8 rfl rfl)
theorem dX2_square_34 : decode cX2_square 34 = .ok (.lmul, 1) := dk_105 (dk_at dksX2_square_1 11 rfl rfl)
theorem dX2_square_35 : decode cX2_square 35 = .ok (.ladd, 1) := dk_97 (dk_at dksX2_square_1 12 rfl rfl)
theorem dX2_square_36 : decode cX2_square 36 = .ok (.lload 4, 2) := dk_22 4 (dk_at dksX2_square_1 13 rfl rfl)
theorem dX2_square_38 : decode cX2_square 38 = .ok (.lload 6, 2) := dk_22 6 (dk_at dksX2_square_1 15 rfl rfl)
theorem dX2_square_40 : decode cX2_square 40 = .ok (.lmul, 1) := dk_105 (dk_at dksX2_square_1 17 rfl rfl)
theorem dX2_square_41 : decode cX2_square 41 = .ok (.aload_n 0, 1) := dk_42 (dk_at dksX2_square_1 18 rfl rfl)
theorem dX2_square_42 : decode cX2_square 42 = .ok (.iload_n 1, 1) := dk_27 (dk_at dksX2_square_1 19 rfl rfl)
theorem dX2_square_43 : decode cX2_square 43 = .ok (.iconst 3, 1) := dk_6 (dk_at dksX2_square_1 20 rfl rfl)
theorem dX2_square_44 : decode cX2_square 44 = .ok (.invokevirtual 74, 3) := dk_182 0 74 (dk_at dksX2_square_1 21 rfl rfl)
theorem dX2_square_47 : decode cX2_square 47 = .ok (.lmul, 1) := dk_105 (dk_at dksX2_square_2 0 rfl rfl)
theorem dX2_square_48 : decode cX2_square 48 = .ok (.ladd, 1) := dk_97 (dk_at dksX2_square_2 1 rfl rfl)
theorem dX2_square_49 : decode cX2_square 49 = .ok (.lload_n 2, 1) := dk_32 (dk_at dksX2_square_2 2 rfl rfl)
theorem dX2_square_50 : decode cX2_square 50 = .ok (.lload 6, 2) := dk_22 6 (dk_at dksX2_square_2 3 rfl rfl)
theorem dX2_square_52 : decode cX2_square 52 = .ok (.lmul, 1) := dk_105 (dk_at dksX2_square_2 5 rfl rfl)
theorem dX2_square_53 : decode cX2_square 53 = .ok (.aload_n 0, 1) := dk_42 (dk_at dksX2_square_2 6 rfl rfl)
theorem dX2_square_54 : decode cX2_square 54 = .ok (.iload_n 1, 1) := dk_27 (dk_at dksX2_square_2 7 rfl rfl)
theorem dX2_square_55 : decode cX2_square 55 = .ok (.iconst 4, 1) := dk_7 (dk_at dksX2_square_2 8 rfl rfl)
theorem dX2_square_56 : decode cX2_square 56 = .ok (.invokevirtual 74, 3) := dk_182 0 74 (dk_at dksX2_square_2 9 rfl rfl)
theorem dX2_square_59 : decode cX2_square 59 = .ok (.lmul, 1) := dk_105 (dk_at dksX2_square_2 12 rfl rfl)
theorem dX2_square_60 : decode cX2_square 60 = .ok (.ladd, 1) := dk_97 (dk_at dksX2_square_2 13 rfl rfl)
theorem dX2_square_61 : decode cX2_square 61 = .ok (.lload_n 2, 1) := dk_32 (dk_at dksX2_square_2 14 rfl rfl)
theorem dX2_square_62 : decode cX2_square 62 = .ok (.lload 4, 2) := dk_22 4 (dk_at dksX2_square_2 15 rfl rfl)
theorem dX2_square_64 : decode cX2_square 64 = .ok (.lmul, 1) := dk_105 (dk_at dksX2_square_2 17 rfl rfl)
theorem dX2_square_65 : decode cX2_square 65 = .ok (.aload_n 0, 1) := dk_42 (dk_at dksX2_square_2 18 rfl rfl)
theorem dX2_square_66 : decode cX2_square 66 = .ok (.iload_n 1, 1) := dk_27 (dk_at dksX2_square_2 19 rfl rfl)
theorem dX2_square_67 : decode cX2_square 67 = .ok (.iconst 5, 1) := dk_8 (dk_at dksX2_square_2 20 rfl rfl)
theorem dX2_square_68 : decode cX2_square 68 = .ok (.invokevirtual 74, 3) := dk_182 0 74 (dk_at dksX2_square_2 21 rfl rfl)
theorem dX2_square_71 : decode cX2_square 71 = .ok (.lmul, 1) := dk_105 (dk_at dksX2_square_3 0 rfl rfl)
theorem dX2_square_72 : decode cX2_square 72 = .ok (.ladd, 1) := dk_97 (dk_at dksX2_square_3 1 rfl rfl)
theorem dX2_square_73 : decode cX2_square 73 = .ok (.lreturn, 1) := dk_173 (dk_at dksX2_square_3 2 rfl rfl)
abbrev cX2_squares : ByteArray := prog_6_method_58_code
def yX2_squares : MethodName := ⟨RX2, "squares", "(I)J"⟩
def dkwX2_squares_4 : List UInt8 := [132, 4, 1, 167, 255, 186, 32, 173]
abbrev dktX2_squares_4 : List UInt8 := dkwX2_squares_4 ++ []
def dkwX2_squares_3 : List UInt8 := [22, 5, 10, 20, 0, 241, 184, 0, 68, 153, 0, 11, 10, 22, 5, 136, 121, 167, 0, 4, 9, 129, 65]
abbrev dktX2_squares_3 : List UInt8 := dkwX2_squares_3 ++ dktX2_squares_4
def dkwX2_squares_2 : List UInt8 := [16, 9, 108, 16, 9, 112, 7, 100, 133, 21, 4, 16, 9, 112, 7, 100, 133, 182, 0, 233, 55, 5, 32]
abbrev dktX2_squares_2 : List UInt8 := dkwX2_squares_2 ++ dktX2_squares_3
def dkwX2_squares_1 : List UInt8 := [54, 4, 21, 4, 17, 2, 217, 162, 0, 68, 42, 16, 6, 21, 4, 16, 81, 108, 7, 100, 133, 21, 4]
abbrev dktX2_squares_1 : List UInt8 := dkwX2_squares_1 ++ dktX2_squares_2
def dkwX2_squares_0 : List UInt8 := [42, 27, 182, 0, 188, 154, 0, 7, 20, 0, 203, 173, 42, 27, 16, 6, 182, 0, 207, 87, 9, 65, 3]
abbrev dktX2_squares_0 : List UInt8 := dkwX2_squares_0 ++ dktX2_squares_1
theorem dksX2_squares_0 : cX2_squares.data.toList.drop 0 = dktX2_squares_0 := by decide +kernel
theorem dksX2_squares_1 : cX2_squares.data.toList.drop 23 = dktX2_squares_1 := dk_seg dksX2_squares_0 23 rfl rfl
theorem dksX2_squares_2 : cX2_squares.data.toList.drop 46 = dktX2_squares_2 := dk_seg dksX2_squares_1 23 rfl rfl
theorem dksX2_squares_3 : cX2_squares.data.toList.drop 69 = dktX2_squares_3 := dk_seg dksX2_squares_2 23 rfl rfl
theorem dksX2_squares_4 : cX2_squares.data.toList.drop 92 = dktX2_squares_4 := dk_seg dksX2_squares_3 23 rfl rfl
theorem dX2_squares_0 : decode cX2_squares 0 = .ok (.aload_n 0, 1) := dk_42 (dk_at dksX2_squares_0 0 rfl rfl)
theorem dX2_squares_1 : decode cX2_squares 1 = .ok (.iload_n 1, 1) := dk_27 (dk_at dksX2_squares_0 1 rfl rfl)
theorem dX2_squares_2 : decode cX2_squares 2 = .ok (.invokevirtual 188, 3) := dk_182 0 188 (dk_at dksX2_squares_0 2 rfl rfl)
theorem dX2_squares_5 : decode cX2_squares 5 = .ok (.ifCond .ne 7, 3) := dk_154 0 7 (dk_at dksX2_squares_0 5 rfl rfl)
theorem dX2_squares_8 : decode cX2_squares 8 = .ok (.ldc2_w 203, 3) := dk_20 0 203 (dk_at dksX2_squares_0 8 rfl rfl)
theorem dX2_squares_11 : decode cX2_squares 11 = .ok (.lreturn, 1) := dk_173 (dk_at dksX2_squares_0 11 rfl rfl)
theorem dX2_squares_12 : decode cX2_squares 12 = .ok (.aload_n 0, 1) := dk_42 (dk_at dksX2_squares_0 12 rfl rfl)
theorem dX2_squares_13 : decode cX2_squares 13 = .ok (.iload_n 1, 1) := dk_27 (dk_at dksX2_squares_0 13 rfl rfl)
theorem dX2_squares_14 : decode cX2_squares 14 = .ok (.bipush 6, 2) := dk_16 6 (dk_at dksX2_squares_0 14 rfl rfl)
theorem dX2_squares_16 : decode cX2_squares 16 = .ok (.invokevirtual 207, 3) := dk_182 0 207 (dk_at dksX2_squares_0 16 rfl rfl)
theorem dX2_squares_19 : decode cX2_squares 19 = .ok (.pop, 1) := dk_87 (dk_at dksX2_squares_0 19 rfl rfl)
theorem dX2_squares_20 : decode cX2_squares 20 = .ok (.lconst 0, 1) := dk_9 (dk_at dksX2_squares_0 20 rfl rfl)
theorem dX2_squares_21 : decode cX2_squares 21 = .ok (.lstore_n 2, 1) := dk_65 (dk_at dksX2_squares_0 21 rfl rfl)
theorem dX2_squares_22 : decode cX2_squares 22 = .ok (.iconst 0, 1) := dk_3 (dk_at dksX2_squares_0 22 rfl rfl)
theorem dX2_squares_23 : decode cX2_squares 23 = .ok (.istore 4, 2) := dk_54 4 (dk_at dksX2_squares_1 0 rfl rfl)
theorem dX2_squares_25 : decode cX2_squares 25 = .ok (.iload 4, 2) := dk_21 4 (dk_at dksX2_squares_1 2 rfl rfl)
theorem dX2_squares_27 : decode cX2_squares 27 = .ok (.sipush 729, 3) := dk_17 2 217 (dk_at dksX2_squares_1 4 rfl rfl)
theorem dX2_squares_30 : decode cX2_squares 30 = .ok (.if_icmp .ge 68, 3) := dk_162 0 68 (dk_at dksX2_squares_1 7 rfl rfl)
theorem dX2_squares_33 : decode cX2_squares 33 = .ok (.aload_n 0, 1) := dk_42 (dk_at dksX2_squares_1 10 rfl rfl)
theorem dX2_squares_34 : decode cX2_squares 34 = .ok (.bipush 6, 2) := dk_16 6 (dk_at dksX2_squares_1 11 rfl rfl)
theorem dX2_squares_36 : decode cX2_squares 36 = .ok (.iload 4, 2) := dk_21 4 (dk_at dksX2_squares_1 13 rfl rfl)
theorem dX2_squares_38 : decode cX2_squares 38 = .ok (.bipush 81, 2) := dk_16 81 (dk_at dksX2_squares_1 15 rfl rfl)
theorem dX2_squares_40 : decode cX2_squares 40 = .ok (.idiv, 1) := dk_108 (dk_at dksX2_squares_1 17 rfl rfl)
theorem dX2_squares_41 : decode cX2_squares 41 = .ok (.iconst 4, 1) := dk_7 (dk_at dksX2_squares_1 18 rfl rfl)
theorem dX2_squares_42 : decode cX2_squares 42 = .ok (.isub, 1) := dk_100 (dk_at dksX2_squares_1 19 rfl rfl)
theorem dX2_squares_43 : decode cX2_squares 43 = .ok (.i2l, 1) := dk_133 (dk_at dksX2_squares_1 20 rfl rfl)
theorem dX2_squares_44 : decode cX2_squares 44 = .ok (.iload 4, 2) := dk_21 4 (dk_at dksX2_squares_1 21 rfl rfl)
theorem dX2_squares_46 : decode cX2_squares 46 = .ok (.bipush 9, 2) := dk_16 9 (dk_at dksX2_squares_2 0 rfl rfl)
theorem dX2_squares_48 : decode cX2_squares 48 = .ok (.idiv, 1) := dk_108 (dk_at dksX2_squares_2 2 rfl rfl)
theorem dX2_squares_49 : decode cX2_squares 49 = .ok (.bipush 9, 2) := dk_16 9 (dk_at dksX2_squares_2 3 rfl rfl)
theorem dX2_squares_51 : decode cX2_squares 51 = .ok (.irem, 1) := dk_112 (dk_at dksX2_squares_2 5 rfl rfl)
theorem dX2_squares_52 : decode cX2_squares 52 = .ok (.iconst 4, 1) := dk_7 (dk_at dksX2_squares_2 6 rfl rfl)
theorem dX2_squares_53 : decode cX2_squares 53 = .ok (.isub, 1) := dk_100 (dk_at dksX2_squares_2 7 rfl rfl)
theorem dX2_squares_54 : decode cX2_squares 54 = .ok (.i2l, 1) := dk_133 (dk_at dksX2_squares_2 8 rfl rfl)
theorem dX2_squares_55 : decode cX2_squares 55 = .ok (.iload 4, 2) := dk_21 4 (dk_at dksX2_squares_2 9 rfl rfl)
theorem dX2_squares_57 : decode cX2_squares 57 = .ok (.bipush 9, 2) := dk_16 9 (dk_at dksX2_squares_2 11 rfl rfl)
theorem dX2_squares_59 : decode cX2_squares 59 = .ok (.irem, 1) := dk_112 (dk_at dksX2_squares_2 13 rfl rfl)
theorem dX2_squares_60 : decode cX2_squares 60 = .ok (.iconst 4, 1) := dk_7 (dk_at dksX2_squares_2 14 rfl rfl)
theorem dX2_squares_61 : decode cX2_squares 61 = .ok (.isub, 1) := dk_100 (dk_at dksX2_squares_2 15 rfl rfl)
theorem dX2_squares_62 : decode cX2_squares 62 = .ok (.i2l, 1) := dk_133 (dk_at dksX2_squares_2 16 rfl rfl)
theorem dX2_squares_63 : decode cX2_squares 63 = .ok (.invokevirtual 233, 3) := dk_182 0 233 (dk_at dksX2_squares_2 17 rfl rfl)
theorem dX2_squares_66 : decode cX2_squares 66 = .ok (.lstore 5, 2) := dk_55 5 (dk_at dksX2_squares_2 20 rfl rfl)
theorem dX2_squares_68 : decode cX2_squares 68 = .ok (.lload_n 2, 1) := dk_32 (dk_at dksX2_squares_2 22 rfl rfl)
theorem dX2_squares_69 : decode cX2_squares 69 = .ok (.lload 5, 2) := dk_22 5 (dk_at dksX2_squares_3 0 rfl rfl)
theorem dX2_squares_71 : decode cX2_squares 71 = .ok (.lconst 1, 1) := dk_10 (dk_at dksX2_squares_3 2 rfl rfl)
theorem dX2_squares_72 : decode cX2_squares 72 = .ok (.ldc2_w 241, 3) := dk_20 0 241 (dk_at dksX2_squares_3 3 rfl rfl)
theorem dX2_squares_75 : decode cX2_squares 75 = .ok (.invokestatic 68, 3) := dk_184 0 68 (dk_at dksX2_squares_3 6 rfl rfl)
theorem dX2_squares_78 : decode cX2_squares 78 = .ok (.ifCond .eq 11, 3) := dk_153 0 11 (dk_at dksX2_squares_3 9 rfl rfl)
theorem dX2_squares_81 : decode cX2_squares 81 = .ok (.lconst 1, 1) := dk_10 (dk_at dksX2_squares_3 12 rfl rfl)
theorem dX2_squares_82 : decode cX2_squares 82 = .ok (.lload 5, 2) := dk_22 5 (dk_at dksX2_squares_3 13 rfl rfl)
theorem dX2_squares_84 : decode cX2_squares 84 = .ok (.l2i, 1) := dk_136 (dk_at dksX2_squares_3 15 rfl rfl)
theorem dX2_squares_85 : decode cX2_squares 85 = .ok (.lshl, 1) := dk_121 (dk_at dksX2_squares_3 16 rfl rfl)
theorem dX2_squares_86 : decode cX2_squares 86 = .ok (.goto 4, 3) := dk_167 0 4 (dk_at dksX2_squares_3 17 rfl rfl)
theorem dX2_squares_89 : decode cX2_squares 89 = .ok (.lconst 0, 1) := dk_9 (dk_at dksX2_squares_3 20 rfl rfl)
theorem dX2_squares_90 : decode cX2_squares 90 = .ok (.lor, 1) := dk_129 (dk_at dksX2_squares_3 21 rfl rfl)
theorem dX2_squares_91 : decode cX2_squares 91 = .ok (.lstore_n 2, 1) := dk_65 (dk_at dksX2_squares_3 22 rfl rfl)
theorem dX2_squares_92 : decode cX2_squares 92 = .ok (.iinc 4 1, 3) := dk_132 4 1 (dk_at dksX2_squares_4 0 rfl rfl)
theorem dX2_squares_95 : decode cX2_squares 95 = .ok (.goto (-70), 3) := dk_167 255 186 (dk_at dksX2_squares_4 3 rfl rfl)
theorem dX2_squares_98 : decode cX2_squares 98 = .ok (.lload_n 2, 1) := dk_32 (dk_at dksX2_squares_4 6 rfl rfl)
theorem dX2_squares_99 : decode cX2_squares 99 = .ok (.lreturn, 1) := dk_173 (dk_at dksX2_squares_4 7 rfl rfl)
abbrev cX2_within : ByteArray := prog_6_method_63_code
def yX2_within : MethodName := ⟨RX2, "within", "(III)J"⟩
def dkwX2_within_4 : List UInt8 := [104, 29, 16, 10, 112, 96, 47, 167, 0, 6, 20, 0, 203, 173]
abbrev dktX2_within_4 : List UInt8 := dkwX2_within_4 ++ []
def dkwX2_within_3 : List UInt8 := [182, 0, 255, 133, 173, 29, 16, 10, 108, 21, 4, 162, 0, 23, 42, 180, 0, 34, 16, 6, 29, 16, 10, 108]
abbrev dktX2_within_3 : List UInt8 := dkwX2_within_3 ++ dktX2_within_4
def dkwX2_within_2 : List UInt8 := [182, 0, 252, 54, 4, 29, 156, 0, 22, 29, 2, 160, 0, 9, 21, 4, 133, 167, 0, 10, 42, 21, 4]
abbrev dktX2_within_2 : List UInt8 := dkwX2_within_2 ++ dktX2_within_3
def dkwX2_within_1 : List UInt8 := [161, 0, 15, 29, 155, 0, 15, 29, 16, 10, 112, 8, 164, 0, 7, 20, 0, 203, 173, 42, 27, 28]
abbrev dktX2_within_1 : List UInt8 := dkwX2_within_1 ++ dktX2_within_2
def dkwX2_within_0 : List UInt8 := [42, 27, 182, 0, 188, 153, 0, 33, 28, 133, 10, 20, 0, 250, 184, 0, 68, 153, 0, 21, 29, 16, 254]
abbrev dktX2_within_0 : List UInt8 := dkwX2_within_0 ++ dktX2_within_1
theorem dksX2_within_0 : cX2_within.data.toList.drop 0 = dktX2_within_0 := by decide +kernel
theorem dksX2_within_1 : cX2_within.data.toList.drop 23 = dktX2_within_1 := dk_seg dksX2_within_0 23 rfl rfl
theorem dksX2_within_2 : cX2_within.data.toList.drop 45 = dktX2_within_2 := dk_seg dksX2_within_1 22 rfl rfl
theorem dksX2_within_3 : cX2_within.data.toList.drop 68 = dktX2_within_3 := dk_seg dksX2_within_2 23 rfl rfl
theorem dksX2_within_4 : cX2_within.data.toList.drop 92 = dktX2_within_4 := dk_seg dksX2_within_3 24 rfl rfl
theorem dX2_within_0 : decode cX2_within 0 = .ok (.aload_n 0, 1) := dk_42 (dk_at dksX2_within_0 0 rfl rfl)
theorem dX2_within_1 : decode cX2_within 1 = .ok (.iload_n 1, 1) := dk_27 (dk_at dksX2_within_0 1 rfl rfl)
theorem dX2_within_2 : decode cX2_within 2 = .ok (.invokevirtual 188, 3) := dk_182 0 188 (dk_at dksX2_within_0 2 rfl rfl)
theorem dX2_within_5 : decode cX2_within 5 = .ok (.ifCond .eq 33, 3) := dk_153 0 33 (dk_at dksX2_within_0 5 rfl rfl)
theorem dX2_within_8 : decode cX2_within 8 = .ok (.iload_n 2, 1) := dk_28 (dk_at dksX2_within_0 8 rfl rfl)
theorem dX2_within_9 : decode cX2_within 9 = .ok (.i2l, 1) := dk_133 (dk_at dksX2_within_0 9 rfl rfl)
theorem dX2_within_10 : decode cX2_within 10 = .ok (.lconst 1, 1) := dk_10 (dk_at dksX2_within_0 10 rfl rfl)
theorem dX2_within_11 : decode cX2_within 11 = .ok (.ldc2_w 250, 3) := dk_20 0 250 (dk_at dksX2_within_0 11 rfl rfl)
theorem dX2_within_14 : decode cX2_within 14 = .ok (.invokestatic 68, 3) := dk_184 0 68 (dk_at dksX2_within_0 14 rfl rfl)
theorem dX2_within_17 : decode cX2_within 17 = .ok (.ifCond .eq 21, 3) := dk_153 0 21 (dk_at dksX2_within_0 17 rfl rfl)
theorem dX2_within_20 : decode cX2_within 20 = .ok (.iload_n 3, 1) := dk_29 (dk_at dksX2_within_0 20 rfl rfl)
theorem dX2_within_21 : decode cX2_within 21 = .ok (.bipush (-2), 2) := dk_16 254 (dk_at dksX2_within_0 21 rfl rfl)
theorem dX2_within_23 : decode cX2_within 23 = .ok (.if_icmp .lt 15, 3) := dk_161 0 15 (dk_at dksX2_within_1 0 rfl rfl)
theorem dX2_within_26 : decode cX2_within 26 = .ok (.iload_n 3, 1) := dk_29 (dk_at dksX2_within_1 3 rfl rfl)
theorem dX2_within_27 : decode cX2_within 27 = .ok (.ifCond .lt 15, 3) := dk_155 0 15 (dk_at dksX2_within_1 4 rfl rfl)
theorem dX2_within_30 : decode cX2_within 30 = .ok (.iload_n 3, 1) := dk_29 (dk_at dksX2_within_1 7 rfl rfl)
theorem dX2_within_31 : decode cX2_within 31 = .ok (.bipush 10, 2) := dk_16 10 (dk_at dksX2_within_1 8 rfl rfl)
theorem dX2_within_33 : decode cX2_within 33 = .ok (.irem, 1) := dk_112 (dk_at dksX2_within_1 10 rfl rfl)
theorem dX2_within_34 : decode cX2_within 34 = .ok (.iconst 5, 1) := dk_8 (dk_at dksX2_within_1 11 rfl rfl)
theorem dX2_within_35 : decode cX2_within 35 = .ok (.if_icmp .le 7, 3) := dk_164 0 7 (dk_at dksX2_within_1 12 rfl rfl)
theorem dX2_within_38 : decode cX2_within 38 = .ok (.ldc2_w 203, 3) := dk_20 0 203 (dk_at dksX2_within_1 15 rfl rfl)
theorem dX2_within_41 : decode cX2_within 41 = .ok (.lreturn, 1) := dk_173 (dk_at dksX2_within_1 18 rfl rfl)
theorem dX2_within_42 : decode cX2_within 42 = .ok (.aload_n 0, 1) := dk_42 (dk_at dksX2_within_1 19 rfl rfl)
theorem dX2_within_43 : decode cX2_within 43 = .ok (.iload_n 1, 1) := dk_27 (dk_at dksX2_within_1 20 rfl rfl)
theorem dX2_within_44 : decode cX2_within 44 = .ok (.iload_n 2, 1) := dk_28 (dk_at dksX2_within_1 21 rfl rfl)
theorem dX2_within_45 : decode cX2_within 45 = .ok (.invokevirtual 252, 3) := dk_182 0 252 (dk_at dksX2_within_2 0 rfl rfl)
theorem dX2_within_48 : decode cX2_within 48 = .ok (.istore 4, 2) := dk_54 4 (dk_at dksX2_within_2 3 rfl rfl)
theorem dX2_within_50 : decode cX2_within 50 = .ok (.iload_n 3, 1) := dk_29 (dk_at dksX2_within_2 5 rfl rfl)
theorem dX2_within_51 : decode cX2_within 51 = .ok (.ifCond .ge 22, 3) := dk_156 0 22 (dk_at dksX2_within_2 6 rfl rfl)
theorem dX2_within_54 : decode cX2_within 54 = .ok (.iload_n 3, 1) := dk_29 (dk_at dksX2_within_2 9 rfl rfl)
theorem dX2_within_55 : decode cX2_within 55 = .ok (.iconst (-1), 1) := dk_2 (dk_at dksX2_within_2 10 rfl rfl)
theorem dX2_within_56 : decode cX2_within 56 = .ok (.if_icmp .ne 9, 3) := dk_160 0 9 (dk_at dksX2_within_2 11 rfl rfl)
theorem dX2_within_59 : decode cX2_within 59 = .ok (.iload 4, 2) := dk_21 4 (dk_at dksX2_within_2 14 rfl rfl)
theorem dX2_within_61 : decode cX2_within 61 = .ok (.i2l, 1) := dk_133 (dk_at dksX2_within_2 16 rfl rfl)
theorem dX2_within_62 : decode cX2_within 62 = .ok (.goto 10, 3) := dk_167 0 10 (dk_at dksX2_within_2 17 rfl rfl)
theorem dX2_within_65 : decode cX2_within 65 = .ok (.aload_n 0, 1) := dk_42 (dk_at dksX2_within_2 20 rfl rfl)
theorem dX2_within_66 : decode cX2_within 66 = .ok (.iload 4, 2) := dk_21 4 (dk_at dksX2_within_2 21 rfl rfl)
theorem dX2_within_68 : decode cX2_within 68 = .ok (.invokevirtual 255, 3) := dk_182 0 255 (dk_at dksX2_within_3 0 rfl rfl)
theorem dX2_within_71 : decode cX2_within 71 = .ok (.i2l, 1) := dk_133 (dk_at dksX2_within_3 3 rfl rfl)
theorem dX2_within_72 : decode cX2_within 72 = .ok (.lreturn, 1) := dk_173 (dk_at dksX2_within_3 4 rfl rfl)
theorem dX2_within_73 : decode cX2_within 73 = .ok (.iload_n 3, 1) := dk_29 (dk_at dksX2_within_3 5 rfl rfl)
theorem dX2_within_74 : decode cX2_within 74 = .ok (.bipush 10, 2) := dk_16 10 (dk_at dksX2_within_3 6 rfl rfl)
theorem dX2_within_76 : decode cX2_within 76 = .ok (.idiv, 1) := dk_108 (dk_at dksX2_within_3 8 rfl rfl)
theorem dX2_within_77 : decode cX2_within 77 = .ok (.iload 4, 2) := dk_21 4 (dk_at dksX2_within_3 9 rfl rfl)
theorem dX2_within_79 : decode cX2_within 79 = .ok (.if_icmp .ge 23, 3) := dk_162 0 23 (dk_at dksX2_within_3 11 rfl rfl)
theorem dX2_within_82 : decode cX2_within 82 = .ok (.aload_n 0, 1) := dk_42 (dk_at dksX2_within_3 14 rfl rfl)
theorem dX2_within_83 : decode cX2_within 83 = .ok (.getfield 34, 3) := dk_180 0 34 (dk_at dksX2_within_3 15 rfl rfl)
theorem dX2_within_86 : decode cX2_within 86 = .ok (.bipush 6, 2) := dk_16 6 (dk_at dksX2_within_3 18 rfl rfl)
theorem dX2_within_88 : decode cX2_within 88 = .ok (.iload_n 3, 1) := dk_29 (dk_at dksX2_within_3 20 rfl rfl)
theorem dX2_within_89 : decode cX2_within 89 = .ok (.bipush 10, 2) := dk_16 10 (dk_at dksX2_within_3 21 rfl rfl)
theorem dX2_within_91 : decode cX2_within 91 = .ok (.idiv, 1) := dk_108 (dk_at dksX2_within_3 23 rfl rfl)
theorem dX2_within_92 : decode cX2_within 92 = .ok (.imul, 1) := dk_104 (dk_at dksX2_within_4 0 rfl rfl)
theorem dX2_within_93 : decode cX2_within 93 = .ok (.iload_n 3, 1) := dk_29 (dk_at dksX2_within_4 1 rfl rfl)
theorem dX2_within_94 : decode cX2_within 94 = .ok (.bipush 10, 2) := dk_16 10 (dk_at dksX2_within_4 2 rfl rfl)
theorem dX2_within_96 : decode cX2_within 96 = .ok (.irem, 1) := dk_112 (dk_at dksX2_within_4 4 rfl rfl)
theorem dX2_within_97 : decode cX2_within 97 = .ok (.iadd, 1) := dk_96 (dk_at dksX2_within_4 5 rfl rfl)
theorem dX2_within_98 : decode cX2_within 98 = .ok (.laload, 1) := dk_47 (dk_at dksX2_within_4 6 rfl rfl)
theorem dX2_within_99 : decode cX2_within 99 = .ok (.goto 6, 3) := dk_167 0 6 (dk_at dksX2_within_4 7 rfl rfl)
theorem dX2_within_102 : decode cX2_within 102 = .ok (.ldc2_w 203, 3) := dk_20 0 203 (dk_at dksX2_within_4 10 rfl rfl)
theorem dX2_within_105 : decode cX2_within 105 = .ok (.lreturn, 1) := dk_173 (dk_at dksX2_within_4 13 rfl rfl)
abbrev cX2_within_2 : ByteArray := prog_6_method_60_code
def yX2_within_2 : MethodName := ⟨RX2, "within", "(II)I"⟩
def dkwX2_within_2_7 : List UInt8 := [167, 255, 111, 132, 4, 1, 167, 255, 96, 29, 172]
abbrev dktX2_within_2_7 : List UInt8 := dkwX2_within_2_7 ++ []
def dkwX2_within_2_6 : List UInt8 := [21, 8, 182, 0, 74, 80, 132, 8, 1, 167, 255, 226, 132, 3, 1, 132, 7, 1, 167, 255, 153, 132, 5, 1]
abbrev dktX2_within_2_6 : List UInt8 := dkwX2_within_2_6 ++ dktX2_within_2_7
def dkwX2_within_2_5 : List UInt8 := [54, 8, 21, 8, 16, 6, 162, 0, 29, 42, 180, 0, 34, 16, 6, 29, 104, 21, 8, 96, 42, 16, 6]
abbrev dktX2_within_2_5 : List UInt8 := dkwX2_within_2_5 ++ dktX2_within_2_6
def dkwX2_within_2_4 : List UInt8 := [21, 7, 21, 5, 112, 21, 6, 182, 0, 243, 42, 16, 6, 182, 0, 148, 42, 16, 6, 182, 0, 151, 87, 3]
abbrev dktX2_within_2_4 : List UInt8 := dkwX2_within_2_4 ++ dktX2_within_2_5
def dkwX2_within_2_3 : List UInt8 := [16, 7, 16, 6, 21, 4, 21, 7, 21, 4, 21, 5, 104, 108, 21, 5, 21, 7, 21, 5, 108, 21, 4, 112]
abbrev dktX2_within_2_3 : List UInt8 := dkwX2_within_2_3 ++ dktX2_within_2_4
def dkwX2_within_2_2 : List UInt8 := [28, 159, 0, 6, 167, 0, 112, 3, 54, 7, 21, 7, 21, 4, 21, 4, 104, 21, 5, 104, 162, 0, 96, 42]
abbrev dktX2_within_2_2 : List UInt8 := dkwX2_within_2_2 ++ dktX2_within_2_3
def dkwX2_within_2_1 : List UInt8 := [21, 5, 104, 28, 163, 0, 142, 28, 21, 4, 21, 5, 104, 108, 54, 6, 21, 4, 21, 5, 104, 21, 6, 104]
abbrev dktX2_within_2_1 : List UInt8 := dkwX2_within_2_1 ++ dktX2_within_2_2
def dkwX2_within_2_0 : List UInt8 := [42, 27, 16, 7, 182, 0, 207, 87, 3, 62, 4, 54, 4, 21, 4, 28, 163, 0, 160, 4, 54, 5, 21, 4]
abbrev dktX2_within_2_0 : List UInt8 := dkwX2_within_2_0 ++ dktX2_within_2_1
theorem dksX2_within_2_0 : cX2_within_2.data.toList.drop 0 = dktX2_within_2_0 := by decide +kernel
theorem dksX2_within_2_1 : cX2_within_2.data.toList.drop 24 = dktX2_within_2_1 := dk_seg dksX2_within_2_0 24 rfl rfl
theorem dksX2_within_2_2 : cX2_within_2.data.toList.drop 48 = dktX2_within_2_2 := dk_seg dksX2_within_2_1 24 rfl rfl
theorem dksX2_within_2_3 : cX2_within_2.data.toList.drop 72 = dktX2_within_2_3 := dk_seg dksX2_within_2_2 24 rfl rfl
theorem dksX2_within_2_4 : cX2_within_2.data.toList.drop 96 = dktX2_within_2_4 := dk_seg dksX2_within_2_3 24 rfl rfl
theorem dksX2_within_2_5 : cX2_within_2.data.toList.drop 120 = dktX2_within_2_5 := dk_seg dksX2_within_2_4 24 rfl rfl
theorem dksX2_within_2_6 : cX2_within_2.data.toList.drop 143 = dktX2_within_2_6 := dk_seg dksX2_within_2_5 23 rfl rfl
theorem dksX2_within_2_7 : cX2_within_2.data.toList.drop 167 = dktX2_within_2_7 := dk_seg dksX2_within_2_6 24 rfl rfl
theorem dX2_within_2_0 : decode cX2_within_2 0 = .ok (.aload_n 0, 1) := dk_42 (dk_at dksX2_within_2_0 0 rfl rfl)
theorem dX2_within_2_1 : decode cX2_within_2 1 = .ok (.iload_n 1, 1) := dk_27 (dk_at dksX2_within_2_0 1 rfl rfl)
theorem dX2_within_2_2 : decode cX2_within_2 2 = .ok (.bipush 7, 2) := dk_16 7 (dk_at dksX2_within_2_0 2 rfl rfl)
theorem dX2_within_2_4 : decode cX2_within_2 4 = .ok (.invokevirtual 207, 3) := dk_182 0 207 (dk_at dksX2_within_2_0 4 rfl rfl)
theorem dX2_within_2_7 : decode cX2_within_2 7 = .ok (.pop, 1) := dk_87 (dk_at dksX2_within_2_0 7 rfl rfl)
theorem dX2_within_2_8 : decode cX2_within_2 8 = .ok (.iconst 0, 1) := dk_3 (dk_at dksX2_within_2_0 8 rfl rfl)
theorem dX2_within_2_9 : decode cX2_within_2 9 = .ok (.istore_n 3, 1) := dk_62 (dk_at dksX2_within_2_0 9 rfl rfl)
theorem dX2_within_2_10 : decode cX2_within_2 10 = .ok (.iconst 1, 1) := dk_4 (dk_at dksX2_within_2_0 10 rfl rfl)
theorem dX2_within_2_11 : decode cX2_within_2 11 = .ok (.istore 4, 2) := dk_54 4 (dk_at dksX2_within_2_0 11 rfl rfl)
theorem dX2_within_2_13 : decode cX2_within_2 13 = .ok (.iload 4, 2) := dk_21 4 (dk_at dksX2_within_2_0 13 rfl rfl)
theorem dX2_within_2_15 : decode cX2_within_2 15 = .ok (.iload_n 2, 1) := dk_28 (dk_at dksX2_within_2_0 15 rfl rfl)
theorem dX2_within_2_16 : decode cX2_within_2 16 = .ok (.if_icmp .gt 160, 3) := dk_163 0 160 (dk_at dksX2_within_2_0 16 rfl rfl)
theorem dX2_within_2_19 : decode cX2_within_2 19 = .ok (.iconst 1, 1) := dk_4 (dk_at dksX2_within_2_0 19 rfl rfl)
theorem dX2_within_2_20 : decode cX2_within_2 20 = .ok (.istore 5, 2) := dk_54 5 (dk_at dksX2_within_2_0 20 rfl rfl)
theorem dX2_within_2_22 : decode cX2_within_2 22 = .ok (.iload 4, 2) := dk_21 4 (dk_at dksX2_within_2_0 22 rfl rfl)
theorem dX2_within_2_24 : decode cX2_within_2 24 = .ok (.iload 5, 2) := dk_21 5 (dk_at dksX2_within_2_1 0 rfl rfl)
theorem dX2_within_2_26 : decode cX2_within_2 26 = .ok (.imul, 1) := dk_104 (dk_at dksX2_within_2_1 2 rfl rfl)
theorem dX2_within_2_27 : decode cX2_within_2 27 = .ok (.iload_n 2, 1) := dk_28 (dk_at dksX2_within_2_1 3 rfl rfl)
theorem dX2_within_2_28 : decode cX2_within_2 28 = .ok (.if_icmp .gt 142, 3) := dk_163 0 142 (dk_at dksX2_within_2_1 4 rfl rfl)
theorem dX2_within_2_31 : decode cX2_within_2 31 = .ok (.iload_n 2, 1) := dk_28 (dk_at dksX2_within_2_1 7 rfl rfl)
theorem dX2_within_2_32 : decode cX2_within_2 32 = .ok (.iload 4, 2) := dk_21 4 (dk_at dksX2_within_2_1 8 rfl rfl)
theorem dX2_within_2_34 : decode cX2_within_2 34 = .ok (.iload 5, 2) := dk_21 5 (dk_at dksX2_within_2_1 10 rfl rfl)
theorem dX2_within_2_36 : decode cX2_within_2 36 = .ok (.imul, 1) := dk_104 (dk_at dksX2_within_2_1 12 rfl rfl)
theorem dX2_within_2_37 : decode cX2_within_2 37 = .ok (.idiv, 1) := dk_108 (dk_at dksX2_within_2_1 13 rfl rfl)
theorem dX2_within_2_38 : decode cX2_within_2 38 = .ok (.istore 6, 2) := dk_54 6 (dk_at dksX2_within_2_1 14 rfl rfl)
theorem dX2_within_2_40 : decode cX2_within_2 40 = .ok (.iload 4, 2) := dk_21 4 (dk_at dksX2_within_2_1 16 rfl rfl)
theorem dX2_within_2_42 : decode cX2_within_2 42 = .ok (.iload 5, 2) := dk_21 5 (dk_at dksX2_within_2_1 18 rfl rfl)
theorem dX2_within_2_44 : decode cX2_within_2 44 = .ok (.imul, 1) := dk_104 (dk_at dksX2_within_2_1 20 rfl rfl)
theorem dX2_within_2_45 : decode cX2_within_2 45 = .ok (.iload 6, 2) := dk_21 6 (dk_at dksX2_within_2_1 21 rfl rfl)
theorem dX2_within_2_47 : decode cX2_within_2 47 = .ok (.imul, 1) := dk_104 (dk_at dksX2_within_2_1 23 rfl rfl)
theorem dX2_within_2_48 : decode cX2_within_2 48 = .ok (.iload_n 2, 1) := dk_28 (dk_at dksX2_within_2_2 0 rfl rfl)
theorem dX2_within_2_49 : decode cX2_within_2 49 = .ok (.if_icmp .eq 6, 3) := dk_159 0 6 (dk_at dksX2_within_2_2 1 rfl rfl)
theorem dX2_within_2_52 : decode cX2_within_2 52 = .ok (.goto 112, 3) := dk_167 0 112 (dk_at dksX2_within_2_2 4 rfl rfl)
theorem dX2_within_2_55 : decode cX2_within_2 55 = .ok (.iconst 0, 1) := dk_3 (dk_at dksX2_within_2_2 7 rfl rfl)
theorem dX2_within_2_56 : decode cX2_within_2 56 = .ok (.istore 7, 2) := dk_54 7 (dk_at dksX2_within_2_2 8 rfl rfl)
theorem dX2_within_2_58 : decode cX2_within_2 58 = .ok (.iload 7, 2) := dk_21 7 (dk_at dksX2_within_2_2 10 rfl rfl)
theorem dX2_within_2_60 : decode cX2_within_2 60 = .ok (.iload 4, 2) := dk_21 4 (dk_at dksX2_within_2_2 12 rfl rfl)
theorem dX2_within_2_62 : decode cX2_within_2 62 = .ok (.iload 4, 2) := dk_21 4 (dk_at dksX2_within_2_2 14 rfl rfl)
theorem dX2_within_2_64 : decode cX2_within_2 64 = .ok (.imul, 1) := dk_104 (dk_at dksX2_within_2_2 16 rfl rfl)
theorem dX2_within_2_65 : decode cX2_within_2 65 = .ok (.iload 5, 2) := dk_21 5 (dk_at dksX2_within_2_2 17 rfl rfl)
theorem dX2_within_2_67 : decode cX2_within_2 67 = .ok (.imul, 1) := dk_104 (dk_at dksX2_within_2_2 19 rfl rfl)
theorem dX2_within_2_68 : decode cX2_within_2 68 = .ok (.if_icmp .ge 96, 3) := dk_162 0 96 (dk_at dksX2_within_2_2 20 rfl rfl)
theorem dX2_within_2_71 : decode cX2_within_2 71 = .ok (.aload_n 0, 1) := dk_42 (dk_at dksX2_within_2_2 23 rfl rfl)
theorem dX2_within_2_72 : decode cX2_within_2 72 = .ok (.bipush 7, 2) := dk_16 7 (dk_at dksX2_within_2_3 0 rfl rfl)
theorem dX2_within_2_74 : decode cX2_within_2 74 = .ok (.bipush 6, 2) := dk_16 6 (dk_at dksX2_within_2_3 2 rfl rfl)
theorem dX2_within_2_76 : decode cX2_within_2 76 = .ok (.iload 4, 2) := dk_21 4 (dk_at dksX2_within_2_3 4 rfl rfl)
theorem dX2_within_2_78 : decode cX2_within_2 78 = .ok (.iload 7, 2) := dk_21 7 (dk_at dksX2_within_2_3 6 rfl rfl)
theorem dX2_within_2_80 : decode cX2_within_2 80 = .ok (.iload 4, 2) := dk_21 4 (dk_at dksX2_within_2_3 8 rfl rfl)
theorem dX2_within_2_82 : decode cX2_within_2 82 = .ok (.iload 5, 2) := dk_21 5 (dk_at dksX2_within_2_3 10 rfl rfl)
theorem dX2_within_2_84 : decode cX2_within_2 84 = .ok (.imul, 1) := dk_104 (dk_at dksX2_within_2_3 12 rfl rfl)
theorem dX2_within_2_85 : decode cX2_within_2 85 = .ok (.idiv, 1) := dk_108 (dk_at dksX2_within_2_3 13 rfl rfl)
theorem dX2_within_2_86 : decode cX2_within_2 86 = .ok (.iload 5, 2) := dk_21 5 (dk_at dksX2_within_2_3 14 rfl rfl)
theorem dX2_within_2_88 : decode cX2_within_2 88 = .ok (.iload 7, 2) := dk_21 7 (dk_at dksX2_within_2_3 16 rfl rfl)
theorem dX2_within_2_90 : decode cX2_within_2 90 = .ok (.iload 5, 2) := dk_21 5 (dk_at dksX2_within_2_3 18 rfl rfl)
theorem dX2_within_2_92 : decode cX2_within_2 92 = .ok (.idiv, 1) := dk_108 (dk_at dksX2_within_2_3 20 rfl rfl)
theorem dX2_within_2_93 : decode cX2_within_2 93 = .ok (.iload 4, 2) := dk_21 4 (dk_at dksX2_within_2_3 21 rfl rfl)
theorem dX2_within_2_95 : decode cX2_within_2 95 = .ok (.irem, 1) := dk_112 (dk_at dksX2_within_2_3 23 rfl rfl)
theorem dX2_within_2_96 : decode cX2_within_2 96 = .ok (.iload 7, 2) := dk_21 7 (dk_at dksX2_within_2_4 0 rfl rfl)
theorem dX2_within_2_98 : decode cX2_within_2 98 = .ok (.iload 5, 2) := dk_21 5 (dk_at dksX2_within_2_4 2 rfl rfl)
theorem dX2_within_2_100 : decode cX2_within_2 100 = .ok (.irem, 1) := dk_112 (dk_at dksX2_within_2_4 4 rfl rfl)
theorem dX2_within_2_101 : decode cX2_within_2 101 = .ok (.iload 6, 2) := dk_21 6 (dk_at dksX2_within_2_4 5 rfl rfl)
theorem dX2_within_2_103 : decode cX2_within_2 103 = .ok (.invokevirtual 243, 3) := dk_182 0 243 (dk_at dksX2_within_2_4 7 rfl rfl)
theorem dX2_within_2_106 : decode cX2_within_2 106 = .ok (.aload_n 0, 1) := dk_42 (dk_at dksX2_within_2_4 10 rfl rfl)
theorem dX2_within_2_107 : decode cX2_within_2 107 = .ok (.bipush 6, 2) := dk_16 6 (dk_at dksX2_within_2_4 11 rfl rfl)
theorem dX2_within_2_109 : decode cX2_within_2 109 = .ok (.invokevirtual 148, 3) := dk_182 0 148 (dk_at dksX2_within_2_4 13 rfl rfl)
theorem dX2_within_2_112 : decode cX2_within_2 112 = .ok (.aload_n 0, 1) := dk_42 (dk_at dksX2_within_2_4 16 rfl rfl)
theorem dX2_within_2_113 : decode cX2_within_2 113 = .ok (.bipush 6, 2) := dk_16 6 (dk_at dksX2_within_2_4 17 rfl rfl)
theorem dX2_within_2_115 : decode cX2_within_2 115 = .ok (.invokevirtual 151, 3) := dk_182 0 151 (dk_at dksX2_within_2_4 19 rfl rfl)
theorem dX2_within_2_118 : decode cX2_within_2 118 = .ok (.pop, 1) := dk_87 (dk_at dksX2_within_2_4 22 rfl rfl)
theorem dX2_within_2_119 : decode cX2_within_2 119 = .ok (.iconst 0, 1) := dk_3 (dk_at dksX2_within_2_4 23 rfl rfl)
theorem dX2_within_2_120 : decode cX2_within_2 120 = .ok (.istore 8, 2) := dk_54 8 (dk_at dksX2_within_2_5 0 rfl rfl)
theorem dX2_within_2_122 : decode cX2_within_2 122 = .ok (.iload 8, 2) := dk_21 8 (dk_at dksX2_within_2_5 2 rfl rfl)
theorem dX2_within_2_124 : decode cX2_within_2 124 = .ok (.bipush 6, 2) := dk_16 6 (dk_at dksX2_within_2_5 4 rfl rfl)
theorem dX2_within_2_126 : decode cX2_within_2 126 = .ok (.if_icmp .ge 29, 3) := dk_162 0 29 (dk_at dksX2_within_2_5 6 rfl rfl)
theorem dX2_within_2_129 : decode cX2_within_2 129 = .ok (.aload_n 0, 1) := dk_42 (dk_at dksX2_within_2_5 9 rfl rfl)
theorem dX2_within_2_130 : decode cX2_within_2 130 = .ok (.getfield 34, 3) := dk_180 0 34 (dk_at dksX2_within_2_5 10 rfl rfl)
theorem dX2_within_2_133 : decode cX2_within_2 133 = .ok (.bipush 6, 2) := dk_16 6 (dk_at dksX2_within_2_5 13 rfl rfl)
theorem dX2_within_2_135 : decode cX2_within_2 135 = .ok (.iload_n 3, 1) := dk_29 (dk_at dksX2_within_2_5 15 rfl rfl)
theorem dX2_within_2_136 : decode cX2_within_2 136 = .ok (.imul, 1) := dk_104 (dk_at dksX2_within_2_5 16 rfl rfl)
theorem dX2_within_2_137 : decode cX2_within_2 137 = .ok (.iload 8, 2) := dk_21 8 (dk_at dksX2_within_2_5 17 rfl rfl)
theorem dX2_within_2_139 : decode cX2_within_2 139 = .ok (.iadd, 1) := dk_96 (dk_at dksX2_within_2_5 19 rfl rfl)
theorem dX2_within_2_140 : decode cX2_within_2 140 = .ok (.aload_n 0, 1) := dk_42 (dk_at dksX2_within_2_5 20 rfl rfl)
theorem dX2_within_2_141 : decode cX2_within_2 141 = .ok (.bipush 6, 2) := dk_16 6 (dk_at dksX2_within_2_5 21 rfl rfl)
theorem dX2_within_2_143 : decode cX2_within_2 143 = .ok (.iload 8, 2) := dk_21 8 (dk_at dksX2_within_2_6 0 rfl rfl)
theorem dX2_within_2_145 : decode cX2_within_2 145 = .ok (.invokevirtual 74, 3) := dk_182 0 74 (dk_at dksX2_within_2_6 2 rfl rfl)
theorem dX2_within_2_148 : decode cX2_within_2 148 = .ok (.lastore, 1) := dk_80 (dk_at dksX2_within_2_6 5 rfl rfl)
theorem dX2_within_2_149 : decode cX2_within_2 149 = .ok (.iinc 8 1, 3) := dk_132 8 1 (dk_at dksX2_within_2_6 6 rfl rfl)
theorem dX2_within_2_152 : decode cX2_within_2 152 = .ok (.goto (-30), 3) := dk_167 255 226 (dk_at dksX2_within_2_6 9 rfl rfl)
theorem dX2_within_2_155 : decode cX2_within_2 155 = .ok (.iinc 3 1, 3) := dk_132 3 1 (dk_at dksX2_within_2_6 12 rfl rfl)
theorem dX2_within_2_158 : decode cX2_within_2 158 = .ok (.iinc 7 1, 3) := dk_132 7 1 (dk_at dksX2_within_2_6 15 rfl rfl)
theorem dX2_within_2_161 : decode cX2_within_2 161 = .ok (.goto (-103), 3) := dk_167 255 153 (dk_at dksX2_within_2_6 18 rfl rfl)
theorem dX2_within_2_164 : decode cX2_within_2 164 = .ok (.iinc 5 1, 3) := dk_132 5 1 (dk_at dksX2_within_2_6 21 rfl rfl)
theorem dX2_within_2_167 : decode cX2_within_2 167 = .ok (.goto (-145), 3) := dk_167 255 111 (dk_at dksX2_within_2_7 0 rfl rfl)
theorem dX2_within_2_170 : decode cX2_within_2 170 = .ok (.iinc 4 1, 3) := dk_132 4 1 (dk_at dksX2_within_2_7 3 rfl rfl)
theorem dX2_within_2_173 : decode cX2_within_2 173 = .ok (.goto (-160), 3) := dk_167 255 96 (dk_at dksX2_within_2_7 6 rfl rfl)
theorem dX2_within_2_176 : decode cX2_within_2 176 = .ok (.iload_n 3, 1) := dk_29 (dk_at dksX2_within_2_7 9 rfl rfl)
theorem dX2_within_2_177 : decode cX2_within_2 177 = .ok (.ireturn, 1) := dk_172 (dk_at dksX2_within_2_7 10 rfl rfl)
abbrev cX2_puts : ByteArray := prog_6_method_59_code
def yX2_puts : MethodName := ⟨RX2, "puts", "(IIIIIIII)V"⟩
def dkwX2_puts_11 : List UInt8 := [104, 133, 22, 9, 105, 22, 21, 22, 23, 22, 25, 22, 27, 22, 29, 182, 0, 170, 177]
abbrev dktX2_puts_11 : List UInt8 := dkwX2_puts_11 ++ []
def dkwX2_puts_10 : List UInt8 := [20, 0, 72, 21, 4, 133, 105, 22, 9, 105, 21, 5, 133, 22, 19, 105, 97, 105, 55, 29, 42, 28, 29, 29]
abbrev dktX2_puts_10 : List UInt8 := dkwX2_puts_10 ++ dktX2_puts_11
def dkwX2_puts_9 : List UInt8 := [105, 22, 9, 105, 21, 7, 133, 22, 19, 105, 97, 21, 8, 133, 22, 17, 105, 97, 105, 55, 27, 29, 133]
abbrev dktX2_puts_9 : List UInt8 := dkwX2_puts_9 ++ dktX2_puts_10
def dkwX2_puts_8 : List UInt8 := [22, 17, 105, 97, 21, 5, 21, 8, 104, 133, 22, 15, 105, 97, 55, 25, 29, 133, 20, 0, 72, 21, 6, 133]
abbrev dktX2_puts_8 : List UInt8 := dkwX2_puts_8 ++ dktX2_puts_9
def dkwX2_puts_7 : List UInt8 := [105, 97, 21, 4, 21, 7, 104, 21, 5, 21, 6, 104, 96, 133, 22, 19, 105, 97, 21, 4, 21, 8, 104, 133]
abbrev dktX2_puts_7 : List UInt8 := dkwX2_puts_7 ++ dktX2_puts_8
def dkwX2_puts_6 : List UInt8 := [21, 4, 133, 105, 21, 6, 133, 105, 22, 9, 105, 20, 0, 72, 21, 5, 133, 105, 21, 7, 133, 105, 22, 11]
abbrev dktX2_puts_6 : List UInt8 := dkwX2_puts_6 ++ dktX2_puts_7
def dkwX2_puts_5 : List UInt8 := [21, 8, 104, 133, 22, 17, 105, 97, 21, 6, 21, 7, 104, 133, 22, 19, 105, 97, 55, 23, 20, 0, 72]
abbrev dktX2_puts_5 : List UInt8 := dkwX2_puts_5 ++ dktX2_puts_6
def dkwX2_puts_4 : List UInt8 := [105, 97, 21, 8, 21, 8, 104, 133, 22, 13, 105, 97, 21, 7, 21, 8, 104, 133, 22, 15, 105, 97, 21, 6]
abbrev dktX2_puts_4 : List UInt8 := dkwX2_puts_4 ++ dktX2_puts_5
def dkwX2_puts_3 : List UInt8 := [133, 22, 19, 105, 97, 55, 21, 21, 6, 21, 6, 104, 133, 22, 9, 105, 21, 7, 21, 7, 104, 133, 22, 11]
abbrev dktX2_puts_3 : List UInt8 := dkwX2_puts_3 ++ dktX2_puts_4
def dkwX2_puts_2 : List UInt8 := [21, 4, 21, 4, 104, 133, 22, 9, 105, 21, 5, 21, 5, 104, 133, 22, 11, 105, 97, 21, 4, 21, 5, 104]
abbrev dktX2_puts_2 : List UInt8 := dkwX2_puts_2 ++ dktX2_puts_3
def dkwX2_puts_1 : List UInt8 := [42, 27, 6, 182, 0, 74, 55, 15, 42, 27, 7, 182, 0, 74, 55, 17, 42, 27, 8, 182, 0, 74, 55, 19]
abbrev dktX2_puts_1 : List UInt8 := dkwX2_puts_1 ++ dktX2_puts_2
def dkwX2_puts_0 : List UInt8 := [42, 27, 3, 182, 0, 74, 55, 9, 42, 27, 4, 182, 0, 74, 55, 11, 42, 27, 5, 182, 0, 74, 55, 13]
abbrev dktX2_puts_0 : List UInt8 := dkwX2_puts_0 ++ dktX2_puts_1
theorem dksX2_puts_0 : cX2_puts.data.toList.drop 0 = dktX2_puts_0 := by decide +kernel
theorem dksX2_puts_1 : cX2_puts.data.toList.drop 24 = dktX2_puts_1 := dk_seg dksX2_puts_0 24 rfl rfl
theorem dksX2_puts_2 : cX2_puts.data.toList.drop 48 = dktX2_puts_2 := dk_seg dksX2_puts_1 24 rfl rfl
theorem dksX2_puts_3 : cX2_puts.data.toList.drop 72 = dktX2_puts_3 := dk_seg dksX2_puts_2 24 rfl rfl
theorem dksX2_puts_4 : cX2_puts.data.toList.drop 96 = dktX2_puts_4 := dk_seg dksX2_puts_3 24 rfl rfl
theorem dksX2_puts_5 : cX2_puts.data.toList.drop 120 = dktX2_puts_5 := dk_seg dksX2_puts_4 24 rfl rfl
theorem dksX2_puts_6 : cX2_puts.data.toList.drop 143 = dktX2_puts_6 := dk_seg dksX2_puts_5 23 rfl rfl
theorem dksX2_puts_7 : cX2_puts.data.toList.drop 167 = dktX2_puts_7 := dk_seg dksX2_puts_6 24 rfl rfl
theorem dksX2_puts_8 : cX2_puts.data.toList.drop 191 = dktX2_puts_8 := dk_seg dksX2_puts_7 24 rfl rfl
theorem dksX2_puts_9 : cX2_puts.data.toList.drop 215 = dktX2_puts_9 := dk_seg dksX2_puts_8 24 rfl rfl
theorem dksX2_puts_10 : cX2_puts.data.toList.drop 238 = dktX2_puts_10 := dk_seg dksX2_puts_9 23 rfl rfl
theorem dksX2_puts_11 : cX2_puts.data.toList.drop 262 = dktX2_puts_11 := dk_seg dksX2_puts_10 24 rfl rfl
theorem dX2_puts_0 : decode cX2_puts 0 = .ok (.aload_n 0, 1) := dk_42 (dk_at dksX2_puts_0 0 rfl rfl)
theorem dX2_puts_1 : decode cX2_puts 1 = .ok (.iload_n 1, 1) := dk_27 (dk_at dksX2_puts_0 1 rfl rfl)
theorem dX2_puts_2 : decode cX2_puts 2 = .ok (.iconst 0, 1) := dk_3 (dk_at dksX2_puts_0 2 rfl rfl)
theorem dX2_puts_3 : decode cX2_puts 3 = .ok (.invokevirtual 74, 3) := dk_182 0 74 (dk_at dksX2_puts_0 3 rfl rfl)
theorem dX2_puts_6 : decode cX2_puts 6 = .ok (.lstore 9, 2) := dk_55 9 (dk_at dksX2_puts_0 6 rfl rfl)
theorem dX2_puts_8 : decode cX2_puts 8 = .ok (.aload_n 0, 1) := dk_42 (dk_at dksX2_puts_0 8 rfl rfl)
theorem dX2_puts_9 : decode cX2_puts 9 = .ok (.iload_n 1, 1) := dk_27 (dk_at dksX2_puts_0 9 rfl rfl)
theorem dX2_puts_10 : decode cX2_puts 10 = .ok (.iconst 1, 1) := dk_4 (dk_at dksX2_puts_0 10 rfl rfl)
theorem dX2_puts_11 : decode cX2_puts 11 = .ok (.invokevirtual 74, 3) := dk_182 0 74 (dk_at dksX2_puts_0 11 rfl rfl)
theorem dX2_puts_14 : decode cX2_puts 14 = .ok (.lstore 11, 2) := dk_55 11 (dk_at dksX2_puts_0 14 rfl rfl)
theorem dX2_puts_16 : decode cX2_puts 16 = .ok (.aload_n 0, 1) := dk_42 (dk_at dksX2_puts_0 16 rfl rfl)
theorem dX2_puts_17 : decode cX2_puts 17 = .ok (.iload_n 1, 1) := dk_27 (dk_at dksX2_puts_0 17 rfl rfl)
theorem dX2_puts_18 : decode cX2_puts 18 = .ok (.iconst 2, 1) := dk_5 (dk_at dksX2_puts_0 18 rfl rfl)
theorem dX2_puts_19 : decode cX2_puts 19 = .ok (.invokevirtual 74, 3) := dk_182 0 74 (dk_at dksX2_puts_0 19 rfl rfl)
theorem dX2_puts_22 : decode cX2_puts 22 = .ok (.lstore 13, 2) := dk_55 13 (dk_at dksX2_puts_0 22 rfl rfl)
theorem dX2_puts_24 : decode cX2_puts 24 = .ok (.aload_n 0, 1) := dk_42 (dk_at dksX2_puts_1 0 rfl rfl)
theorem dX2_puts_25 : decode cX2_puts 25 = .ok (.iload_n 1, 1) := dk_27 (dk_at dksX2_puts_1 1 rfl rfl)
theorem dX2_puts_26 : decode cX2_puts 26 = .ok (.iconst 3, 1) := dk_6 (dk_at dksX2_puts_1 2 rfl rfl)
theorem dX2_puts_27 : decode cX2_puts 27 = .ok (.invokevirtual 74, 3) := dk_182 0 74 (dk_at dksX2_puts_1 3 rfl rfl)
theorem dX2_puts_30 : decode cX2_puts 30 = .ok (.lstore 15, 2) := dk_55 15 (dk_at dksX2_puts_1 6 rfl rfl)
theorem dX2_puts_32 : decode cX2_puts 32 = .ok (.aload_n 0, 1) := dk_42 (dk_at dksX2_puts_1 8 rfl rfl)
theorem dX2_puts_33 : decode cX2_puts 33 = .ok (.iload_n 1, 1) := dk_27 (dk_at dksX2_puts_1 9 rfl rfl)
theorem dX2_puts_34 : decode cX2_puts 34 = .ok (.iconst 4, 1) := dk_7 (dk_at dksX2_puts_1 10 rfl rfl)
theorem dX2_puts_35 : decode cX2_puts 35 = .ok (.invokevirtual 74, 3) := dk_182 0 74 (dk_at dksX2_puts_1 11 rfl rfl)
theorem dX2_puts_38 : decode cX2_puts 38 = .ok (.lstore 17, 2) := dk_55 17 (dk_at dksX2_puts_1 14 rfl rfl)
theorem dX2_puts_40 : decode cX2_puts 40 = .ok (.aload_n 0, 1) := dk_42 (dk_at dksX2_puts_1 16 rfl rfl)
theorem dX2_puts_41 : decode cX2_puts 41 = .ok (.iload_n 1, 1) := dk_27 (dk_at dksX2_puts_1 17 rfl rfl)
theorem dX2_puts_42 : decode cX2_puts 42 = .ok (.iconst 5, 1) := dk_8 (dk_at dksX2_puts_1 18 rfl rfl)
theorem dX2_puts_43 : decode cX2_puts 43 = .ok (.invokevirtual 74, 3) := dk_182 0 74 (dk_at dksX2_puts_1 19 rfl rfl)
theorem dX2_puts_46 : decode cX2_puts 46 = .ok (.lstore 19, 2) := dk_55 19 (dk_at dksX2_puts_1 22 rfl rfl)
theorem dX2_puts_48 : decode cX2_puts 48 = .ok (.iload 4, 2) := dk_21 4 (dk_at dksX2_puts_2 0 rfl rfl)
theorem dX2_puts_50 : decode cX2_puts 50 = .ok (.iload 4, 2) := dk_21 4 (dk_at dksX2_puts_2 2 rfl rfl)
theorem dX2_puts_52 : decode cX2_puts 52 = .ok (.imul, 1) := dk_104 (dk_at dksX2_puts_2 4 rfl rfl)
theorem dX2_puts_53 : decode cX2_puts 53 = .ok (.i2l, 1) := dk_133 (dk_at dksX2_puts_2 5 rfl rfl)
theorem dX2_puts_54 : decode cX2_puts 54 = .ok (.lload 9, 2) := dk_22 9 (dk_at dksX2_puts_2 6 rfl rfl)
theorem dX2_puts_56 : decode cX2_puts 56 = .ok (.lmul, 1) := dk_105 (dk_at dksX2_puts_2 8 rfl rfl)
theorem dX2_puts_57 : decode cX2_puts 57 = .ok (.iload 5, 2) := dk_21 5 (dk_at dksX2_puts_2 9 rfl rfl)
theorem dX2_puts_59 : decode cX2_puts 59 = .ok (.iload 5, 2) := dk_21 5 (dk_at dksX2_puts_2 11 rfl rfl)
theorem dX2_puts_61 : decode cX2_puts 61 = .ok (.imul, 1) := dk_104 (dk_at dksX2_puts_2 13 rfl rfl)
theorem dX2_puts_62 : decode cX2_puts 62 = .ok (.i2l, 1) := dk_133 (dk_at dksX2_puts_2 14 rfl rfl)
theorem dX2_puts_63 : decode cX2_puts 63 = .ok (.lload 11, 2) := dk_22 11 (dk_at dksX2_puts_2 15 rfl rfl)
theorem dX2_puts_65 : decode cX2_puts 65 = .ok (.lmul, 1) := dk_105 (dk_at dksX2_puts_2 17 rfl rfl)
theorem dX2_puts_66 : decode cX2_puts 66 = .ok (.ladd, 1) := dk_97 (dk_at dksX2_puts_2 18 rfl rfl)
theorem dX2_puts_67 : decode cX2_puts 67 = .ok (.iload 4, 2) := dk_21 4 (dk_at dksX2_puts_2 19 rfl rfl)
theorem dX2_puts_69 : decode cX2_puts 69 = .ok (.iload 5, 2) := dk_21 5 (dk_at dksX2_puts_2 21 rfl rfl)
theorem dX2_puts_71 : decode cX2_puts 71 = .ok (.imul, 1) := dk_104 (dk_at dksX2_puts_2 23 rfl rfl)
theorem dX2_puts_72 : decode cX2_puts 72 = .ok (.i2l, 1) := dk_133 (dk_at dksX2_puts_3 0 rfl rfl)
theorem dX2_puts_73 : decode cX2_puts 73 = .ok (.lload 19, 2) := dk_22 19 (dk_at dksX2_puts_3 1 rfl rfl)
theorem dX2_puts_75 : decode cX2_puts 75 = .ok (.lmul, 1) := dk_105 (dk_at dksX2_puts_3 3 rfl rfl)
theorem dX2_puts_76 : decode cX2_puts 76 = .ok (.ladd, 1) := dk_97 (dk_at dksX2_puts_3 4 rfl rfl)
theorem dX2_puts_77 : decode cX2_puts 77 = .ok (.lstore 21, 2) := dk_55 21 (dk_at dksX2_puts_3 5 rfl rfl)
theorem dX2_puts_79 : decode cX2_puts 79 = .ok (.iload 6, 2) := dk_21 6 (dk_at dksX2_puts_3 7 rfl rfl)
theorem dX2_puts_81 : decode cX2_puts 81 = .ok (.iload 6, 2) := dk_21 6 (dk_at dksX2_puts_3 9 rfl rfl)
theorem dX2_puts_83 : decode cX2_puts 83 = .ok (.imul, 1) := dk_104 (dk_at dksX2_puts_3 11 rfl rfl)
theorem dX2_puts_84 : decode cX2_puts 84 = .ok (.i2l, 1) := dk_133 (dk_at dksX2_puts_3 12 rfl rfl)
theorem dX2_puts_85 : decode cX2_puts 85 = .ok (.lload 9, 2) := dk_22 9 (dk_at dksX2_puts_3 13 rfl rfl)
theorem dX2_puts_87 : decode cX2_puts 87 = .ok (.lmul, 1) := dk_105 (dk_at dksX2_puts_3 15 rfl rfl)
theorem dX2_puts_88 : decode cX2_puts 88 = .ok (.iload 7, 2) := dk_21 7 (dk_at dksX2_puts_3 16 rfl rfl)
theorem dX2_puts_90 : decode cX2_puts 90 = .ok (.iload 7, 2) := dk_21 7 (dk_at dksX2_puts_3 18 rfl rfl)
theorem dX2_puts_92 : decode cX2_puts 92 = .ok (.imul, 1) := dk_104 (dk_at dksX2_puts_3 20 rfl rfl)
theorem dX2_puts_93 : decode cX2_puts 93 = .ok (.i2l, 1) := dk_133 (dk_at dksX2_puts_3 21 rfl rfl)
theorem dX2_puts_94 : decode cX2_puts 94 = .ok (.lload 11, 2) := dk_22 11 (dk_at dksX2_puts_3 22 rfl rfl)
theorem dX2_puts_96 : decode cX2_puts 96 = .ok (.lmul, 1) := dk_105 (dk_at dksX2_puts_4 0 rfl rfl)
theorem dX2_puts_97 : decode cX2_puts 97 = .ok (.ladd, 1) := dk_97 (dk_at dksX2_puts_4 1 rfl rfl)
theorem dX2_puts_98 : decode cX2_puts 98 = .ok (.iload 8, 2) := dk_21 8 (dk_at dksX2_puts_4 2 rfl rfl)
theorem dX2_puts_100 : decode cX2_puts 100 = .ok (.iload 8, 2) := dk_21 8 (dk_at dksX2_puts_4 4 rfl rfl)
theorem dX2_puts_102 : decode cX2_puts 102 = .ok (.imul, 1) := dk_104 (dk_at dksX2_puts_4 6 rfl rfl)
theorem dX2_puts_103 : decode cX2_puts 103 = .ok (.i2l, 1) := dk_133 (dk_at dksX2_puts_4 7 rfl rfl)
theorem dX2_puts_104 : decode cX2_puts 104 = .ok (.lload 13, 2) := dk_22 13 (dk_at dksX2_puts_4 8 rfl rfl)
theorem dX2_puts_106 : decode cX2_puts 106 = .ok (.lmul, 1) := dk_105 (dk_at dksX2_puts_4 10 rfl rfl)
theorem dX2_puts_107 : decode cX2_puts 107 = .ok (.ladd, 1) := dk_97 (dk_at dksX2_puts_4 11 rfl rfl)
theorem dX2_puts_108 : decode cX2_puts 108 = .ok (.iload 7, 2) := dk_21 7 (dk_at dksX2_puts_4 12 rfl rfl)
theorem dX2_puts_110 : decode cX2_puts 110 = .ok (.iload 8, 2) := dk_21 8 (dk_at dksX2_puts_4 14 rfl rfl)
theorem dX2_puts_112 : decode cX2_puts 112 = .ok (.imul, 1) := dk_104 (dk_at dksX2_puts_4 16 rfl rfl)
theorem dX2_puts_113 : decode cX2_puts 113 = .ok (.i2l, 1) := dk_133 (dk_at dksX2_puts_4 17 rfl rfl)
theorem dX2_puts_114 : decode cX2_puts 114 = .ok (.lload 15, 2) := dk_22 15 (dk_at dksX2_puts_4 18 rfl rfl)
theorem dX2_puts_116 : decode cX2_puts 116 = .ok (.lmul, 1) := dk_105 (dk_at dksX2_puts_4 20 rfl rfl)
theorem dX2_puts_117 : decode cX2_puts 117 = .ok (.ladd, 1) := dk_97 (dk_at dksX2_puts_4 21 rfl rfl)
theorem dX2_puts_118 : decode cX2_puts 118 = .ok (.iload 6, 2) := dk_21 6 (dk_at dksX2_puts_4 22 rfl rfl)
theorem dX2_puts_120 : decode cX2_puts 120 = .ok (.iload 8, 2) := dk_21 8 (dk_at dksX2_puts_5 0 rfl rfl)
theorem dX2_puts_122 : decode cX2_puts 122 = .ok (.imul, 1) := dk_104 (dk_at dksX2_puts_5 2 rfl rfl)
theorem dX2_puts_123 : decode cX2_puts 123 = .ok (.i2l, 1) := dk_133 (dk_at dksX2_puts_5 3 rfl rfl)
theorem dX2_puts_124 : decode cX2_puts 124 = .ok (.lload 17, 2) := dk_22 17 (dk_at dksX2_puts_5 4 rfl rfl)
theorem dX2_puts_126 : decode cX2_puts 126 = .ok (.lmul, 1) := dk_105 (dk_at dksX2_puts_5 6 rfl rfl)
theorem dX2_puts_127 : decode cX2_puts 127 = .ok (.ladd, 1) := dk_97 (dk_at dksX2_puts_5 7 rfl rfl)
theorem dX2_puts_128 : decode cX2_puts 128 = .ok (.iload 6, 2) := dk_21 6 (dk_at dksX2_puts_5 8 rfl rfl)
theorem dX2_puts_130 : decode cX2_puts 130 = .ok (.iload 7, 2) := dk_21 7 (dk_at dksX2_puts_5 10 rfl rfl)
theorem dX2_puts_132 : decode cX2_puts 132 = .ok (.imul, 1) := dk_104 (dk_at dksX2_puts_5 12 rfl rfl)
theorem dX2_puts_133 : decode cX2_puts 133 = .ok (.i2l, 1) := dk_133 (dk_at dksX2_puts_5 13 rfl rfl)
theorem dX2_puts_134 : decode cX2_puts 134 = .ok (.lload 19, 2) := dk_22 19 (dk_at dksX2_puts_5 14 rfl rfl)
theorem dX2_puts_136 : decode cX2_puts 136 = .ok (.lmul, 1) := dk_105 (dk_at dksX2_puts_5 16 rfl rfl)
theorem dX2_puts_137 : decode cX2_puts 137 = .ok (.ladd, 1) := dk_97 (dk_at dksX2_puts_5 17 rfl rfl)
theorem dX2_puts_138 : decode cX2_puts 138 = .ok (.lstore 23, 2) := dk_55 23 (dk_at dksX2_puts_5 18 rfl rfl)
theorem dX2_puts_140 : decode cX2_puts 140 = .ok (.ldc2_w 72, 3) := dk_20 0 72 (dk_at dksX2_puts_5 20 rfl rfl)
theorem dX2_puts_143 : decode cX2_puts 143 = .ok (.iload 4, 2) := dk_21 4 (dk_at dksX2_puts_6 0 rfl rfl)
theorem dX2_puts_145 : decode cX2_puts 145 = .ok (.i2l, 1) := dk_133 (dk_at dksX2_puts_6 2 rfl rfl)
theorem dX2_puts_146 : decode cX2_puts 146 = .ok (.lmul, 1) := dk_105 (dk_at dksX2_puts_6 3 rfl rfl)
theorem dX2_puts_147 : decode cX2_puts 147 = .ok (.iload 6, 2) := dk_21 6 (dk_at dksX2_puts_6 4 rfl rfl)
theorem dX2_puts_149 : decode cX2_puts 149 = .ok (.i2l, 1) := dk_133 (dk_at dksX2_puts_6 6 rfl rfl)
theorem dX2_puts_150 : decode cX2_puts 150 = .ok (.lmul, 1) := dk_105 (dk_at dksX2_puts_6 7 rfl rfl)
theorem dX2_puts_151 : decode cX2_puts 151 = .ok (.lload 9, 2) := dk_22 9 (dk_at dksX2_puts_6 8 rfl rfl)
theorem dX2_puts_153 : decode cX2_puts 153 = .ok (.lmul, 1) := dk_105 (dk_at dksX2_puts_6 10 rfl rfl)
theorem dX2_puts_154 : decode cX2_puts 154 = .ok (.ldc2_w 72, 3) := dk_20 0 72 (dk_at dksX2_puts_6 11 rfl rfl)
theorem dX2_puts_157 : decode cX2_puts 157 = .ok (.iload 5, 2) := dk_21 5 (dk_at dksX2_puts_6 14 rfl rfl)
theorem dX2_puts_159 : decode cX2_puts 159 = .ok (.i2l, 1) := dk_133 (dk_at dksX2_puts_6 16 rfl rfl)
theorem dX2_puts_160 : decode cX2_puts 160 = .ok (.lmul, 1) := dk_105 (dk_at dksX2_puts_6 17 rfl rfl)
theorem dX2_puts_161 : decode cX2_puts 161 = .ok (.iload 7, 2) := dk_21 7 (dk_at dksX2_puts_6 18 rfl rfl)
theorem dX2_puts_163 : decode cX2_puts 163 = .ok (.i2l, 1) := dk_133 (dk_at dksX2_puts_6 20 rfl rfl)
theorem dX2_puts_164 : decode cX2_puts 164 = .ok (.lmul, 1) := dk_105 (dk_at dksX2_puts_6 21 rfl rfl)
theorem dX2_puts_165 : decode cX2_puts 165 = .ok (.lload 11, 2) := dk_22 11 (dk_at dksX2_puts_6 22 rfl rfl)
theorem dX2_puts_167 : decode cX2_puts 167 = .ok (.lmul, 1) := dk_105 (dk_at dksX2_puts_7 0 rfl rfl)
theorem dX2_puts_168 : decode cX2_puts 168 = .ok (.ladd, 1) := dk_97 (dk_at dksX2_puts_7 1 rfl rfl)
theorem dX2_puts_169 : decode cX2_puts 169 = .ok (.iload 4, 2) := dk_21 4 (dk_at dksX2_puts_7 2 rfl rfl)
theorem dX2_puts_171 : decode cX2_puts 171 = .ok (.iload 7, 2) := dk_21 7 (dk_at dksX2_puts_7 4 rfl rfl)
theorem dX2_puts_173 : decode cX2_puts 173 = .ok (.imul, 1) := dk_104 (dk_at dksX2_puts_7 6 rfl rfl)
theorem dX2_puts_174 : decode cX2_puts 174 = .ok (.iload 5, 2) := dk_21 5 (dk_at dksX2_puts_7 7 rfl rfl)
theorem dX2_puts_176 : decode cX2_puts 176 = .ok (.iload 6, 2) := dk_21 6 (dk_at dksX2_puts_7 9 rfl rfl)
theorem dX2_puts_178 : decode cX2_puts 178 = .ok (.imul, 1) := dk_104 (dk_at dksX2_puts_7 11 rfl rfl)
theorem dX2_puts_179 : decode cX2_puts 179 = .ok (.iadd, 1) := dk_96 (dk_at dksX2_puts_7 12 rfl rfl)
theorem dX2_puts_180 : decode cX2_puts 180 = .ok (.i2l, 1) := dk_133 (dk_at dksX2_puts_7 13 rfl rfl)
theorem dX2_puts_181 : decode cX2_puts 181 = .ok (.lload 19, 2) := dk_22 19 (dk_at dksX2_puts_7 14 rfl rfl)
theorem dX2_puts_183 : decode cX2_puts 183 = .ok (.lmul, 1) := dk_105 (dk_at dksX2_puts_7 16 rfl rfl)
theorem dX2_puts_184 : decode cX2_puts 184 = .ok (.ladd, 1) := dk_97 (dk_at dksX2_puts_7 17 rfl rfl)
theorem dX2_puts_185 : decode cX2_puts 185 = .ok (.iload 4, 2) := dk_21 4 (dk_at dksX2_puts_7 18 rfl rfl)
theorem dX2_puts_187 : decode cX2_puts 187 = .ok (.iload 8, 2) := dk_21 8 (dk_at dksX2_puts_7 20 rfl rfl)
theorem dX2_puts_189 : decode cX2_puts 189 = .ok (.imul, 1) := dk_104 (dk_at dksX2_puts_7 22 rfl rfl)
theorem dX2_puts_190 : decode cX2_puts 190 = .ok (.i2l, 1) := dk_133 (dk_at dksX2_puts_7 23 rfl rfl)
theorem dX2_puts_191 : decode cX2_puts 191 = .ok (.lload 17, 2) := dk_22 17 (dk_at dksX2_puts_8 0 rfl rfl)
theorem dX2_puts_193 : decode cX2_puts 193 = .ok (.lmul, 1) := dk_105 (dk_at dksX2_puts_8 2 rfl rfl)
theorem dX2_puts_194 : decode cX2_puts 194 = .ok (.ladd, 1) := dk_97 (dk_at dksX2_puts_8 3 rfl rfl)
theorem dX2_puts_195 : decode cX2_puts 195 = .ok (.iload 5, 2) := dk_21 5 (dk_at dksX2_puts_8 4 rfl rfl)
theorem dX2_puts_197 : decode cX2_puts 197 = .ok (.iload 8, 2) := dk_21 8 (dk_at dksX2_puts_8 6 rfl rfl)
theorem dX2_puts_199 : decode cX2_puts 199 = .ok (.imul, 1) := dk_104 (dk_at dksX2_puts_8 8 rfl rfl)
theorem dX2_puts_200 : decode cX2_puts 200 = .ok (.i2l, 1) := dk_133 (dk_at dksX2_puts_8 9 rfl rfl)
theorem dX2_puts_201 : decode cX2_puts 201 = .ok (.lload 15, 2) := dk_22 15 (dk_at dksX2_puts_8 10 rfl rfl)
theorem dX2_puts_203 : decode cX2_puts 203 = .ok (.lmul, 1) := dk_105 (dk_at dksX2_puts_8 12 rfl rfl)
theorem dX2_puts_204 : decode cX2_puts 204 = .ok (.ladd, 1) := dk_97 (dk_at dksX2_puts_8 13 rfl rfl)
theorem dX2_puts_205 : decode cX2_puts 205 = .ok (.lstore 25, 2) := dk_55 25 (dk_at dksX2_puts_8 14 rfl rfl)
theorem dX2_puts_207 : decode cX2_puts 207 = .ok (.iload_n 3, 1) := dk_29 (dk_at dksX2_puts_8 16 rfl rfl)
theorem dX2_puts_208 : decode cX2_puts 208 = .ok (.i2l, 1) := dk_133 (dk_at dksX2_puts_8 17 rfl rfl)
theorem dX2_puts_209 : decode cX2_puts 209 = .ok (.ldc2_w 72, 3) := dk_20 0 72 (dk_at dksX2_puts_8 18 rfl rfl)
theorem dX2_puts_212 : decode cX2_puts 212 = .ok (.iload 6, 2) := dk_21 6 (dk_at dksX2_puts_8 21 rfl rfl)
theorem dX2_puts_214 : decode cX2_puts 214 = .ok (.i2l, 1) := dk_133 (dk_at dksX2_puts_8 23 rfl rfl)
theorem dX2_puts_215 : decode cX2_puts 215 = .ok (.lmul, 1) := dk_105 (dk_at dksX2_puts_9 0 rfl rfl)
theorem dX2_puts_216 : decode cX2_puts 216 = .ok (.lload 9, 2) := dk_22 9 (dk_at dksX2_puts_9 1 rfl rfl)
theorem dX2_puts_218 : decode cX2_puts 218 = .ok (.lmul, 1) := dk_105 (dk_at dksX2_puts_9 3 rfl rfl)
theorem dX2_puts_219 : decode cX2_puts 219 = .ok (.iload 7, 2) := dk_21 7 (dk_at dksX2_puts_9 4 rfl rfl)
theorem dX2_puts_221 : decode cX2_puts 221 = .ok (.i2l, 1) := dk_133 (dk_at dksX2_puts_9 6 rfl rfl)
theorem dX2_puts_222 : decode cX2_puts 222 = .ok (.lload 19, 2) := dk_22 19 (dk_at dksX2_puts_9 7 rfl rfl)
theorem dX2_puts_224 : decode cX2_puts 224 = .ok (.lmul, 1) := dk_105 (dk_at dksX2_puts_9 9 rfl rfl)
theorem dX2_puts_225 : decode cX2_puts 225 = .ok (.ladd, 1) := dk_97 (dk_at dksX2_puts_9 10 rfl rfl)
theorem dX2_puts_226 : decode cX2_puts 226 = .ok (.iload 8, 2) := dk_21 8 (dk_at dksX2_puts_9 11 rfl rfl)
theorem dX2_puts_228 : decode cX2_puts 228 = .ok (.i2l, 1) := dk_133 (dk_at dksX2_puts_9 13 rfl rfl)
theorem dX2_puts_229 : decode cX2_puts 229 = .ok (.lload 17, 2) := dk_22 17 (dk_at dksX2_puts_9 14 rfl rfl)
theorem dX2_puts_231 : decode cX2_puts 231 = .ok (.lmul, 1) := dk_105 (dk_at dksX2_puts_9 16 rfl rfl)
theorem dX2_puts_232 : decode cX2_puts 232 = .ok (.ladd, 1) := dk_97 (dk_at dksX2_puts_9 17 rfl rfl)
theorem dX2_puts_233 : decode cX2_puts 233 = .ok (.lmul, 1) := dk_105 (dk_at dksX2_puts_9 18 rfl rfl)
theorem dX2_puts_234 : decode cX2_puts 234 = .ok (.lstore 27, 2) := dk_55 27 (dk_at dksX2_puts_9 19 rfl rfl)
theorem dX2_puts_236 : decode cX2_puts 236 = .ok (.iload_n 3, 1) := dk_29 (dk_at dksX2_puts_9 21 rfl rfl)
theorem dX2_puts_237 : decode cX2_puts 237 = .ok (.i2l, 1) := dk_133 (dk_at dksX2_puts_9 22 rfl rfl)
theorem dX2_puts_238 : decode cX2_puts 238 = .ok (.ldc2_w 72, 3) := dk_20 0 72 (dk_at dksX2_puts_10 0 rfl rfl)
theorem dX2_puts_241 : decode cX2_puts 241 = .ok (.iload 4, 2) := dk_21 4 (dk_at dksX2_puts_10 3 rfl rfl)
theorem dX2_puts_243 : decode cX2_puts 243 = .ok (.i2l, 1) := dk_133 (dk_at dksX2_puts_10 5 rfl rfl)
theorem dX2_puts_244 : decode cX2_puts 244 = .ok (.lmul, 1) := dk_105 (dk_at dksX2_puts_10 6 rfl rfl)
theorem dX2_puts_245 : decode cX2_puts 245 = .ok (.lload 9, 2) := dk_22 9 (dk_at dksX2_puts_10 7 rfl rfl)
theorem dX2_puts_247 : decode cX2_puts 247 = .ok (.lmul, 1) := dk_105 (dk_at dksX2_puts_10 9 rfl rfl)
theorem dX2_puts_248 : decode cX2_puts 248 = .ok (.iload 5, 2) := dk_21 5 (dk_at dksX2_puts_10 10 rfl rfl)
theorem dX2_puts_250 : decode cX2_puts 250 = .ok (.i2l, 1) := dk_133 (dk_at dksX2_puts_10 12 rfl rfl)
theorem dX2_puts_251 : decode cX2_puts 251 = .ok (.lload 19, 2) := dk_22 19 (dk_at dksX2_puts_10 13 rfl rfl)
theorem dX2_puts_253 : decode cX2_puts 253 = .ok (.lmul, 1) := dk_105 (dk_at dksX2_puts_10 15 rfl rfl)
theorem dX2_puts_254 : decode cX2_puts 254 = .ok (.ladd, 1) := dk_97 (dk_at dksX2_puts_10 16 rfl rfl)
theorem dX2_puts_255 : decode cX2_puts 255 = .ok (.lmul, 1) := dk_105 (dk_at dksX2_puts_10 17 rfl rfl)
theorem dX2_puts_256 : decode cX2_puts 256 = .ok (.lstore 29, 2) := dk_55 29 (dk_at dksX2_puts_10 18 rfl rfl)
theorem dX2_puts_258 : decode cX2_puts 258 = .ok (.aload_n 0, 1) := dk_42 (dk_at dksX2_puts_10 20 rfl rfl)
theorem dX2_puts_259 : decode cX2_puts 259 = .ok (.iload_n 2, 1) := dk_28 (dk_at dksX2_puts_10 21 rfl rfl)
theorem dX2_puts_260 : decode cX2_puts 260 = .ok (.iload_n 3, 1) := dk_29 (dk_at dksX2_puts_10 22 rfl rfl)
theorem dX2_puts_261 : decode cX2_puts 261 = .ok (.iload_n 3, 1) := dk_29 (dk_at dksX2_puts_10 23 rfl rfl)
theorem dX2_puts_262 : decode cX2_puts 262 = .ok (.imul, 1) := dk_104 (dk_at dksX2_puts_11 0 rfl rfl)
theorem dX2_puts_263 : decode cX2_puts 263 = .ok (.i2l, 1) := dk_133 (dk_at dksX2_puts_11 1 rfl rfl)
theorem dX2_puts_264 : decode cX2_puts 264 = .ok (.lload 9, 2) := dk_22 9 (dk_at dksX2_puts_11 2 rfl rfl)
theorem dX2_puts_266 : decode cX2_puts 266 = .ok (.lmul, 1) := dk_105 (dk_at dksX2_puts_11 4 rfl rfl)
theorem dX2_puts_267 : decode cX2_puts 267 = .ok (.lload 21, 2) := dk_22 21 (dk_at dksX2_puts_11 5 rfl rfl)
theorem dX2_puts_269 : decode cX2_puts 269 = .ok (.lload 23, 2) := dk_22 23 (dk_at dksX2_puts_11 7 rfl rfl)
theorem dX2_puts_271 : decode cX2_puts 271 = .ok (.lload 25, 2) := dk_22 25 (dk_at dksX2_puts_11 9 rfl rfl)
theorem dX2_puts_273 : decode cX2_puts 273 = .ok (.lload 27, 2) := dk_22 27 (dk_at dksX2_puts_11 11 rfl rfl)
theorem dX2_puts_275 : decode cX2_puts 275 = .ok (.lload 29, 2) := dk_22 29 (dk_at dksX2_puts_11 13 rfl rfl)
theorem dX2_puts_277 : decode cX2_puts 277 = .ok (.invokevirtual 170, 3) := dk_182 0 170 (dk_at dksX2_puts_11 15 rfl rfl)
theorem dX2_puts_280 : decode cX2_puts 280 = .ok (.return_, 1) := dk_177 (dk_at dksX2_puts_11 18 rfl rfl)
abbrev cX2_unlike : ByteArray := prog_6_method_62_code
def yX2_unlike : MethodName := ⟨RX2, "unlike", "(I)I"⟩
def dkwX2_unlike_2 : List UInt8 := [21, 4, 153, 0, 7, 4, 167, 0, 4, 3, 96, 61, 132, 3, 1, 167, 255, 197, 28, 172]
abbrev dktX2_unlike_2 : List UInt8 := dkwX2_unlike_2 ++ []
def dkwX2_unlike_1 : List UInt8 := [29, 21, 5, 182, 0, 247, 154, 0, 7, 4, 167, 0, 4, 3, 126, 54, 4, 132, 5, 1, 167, 255, 227, 28]
abbrev dktX2_unlike_1 : List UInt8 := dkwX2_unlike_1 ++ dktX2_unlike_2
def dkwX2_unlike_0 : List UInt8 := [3, 61, 3, 62, 29, 27, 162, 0, 60, 4, 54, 4, 3, 54, 5, 21, 5, 29, 162, 0, 29, 21, 4, 42]
abbrev dktX2_unlike_0 : List UInt8 := dkwX2_unlike_0 ++ dktX2_unlike_1
theorem dksX2_unlike_0 : cX2_unlike.data.toList.drop 0 = dktX2_unlike_0 := by decide +kernel
theorem dksX2_unlike_1 : cX2_unlike.data.toList.drop 24 = dktX2_unlike_1 := dk_seg dksX2_unlike_0 24 rfl rfl
theorem dksX2_unlike_2 : cX2_unlike.data.toList.drop 48 = dktX2_unlike_2 := dk_seg dksX2_unlike_1 24 rfl rfl
theorem dX2_unlike_0 : decode cX2_unlike 0 = .ok (.iconst 0, 1) := dk_3 (dk_at dksX2_unlike_0 0 rfl rfl)
theorem dX2_unlike_1 : decode cX2_unlike 1 = .ok (.istore_n 2, 1) := dk_61 (dk_at dksX2_unlike_0 1 rfl rfl)
theorem dX2_unlike_2 : decode cX2_unlike 2 = .ok (.iconst 0, 1) := dk_3 (dk_at dksX2_unlike_0 2 rfl rfl)
theorem dX2_unlike_3 : decode cX2_unlike 3 = .ok (.istore_n 3, 1) := dk_62 (dk_at dksX2_unlike_0 3 rfl rfl)
theorem dX2_unlike_4 : decode cX2_unlike 4 = .ok (.iload_n 3, 1) := dk_29 (dk_at dksX2_unlike_0 4 rfl rfl)
theorem dX2_unlike_5 : decode cX2_unlike 5 = .ok (.iload_n 1, 1) := dk_27 (dk_at dksX2_unlike_0 5 rfl rfl)
theorem dX2_unlike_6 : decode cX2_unlike 6 = .ok (.if_icmp .ge 60, 3) := dk_162 0 60 (dk_at dksX2_unlike_0 6 rfl rfl)
theorem dX2_unlike_9 : decode cX2_unlike 9 = .ok (.iconst 1, 1) := dk_4 (dk_at dksX2_unlike_0 9 rfl rfl)
theorem dX2_unlike_10 : decode cX2_unlike 10 = .ok (.istore 4, 2) := dk_54 4 (dk_at dksX2_unlike_0 10 rfl rfl)
theorem dX2_unlike_12 : decode cX2_unlike 12 = .ok (.iconst 0, 1) := dk_3 (dk_at dksX2_unlike_0 12 rfl rfl)
theorem dX2_unlike_13 : decode cX2_unlike 13 = .ok (.istore 5, 2) := dk_54 5 (dk_at dksX2_unlike_0 13 rfl rfl)
theorem dX2_unlike_15 : decode cX2_unlike 15 = .ok (.iload 5, 2) := dk_21 5 (dk_at dksX2_unlike_0 15 rfl rfl)
theorem dX2_unlike_17 : decode cX2_unlike 17 = .ok (.iload_n 3, 1) := dk_29 (dk_at dksX2_unlike_0 17 rfl rfl)
theorem dX2_unlike_18 : decode cX2_unlike 18 = .ok (.if_icmp .ge 29, 3) := dk_162 0 29 (dk_at dksX2_unlike_0 18 rfl rfl)
theorem dX2_unlike_21 : decode cX2_unlike 21 = .ok (.iload 4, 2) := dk_21 4 (dk_at dksX2_unlike_0 21 rfl rfl)
theorem dX2_unlike_23 : decode cX2_unlike 23 = .ok (.aload_n 0, 1) := dk_42 (dk_at dksX2_unlike_0 23 rfl rfl)
theorem dX2_unlike_24 : decode cX2_unlike 24 = .ok (.iload_n 3, 1) := dk_29 (dk_at dksX2_unlike_1 0 rfl rfl)
theorem dX2_unlike_25 : decode cX2_unlike 25 = .ok (.iload 5, 2) := dk_21 5 (dk_at dksX2_unlike_1 1 rfl rfl)
theorem dX2_unlike_27 : decode cX2_unlike 27 = .ok (.invokevirtual 247, 3) := dk_182 0 247 (dk_at dksX2_unlike_1 3 rfl rfl)
theorem dX2_unlike_30 : decode cX2_unlike 30 = .ok (.ifCond .ne 7, 3) := dk_154 0 7 (dk_at dksX2_unlike_1 6 rfl rfl)
theorem dX2_unlike_33 : decode cX2_unlike 33 = .ok (.iconst 1, 1) := dk_4 (dk_at dksX2_unlike_1 9 rfl rfl)
theorem dX2_unlike_34 : decode cX2_unlike 34 = .ok (.goto 4, 3) := dk_167 0 4 (dk_at dksX2_unlike_1 10 rfl rfl)
theorem dX2_unlike_37 : decode cX2_unlike 37 = .ok (.iconst 0, 1) := dk_3 (dk_at dksX2_unlike_1 13 rfl rfl)
theorem dX2_unlike_38 : decode cX2_unlike 38 = .ok (.iand, 1) := dk_126 (dk_at dksX2_unlike_1 14 rfl rfl)
theorem dX2_unlike_39 : decode cX2_unlike 39 = .ok (.istore 4, 2) := dk_54 4 (dk_at dksX2_unlike_1 15 rfl rfl)
theorem dX2_unlike_41 : decode cX2_unlike 41 = .ok (.iinc 5 1, 3) := dk_132 5 1 (dk_at dksX2_unlike_1 17 rfl rfl)
theorem dX2_unlike_44 : decode cX2_unlike 44 = .ok (.goto (-29), 3) := dk_167 255 227 (dk_at dksX2_unlike_1 20 rfl rfl)
theorem dX2_unlike_47 : decode cX2_unlike 47 = .ok (.iload_n 2, 1) := dk_28 (dk_at dksX2_unlike_1 23 rfl rfl)
theorem dX2_unlike_48 : decode cX2_unlike 48 = .ok (.iload 4, 2) := dk_21 4 (dk_at dksX2_unlike_2 0 rfl rfl)
theorem dX2_unlike_50 : decode cX2_unlike 50 = .ok (.ifCond .eq 7, 3) := dk_153 0 7 (dk_at dksX2_unlike_2 2 rfl rfl)
theorem dX2_unlike_53 : decode cX2_unlike 53 = .ok (.iconst 1, 1) := dk_4 (dk_at dksX2_unlike_2 5 rfl rfl)
theorem dX2_unlike_54 : decode cX2_unlike 54 = .ok (.goto 4, 3) := dk_167 0 4 (dk_at dksX2_unlike_2 6 rfl rfl)
theorem dX2_unlike_57 : decode cX2_unlike 57 = .ok (.iconst 0, 1) := dk_3 (dk_at dksX2_unlike_2 9 rfl rfl)
theorem dX2_unlike_58 : decode cX2_unlike 58 = .ok (.iadd, 1) := dk_96 (dk_at dksX2_unlike_2 10 rfl rfl)
theorem dX2_unlike_59 : decode cX2_unlike 59 = .ok (.istore_n 2, 1) := dk_61 (dk_at dksX2_unlike_2 11 rfl rfl)
theorem dX2_unlike_60 : decode cX2_unlike 60 = .ok (.iinc 3 1, 3) := dk_132 3 1 (dk_at dksX2_unlike_2 12 rfl rfl)
theorem dX2_unlike_63 : decode cX2_unlike 63 = .ok (.goto (-59), 3) := dk_167 255 197 (dk_at dksX2_unlike_2 15 rfl rfl)
theorem dX2_unlike_66 : decode cX2_unlike 66 = .ok (.iload_n 2, 1) := dk_28 (dk_at dksX2_unlike_2 18 rfl rfl)
theorem dX2_unlike_67 : decode cX2_unlike 67 = .ok (.ireturn, 1) := dk_172 (dk_at dksX2_unlike_2 19 rfl rfl)
abbrev cX2_areFound : ByteArray := prog_6_method_61_code
def yX2_areFound : MethodName := ⟨RX2, "areFound", "(II)Z"⟩
def dkwX2_areFound_1 : List UInt8 := [16, 6, 28, 104, 29, 96, 47, 148, 153, 0, 5, 3, 172, 132, 3, 1, 167, 255, 219, 4, 172]
abbrev dktX2_areFound_1 : List UInt8 := dkwX2_areFound_1 ++ []
def dkwX2_areFound_0 : List UInt8 := [3, 62, 29, 16, 6, 162, 0, 37, 42, 180, 0, 34, 16, 6, 27, 104, 29, 96, 47, 42, 180, 0, 34]
abbrev dktX2_areFound_0 : List UInt8 := dkwX2_areFound_0 ++ dktX2_areFound_1
theorem dksX2_areFound_0 : cX2_areFound.data.toList.drop 0 = dktX2_areFound_0 := by decide +kernel
theorem dksX2_areFound_1 : cX2_areFound.data.toList.drop 23 = dktX2_areFound_1 := dk_seg dksX2_areFound_0 23 rfl rfl
theorem dX2_areFound_0 : decode cX2_areFound 0 = .ok (.iconst 0, 1) := dk_3 (dk_at dksX2_areFound_0 0 rfl rfl)
theorem dX2_areFound_1 : decode cX2_areFound 1 = .ok (.istore_n 3, 1) := dk_62 (dk_at dksX2_areFound_0 1 rfl rfl)
theorem dX2_areFound_2 : decode cX2_areFound 2 = .ok (.iload_n 3, 1) := dk_29 (dk_at dksX2_areFound_0 2 rfl rfl)
theorem dX2_areFound_3 : decode cX2_areFound 3 = .ok (.bipush 6, 2) := dk_16 6 (dk_at dksX2_areFound_0 3 rfl rfl)
theorem dX2_areFound_5 : decode cX2_areFound 5 = .ok (.if_icmp .ge 37, 3) := dk_162 0 37 (dk_at dksX2_areFound_0 5 rfl rfl)
theorem dX2_areFound_8 : decode cX2_areFound 8 = .ok (.aload_n 0, 1) := dk_42 (dk_at dksX2_areFound_0 8 rfl rfl)
theorem dX2_areFound_9 : decode cX2_areFound 9 = .ok (.getfield 34, 3) := dk_180 0 34 (dk_at dksX2_areFound_0 9 rfl rfl)
theorem dX2_areFound_12 : decode cX2_areFound 12 = .ok (.bipush 6, 2) := dk_16 6 (dk_at dksX2_areFound_0 12 rfl rfl)
theorem dX2_areFound_14 : decode cX2_areFound 14 = .ok (.iload_n 1, 1) := dk_27 (dk_at dksX2_areFound_0 14 rfl rfl)
theorem dX2_areFound_15 : decode cX2_areFound 15 = .ok (.imul, 1) := dk_104 (dk_at dksX2_areFound_0 15 rfl rfl)
theorem dX2_areFound_16 : decode cX2_areFound 16 = .ok (.iload_n 3, 1) := dk_29 (dk_at dksX2_areFound_0 16 rfl rfl)
theorem dX2_areFound_17 : decode cX2_areFound 17 = .ok (.iadd, 1) := dk_96 (dk_at dksX2_areFound_0 17 rfl rfl)
theorem dX2_areFound_18 : decode cX2_areFound 18 = .ok (.laload, 1) := dk_47 (dk_at dksX2_areFound_0 18 rfl rfl)
theorem dX2_areFound_19 : decode cX2_areFound 19 = .ok (.aload_n 0, 1) := dk_42 (dk_at dksX2_areFound_0 19 rfl rfl)
theorem dX2_areFound_20 : decode cX2_areFound 20 = .ok (.getfield 34, 3) := dk_180 0 34 (dk_at dksX2_areFound_0 20 rfl rfl)
theorem dX2_areFound_23 : decode cX2_areFound 23 = .ok (.bipush 6, 2) := dk_16 6 (dk_at dksX2_areFound_1 0 rfl rfl)
theorem dX2_areFound_25 : decode cX2_areFound 25 = .ok (.iload_n 2, 1) := dk_28 (dk_at dksX2_areFound_1 2 rfl rfl)
theorem dX2_areFound_26 : decode cX2_areFound 26 = .ok (.imul, 1) := dk_104 (dk_at dksX2_areFound_1 3 rfl rfl)
theorem dX2_areFound_27 : decode cX2_areFound 27 = .ok (.iload_n 3, 1) := dk_29 (dk_at dksX2_areFound_1 4 rfl rfl)
theorem dX2_areFound_28 : decode cX2_areFound 28 = .ok (.iadd, 1) := dk_96 (dk_at dksX2_areFound_1 5 rfl rfl)
theorem dX2_areFound_29 : decode cX2_areFound 29 = .ok (.laload, 1) := dk_47 (dk_at dksX2_areFound_1 6 rfl rfl)
theorem dX2_areFound_30 : decode cX2_areFound 30 = .ok (.lcmp, 1) := dk_148 (dk_at dksX2_areFound_1 7 rfl rfl)
theorem dX2_areFound_31 : decode cX2_areFound 31 = .ok (.ifCond .eq 5, 3) := dk_153 0 5 (dk_at dksX2_areFound_1 8 rfl rfl)
theorem dX2_areFound_34 : decode cX2_areFound 34 = .ok (.iconst 0, 1) := dk_3 (dk_at dksX2_areFound_1 11 rfl rfl)
theorem dX2_areFound_35 : decode cX2_areFound 35 = .ok (.ireturn, 1) := dk_172 (dk_at dksX2_areFound_1 12 rfl rfl)
theorem dX2_areFound_36 : decode cX2_areFound 36 = .ok (.iinc 3 1, 3) := dk_132 3 1 (dk_at dksX2_areFound_1 13 rfl rfl)
theorem dX2_areFound_39 : decode cX2_areFound 39 = .ok (.goto (-37), 3) := dk_167 255 219 (dk_at dksX2_areFound_1 16 rfl rfl)
theorem dX2_areFound_42 : decode cX2_areFound 42 = .ok (.iconst 1, 1) := dk_4 (dk_at dksX2_areFound_1 19 rfl rfl)
theorem dX2_areFound_43 : decode cX2_areFound 43 = .ok (.ireturn, 1) := dk_172 (dk_at dksX2_areFound_1 20 rfl rfl)
abbrev cX2_holds : ByteArray := prog_6_method_64_code
def yX2_holds : MethodName := ⟨RX2, "holds", "(III)I"⟩
def dkwX2_holds_5 : List UInt8 := [21, 7, 153, 0, 7, 4, 167, 0, 4, 3, 96, 54, 5, 132, 6, 1, 167, 255, 177, 21, 5, 172]
abbrev dktX2_holds_5 : List UInt8 := dkwX2_holds_5 ++ []
def dkwX2_holds_4 : List UInt8 := [182, 0, 74, 148, 154, 0, 7, 4, 167, 0, 4, 3, 126, 54, 7, 132, 8, 1, 167, 255, 211, 21, 5]
abbrev dktX2_holds_4 : List UInt8 := dkwX2_holds_4 ++ dktX2_holds_5
def dkwX2_holds_3 : List UInt8 := [162, 0, 44, 21, 7, 42, 180, 0, 34, 16, 6, 21, 6, 104, 21, 8, 96, 47, 42, 16, 6, 21, 8]
abbrev dktX2_holds_3 : List UInt8 := dkwX2_holds_3 ++ dktX2_holds_4
def dkwX2_holds_2 : List UInt8 := [3, 54, 5, 3, 54, 6, 21, 6, 21, 4, 162, 0, 78, 4, 54, 7, 3, 54, 8, 21, 8, 16, 6]
abbrev dktX2_holds_2 : List UInt8 := dkwX2_holds_2 ++ dktX2_holds_3
def dkwX2_holds_1 : List UInt8 := [184, 0, 68, 154, 0, 5, 2, 172, 42, 27, 29, 182, 0, 252, 54, 4, 42, 28, 16, 6, 182, 0, 207, 87]
abbrev dktX2_holds_1 : List UInt8 := dkwX2_holds_1 ++ dktX2_holds_2
def dkwX2_holds_0 : List UInt8 := [42, 27, 182, 0, 188, 153, 0, 23, 42, 28, 182, 0, 188, 153, 0, 15, 29, 133, 10, 20, 0, 250]
abbrev dktX2_holds_0 : List UInt8 := dkwX2_holds_0 ++ dktX2_holds_1
theorem dksX2_holds_0 : cX2_holds.data.toList.drop 0 = dktX2_holds_0 := by decide +kernel
theorem dksX2_holds_1 : cX2_holds.data.toList.drop 22 = dktX2_holds_1 := dk_seg dksX2_holds_0 22 rfl rfl
theorem dksX2_holds_2 : cX2_holds.data.toList.drop 46 = dktX2_holds_2 := dk_seg dksX2_holds_1 24 rfl rfl
theorem dksX2_holds_3 : cX2_holds.data.toList.drop 69 = dktX2_holds_3 := dk_seg dksX2_holds_2 23 rfl rfl
theorem dksX2_holds_4 : cX2_holds.data.toList.drop 92 = dktX2_holds_4 := dk_seg dksX2_holds_3 23 rfl rfl
theorem dksX2_holds_5 : cX2_holds.data.toList.drop 115 = dktX2_holds_5 := dk_seg dksX2_holds_4 23 rfl rfl
theorem dX2_holds_0 : decode cX2_holds 0 = .ok (.aload_n 0, 1) := dk_42 (dk_at dksX2_holds_0 0 rfl rfl)
theorem dX2_holds_1 : decode cX2_holds 1 = .ok (.iload_n 1, 1) := dk_27 (dk_at dksX2_holds_0 1 rfl rfl)
theorem dX2_holds_2 : decode cX2_holds 2 = .ok (.invokevirtual 188, 3) := dk_182 0 188 (dk_at dksX2_holds_0 2 rfl rfl)
theorem dX2_holds_5 : decode cX2_holds 5 = .ok (.ifCond .eq 23, 3) := dk_153 0 23 (dk_at dksX2_holds_0 5 rfl rfl)
theorem dX2_holds_8 : decode cX2_holds 8 = .ok (.aload_n 0, 1) := dk_42 (dk_at dksX2_holds_0 8 rfl rfl)
theorem dX2_holds_9 : decode cX2_holds 9 = .ok (.iload_n 2, 1) := dk_28 (dk_at dksX2_holds_0 9 rfl rfl)
theorem dX2_holds_10 : decode cX2_holds 10 = .ok (.invokevirtual 188, 3) := dk_182 0 188 (dk_at dksX2_holds_0 10 rfl rfl)
theorem dX2_holds_13 : decode cX2_holds 13 = .ok (.ifCond .eq 15, 3) := dk_153 0 15 (dk_at dksX2_holds_0 13 rfl rfl)
theorem dX2_holds_16 : decode cX2_holds 16 = .ok (.iload_n 3, 1) := dk_29 (dk_at dksX2_holds_0 16 rfl rfl)
theorem dX2_holds_17 : decode cX2_holds 17 = .ok (.i2l, 1) := dk_133 (dk_at dksX2_holds_0 17 rfl rfl)
theorem dX2_holds_18 : decode cX2_holds 18 = .ok (.lconst 1, 1) := dk_10 (dk_at dksX2_holds_0 18 rfl rfl)
theorem dX2_holds_19 : decode cX2_holds 19 = .ok (.ldc2_w 250, 3) := dk_20 0 250 (dk_at dksX2_holds_0 19 rfl rfl)
theorem dX2_holds_22 : decode cX2_holds 22 = .ok (.invokestatic 68, 3) := dk_184 0 68 (dk_at dksX2_holds_1 0 rfl rfl)
theorem dX2_holds_25 : decode cX2_holds 25 = .ok (.ifCond .ne 5, 3) := dk_154 0 5 (dk_at dksX2_holds_1 3 rfl rfl)
theorem dX2_holds_28 : decode cX2_holds 28 = .ok (.iconst (-1), 1) := dk_2 (dk_at dksX2_holds_1 6 rfl rfl)
theorem dX2_holds_29 : decode cX2_holds 29 = .ok (.ireturn, 1) := dk_172 (dk_at dksX2_holds_1 7 rfl rfl)
theorem dX2_holds_30 : decode cX2_holds 30 = .ok (.aload_n 0, 1) := dk_42 (dk_at dksX2_holds_1 8 rfl rfl)
theorem dX2_holds_31 : decode cX2_holds 31 = .ok (.iload_n 1, 1) := dk_27 (dk_at dksX2_holds_1 9 rfl rfl)
theorem dX2_holds_32 : decode cX2_holds 32 = .ok (.iload_n 3, 1) := dk_29 (dk_at dksX2_holds_1 10 rfl rfl)
theorem dX2_holds_33 : decode cX2_holds 33 = .ok (.invokevirtual 252, 3) := dk_182 0 252 (dk_at dksX2_holds_1 11 rfl rfl)
theorem dX2_holds_36 : decode cX2_holds 36 = .ok (.istore 4, 2) := dk_54 4 (dk_at dksX2_holds_1 14 rfl rfl)
theorem dX2_holds_38 : decode cX2_holds 38 = .ok (.aload_n 0, 1) := dk_42 (dk_at dksX2_holds_1 16 rfl rfl)
theorem dX2_holds_39 : decode cX2_holds 39 = .ok (.iload_n 2, 1) := dk_28 (dk_at dksX2_holds_1 17 rfl rfl)
theorem dX2_holds_40 : decode cX2_holds 40 = .ok (.bipush 6, 2) := dk_16 6 (dk_at dksX2_holds_1 18 rfl rfl)
theorem dX2_holds_42 : decode cX2_holds 42 = .ok (.invokevirtual 207, 3) := dk_182 0 207 (dk_at dksX2_holds_1 20 rfl rfl)
theorem dX2_holds_45 : decode cX2_holds 45 = .ok (.pop, 1) := dk_87 (dk_at dksX2_holds_1 23 rfl rfl)
theorem dX2_holds_46 : decode cX2_holds 46 = .ok (.iconst 0, 1) := dk_3 (dk_at dksX2_holds_2 0 rfl rfl)
theorem dX2_holds_47 : decode cX2_holds 47 = .ok (.istore 5, 2) := dk_54 5 (dk_at dksX2_holds_2 1 rfl rfl)
theorem dX2_holds_49 : decode cX2_holds 49 = .ok (.iconst 0, 1) := dk_3 (dk_at dksX2_holds_2 3 rfl rfl)
theorem dX2_holds_50 : decode cX2_holds 50 = .ok (.istore 6, 2) := dk_54 6 (dk_at dksX2_holds_2 4 rfl rfl)
theorem dX2_holds_52 : decode cX2_holds 52 = .ok (.iload 6, 2) := dk_21 6 (dk_at dksX2_holds_2 6 rfl rfl)
theorem dX2_holds_54 : decode cX2_holds 54 = .ok (.iload 4, 2) := dk_21 4 (dk_at dksX2_holds_2 8 rfl rfl)
theorem dX2_holds_56 : decode cX2_holds 56 = .ok (.if_icmp .ge 78, 3) := dk_162 0 78 (dk_at dksX2_holds_2 10 rfl rfl)
theorem dX2_holds_59 : decode cX2_holds 59 = .ok (.iconst 1, 1) := dk_4 (dk_at dksX2_holds_2 13 rfl rfl)
theorem dX2_holds_60 : decode cX2_holds 60 = .ok (.istore 7, 2) := dk_54 7 (dk_at dksX2_holds_2 14 rfl rfl)
theorem dX2_holds_62 : decode cX2_holds 62 = .ok (.iconst 0, 1) := dk_3 (dk_at dksX2_holds_2 16 rfl rfl)
theorem dX2_holds_63 : decode cX2_holds 63 = .ok (.istore 8, 2) := dk_54 8 (dk_at dksX2_holds_2 17 rfl rfl)
theorem dX2_holds_65 : decode cX2_holds 65 = .ok (.iload 8, 2) := dk_21 8 (dk_at dksX2_holds_2 19 rfl rfl)
theorem dX2_holds_67 : decode cX2_holds 67 = .ok (.bipush 6, 2) := dk_16 6 (dk_at dksX2_holds_2 21 rfl rfl)
theorem dX2_holds_69 : decode cX2_holds 69 = .ok (.if_icmp .ge 44, 3) := dk_162 0 44 (dk_at dksX2_holds_3 0 rfl rfl)
theorem dX2_holds_72 : decode cX2_holds 72 = .ok (.iload 7, 2) := dk_21 7 (dk_at dksX2_holds_3 3 rfl rfl)
theorem dX2_holds_74 : decode cX2_holds 74 = .ok (.aload_n 0, 1) := dk_42 (dk_at dksX2_holds_3 5 rfl rfl)
theorem dX2_holds_75 : decode cX2_holds 75 = .ok (.getfield 34, 3) := dk_180 0 34 (dk_at dksX2_holds_3 6 rfl rfl)
theorem dX2_holds_78 : decode cX2_holds 78 = .ok (.bipush 6, 2) := dk_16 6 (dk_at dksX2_holds_3 9 rfl rfl)
theorem dX2_holds_80 : decode cX2_holds 80 = .ok (.iload 6, 2) := dk_21 6 (dk_at dksX2_holds_3 11 rfl rfl)
theorem dX2_holds_82 : decode cX2_holds 82 = .ok (.imul, 1) := dk_104 (dk_at dksX2_holds_3 13 rfl rfl)
theorem dX2_holds_83 : decode cX2_holds 83 = .ok (.iload 8, 2) := dk_21 8 (dk_at dksX2_holds_3 14 rfl rfl)
theorem dX2_holds_85 : decode cX2_holds 85 = .ok (.iadd, 1) := dk_96 (dk_at dksX2_holds_3 16 rfl rfl)
theorem dX2_holds_86 : decode cX2_holds 86 = .ok (.laload, 1) := dk_47 (dk_at dksX2_holds_3 17 rfl rfl)
theorem dX2_holds_87 : decode cX2_holds 87 = .ok (.aload_n 0, 1) := dk_42 (dk_at dksX2_holds_3 18 rfl rfl)
theorem dX2_holds_88 : decode cX2_holds 88 = .ok (.bipush 6, 2) := dk_16 6 (dk_at dksX2_holds_3 19 rfl rfl)
theorem dX2_holds_90 : decode cX2_holds 90 = .ok (.iload 8, 2) := dk_21 8 (dk_at dksX2_holds_3 21 rfl rfl)
theorem dX2_holds_92 : decode cX2_holds 92 = .ok (.invokevirtual 74, 3) := dk_182 0 74 (dk_at dksX2_holds_4 0 rfl rfl)
theorem dX2_holds_95 : decode cX2_holds 95 = .ok (.lcmp, 1) := dk_148 (dk_at dksX2_holds_4 3 rfl rfl)
theorem dX2_holds_96 : decode cX2_holds 96 = .ok (.ifCond .ne 7, 3) := dk_154 0 7 (dk_at dksX2_holds_4 4 rfl rfl)
theorem dX2_holds_99 : decode cX2_holds 99 = .ok (.iconst 1, 1) := dk_4 (dk_at dksX2_holds_4 7 rfl rfl)
theorem dX2_holds_100 : decode cX2_holds 100 = .ok (.goto 4, 3) := dk_167 0 4 (dk_at dksX2_holds_4 8 rfl rfl)
theorem dX2_holds_103 : decode cX2_holds 103 = .ok (.iconst 0, 1) := dk_3 (dk_at dksX2_holds_4 11 rfl rfl)
theorem dX2_holds_104 : decode cX2_holds 104 = .ok (.iand, 1) := dk_126 (dk_at dksX2_holds_4 12 rfl rfl)
theorem dX2_holds_105 : decode cX2_holds 105 = .ok (.istore 7, 2) := dk_54 7 (dk_at dksX2_holds_4 13 rfl rfl)
theorem dX2_holds_107 : decode cX2_holds 107 = .ok (.iinc 8 1, 3) := dk_132 8 1 (dk_at dksX2_holds_4 15 rfl rfl)
theorem dX2_holds_110 : decode cX2_holds 110 = .ok (.goto (-45), 3) := dk_167 255 211 (dk_at dksX2_holds_4 18 rfl rfl)
theorem dX2_holds_113 : decode cX2_holds 113 = .ok (.iload 5, 2) := dk_21 5 (dk_at dksX2_holds_4 21 rfl rfl)
theorem dX2_holds_115 : decode cX2_holds 115 = .ok (.iload 7, 2) := dk_21 7 (dk_at dksX2_holds_5 0 rfl rfl)
theorem dX2_holds_117 : decode cX2_holds 117 = .ok (.ifCond .eq 7, 3) := dk_153 0 7 (dk_at dksX2_holds_5 2 rfl rfl)
theorem dX2_holds_120 : decode cX2_holds 120 = .ok (.iconst 1, 1) := dk_4 (dk_at dksX2_holds_5 5 rfl rfl)
theorem dX2_holds_121 : decode cX2_holds 121 = .ok (.goto 4, 3) := dk_167 0 4 (dk_at dksX2_holds_5 6 rfl rfl)
theorem dX2_holds_124 : decode cX2_holds 124 = .ok (.iconst 0, 1) := dk_3 (dk_at dksX2_holds_5 9 rfl rfl)
theorem dX2_holds_125 : decode cX2_holds 125 = .ok (.iadd, 1) := dk_96 (dk_at dksX2_holds_5 10 rfl rfl)
theorem dX2_holds_126 : decode cX2_holds 126 = .ok (.istore 5, 2) := dk_54 5 (dk_at dksX2_holds_5 11 rfl rfl)
theorem dX2_holds_128 : decode cX2_holds 128 = .ok (.iinc 6 1, 3) := dk_132 6 1 (dk_at dksX2_holds_5 13 rfl rfl)
theorem dX2_holds_131 : decode cX2_holds 131 = .ok (.goto (-79), 3) := dk_167 255 177 (dk_at dksX2_holds_5 16 rfl rfl)
theorem dX2_holds_134 : decode cX2_holds 134 = .ok (.iload 5, 2) := dk_21 5 (dk_at dksX2_holds_5 19 rfl rfl)
theorem dX2_holds_136 : decode cX2_holds 136 = .ok (.ireturn, 1) := dk_172 (dk_at dksX2_holds_5 21 rfl rfl)
abbrev cX2_blunt : ByteArray := prog_6_method_70_code
def yX2_blunt : MethodName := ⟨RX2, "blunt", "(II)J"⟩
def dkwX2_blunt_6 : List UInt8 := [42, 180, 0, 40, 21, 4, 47, 173]
abbrev dktX2_blunt_6 : List UInt8 := dkwX2_blunt_6 ++ []
def dkwX2_blunt_5 : List UInt8 := [54, 6, 132, 7, 1, 167, 255, 193, 21, 6, 28, 160, 0, 7, 21, 5, 54, 4, 132, 5, 1, 167, 255, 164]
abbrev dktX2_blunt_5 : List UInt8 := dkwX2_blunt_5 ++ dktX2_blunt_6
def dkwX2_blunt_4 : List UInt8 := [180, 0, 40, 21, 5, 47, 148, 154, 0, 14, 21, 7, 21, 5, 162, 0, 7, 4, 167, 0, 4, 3, 96]
abbrev dktX2_blunt_4 : List UInt8 := dkwX2_blunt_4 ++ dktX2_blunt_5
def dkwX2_blunt_3 : List UInt8 := [21, 7, 47, 42, 180, 0, 40, 21, 5, 47, 148, 155, 0, 28, 42, 180, 0, 40, 21, 7, 47, 42]
abbrev dktX2_blunt_3 : List UInt8 := dkwX2_blunt_3 ++ dktX2_blunt_4
def dkwX2_blunt_2 : List UInt8 := [16, 6, 162, 0, 91, 3, 54, 6, 3, 54, 7, 21, 7, 16, 6, 162, 0, 62, 21, 6, 42, 180, 0, 40]
abbrev dktX2_blunt_2 : List UInt8 := dkwX2_blunt_2 ++ dktX2_blunt_3
def dkwX2_blunt_1 : List UInt8 := [42, 27, 182, 1, 14, 62, 28, 16, 6, 160, 0, 6, 29, 133, 173, 3, 54, 4, 3, 54, 5, 21, 5]
abbrev dktX2_blunt_1 : List UInt8 := dkwX2_blunt_1 ++ dktX2_blunt_2
def dkwX2_blunt_0 : List UInt8 := [42, 27, 182, 0, 188, 153, 0, 15, 28, 133, 9, 20, 0, 250, 184, 0, 68, 154, 0, 7, 20, 0, 203, 173]
abbrev dktX2_blunt_0 : List UInt8 := dkwX2_blunt_0 ++ dktX2_blunt_1
theorem dksX2_blunt_0 : cX2_blunt.data.toList.drop 0 = dktX2_blunt_0 := by decide +kernel
theorem dksX2_blunt_1 : cX2_blunt.data.toList.drop 24 = dktX2_blunt_1 := dk_seg dksX2_blunt_0 24 rfl rfl
theorem dksX2_blunt_2 : cX2_blunt.data.toList.drop 47 = dktX2_blunt_2 := dk_seg dksX2_blunt_1 23 rfl rfl
theorem dksX2_blunt_3 : cX2_blunt.data.toList.drop 71 = dktX2_blunt_3 := dk_seg dksX2_blunt_2 24 rfl rfl
theorem dksX2_blunt_4 : cX2_blunt.data.toList.drop 93 = dktX2_blunt_4 := dk_seg dksX2_blunt_3 22 rfl rfl
theorem dksX2_blunt_5 : cX2_blunt.data.toList.drop 116 = dktX2_blunt_5 := dk_seg dksX2_blunt_4 23 rfl rfl
theorem dksX2_blunt_6 : cX2_blunt.data.toList.drop 140 = dktX2_blunt_6 := dk_seg dksX2_blunt_5 24 rfl rfl
theorem dX2_blunt_0 : decode cX2_blunt 0 = .ok (.aload_n 0, 1) := dk_42 (dk_at dksX2_blunt_0 0 rfl rfl)
theorem dX2_blunt_1 : decode cX2_blunt 1 = .ok (.iload_n 1, 1) := dk_27 (dk_at dksX2_blunt_0 1 rfl rfl)
theorem dX2_blunt_2 : decode cX2_blunt 2 = .ok (.invokevirtual 188, 3) := dk_182 0 188 (dk_at dksX2_blunt_0 2 rfl rfl)
theorem dX2_blunt_5 : decode cX2_blunt 5 = .ok (.ifCond .eq 15, 3) := dk_153 0 15 (dk_at dksX2_blunt_0 5 rfl rfl)
theorem dX2_blunt_8 : decode cX2_blunt 8 = .ok (.iload_n 2, 1) := dk_28 (dk_at dksX2_blunt_0 8 rfl rfl)
theorem dX2_blunt_9 : decode cX2_blunt 9 = .ok (.i2l, 1) := dk_133 (dk_at dksX2_blunt_0 9 rfl rfl)
theorem dX2_blunt_10 : decode cX2_blunt 10 = .ok (.lconst 0, 1) := dk_9 (dk_at dksX2_blunt_0 10 rfl rfl)
theorem dX2_blunt_11 : decode cX2_blunt 11 = .ok (.ldc2_w 250, 3) := dk_20 0 250 (dk_at dksX2_blunt_0 11 rfl rfl)
theorem dX2_blunt_14 : decode cX2_blunt 14 = .ok (.invokestatic 68, 3) := dk_184 0 68 (dk_at dksX2_blunt_0 14 rfl rfl)
theorem dX2_blunt_17 : decode cX2_blunt 17 = .ok (.ifCond .ne 7, 3) := dk_154 0 7 (dk_at dksX2_blunt_0 17 rfl rfl)
theorem dX2_blunt_20 : decode cX2_blunt 20 = .ok (.ldc2_w 203, 3) := dk_20 0 203 (dk_at dksX2_blunt_0 20 rfl rfl)
theorem dX2_blunt_23 : decode cX2_blunt 23 = .ok (.lreturn, 1) := dk_173 (dk_at dksX2_blunt_0 23 rfl rfl)
theorem dX2_blunt_24 : decode cX2_blunt 24 = .ok (.aload_n 0, 1) := dk_42 (dk_at dksX2_blunt_1 0 rfl rfl)
theorem dX2_blunt_25 : decode cX2_blunt 25 = .ok (.iload_n 1, 1) := dk_27 (dk_at dksX2_blunt_1 1 rfl rfl)
theorem dX2_blunt_26 : decode cX2_blunt 26 = .ok (.invokevirtual 270, 3) := dk_182 1 14 (dk_at dksX2_blunt_1 2 rfl rfl)
theorem dX2_blunt_29 : decode cX2_blunt 29 = .ok (.istore_n 3, 1) := dk_62 (dk_at dksX2_blunt_1 5 rfl rfl)
theorem dX2_blunt_30 : decode cX2_blunt 30 = .ok (.iload_n 2, 1) := dk_28 (dk_at dksX2_blunt_1 6 rfl rfl)
theorem dX2_blunt_31 : decode cX2_blunt 31 = .ok (.bipush 6, 2) := dk_16 6 (dk_at dksX2_blunt_1 7 rfl rfl)
theorem dX2_blunt_33 : decode cX2_blunt 33 = .ok (.if_icmp .ne 6, 3) := dk_160 0 6 (dk_at dksX2_blunt_1 9 rfl rfl)
theorem dX2_blunt_36 : decode cX2_blunt 36 = .ok (.iload_n 3, 1) := dk_29 (dk_at dksX2_blunt_1 12 rfl rfl)
theorem dX2_blunt_37 : decode cX2_blunt 37 = .ok (.i2l, 1) := dk_133 (dk_at dksX2_blunt_1 13 rfl rfl)
theorem dX2_blunt_38 : decode cX2_blunt 38 = .ok (.lreturn, 1) := dk_173 (dk_at dksX2_blunt_1 14 rfl rfl)
theorem dX2_blunt_39 : decode cX2_blunt 39 = .ok (.iconst 0, 1) := dk_3 (dk_at dksX2_blunt_1 15 rfl rfl)
theorem dX2_blunt_40 : decode cX2_blunt 40 = .ok (.istore 4, 2) := dk_54 4 (dk_at dksX2_blunt_1 16 rfl rfl)
theorem dX2_blunt_42 : decode cX2_blunt 42 = .ok (.iconst 0, 1) := dk_3 (dk_at dksX2_blunt_1 18 rfl rfl)
theorem dX2_blunt_43 : decode cX2_blunt 43 = .ok (.istore 5, 2) := dk_54 5 (dk_at dksX2_blunt_1 19 rfl rfl)
theorem dX2_blunt_45 : decode cX2_blunt 45 = .ok (.iload 5, 2) := dk_21 5 (dk_at dksX2_blunt_1 21 rfl rfl)
theorem dX2_blunt_47 : decode cX2_blunt 47 = .ok (.bipush 6, 2) := dk_16 6 (dk_at dksX2_blunt_2 0 rfl rfl)
theorem dX2_blunt_49 : decode cX2_blunt 49 = .ok (.if_icmp .ge 91, 3) := dk_162 0 91 (dk_at dksX2_blunt_2 2 rfl rfl)
theorem dX2_blunt_52 : decode cX2_blunt 52 = .ok (.iconst 0, 1) := dk_3 (dk_at dksX2_blunt_2 5 rfl rfl)
theorem dX2_blunt_53 : decode cX2_blunt 53 = .ok (.istore 6, 2) := dk_54 6 (dk_at dksX2_blunt_2 6 rfl rfl)
theorem dX2_blunt_55 : decode cX2_blunt 55 = .ok (.iconst 0, 1) := dk_3 (dk_at dksX2_blunt_2 8 rfl rfl)
theorem dX2_blunt_56 : decode cX2_blunt 56 = .ok (.istore 7, 2) := dk_54 7 (dk_at dksX2_blunt_2 9 rfl rfl)
theorem dX2_blunt_58 : decode cX2_blunt 58 = .ok (.iload 7, 2) := dk_21 7 (dk_at dksX2_blunt_2 11 rfl rfl)
theorem dX2_blunt_60 : decode cX2_blunt 60 = .ok (.bipush 6, 2) := dk_16 6 (dk_at dksX2_blunt_2 13 rfl rfl)
theorem dX2_blunt_62 : decode cX2_blunt 62 = .ok (.if_icmp .ge 62, 3) := dk_162 0 62 (dk_at dksX2_blunt_2 15 rfl rfl)
theorem dX2_blunt_65 : decode cX2_blunt 65 = .ok (.iload 6, 2) := dk_21 6 (dk_at dksX2_blunt_2 18 rfl rfl)
theorem dX2_blunt_67 : decode cX2_blunt 67 = .ok (.aload_n 0, 1) := dk_42 (dk_at dksX2_blunt_2 20 rfl rfl)
theorem dX2_blunt_68 : decode cX2_blunt 68 = .ok (.getfield 40, 3) := dk_180 0 40 (dk_at dksX2_blunt_2 21 rfl rfl)
theorem dX2_blunt_71 : decode cX2_blunt 71 = .ok (.iload 7, 2) := dk_21 7 (dk_at dksX2_blunt_3 0 rfl rfl)
theorem dX2_blunt_73 : decode cX2_blunt 73 = .ok (.laload, 1) := dk_47 (dk_at dksX2_blunt_3 2 rfl rfl)
theorem dX2_blunt_74 : decode cX2_blunt 74 = .ok (.aload_n 0, 1) := dk_42 (dk_at dksX2_blunt_3 3 rfl rfl)
theorem dX2_blunt_75 : decode cX2_blunt 75 = .ok (.getfield 40, 3) := dk_180 0 40 (dk_at dksX2_blunt_3 4 rfl rfl)
theorem dX2_blunt_78 : decode cX2_blunt 78 = .ok (.iload 5, 2) := dk_21 5 (dk_at dksX2_blunt_3 7 rfl rfl)
theorem dX2_blunt_80 : decode cX2_blunt 80 = .ok (.laload, 1) := dk_47 (dk_at dksX2_blunt_3 9 rfl rfl)
theorem dX2_blunt_81 : decode cX2_blunt 81 = .ok (.lcmp, 1) := dk_148 (dk_at dksX2_blunt_3 10 rfl rfl)
theorem dX2_blunt_82 : decode cX2_blunt 82 = .ok (.ifCond .lt 28, 3) := dk_155 0 28 (dk_at dksX2_blunt_3 11 rfl rfl)
theorem dX2_blunt_85 : decode cX2_blunt 85 = .ok (.aload_n 0, 1) := dk_42 (dk_at dksX2_blunt_3 14 rfl rfl)
theorem dX2_blunt_86 : decode cX2_blunt 86 = .ok (.getfield 40, 3) := dk_180 0 40 (dk_at dksX2_blunt_3 15 rfl rfl)
theorem dX2_blunt_89 : decode cX2_blunt 89 = .ok (.iload 7, 2) := dk_21 7 (dk_at dksX2_blunt_3 18 rfl rfl)
theorem dX2_blunt_91 : decode cX2_blunt 91 = .ok (.laload, 1) := dk_47 (dk_at dksX2_blunt_3 20 rfl rfl)
theorem dX2_blunt_92 : decode cX2_blunt 92 = .ok (.aload_n 0, 1) := dk_42 (dk_at dksX2_blunt_3 21 rfl rfl)
theorem dX2_blunt_93 : decode cX2_blunt 93 = .ok (.getfield 40, 3) := dk_180 0 40 (dk_at dksX2_blunt_4 0 rfl rfl)
theorem dX2_blunt_96 : decode cX2_blunt 96 = .ok (.iload 5, 2) := dk_21 5 (dk_at dksX2_blunt_4 3 rfl rfl)
theorem dX2_blunt_98 : decode cX2_blunt 98 = .ok (.laload, 1) := dk_47 (dk_at dksX2_blunt_4 5 rfl rfl)
theorem dX2_blunt_99 : decode cX2_blunt 99 = .ok (.lcmp, 1) := dk_148 (dk_at dksX2_blunt_4 6 rfl rfl)
theorem dX2_blunt_100 : decode cX2_blunt 100 = .ok (.ifCond .ne 14, 3) := dk_154 0 14 (dk_at dksX2_blunt_4 7 rfl rfl)
theorem dX2_blunt_103 : decode cX2_blunt 103 = .ok (.iload 7, 2) := dk_21 7 (dk_at dksX2_blunt_4 10 rfl rfl)
theorem dX2_blunt_105 : decode cX2_blunt 105 = .ok (.iload 5, 2) := dk_21 5 (dk_at dksX2_blunt_4 12 rfl rfl)
theorem dX2_blunt_107 : decode cX2_blunt 107 = .ok (.if_icmp .ge 7, 3) := dk_162 0 7 (dk_at dksX2_blunt_4 14 rfl rfl)
theorem dX2_blunt_110 : decode cX2_blunt 110 = .ok (.iconst 1, 1) := dk_4 (dk_at dksX2_blunt_4 17 rfl rfl)
theorem dX2_blunt_111 : decode cX2_blunt 111 = .ok (.goto 4, 3) := dk_167 0 4 (dk_at dksX2_blunt_4 18 rfl rfl)
theorem dX2_blunt_114 : decode cX2_blunt 114 = .ok (.iconst 0, 1) := dk_3 (dk_at dksX2_blunt_4 21 rfl rfl)
theorem dX2_blunt_115 : decode cX2_blunt 115 = .ok (.iadd, 1) := dk_96 (dk_at dksX2_blunt_4 22 rfl rfl)
theorem dX2_blunt_116 : decode cX2_blunt 116 = .ok (.istore 6, 2) := dk_54 6 (dk_at dksX2_blunt_5 0 rfl rfl)
theorem dX2_blunt_118 : decode cX2_blunt 118 = .ok (.iinc 7 1, 3) := dk_132 7 1 (dk_at dksX2_blunt_5 2 rfl rfl)
theorem dX2_blunt_121 : decode cX2_blunt 121 = .ok (.goto (-63), 3) := dk_167 255 193 (dk_at dksX2_blunt_5 5 rfl rfl)
theorem dX2_blunt_124 : decode cX2_blunt 124 = .ok (.iload 6, 2) := dk_21 6 (dk_at dksX2_blunt_5 8 rfl rfl)
theorem dX2_blunt_126 : decode cX2_blunt 126 = .ok (.iload_n 2, 1) := dk_28 (dk_at dksX2_blunt_5 10 rfl rfl)
theorem dX2_blunt_127 : decode cX2_blunt 127 = .ok (.if_icmp .ne 7, 3) := dk_160 0 7 (dk_at dksX2_blunt_5 11 rfl rfl)
theorem dX2_blunt_130 : decode cX2_blunt 130 = .ok (.iload 5, 2) := dk_21 5 (dk_at dksX2_blunt_5 14 rfl rfl)
theorem dX2_blunt_132 : decode cX2_blunt 132 = .ok (.istore 4, 2) := dk_54 4 (dk_at dksX2_blunt_5 16 rfl rfl)
theorem dX2_blunt_134 : decode cX2_blunt 134 = .ok (.iinc 5 1, 3) := dk_132 5 1 (dk_at dksX2_blunt_5 18 rfl rfl)
theorem dX2_blunt_137 : decode cX2_blunt 137 = .ok (.goto (-92), 3) := dk_167 255 164 (dk_at dksX2_blunt_5 21 rfl rfl)
theorem dX2_blunt_140 : decode cX2_blunt 140 = .ok (.aload_n 0, 1) := dk_42 (dk_at dksX2_blunt_6 0 rfl rfl)
theorem dX2_blunt_141 : decode cX2_blunt 141 = .ok (.getfield 40, 3) := dk_180 0 40 (dk_at dksX2_blunt_6 1 rfl rfl)
theorem dX2_blunt_144 : decode cX2_blunt 144 = .ok (.iload 4, 2) := dk_21 4 (dk_at dksX2_blunt_6 4 rfl rfl)
theorem dX2_blunt_146 : decode cX2_blunt 146 = .ok (.laload, 1) := dk_47 (dk_at dksX2_blunt_6 6 rfl rfl)
theorem dX2_blunt_147 : decode cX2_blunt 147 = .ok (.lreturn, 1) := dk_173 (dk_at dksX2_blunt_6 7 rfl rfl)
abbrev cX2_blunts : ByteArray := prog_6_method_69_code
def yX2_blunts : MethodName := ⟨RX2, "blunts", "(I)I"⟩
def dkwX2_blunts_8 : List UInt8 := [132, 2, 1, 42, 27, 182, 1, 11, 62, 167, 255, 113, 28, 172]
abbrev dktX2_blunts_8 : List UInt8 := dkwX2_blunts_8 ++ []
def dkwX2_blunts_7 : List UInt8 := [21, 6, 96, 42, 180, 0, 37, 6, 21, 4, 104, 21, 6, 96, 47, 117, 80, 132, 6, 1, 167, 255, 222]
abbrev dktX2_blunts_7 : List UInt8 := dkwX2_blunts_7 ++ dktX2_blunts_8
def dkwX2_blunts_6 : List UInt8 := [132, 6, 1, 167, 255, 191, 3, 54, 6, 21, 6, 6, 162, 0, 34, 42, 180, 0, 37, 6, 21, 4, 104]
abbrev dktX2_blunts_6 : List UInt8 := dkwX2_blunts_6 ++ dktX2_blunts_7
def dkwX2_blunts_5 : List UInt8 := [96, 92, 47, 42, 180, 0, 37, 6, 21, 4, 104, 21, 7, 96, 47, 97, 80, 132, 7, 1, 167, 255, 206]
abbrev dktX2_blunts_5 : List UInt8 := dkwX2_blunts_5 ++ dktX2_blunts_6
def dkwX2_blunts_4 : List UInt8 := [21, 6, 21, 4, 159, 0, 43, 21, 6, 21, 5, 159, 0, 36, 42, 180, 0, 37, 6, 21, 6, 104, 21, 7]
abbrev dktX2_blunts_4 : List UInt8 := dkwX2_blunts_4 ++ dktX2_blunts_5
def dkwX2_blunts_3 : List UInt8 := [184, 1, 5, 54, 5, 3, 54, 6, 21, 6, 7, 162, 0, 65, 3, 54, 7, 21, 7, 6, 162, 0, 50]
abbrev dktX2_blunts_3 : List UInt8 := dkwX2_blunts_3 ++ dktX2_blunts_4
def dkwX2_blunts_2 : List UInt8 := [27, 182, 1, 11, 62, 42, 180, 0, 40, 29, 47, 9, 148, 158, 0, 138, 29, 184, 1, 2, 54, 4, 29]
abbrev dktX2_blunts_2 : List UInt8 := dkwX2_blunts_2 ++ dktX2_blunts_3
def dkwX2_blunts_1 : List UInt8 := [167, 0, 14, 28, 7, 112, 154, 0, 7, 10, 167, 0, 4, 9, 80, 132, 2, 1, 167, 255, 218, 3, 61, 42]
abbrev dktX2_blunts_1 : List UInt8 := dkwX2_blunts_1 ++ dktX2_blunts_2
def dkwX2_blunts_0 : List UInt8 := [3, 61, 28, 16, 12, 162, 0, 38, 42, 180, 0, 37, 28, 28, 16, 8, 164, 0, 9, 20, 0, 133]
abbrev dktX2_blunts_0 : List UInt8 := dkwX2_blunts_0 ++ dktX2_blunts_1
theorem dksX2_blunts_0 : cX2_blunts.data.toList.drop 0 = dktX2_blunts_0 := by decide +kernel
theorem dksX2_blunts_1 : cX2_blunts.data.toList.drop 22 = dktX2_blunts_1 := dk_seg dksX2_blunts_0 22 rfl rfl
theorem dksX2_blunts_2 : cX2_blunts.data.toList.drop 46 = dktX2_blunts_2 := dk_seg dksX2_blunts_1 24 rfl rfl
theorem dksX2_blunts_3 : cX2_blunts.data.toList.drop 69 = dktX2_blunts_3 := dk_seg dksX2_blunts_2 23 rfl rfl
theorem dksX2_blunts_4 : cX2_blunts.data.toList.drop 92 = dktX2_blunts_4 := dk_seg dksX2_blunts_3 23 rfl rfl
theorem dksX2_blunts_5 : cX2_blunts.data.toList.drop 116 = dktX2_blunts_5 := dk_seg dksX2_blunts_4 24 rfl rfl
theorem dksX2_blunts_6 : cX2_blunts.data.toList.drop 139 = dktX2_blunts_6 := dk_seg dksX2_blunts_5 23 rfl rfl
theorem dksX2_blunts_7 : cX2_blunts.data.toList.drop 162 = dktX2_blunts_7 := dk_seg dksX2_blunts_6 23 rfl rfl
theorem dksX2_blunts_8 : cX2_blunts.data.toList.drop 185 = dktX2_blunts_8 := dk_seg dksX2_blunts_7 23 rfl rfl
theorem dX2_blunts_0 : decode cX2_blunts 0 = .ok (.iconst 0, 1) := dk_3 (dk_at dksX2_blunts_0 0 rfl rfl)
theorem dX2_blunts_1 : decode cX2_blunts 1 = .ok (.istore_n 2, 1) := dk_61 (dk_at dksX2_blunts_0 1 rfl rfl)
theorem dX2_blunts_2 : decode cX2_blunts 2 = .ok (.iload_n 2, 1) := dk_28 (dk_at dksX2_blunts_0 2 rfl rfl)
theorem dX2_blunts_3 : decode cX2_blunts 3 = .ok (.bipush 12, 2) := dk_16 12 (dk_at dksX2_blunts_0 3 rfl rfl)
theorem dX2_blunts_5 : decode cX2_blunts 5 = .ok (.if_icmp .ge 38, 3) := dk_162 0 38 (dk_at dksX2_blunts_0 5 rfl rfl)
theorem dX2_blunts_8 : decode cX2_blunts 8 = .ok (.aload_n 0, 1) := dk_42 (dk_at dksX2_blunts_0 8 rfl rfl)
theorem dX2_blunts_9 : decode cX2_blunts 9 = .ok (.getfield 37, 3) := dk_180 0 37 (dk_at dksX2_blunts_0 9 rfl rfl)
theorem dX2_blunts_12 : decode cX2_blunts 12 = .ok (.iload_n 2, 1) := dk_28 (dk_at dksX2_blunts_0 12 rfl rfl)
theorem dX2_blunts_13 : decode cX2_blunts 13 = .ok (.iload_n 2, 1) := dk_28 (dk_at dksX2_blunts_0 13 rfl rfl)
theorem dX2_blunts_14 : decode cX2_blunts 14 = .ok (.bipush 8, 2) := dk_16 8 (dk_at dksX2_blunts_0 14 rfl rfl)
theorem dX2_blunts_16 : decode cX2_blunts 16 = .ok (.if_icmp .le 9, 3) := dk_164 0 9 (dk_at dksX2_blunts_0 16 rfl rfl)
theorem dX2_blunts_19 : decode cX2_blunts 19 = .ok (.ldc2_w 133, 3) := dk_20 0 133 (dk_at dksX2_blunts_0 19 rfl rfl)
theorem dX2_blunts_22 : decode cX2_blunts 22 = .ok (.goto 14, 3) := dk_167 0 14 (dk_at dksX2_blunts_1 0 rfl rfl)
theorem dX2_blunts_25 : decode cX2_blunts 25 = .ok (.iload_n 2, 1) := dk_28 (dk_at dksX2_blunts_1 3 rfl rfl)
theorem dX2_blunts_26 : decode cX2_blunts 26 = .ok (.iconst 4, 1) := dk_7 (dk_at dksX2_blunts_1 4 rfl rfl)
theorem dX2_blunts_27 : decode cX2_blunts 27 = .ok (.irem, 1) := dk_112 (dk_at dksX2_blunts_1 5 rfl rfl)
theorem dX2_blunts_28 : decode cX2_blunts 28 = .ok (.ifCond .ne 7, 3) := dk_154 0 7 (dk_at dksX2_blunts_1 6 rfl rfl)
theorem dX2_blunts_31 : decode cX2_blunts 31 = .ok (.lconst 1, 1) := dk_10 (dk_at dksX2_blunts_1 9 rfl rfl)
theorem dX2_blunts_32 : decode cX2_blunts 32 = .ok (.goto 4, 3) := dk_167 0 4 (dk_at dksX2_blunts_1 10 rfl rfl)
theorem dX2_blunts_35 : decode cX2_blunts 35 = .ok (.lconst 0, 1) := dk_9 (dk_at dksX2_blunts_1 13 rfl rfl)
theorem dX2_blunts_36 : decode cX2_blunts 36 = .ok (.lastore, 1) := dk_80 (dk_at dksX2_blunts_1 14 rfl rfl)
theorem dX2_blunts_37 : decode cX2_blunts 37 = .ok (.iinc 2 1, 3) := dk_132 2 1 (dk_at dksX2_blunts_1 15 rfl rfl)
theorem dX2_blunts_40 : decode cX2_blunts 40 = .ok (.goto (-38), 3) := dk_167 255 218 (dk_at dksX2_blunts_1 18 rfl rfl)
theorem dX2_blunts_43 : decode cX2_blunts 43 = .ok (.iconst 0, 1) := dk_3 (dk_at dksX2_blunts_1 21 rfl rfl)
theorem dX2_blunts_44 : decode cX2_blunts 44 = .ok (.istore_n 2, 1) := dk_61 (dk_at dksX2_blunts_1 22 rfl rfl)
theorem dX2_blunts_45 : decode cX2_blunts 45 = .ok (.aload_n 0, 1) := dk_42 (dk_at dksX2_blunts_1 23 rfl rfl)
theorem dX2_blunts_46 : decode cX2_blunts 46 = .ok (.iload_n 1, 1) := dk_27 (dk_at dksX2_blunts_2 0 rfl rfl)
theorem dX2_blunts_47 : decode cX2_blunts 47 = .ok (.invokevirtual 267, 3) := dk_182 1 11 (dk_at dksX2_blunts_2 1 rfl rfl)
theorem dX2_blunts_50 : decode cX2_blunts 50 = .ok (.istore_n 3, 1) := dk_62 (dk_at dksX2_blunts_2 4 rfl rfl)
theorem dX2_blunts_51 : decode cX2_blunts 51 = .ok (.aload_n 0, 1) := dk_42 (dk_at dksX2_blunts_2 5 rfl rfl)
theorem dX2_blunts_52 : decode cX2_blunts 52 = .ok (.getfield 40, 3) := dk_180 0 40 (dk_at dksX2_blunts_2 6 rfl rfl)
theorem dX2_blunts_55 : decode cX2_blunts 55 = .ok (.iload_n 3, 1) := dk_29 (dk_at dksX2_blunts_2 9 rfl rfl)
theorem dX2_blunts_56 : decode cX2_blunts 56 = .ok (.laload, 1) := dk_47 (dk_at dksX2_blunts_2 10 rfl rfl)
theorem dX2_blunts_57 : decode cX2_blunts 57 = .ok (.lconst 0, 1) := dk_9 (dk_at dksX2_blunts_2 11 rfl rfl)
theorem dX2_blunts_58 : decode cX2_blunts 58 = .ok (.lcmp, 1) := dk_148 (dk_at dksX2_blunts_2 12 rfl rfl)
theorem dX2_blunts_59 : decode cX2_blunts 59 = .ok (.ifCond .le 138, 3) := dk_158 0 138 (dk_at dksX2_blunts_2 13 rfl rfl)
theorem dX2_blunts_62 : decode cX2_blunts 62 = .ok (.iload_n 3, 1) := dk_29 (dk_at dksX2_blunts_2 16 rfl rfl)
theorem dX2_blunts_63 : decode cX2_blunts 63 = .ok (.invokestatic 258, 3) := dk_184 1 2 (dk_at dksX2_blunts_2 17 rfl rfl)
theorem dX2_blunts_66 : decode cX2_blunts 66 = .ok (.istore 4, 2) := dk_54 4 (dk_at dksX2_blunts_2 20 rfl rfl)
theorem dX2_blunts_68 : decode cX2_blunts 68 = .ok (.iload_n 3, 1) := dk_29 (dk_at dksX2_blunts_2 22 rfl rfl)
theorem dX2_blunts_69 : decode cX2_blunts 69 = .ok (.invokestatic 261, 3) := dk_184 1 5 (dk_at dksX2_blunts_3 0 rfl rfl)
theorem dX2_blunts_72 : decode cX2_blunts 72 = .ok (.istore 5, 2) := dk_54 5 (dk_at dksX2_blunts_3 3 rfl rfl)
theorem dX2_blunts_74 : decode cX2_blunts 74 = .ok (.iconst 0, 1) := dk_3 (dk_at dksX2_blunts_3 5 rfl rfl)
theorem dX2_blunts_75 : decode cX2_blunts 75 = .ok (.istore 6, 2) := dk_54 6 (dk_at dksX2_blunts_3 6 rfl rfl)
theorem dX2_blunts_77 : decode cX2_blunts 77 = .ok (.iload 6, 2) := dk_21 6 (dk_at dksX2_blunts_3 8 rfl rfl)
theorem dX2_blunts_79 : decode cX2_blunts 79 = .ok (.iconst 4, 1) := dk_7 (dk_at dksX2_blunts_3 10 rfl rfl)
theorem dX2_blunts_80 : decode cX2_blunts 80 = .ok (.if_icmp .ge 65, 3) := dk_162 0 65 (dk_at dksX2_blunts_3 11 rfl rfl)
theorem dX2_blunts_83 : decode cX2_blunts 83 = .ok (.iconst 0, 1) := dk_3 (dk_at dksX2_blunts_3 14 rfl rfl)
theorem dX2_blunts_84 : decode cX2_blunts 84 = .ok (.istore 7, 2) := dk_54 7 (dk_at dksX2_blunts_3 15 rfl rfl)
theorem dX2_blunts_86 : decode cX2_blunts 86 = .ok (.iload 7, 2) := dk_21 7 (dk_at dksX2_blunts_3 17 rfl rfl)
theorem dX2_blunts_88 : decode cX2_blunts 88 = .ok (.iconst 3, 1) := dk_6 (dk_at dksX2_blunts_3 19 rfl rfl)
theorem dX2_blunts_89 : decode cX2_blunts 89 = .ok (.if_icmp .ge 50, 3) := dk_162 0 50 (dk_at dksX2_blunts_3 20 rfl rfl)
theorem dX2_blunts_92 : decode cX2_blunts 92 = .ok (.iload 6, 2) := dk_21 6 (dk_at dksX2_blunts_4 0 rfl rfl)
theorem dX2_blunts_94 : decode cX2_blunts 94 = .ok (.iload 4, 2) := dk_21 4 (dk_at dksX2_blunts_4 2 rfl rfl)
theorem dX2_blunts_96 : decode cX2_blunts 96 = .ok (.if_icmp .eq 43, 3) := dk_159 0 43 (dk_at dksX2_blunts_4 4 rfl rfl)
theorem dX2_blunts_99 : decode cX2_blunts 99 = .ok (.iload 6, 2) := dk_21 6 (dk_at dksX2_blunts_4 7 rfl rfl)
theorem dX2_blunts_101 : decode cX2_blunts 101 = .ok (.iload 5, 2) := dk_21 5 (dk_at dksX2_blunts_4 9 rfl rfl)
theorem dX2_blunts_103 : decode cX2_blunts 103 = .ok (.if_icmp .eq 36, 3) := dk_159 0 36 (dk_at dksX2_blunts_4 11 rfl rfl)
theorem dX2_blunts_106 : decode cX2_blunts 106 = .ok (.aload_n 0, 1) := dk_42 (dk_at dksX2_blunts_4 14 rfl rfl)
theorem dX2_blunts_107 : decode cX2_blunts 107 = .ok (.getfield 37, 3) := dk_180 0 37 (dk_at dksX2_blunts_4 15 rfl rfl)
theorem dX2_blunts_110 : decode cX2_blunts 110 = .ok (.iconst 3, 1) := dk_6 (dk_at dksX2_blunts_4 18 rfl rfl)
theorem dX2_blunts_111 : decode cX2_blunts 111 = .ok (.iload 6, 2) := dk_21 6 (dk_at dksX2_blunts_4 19 rfl rfl)
theorem dX2_blunts_113 : decode cX2_blunts 113 = .ok (.imul, 1) := dk_104 (dk_at dksX2_blunts_4 21 rfl rfl)
theorem dX2_blunts_114 : decode cX2_blunts 114 = .ok (.iload 7, 2) := dk_21 7 (dk_at dksX2_blunts_4 22 rfl rfl)
theorem dX2_blunts_116 : decode cX2_blunts 116 = .ok (.iadd, 1) := dk_96 (dk_at dksX2_blunts_5 0 rfl rfl)
theorem dX2_blunts_117 : decode cX2_blunts 117 = .ok (.dup2, 1) := dk_92 (dk_at dksX2_blunts_5 1 rfl rfl)
theorem dX2_blunts_118 : decode cX2_blunts 118 = .ok (.laload, 1) := dk_47 (dk_at dksX2_blunts_5 2 rfl rfl)
theorem dX2_blunts_119 : decode cX2_blunts 119 = .ok (.aload_n 0, 1) := dk_42 (dk_at dksX2_blunts_5 3 rfl rfl)
theorem dX2_blunts_120 : decode cX2_blunts 120 = .ok (.getfield 37, 3) := dk_180 0 37 (dk_at dksX2_blunts_5 4 rfl rfl)
theorem dX2_blunts_123 : decode cX2_blunts 123 = .ok (.iconst 3, 1) := dk_6 (dk_at dksX2_blunts_5 7 rfl rfl)
theorem dX2_blunts_124 : decode cX2_blunts 124 = .ok (.iload 4, 2) := dk_21 4 (dk_at dksX2_blunts_5 8 rfl rfl)
theorem dX2_blunts_126 : decode cX2_blunts 126 = .ok (.imul, 1) := dk_104 (dk_at dksX2_blunts_5 10 rfl rfl)
theorem dX2_blunts_127 : decode cX2_blunts 127 = .ok (.iload 7, 2) := dk_21 7 (dk_at dksX2_blunts_5 11 rfl rfl)
theorem dX2_blunts_129 : decode cX2_blunts 129 = .ok (.iadd, 1) := dk_96 (dk_at dksX2_blunts_5 13 rfl rfl)
theorem dX2_blunts_130 : decode cX2_blunts 130 = .ok (.laload, 1) := dk_47 (dk_at dksX2_blunts_5 14 rfl rfl)
theorem dX2_blunts_131 : decode cX2_blunts 131 = .ok (.ladd, 1) := dk_97 (dk_at dksX2_blunts_5 15 rfl rfl)
theorem dX2_blunts_132 : decode cX2_blunts 132 = .ok (.lastore, 1) := dk_80 (dk_at dksX2_blunts_5 16 rfl rfl)
theorem dX2_blunts_133 : decode cX2_blunts 133 = .ok (.iinc 7 1, 3) := dk_132 7 1 (dk_at dksX2_blunts_5 17 rfl rfl)
theorem dX2_blunts_136 : decode cX2_blunts 136 = .ok (.goto (-50), 3) := dk_167 255 206 (dk_at dksX2_blunts_5 20 rfl rfl)
theorem dX2_blunts_139 : decode cX2_blunts 139 = .ok (.iinc 6 1, 3) := dk_132 6 1 (dk_at dksX2_blunts_6 0 rfl rfl)
theorem dX2_blunts_142 : decode cX2_blunts 142 = .ok (.goto (-65), 3) := dk_167 255 191 (dk_at dksX2_blunts_6 3 rfl rfl)
theorem dX2_blunts_145 : decode cX2_blunts 145 = .ok (.iconst 0, 1) := dk_3 (dk_at dksX2_blunts_6 6 rfl rfl)
theorem dX2_blunts_146 : decode cX2_blunts 146 = .ok (.istore 6, 2) := dk_54 6 (dk_at dksX2_blunts_6 7 rfl rfl)
theorem dX2_blunts_148 : decode cX2_blunts 148 = .ok (.iload 6, 2) := dk_21 6 (dk_at dksX2_blunts_6 9 rfl rfl)
theorem dX2_blunts_150 : decode cX2_blunts 150 = .ok (.iconst 3, 1) := dk_6 (dk_at dksX2_blunts_6 11 rfl rfl)
theorem dX2_blunts_151 : decode cX2_blunts 151 = .ok (.if_icmp .ge 34, 3) := dk_162 0 34 (dk_at dksX2_blunts_6 12 rfl rfl)
theorem dX2_blunts_154 : decode cX2_blunts 154 = .ok (.aload_n 0, 1) := dk_42 (dk_at dksX2_blunts_6 15 rfl rfl)
theorem dX2_blunts_155 : decode cX2_blunts 155 = .ok (.getfield 37, 3) := dk_180 0 37 (dk_at dksX2_blunts_6 16 rfl rfl)
theorem dX2_blunts_158 : decode cX2_blunts 158 = .ok (.iconst 3, 1) := dk_6 (dk_at dksX2_blunts_6 19 rfl rfl)
theorem dX2_blunts_159 : decode cX2_blunts 159 = .ok (.iload 4, 2) := dk_21 4 (dk_at dksX2_blunts_6 20 rfl rfl)
theorem dX2_blunts_161 : decode cX2_blunts 161 = .ok (.imul, 1) := dk_104 (dk_at dksX2_blunts_6 22 rfl rfl)
theorem dX2_blunts_162 : decode cX2_blunts 162 = .ok (.iload 6, 2) := dk_21 6 (dk_at dksX2_blunts_7 0 rfl rfl)
theorem dX2_blunts_164 : decode cX2_blunts 164 = .ok (.iadd, 1) := dk_96 (dk_at dksX2_blunts_7 2 rfl rfl)
theorem dX2_blunts_165 : decode cX2_blunts 165 = .ok (.aload_n 0, 1) := dk_42 (dk_at dksX2_blunts_7 3 rfl rfl)
theorem dX2_blunts_166 : decode cX2_blunts 166 = .ok (.getfield 37, 3) := dk_180 0 37 (dk_at dksX2_blunts_7 4 rfl rfl)
theorem dX2_blunts_169 : decode cX2_blunts 169 = .ok (.iconst 3, 1) := dk_6 (dk_at dksX2_blunts_7 7 rfl rfl)
theorem dX2_blunts_170 : decode cX2_blunts 170 = .ok (.iload 4, 2) := dk_21 4 (dk_at dksX2_blunts_7 8 rfl rfl)
theorem dX2_blunts_172 : decode cX2_blunts 172 = .ok (.imul, 1) := dk_104 (dk_at dksX2_blunts_7 10 rfl rfl)
theorem dX2_blunts_173 : decode cX2_blunts 173 = .ok (.iload 6, 2) := dk_21 6 (dk_at dksX2_blunts_7 11 rfl rfl)
theorem dX2_blunts_175 : decode cX2_blunts 175 = .ok (.iadd, 1) := dk_96 (dk_at dksX2_blunts_7 13 rfl rfl)
theorem dX2_blunts_176 : decode cX2_blunts 176 = .ok (.laload, 1) := dk_47 (dk_at dksX2_blunts_7 14 rfl rfl)
theorem dX2_blunts_177 : decode cX2_blunts 177 = .ok (.lneg, 1) := dk_117 (dk_at dksX2_blunts_7 15 rfl rfl)
theorem dX2_blunts_178 : decode cX2_blunts 178 = .ok (.lastore, 1) := dk_80 (dk_at dksX2_blunts_7 16 rfl rfl)
theorem dX2_blunts_179 : decode cX2_blunts 179 = .ok (.iinc 6 1, 3) := dk_132 6 1 (dk_at dksX2_blunts_7 17 rfl rfl)
theorem dX2_blunts_182 : decode cX2_blunts 182 = .ok (.goto (-34), 3) := dk_167 255 222 (dk_at dksX2_blunts_7 20 rfl rfl)
theorem dX2_blunts_185 : decode cX2_blunts 185 = .ok (.iinc 2 1, 3) := dk_132 2 1 (dk_at dksX2_blunts_8 0 rfl rfl)
theorem dX2_blunts_188 : decode cX2_blunts 188 = .ok (.aload_n 0, 1) := dk_42 (dk_at dksX2_blunts_8 3 rfl rfl)
theorem dX2_blunts_189 : decode cX2_blunts 189 = .ok (.iload_n 1, 1) := dk_27 (dk_at dksX2_blunts_8 4 rfl rfl)
theorem dX2_blunts_190 : decode cX2_blunts 190 = .ok (.invokevirtual 267, 3) := dk_182 1 11 (dk_at dksX2_blunts_8 5 rfl rfl)
theorem dX2_blunts_193 : decode cX2_blunts 193 = .ok (.istore_n 3, 1) := dk_62 (dk_at dksX2_blunts_8 8 rfl rfl)
theorem dX2_blunts_194 : decode cX2_blunts 194 = .ok (.goto (-143), 3) := dk_167 255 113 (dk_at dksX2_blunts_8 9 rfl rfl)
theorem dX2_blunts_197 : decode cX2_blunts 197 = .ok (.iload_n 2, 1) := dk_28 (dk_at dksX2_blunts_8 12 rfl rfl)
theorem dX2_blunts_198 : decode cX2_blunts 198 = .ok (.ireturn, 1) := dk_172 (dk_at dksX2_blunts_8 13 rfl rfl)
abbrev cX2_greatest : ByteArray := prog_6_method_68_code
def yX2_greatest : MethodName := ⟨RX2, "greatest", "(I)I"⟩
def dkwX2_greatest_2 : List UInt8 := [167, 0, 4, 28, 61, 132, 3, 1, 167, 255, 206, 28, 172]
abbrev dktX2_greatest_2 : List UInt8 := dkwX2_greatest_2 ++ []
def dkwX2_greatest_1 : List UInt8 := [184, 1, 5, 182, 1, 8, 80, 42, 180, 0, 40, 29, 47, 42, 180, 0, 40, 28, 47, 148, 158, 0, 7, 29]
abbrev dktX2_greatest_1 : List UInt8 := dkwX2_greatest_1 ++ dktX2_greatest_2
def dkwX2_greatest_0 : List UInt8 := [3, 61, 3, 62, 29, 16, 6, 162, 0, 50, 42, 180, 0, 40, 29, 42, 27, 29, 184, 1, 2, 29]
abbrev dktX2_greatest_0 : List UInt8 := dkwX2_greatest_0 ++ dktX2_greatest_1
theorem dksX2_greatest_0 : cX2_greatest.data.toList.drop 0 = dktX2_greatest_0 := by decide +kernel
theorem dksX2_greatest_1 : cX2_greatest.data.toList.drop 22 = dktX2_greatest_1 := dk_seg dksX2_greatest_0 22 rfl rfl
theorem dksX2_greatest_2 : cX2_greatest.data.toList.drop 46 = dktX2_greatest_2 := dk_seg dksX2_greatest_1 24 rfl rfl
theorem dX2_greatest_0 : decode cX2_greatest 0 = .ok (.iconst 0, 1) := dk_3 (dk_at dksX2_greatest_0 0 rfl rfl)
theorem dX2_greatest_1 : decode cX2_greatest 1 = .ok (.istore_n 2, 1) := dk_61 (dk_at dksX2_greatest_0 1 rfl rfl)
theorem dX2_greatest_2 : decode cX2_greatest 2 = .ok (.iconst 0, 1) := dk_3 (dk_at dksX2_greatest_0 2 rfl rfl)
theorem dX2_greatest_3 : decode cX2_greatest 3 = .ok (.istore_n 3, 1) := dk_62 (dk_at dksX2_greatest_0 3 rfl rfl)
theorem dX2_greatest_4 : decode cX2_greatest 4 = .ok (.iload_n 3, 1) := dk_29 (dk_at dksX2_greatest_0 4 rfl rfl)
theorem dX2_greatest_5 : decode cX2_greatest 5 = .ok (.bipush 6, 2) := dk_16 6 (dk_at dksX2_greatest_0 5 rfl rfl)
theorem dX2_greatest_7 : decode cX2_greatest 7 = .ok (.if_icmp .ge 50, 3) := dk_162 0 50 (dk_at dksX2_greatest_0 7 rfl rfl)
theorem dX2_greatest_10 : decode cX2_greatest 10 = .ok (.aload_n 0, 1) := dk_42 (dk_at dksX2_greatest_0 10 rfl rfl)
theorem dX2_greatest_11 : decode cX2_greatest 11 = .ok (.getfield 40, 3) := dk_180 0 40 (dk_at dksX2_greatest_0 11 rfl rfl)
theorem dX2_greatest_14 : decode cX2_greatest 14 = .ok (.iload_n 3, 1) := dk_29 (dk_at dksX2_greatest_0 14 rfl rfl)
theorem dX2_greatest_15 : decode cX2_greatest 15 = .ok (.aload_n 0, 1) := dk_42 (dk_at dksX2_greatest_0 15 rfl rfl)
theorem dX2_greatest_16 : decode cX2_greatest 16 = .ok (.iload_n 1, 1) := dk_27 (dk_at dksX2_greatest_0 16 rfl rfl)
theorem dX2_greatest_17 : decode cX2_greatest 17 = .ok (.iload_n 3, 1) := dk_29 (dk_at dksX2_greatest_0 17 rfl rfl)
theorem dX2_greatest_18 : decode cX2_greatest 18 = .ok (.invokestatic 258, 3) := dk_184 1 2 (dk_at dksX2_greatest_0 18 rfl rfl)
theorem dX2_greatest_21 : decode cX2_greatest 21 = .ok (.iload_n 3, 1) := dk_29 (dk_at dksX2_greatest_0 21 rfl rfl)
theorem dX2_greatest_22 : decode cX2_greatest 22 = .ok (.invokestatic 261, 3) := dk_184 1 5 (dk_at dksX2_greatest_1 0 rfl rfl)
theorem dX2_greatest_25 : decode cX2_greatest 25 = .ok (.invokevirtual 264, 3) := dk_182 1 8 (dk_at dksX2_greatest_1 3 rfl rfl)
theorem dX2_greatest_28 : decode cX2_greatest 28 = .ok (.lastore, 1) := dk_80 (dk_at dksX2_greatest_1 6 rfl rfl)
theorem dX2_greatest_29 : decode cX2_greatest 29 = .ok (.aload_n 0, 1) := dk_42 (dk_at dksX2_greatest_1 7 rfl rfl)
theorem dX2_greatest_30 : decode cX2_greatest 30 = .ok (.getfield 40, 3) := dk_180 0 40 (dk_at dksX2_greatest_1 8 rfl rfl)
theorem dX2_greatest_33 : decode cX2_greatest 33 = .ok (.iload_n 3, 1) := dk_29 (dk_at dksX2_greatest_1 11 rfl rfl)
theorem dX2_greatest_34 : decode cX2_greatest 34 = .ok (.laload, 1) := dk_47 (dk_at dksX2_greatest_1 12 rfl rfl)
theorem dX2_greatest_35 : decode cX2_greatest 35 = .ok (.aload_n 0, 1) := dk_42 (dk_at dksX2_greatest_1 13 rfl rfl)
theorem dX2_greatest_36 : decode cX2_greatest 36 = .ok (.getfield 40, 3) := dk_180 0 40 (dk_at dksX2_greatest_1 14 rfl rfl)
theorem dX2_greatest_39 : decode cX2_greatest 39 = .ok (.iload_n 2, 1) := dk_28 (dk_at dksX2_greatest_1 17 rfl rfl)
theorem dX2_greatest_40 : decode cX2_greatest 40 = .ok (.laload, 1) := dk_47 (dk_at dksX2_greatest_1 18 rfl rfl)
theorem dX2_greatest_41 : decode cX2_greatest 41 = .ok (.lcmp, 1) := dk_148 (dk_at dksX2_greatest_1 19 rfl rfl)
theorem dX2_greatest_42 : decode cX2_greatest 42 = .ok (.ifCond .le 7, 3) := dk_158 0 7 (dk_at dksX2_greatest_1 20 rfl rfl)
theorem dX2_greatest_45 : decode cX2_greatest 45 = .ok (.iload_n 3, 1) := dk_29 (dk_at dksX2_greatest_1 23 rfl rfl)
theorem dX2_greatest_46 : decode cX2_greatest 46 = .ok (.goto 4, 3) := dk_167 0 4 (dk_at dksX2_greatest_2 0 rfl rfl)
theorem dX2_greatest_49 : decode cX2_greatest 49 = .ok (.iload_n 2, 1) := dk_28 (dk_at dksX2_greatest_2 3 rfl rfl)
theorem dX2_greatest_50 : decode cX2_greatest 50 = .ok (.istore_n 2, 1) := dk_61 (dk_at dksX2_greatest_2 4 rfl rfl)
theorem dX2_greatest_51 : decode cX2_greatest 51 = .ok (.iinc 3 1, 3) := dk_132 3 1 (dk_at dksX2_greatest_2 5 rfl rfl)
theorem dX2_greatest_54 : decode cX2_greatest 54 = .ok (.goto (-50), 3) := dk_167 255 206 (dk_at dksX2_greatest_2 8 rfl rfl)
theorem dX2_greatest_57 : decode cX2_greatest 57 = .ok (.iload_n 2, 1) := dk_28 (dk_at dksX2_greatest_2 11 rfl rfl)
theorem dX2_greatest_58 : decode cX2_greatest 58 = .ok (.ireturn, 1) := dk_172 (dk_at dksX2_greatest_2 12 rfl rfl)
abbrev cX2_one : ByteArray := prog_6_method_66_code
def yX2_one : MethodName := ⟨RX2, "one", "(I)I"⟩
def dkwX2_one_1 : List UInt8 := [167, 0, 4, 5, 172]
abbrev dktX2_one_1 : List UInt8 := dkwX2_one_1 ++ []
def dkwX2_one_0 : List UInt8 := [26, 154, 0, 7, 4, 167, 0, 22, 26, 7, 162, 0, 7, 3, 167, 0, 13, 26, 7, 160, 0, 7, 4]
abbrev dktX2_one_0 : List UInt8 := dkwX2_one_0 ++ dktX2_one_1
theorem dksX2_one_0 : cX2_one.data.toList.drop 0 = dktX2_one_0 := by decide +kernel
theorem dksX2_one_1 : cX2_one.data.toList.drop 23 = dktX2_one_1 := dk_seg dksX2_one_0 23 rfl rfl
theorem dX2_one_0 : decode cX2_one 0 = .ok (.iload_n 0, 1) := dk_26 (dk_at dksX2_one_0 0 rfl rfl)
theorem dX2_one_1 : decode cX2_one 1 = .ok (.ifCond .ne 7, 3) := dk_154 0 7 (dk_at dksX2_one_0 1 rfl rfl)
theorem dX2_one_4 : decode cX2_one 4 = .ok (.iconst 1, 1) := dk_4 (dk_at dksX2_one_0 4 rfl rfl)
theorem dX2_one_5 : decode cX2_one 5 = .ok (.goto 22, 3) := dk_167 0 22 (dk_at dksX2_one_0 5 rfl rfl)
theorem dX2_one_8 : decode cX2_one 8 = .ok (.iload_n 0, 1) := dk_26 (dk_at dksX2_one_0 8 rfl rfl)
theorem dX2_one_9 : decode cX2_one 9 = .ok (.iconst 4, 1) := dk_7 (dk_at dksX2_one_0 9 rfl rfl)
theorem dX2_one_10 : decode cX2_one 10 = .ok (.if_icmp .ge 7, 3) := dk_162 0 7 (dk_at dksX2_one_0 10 rfl rfl)
theorem dX2_one_13 : decode cX2_one 13 = .ok (.iconst 0, 1) := dk_3 (dk_at dksX2_one_0 13 rfl rfl)
theorem dX2_one_14 : decode cX2_one 14 = .ok (.goto 13, 3) := dk_167 0 13 (dk_at dksX2_one_0 14 rfl rfl)
theorem dX2_one_17 : decode cX2_one 17 = .ok (.iload_n 0, 1) := dk_26 (dk_at dksX2_one_0 17 rfl rfl)
theorem dX2_one_18 : decode cX2_one 18 = .ok (.iconst 4, 1) := dk_7 (dk_at dksX2_one_0 18 rfl rfl)
theorem dX2_one_19 : decode cX2_one 19 = .ok (.if_icmp .ne 7, 3) := dk_160 0 7 (dk_at dksX2_one_0 19 rfl rfl)
theorem dX2_one_22 : decode cX2_one 22 = .ok (.iconst 1, 1) := dk_4 (dk_at dksX2_one_0 22 rfl rfl)
theorem dX2_one_23 : decode cX2_one 23 = .ok (.goto 4, 3) := dk_167 0 4 (dk_at dksX2_one_1 0 rfl rfl)
theorem dX2_one_26 : decode cX2_one 26 = .ok (.iconst 2, 1) := dk_5 (dk_at dksX2_one_1 3 rfl rfl)
theorem dX2_one_27 : decode cX2_one 27 = .ok (.ireturn, 1) := dk_172 (dk_at dksX2_one_1 4 rfl rfl)
abbrev cX2_other : ByteArray := prog_6_method_67_code
def yX2_other : MethodName := ⟨RX2, "other", "(I)I"⟩
def dkwX2_other_0 : List UInt8 := [26, 5, 162, 0, 7, 5, 167, 0, 13, 26, 5, 160, 0, 7, 4, 167, 0, 4, 6, 172]
abbrev dktX2_other_0 : List UInt8 := dkwX2_other_0 ++ []
theorem dksX2_other_0 : cX2_other.data.toList.drop 0 = dktX2_other_0 := by decide +kernel
theorem dX2_other_0 : decode cX2_other 0 = .ok (.iload_n 0, 1) := dk_26 (dk_at dksX2_other_0 0 rfl rfl)
theorem dX2_other_1 : decode cX2_other 1 = .ok (.iconst 2, 1) := dk_5 (dk_at dksX2_other_0 1 rfl rfl)
theorem dX2_other_2 : decode cX2_other 2 = .ok (.if_icmp .ge 7, 3) := dk_162 0 7 (dk_at dksX2_other_0 2 rfl rfl)
theorem dX2_other_5 : decode cX2_other 5 = .ok (.iconst 2, 1) := dk_5 (dk_at dksX2_other_0 5 rfl rfl)
theorem dX2_other_6 : decode cX2_other 6 = .ok (.goto 13, 3) := dk_167 0 13 (dk_at dksX2_other_0 6 rfl rfl)
theorem dX2_other_9 : decode cX2_other 9 = .ok (.iload_n 0, 1) := dk_26 (dk_at dksX2_other_0 9 rfl rfl)
theorem dX2_other_10 : decode cX2_other 10 = .ok (.iconst 2, 1) := dk_5 (dk_at dksX2_other_0 10 rfl rfl)
theorem dX2_other_11 : decode cX2_other 11 = .ok (.if_icmp .ne 7, 3) := dk_160 0 7 (dk_at dksX2_other_0 11 rfl rfl)
theorem dX2_other_14 : decode cX2_other 14 = .ok (.iconst 1, 1) := dk_4 (dk_at dksX2_other_0 14 rfl rfl)
theorem dX2_other_15 : decode cX2_other 15 = .ok (.goto 4, 3) := dk_167 0 4 (dk_at dksX2_other_0 15 rfl rfl)
theorem dX2_other_18 : decode cX2_other 18 = .ok (.iconst 3, 1) := dk_6 (dk_at dksX2_other_0 18 rfl rfl)
theorem dX2_other_19 : decode cX2_other 19 = .ok (.ireturn, 1) := dk_172 (dk_at dksX2_other_0 19 rfl rfl)
abbrev cX2_twiceOf : ByteArray := prog_6_method_65_code
def yX2_twiceOf : MethodName := ⟨RX2, "twiceOf", "(III)J"⟩
def dkwX2_twiceOf_3 : List UInt8 := [22, 4, 173]
abbrev dktX2_twiceOf_3 : List UInt8 := dkwX2_twiceOf_3 ++ []
def dkwX2_twiceOf_2 : List UInt8 := [21, 6, 21, 7, 182, 0, 90, 105, 97, 55, 4, 132, 7, 1, 167, 255, 209, 132, 6, 1, 167, 255, 194]
abbrev dktX2_twiceOf_2 : List UInt8 := dkwX2_twiceOf_2 ++ dktX2_twiceOf_3
def dkwX2_twiceOf_1 : List UInt8 := [180, 0, 37, 6, 28, 104, 21, 6, 96, 47, 42, 180, 0, 37, 6, 29, 104, 21, 7, 96, 47, 105, 42, 27]
abbrev dktX2_twiceOf_1 : List UInt8 := dkwX2_twiceOf_1 ++ dktX2_twiceOf_2
def dkwX2_twiceOf_0 : List UInt8 := [9, 55, 4, 3, 54, 6, 21, 6, 6, 162, 0, 62, 3, 54, 7, 21, 7, 6, 162, 0, 47, 22, 4, 42]
abbrev dktX2_twiceOf_0 : List UInt8 := dkwX2_twiceOf_0 ++ dktX2_twiceOf_1
theorem dksX2_twiceOf_0 : cX2_twiceOf.data.toList.drop 0 = dktX2_twiceOf_0 := by decide +kernel
theorem dksX2_twiceOf_1 : cX2_twiceOf.data.toList.drop 24 = dktX2_twiceOf_1 := dk_seg dksX2_twiceOf_0 24 rfl rfl
theorem dksX2_twiceOf_2 : cX2_twiceOf.data.toList.drop 48 = dktX2_twiceOf_2 := dk_seg dksX2_twiceOf_1 24 rfl rfl
theorem dksX2_twiceOf_3 : cX2_twiceOf.data.toList.drop 71 = dktX2_twiceOf_3 := dk_seg dksX2_twiceOf_2 23 rfl rfl
theorem dX2_twiceOf_0 : decode cX2_twiceOf 0 = .ok (.lconst 0, 1) := dk_9 (dk_at dksX2_twiceOf_0 0 rfl rfl)
theorem dX2_twiceOf_1 : decode cX2_twiceOf 1 = .ok (.lstore 4, 2) := dk_55 4 (dk_at dksX2_twiceOf_0 1 rfl rfl)
theorem dX2_twiceOf_3 : decode cX2_twiceOf 3 = .ok (.iconst 0, 1) := dk_3 (dk_at dksX2_twiceOf_0 3 rfl rfl)
theorem dX2_twiceOf_4 : decode cX2_twiceOf 4 = .ok (.istore 6, 2) := dk_54 6 (dk_at dksX2_twiceOf_0 4 rfl rfl)
theorem dX2_twiceOf_6 : decode cX2_twiceOf 6 = .ok (.iload 6, 2) := dk_21 6 (dk_at dksX2_twiceOf_0 6 rfl rfl)
theorem dX2_twiceOf_8 : decode cX2_twiceOf 8 = .ok (.iconst 3, 1) := dk_6 (dk_at dksX2_twiceOf_0 8 rfl rfl)
theorem dX2_twiceOf_9 : decode cX2_twiceOf 9 = .ok (.if_icmp .ge 62, 3) := dk_162 0 62 (dk_at dksX2_twiceOf_0 9 rfl rfl)
theorem dX2_twiceOf_12 : decode cX2_twiceOf 12 = .ok (.iconst 0, 1) := dk_3 (dk_at dksX2_twiceOf_0 12 rfl rfl)
theorem dX2_twiceOf_13 : decode cX2_twiceOf 13 = .ok (.istore 7, 2) := dk_54 7 (dk_at dksX2_twiceOf_0 13 rfl rfl)
theorem dX2_twiceOf_15 : decode cX2_twiceOf 15 = .ok (.iload 7, 2) := dk_21 7 (dk_at dksX2_twiceOf_0 15 rfl rfl)
theorem dX2_twiceOf_17 : decode cX2_twiceOf 17 = .ok (.iconst 3, 1) := dk_6 (dk_at dksX2_twiceOf_0 17 rfl rfl)
theorem dX2_twiceOf_18 : decode cX2_twiceOf 18 = .ok (.if_icmp .ge 47, 3) := dk_162 0 47 (dk_at dksX2_twiceOf_0 18 rfl rfl)
theorem dX2_twiceOf_21 : decode cX2_twiceOf 21 = .ok (.lload 4, 2) := dk_22 4 (dk_at dksX2_twiceOf_0 21 rfl rfl)
theorem dX2_twiceOf_23 : decode cX2_twiceOf 23 = .ok (.aload_n 0, 1) := dk_42 (dk_at dksX2_twiceOf_0 23 rfl rfl)
theorem dX2_twiceOf_24 : decode cX2_twiceOf 24 = .ok (.getfield 37, 3) := dk_180 0 37 (dk_at dksX2_twiceOf_1 0 rfl rfl)
theorem dX2_twiceOf_27 : decode cX2_twiceOf 27 = .ok (.iconst 3, 1) := dk_6 (dk_at dksX2_twiceOf_1 3 rfl rfl)
theorem dX2_twiceOf_28 : decode cX2_twiceOf 28 = .ok (.iload_n 2, 1) := dk_28 (dk_at dksX2_twiceOf_1 4 rfl rfl)
theorem dX2_twiceOf_29 : decode cX2_twiceOf 29 = .ok (.imul, 1) := dk_104 (dk_at dksX2_twiceOf_1 5 rfl rfl)
theorem dX2_twiceOf_30 : decode cX2_twiceOf 30 = .ok (.iload 6, 2) := dk_21 6 (dk_at dksX2_twiceOf_1 6 rfl rfl)
theorem dX2_twiceOf_32 : decode cX2_twiceOf 32 = .ok (.iadd, 1) := dk_96 (dk_at dksX2_twiceOf_1 8 rfl rfl)
theorem dX2_twiceOf_33 : decode cX2_twiceOf 33 = .ok (.laload, 1) := dk_47 (dk_at dksX2_twiceOf_1 9 rfl rfl)
theorem dX2_twiceOf_34 : decode cX2_twiceOf 34 = .ok (.aload_n 0, 1) := dk_42 (dk_at dksX2_twiceOf_1 10 rfl rfl)
theorem dX2_twiceOf_35 : decode cX2_twiceOf 35 = .ok (.getfield 37, 3) := dk_180 0 37 (dk_at dksX2_twiceOf_1 11 rfl rfl)
theorem dX2_twiceOf_38 : decode cX2_twiceOf 38 = .ok (.iconst 3, 1) := dk_6 (dk_at dksX2_twiceOf_1 14 rfl rfl)
theorem dX2_twiceOf_39 : decode cX2_twiceOf 39 = .ok (.iload_n 3, 1) := dk_29 (dk_at dksX2_twiceOf_1 15 rfl rfl)
theorem dX2_twiceOf_40 : decode cX2_twiceOf 40 = .ok (.imul, 1) := dk_104 (dk_at dksX2_twiceOf_1 16 rfl rfl)
theorem dX2_twiceOf_41 : decode cX2_twiceOf 41 = .ok (.iload 7, 2) := dk_21 7 (dk_at dksX2_twiceOf_1 17 rfl rfl)
theorem dX2_twiceOf_43 : decode cX2_twiceOf 43 = .ok (.iadd, 1) := dk_96 (dk_at dksX2_twiceOf_1 19 rfl rfl)
theorem dX2_twiceOf_44 : decode cX2_twiceOf 44 = .ok (.laload, 1) := dk_47 (dk_at dksX2_twiceOf_1 20 rfl rfl)
theorem dX2_twiceOf_45 : decode cX2_twiceOf 45 = .ok (.lmul, 1) := dk_105 (dk_at dksX2_twiceOf_1 21 rfl rfl)
theorem dX2_twiceOf_46 : decode cX2_twiceOf 46 = .ok (.aload_n 0, 1) := dk_42 (dk_at dksX2_twiceOf_1 22 rfl rfl)
theorem dX2_twiceOf_47 : decode cX2_twiceOf 47 = .ok (.iload_n 1, 1) := dk_27 (dk_at dksX2_twiceOf_1 23 rfl rfl)
theorem dX2_twiceOf_48 : decode cX2_twiceOf 48 = .ok (.iload 6, 2) := dk_21 6 (dk_at dksX2_twiceOf_2 0 rfl rfl)
theorem dX2_twiceOf_50 : decode cX2_twiceOf 50 = .ok (.iload 7, 2) := dk_21 7 (dk_at dksX2_twiceOf_2 2 rfl rfl)
theorem dX2_twiceOf_52 : decode cX2_twiceOf 52 = .ok (.invokevirtual 90, 3) := dk_182 0 90 (dk_at dksX2_twiceOf_2 4 rfl rfl)
theorem dX2_twiceOf_55 : decode cX2_twiceOf 55 = .ok (.lmul, 1) := dk_105 (dk_at dksX2_twiceOf_2 7 rfl rfl)
theorem dX2_twiceOf_56 : decode cX2_twiceOf 56 = .ok (.ladd, 1) := dk_97 (dk_at dksX2_twiceOf_2 8 rfl rfl)
theorem dX2_twiceOf_57 : decode cX2_twiceOf 57 = .ok (.lstore 4, 2) := dk_55 4 (dk_at dksX2_twiceOf_2 9 rfl rfl)
theorem dX2_twiceOf_59 : decode cX2_twiceOf 59 = .ok (.iinc 7 1, 3) := dk_132 7 1 (dk_at dksX2_twiceOf_2 11 rfl rfl)
theorem dX2_twiceOf_62 : decode cX2_twiceOf 62 = .ok (.goto (-47), 3) := dk_167 255 209 (dk_at dksX2_twiceOf_2 14 rfl rfl)
theorem dX2_twiceOf_65 : decode cX2_twiceOf 65 = .ok (.iinc 6 1, 3) := dk_132 6 1 (dk_at dksX2_twiceOf_2 17 rfl rfl)
theorem dX2_twiceOf_68 : decode cX2_twiceOf 68 = .ok (.goto (-62), 3) := dk_167 255 194 (dk_at dksX2_twiceOf_2 20 rfl rfl)
theorem dX2_twiceOf_71 : decode cX2_twiceOf 71 = .ok (.lload 4, 2) := dk_22 4 (dk_at dksX2_twiceOf_3 0 rfl rfl)
theorem dX2_twiceOf_73 : decode cX2_twiceOf 73 = .ok (.lreturn, 1) := dk_173 (dk_at dksX2_twiceOf_3 2 rfl rfl)
abbrev cX2_waits : ByteArray := prog_6_method_71_code
def yX2_waits : MethodName := ⟨RX2, "waits", "(I)I"⟩
def dkwX2_waits_2 : List UInt8 := [79, 42, 89, 180, 0, 178, 4, 96, 181, 0, 178, 42, 180, 0, 178, 172]
abbrev dktX2_waits_2 : List UInt8 := dkwX2_waits_2 ++ []
def dkwX2_waits_1 : List UInt8 := [28, 46, 27, 160, 0, 6, 16, 251, 172, 132, 2, 1, 167, 255, 232, 42, 180, 0, 25, 42, 180, 0, 178, 27]
abbrev dktX2_waits_1 : List UInt8 := dkwX2_waits_1 ++ dktX2_waits_2
def dkwX2_waits_0 : List UInt8 := [42, 27, 182, 0, 188, 154, 0, 5, 2, 172, 3, 61, 28, 42, 180, 0, 178, 162, 0, 22, 42, 180, 0, 25]
abbrev dktX2_waits_0 : List UInt8 := dkwX2_waits_0 ++ dktX2_waits_1
theorem dksX2_waits_0 : cX2_waits.data.toList.drop 0 = dktX2_waits_0 := by decide +kernel
theorem dksX2_waits_1 : cX2_waits.data.toList.drop 24 = dktX2_waits_1 := dk_seg dksX2_waits_0 24 rfl rfl
theorem dksX2_waits_2 : cX2_waits.data.toList.drop 48 = dktX2_waits_2 := dk_seg dksX2_waits_1 24 rfl rfl
theorem dX2_waits_0 : decode cX2_waits 0 = .ok (.aload_n 0, 1) := dk_42 (dk_at dksX2_waits_0 0 rfl rfl)
theorem dX2_waits_1 : decode cX2_waits 1 = .ok (.iload_n 1, 1) := dk_27 (dk_at dksX2_waits_0 1 rfl rfl)
theorem dX2_waits_2 : decode cX2_waits 2 = .ok (.invokevirtual 188, 3) := dk_182 0 188 (dk_at dksX2_waits_0 2 rfl rfl)
theorem dX2_waits_5 : decode cX2_waits 5 = .ok (.ifCond .ne 5, 3) := dk_154 0 5 (dk_at dksX2_waits_0 5 rfl rfl)
theorem dX2_waits_8 : decode cX2_waits 8 = .ok (.iconst (-1), 1) := dk_2 (dk_at dksX2_waits_0 8 rfl rfl)
theorem dX2_waits_9 : decode cX2_waits 9 = .ok (.ireturn, 1) := dk_172 (dk_at dksX2_waits_0 9 rfl rfl)
theorem dX2_waits_10 : decode cX2_waits 10 = .ok (.iconst 0, 1) := dk_3 (dk_at dksX2_waits_0 10 rfl rfl)
theorem dX2_waits_11 : decode cX2_waits 11 = .ok (.istore_n 2, 1) := dk_61 (dk_at dksX2_waits_0 11 rfl rfl)
theorem dX2_waits_12 : decode cX2_waits 12 = .ok (.iload_n 2, 1) := dk_28 (dk_at dksX2_waits_0 12 rfl rfl)
theorem dX2_waits_13 : decode cX2_waits 13 = .ok (.aload_n 0, 1) := dk_42 (dk_at dksX2_waits_0 13 rfl rfl)
theorem dX2_waits_14 : decode cX2_waits 14 = .ok (.getfield 178, 3) := dk_180 0 178 (dk_at dksX2_waits_0 14 rfl rfl)
theorem dX2_waits_17 : decode cX2_waits 17 = .ok (.if_icmp .ge 22, 3) := dk_162 0 22 (dk_at dksX2_waits_0 17 rfl rfl)
theorem dX2_waits_20 : decode cX2_waits 20 = .ok (.aload_n 0, 1) := dk_42 (dk_at dksX2_waits_0 20 rfl rfl)
theorem dX2_waits_21 : decode cX2_waits 21 = .ok (.getfield 25, 3) := dk_180 0 25 (dk_at dksX2_waits_0 21 rfl rfl)
theorem dX2_waits_24 : decode cX2_waits 24 = .ok (.iload_n 2, 1) := dk_28 (dk_at dksX2_waits_1 0 rfl rfl)
theorem dX2_waits_25 : decode cX2_waits 25 = .ok (.iaload, 1) := dk_46 (dk_at dksX2_waits_1 1 rfl rfl)
theorem dX2_waits_26 : decode cX2_waits 26 = .ok (.iload_n 1, 1) := dk_27 (dk_at dksX2_waits_1 2 rfl rfl)
theorem dX2_waits_27 : decode cX2_waits 27 = .ok (.if_icmp .ne 6, 3) := dk_160 0 6 (dk_at dksX2_waits_1 3 rfl rfl)
theorem dX2_waits_30 : decode cX2_waits 30 = .ok (.bipush (-5), 2) := dk_16 251 (dk_at dksX2_waits_1 6 rfl rfl)
theorem dX2_waits_32 : decode cX2_waits 32 = .ok (.ireturn, 1) := dk_172 (dk_at dksX2_waits_1 8 rfl rfl)
theorem dX2_waits_33 : decode cX2_waits 33 = .ok (.iinc 2 1, 3) := dk_132 2 1 (dk_at dksX2_waits_1 9 rfl rfl)
theorem dX2_waits_36 : decode cX2_waits 36 = .ok (.goto (-24), 3) := dk_167 255 232 (dk_at dksX2_waits_1 12 rfl rfl)
theorem dX2_waits_39 : decode cX2_waits 39 = .ok (.aload_n 0, 1) := dk_42 (dk_at dksX2_waits_1 15 rfl rfl)
theorem dX2_waits_40 : decode cX2_waits 40 = .ok (.getfield 25, 3) := dk_180 0 25 (dk_at dksX2_waits_1 16 rfl rfl)
theorem dX2_waits_43 : decode cX2_waits 43 = .ok (.aload_n 0, 1) := dk_42 (dk_at dksX2_waits_1 19 rfl rfl)
theorem dX2_waits_44 : decode cX2_waits 44 = .ok (.getfield 178, 3) := dk_180 0 178 (dk_at dksX2_waits_1 20 rfl rfl)
theorem dX2_waits_47 : decode cX2_waits 47 = .ok (.iload_n 1, 1) := dk_27 (dk_at dksX2_waits_1 23 rfl rfl)
theorem dX2_waits_48 : decode cX2_waits 48 = .ok (.iastore, 1) := dk_79 (dk_at dksX2_waits_2 0 rfl rfl)
theorem dX2_waits_49 : decode cX2_waits 49 = .ok (.aload_n 0, 1) := dk_42 (dk_at dksX2_waits_2 1 rfl rfl)
theorem dX2_waits_50 : decode cX2_waits 50 = .ok (.dup, 1) := dk_89 (dk_at dksX2_waits_2 2 rfl rfl)
theorem dX2_waits_51 : decode cX2_waits 51 = .ok (.getfield 178, 3) := dk_180 0 178 (dk_at dksX2_waits_2 3 rfl rfl)
theorem dX2_waits_54 : decode cX2_waits 54 = .ok (.iconst 1, 1) := dk_4 (dk_at dksX2_waits_2 6 rfl rfl)
theorem dX2_waits_55 : decode cX2_waits 55 = .ok (.iadd, 1) := dk_96 (dk_at dksX2_waits_2 7 rfl rfl)
theorem dX2_waits_56 : decode cX2_waits 56 = .ok (.putfield 178, 3) := dk_181 0 178 (dk_at dksX2_waits_2 8 rfl rfl)
theorem dX2_waits_59 : decode cX2_waits 59 = .ok (.aload_n 0, 1) := dk_42 (dk_at dksX2_waits_2 11 rfl rfl)
theorem dX2_waits_60 : decode cX2_waits 60 = .ok (.getfield 178, 3) := dk_180 0 178 (dk_at dksX2_waits_2 12 rfl rfl)
theorem dX2_waits_63 : decode cX2_waits 63 = .ok (.ireturn, 1) := dk_172 (dk_at dksX2_waits_2 15 rfl rfl)
abbrev cX2_leaves : ByteArray := prog_6_method_72_code
def yX2_leaves : MethodName := ⟨RX2, "leaves", "(I)I"⟩
def dkwX2_leaves_1 : List UInt8 := [167, 0, 4, 28, 172]
abbrev dktX2_leaves_1 : List UInt8 := dkwX2_leaves_1 ++ []
def dkwX2_leaves_0 : List UInt8 := [42, 27, 182, 0, 188, 154, 0, 5, 2, 172, 42, 27, 182, 0, 181, 61, 28, 156, 0, 8, 16, 251]
abbrev dktX2_leaves_0 : List UInt8 := dkwX2_leaves_0 ++ dktX2_leaves_1
theorem dksX2_leaves_0 : cX2_leaves.data.toList.drop 0 = dktX2_leaves_0 := by decide +kernel
theorem dksX2_leaves_1 : cX2_leaves.data.toList.drop 22 = dktX2_leaves_1 := dk_seg dksX2_leaves_0 22 rfl rfl
theorem dX2_leaves_0 : decode cX2_leaves 0 = .ok (.aload_n 0, 1) := dk_42 (dk_at dksX2_leaves_0 0 rfl rfl)
theorem dX2_leaves_1 : decode cX2_leaves 1 = .ok (.iload_n 1, 1) := dk_27 (dk_at dksX2_leaves_0 1 rfl rfl)
theorem dX2_leaves_2 : decode cX2_leaves 2 = .ok (.invokevirtual 188, 3) := dk_182 0 188 (dk_at dksX2_leaves_0 2 rfl rfl)
theorem dX2_leaves_5 : decode cX2_leaves 5 = .ok (.ifCond .ne 5, 3) := dk_154 0 5 (dk_at dksX2_leaves_0 5 rfl rfl)
theorem dX2_leaves_8 : decode cX2_leaves 8 = .ok (.iconst (-1), 1) := dk_2 (dk_at dksX2_leaves_0 8 rfl rfl)
theorem dX2_leaves_9 : decode cX2_leaves 9 = .ok (.ireturn, 1) := dk_172 (dk_at dksX2_leaves_0 9 rfl rfl)
theorem dX2_leaves_10 : decode cX2_leaves 10 = .ok (.aload_n 0, 1) := dk_42 (dk_at dksX2_leaves_0 10 rfl rfl)
theorem dX2_leaves_11 : decode cX2_leaves 11 = .ok (.iload_n 1, 1) := dk_27 (dk_at dksX2_leaves_0 11 rfl rfl)
theorem dX2_leaves_12 : decode cX2_leaves 12 = .ok (.invokevirtual 181, 3) := dk_182 0 181 (dk_at dksX2_leaves_0 12 rfl rfl)
theorem dX2_leaves_15 : decode cX2_leaves 15 = .ok (.istore_n 2, 1) := dk_61 (dk_at dksX2_leaves_0 15 rfl rfl)
theorem dX2_leaves_16 : decode cX2_leaves 16 = .ok (.iload_n 2, 1) := dk_28 (dk_at dksX2_leaves_0 16 rfl rfl)
theorem dX2_leaves_17 : decode cX2_leaves 17 = .ok (.ifCond .ge 8, 3) := dk_156 0 8 (dk_at dksX2_leaves_0 17 rfl rfl)
theorem dX2_leaves_20 : decode cX2_leaves 20 = .ok (.bipush (-5), 2) := dk_16 251 (dk_at dksX2_leaves_0 20 rfl rfl)
theorem dX2_leaves_22 : decode cX2_leaves 22 = .ok (.goto 4, 3) := dk_167 0 4 (dk_at dksX2_leaves_1 0 rfl rfl)
theorem dX2_leaves_25 : decode cX2_leaves 25 = .ok (.iload_n 2, 1) := dk_28 (dk_at dksX2_leaves_1 3 rfl rfl)
theorem dX2_leaves_26 : decode cX2_leaves 26 = .ok (.ireturn, 1) := dk_172 (dk_at dksX2_leaves_1 4 rfl rfl)
abbrev cX2_works : ByteArray := prog_6_method_73_code
def yX2_works : MethodName := ⟨RX2, "works", "(I)I"⟩
def dkwX2_works_4 : List UInt8 := [181, 0, 178, 132, 2, 1, 132, 3, 1, 167, 255, 170, 28, 172]
abbrev dktX2_works_4 : List UInt8 := dkwX2_works_4 ++ []
def dkwX2_works_3 : List UInt8 := [21, 5, 182, 0, 205, 42, 180, 0, 25, 42, 180, 0, 178, 21, 4, 79, 42, 89, 180, 0, 178, 4, 96]
abbrev dktX2_works_3 : List UInt8 := dkwX2_works_3 ++ dktX2_works_4
def dkwX2_works_2 : List UInt8 := [182, 0, 139, 54, 5, 21, 5, 154, 0, 6, 167, 0, 43, 42, 21, 4, 21, 5, 182, 0, 142, 42, 21, 4]
abbrev dktX2_works_2 : List UInt8 := dkwX2_works_2 ++ dktX2_works_3
def dkwX2_works_1 : List UInt8 := [180, 0, 178, 158, 0, 80, 42, 180, 0, 25, 3, 46, 54, 4, 42, 21, 4, 182, 0, 181, 87, 42, 21, 4]
abbrev dktX2_works_1 : List UInt8 := dkwX2_works_1 ++ dktX2_works_2
def dkwX2_works_0 : List UInt8 := [27, 133, 10, 20, 1, 17, 184, 0, 68, 154, 0, 5, 2, 172, 3, 61, 3, 62, 29, 27, 162, 0, 87, 42]
abbrev dktX2_works_0 : List UInt8 := dkwX2_works_0 ++ dktX2_works_1
theorem dksX2_works_0 : cX2_works.data.toList.drop 0 = dktX2_works_0 := by decide +kernel
theorem dksX2_works_1 : cX2_works.data.toList.drop 24 = dktX2_works_1 := dk_seg dksX2_works_0 24 rfl rfl
theorem dksX2_works_2 : cX2_works.data.toList.drop 48 = dktX2_works_2 := dk_seg dksX2_works_1 24 rfl rfl
theorem dksX2_works_3 : cX2_works.data.toList.drop 72 = dktX2_works_3 := dk_seg dksX2_works_2 24 rfl rfl
theorem dksX2_works_4 : cX2_works.data.toList.drop 95 = dktX2_works_4 := dk_seg dksX2_works_3 23 rfl rfl
theorem dX2_works_0 : decode cX2_works 0 = .ok (.iload_n 1, 1) := dk_27 (dk_at dksX2_works_0 0 rfl rfl)
theorem dX2_works_1 : decode cX2_works 1 = .ok (.i2l, 1) := dk_133 (dk_at dksX2_works_0 1 rfl rfl)
theorem dX2_works_2 : decode cX2_works 2 = .ok (.lconst 1, 1) := dk_10 (dk_at dksX2_works_0 2 rfl rfl)
theorem dX2_works_3 : decode cX2_works 3 = .ok (.ldc2_w 273, 3) := dk_20 1 17 (dk_at dksX2_works_0 3 rfl rfl)
theorem dX2_works_6 : decode cX2_works 6 = .ok (.invokestatic 68, 3) := dk_184 0 68 (dk_at dksX2_works_0 6 rfl rfl)
theorem dX2_works_9 : decode cX2_works 9 = .ok (.ifCond .ne 5, 3) := dk_154 0 5 (dk_at dksX2_works_0 9 rfl rfl)
theorem dX2_works_12 : decode cX2_works 12 = .ok (.iconst (-1), 1) := dk_2 (dk_at dksX2_works_0 12 rfl rfl)
theorem dX2_works_13 : decode cX2_works 13 = .ok (.ireturn, 1) := dk_172 (dk_at dksX2_works_0 13 rfl rfl)
theorem dX2_works_14 : decode cX2_works 14 = .ok (.iconst 0, 1) := dk_3 (dk_at dksX2_works_0 14 rfl rfl)
theorem dX2_works_15 : decode cX2_works 15 = .ok (.istore_n 2, 1) := dk_61 (dk_at dksX2_works_0 15 rfl rfl)
theorem dX2_works_16 : decode cX2_works 16 = .ok (.iconst 0, 1) := dk_3 (dk_at dksX2_works_0 16 rfl rfl)
theorem dX2_works_17 : decode cX2_works 17 = .ok (.istore_n 3, 1) := dk_62 (dk_at dksX2_works_0 17 rfl rfl)
theorem dX2_works_18 : decode cX2_works 18 = .ok (.iload_n 3, 1) := dk_29 (dk_at dksX2_works_0 18 rfl rfl)
theorem dX2_works_19 : decode cX2_works 19 = .ok (.iload_n 1, 1) := dk_27 (dk_at dksX2_works_0 19 rfl rfl)
theorem dX2_works_20 : decode cX2_works 20 = .ok (.if_icmp .ge 87, 3) := dk_162 0 87 (dk_at dksX2_works_0 20 rfl rfl)
theorem dX2_works_23 : decode cX2_works 23 = .ok (.aload_n 0, 1) := dk_42 (dk_at dksX2_works_0 23 rfl rfl)
theorem dX2_works_24 : decode cX2_works 24 = .ok (.getfield 178, 3) := dk_180 0 178 (dk_at dksX2_works_1 0 rfl rfl)
theorem dX2_works_27 : decode cX2_works 27 = .ok (.ifCond .le 80, 3) := dk_158 0 80 (dk_at dksX2_works_1 3 rfl rfl)
theorem dX2_works_30 : decode cX2_works 30 = .ok (.aload_n 0, 1) := dk_42 (dk_at dksX2_works_1 6 rfl rfl)
theorem dX2_works_31 : decode cX2_works 31 = .ok (.getfield 25, 3) := dk_180 0 25 (dk_at dksX2_works_1 7 rfl rfl)
theorem dX2_works_34 : decode cX2_works 34 = .ok (.iconst 0, 1) := dk_3 (dk_at dksX2_works_1 10 rfl rfl)
theorem dX2_works_35 : decode cX2_works 35 = .ok (.iaload, 1) := dk_46 (dk_at dksX2_works_1 11 rfl rfl)
theorem dX2_works_36 : decode cX2_works 36 = .ok (.istore 4, 2) := dk_54 4 (dk_at dksX2_works_1 12 rfl rfl)
theorem dX2_works_38 : decode cX2_works 38 = .ok (.aload_n 0, 1) := dk_42 (dk_at dksX2_works_1 14 rfl rfl)
theorem dX2_works_39 : decode cX2_works 39 = .ok (.iload 4, 2) := dk_21 4 (dk_at dksX2_works_1 15 rfl rfl)
theorem dX2_works_41 : decode cX2_works 41 = .ok (.invokevirtual 181, 3) := dk_182 0 181 (dk_at dksX2_works_1 17 rfl rfl)
theorem dX2_works_44 : decode cX2_works 44 = .ok (.pop, 1) := dk_87 (dk_at dksX2_works_1 20 rfl rfl)
theorem dX2_works_45 : decode cX2_works 45 = .ok (.aload_n 0, 1) := dk_42 (dk_at dksX2_works_1 21 rfl rfl)
theorem dX2_works_46 : decode cX2_works 46 = .ok (.iload 4, 2) := dk_21 4 (dk_at dksX2_works_1 22 rfl rfl)
theorem dX2_works_48 : decode cX2_works 48 = .ok (.invokevirtual 139, 3) := dk_182 0 139 (dk_at dksX2_works_2 0 rfl rfl)
theorem dX2_works_51 : decode cX2_works 51 = .ok (.istore 5, 2) := dk_54 5 (dk_at dksX2_works_2 3 rfl rfl)
theorem dX2_works_53 : decode cX2_works 53 = .ok (.iload 5, 2) := dk_21 5 (dk_at dksX2_works_2 5 rfl rfl)
theorem dX2_works_55 : decode cX2_works 55 = .ok (.ifCond .ne 6, 3) := dk_154 0 6 (dk_at dksX2_works_2 7 rfl rfl)
theorem dX2_works_58 : decode cX2_works 58 = .ok (.goto 43, 3) := dk_167 0 43 (dk_at dksX2_works_2 10 rfl rfl)
theorem dX2_works_61 : decode cX2_works 61 = .ok (.aload_n 0, 1) := dk_42 (dk_at dksX2_works_2 13 rfl rfl)
theorem dX2_works_62 : decode cX2_works 62 = .ok (.iload 4, 2) := dk_21 4 (dk_at dksX2_works_2 14 rfl rfl)
theorem dX2_works_64 : decode cX2_works 64 = .ok (.iload 5, 2) := dk_21 5 (dk_at dksX2_works_2 16 rfl rfl)
theorem dX2_works_66 : decode cX2_works 66 = .ok (.invokevirtual 142, 3) := dk_182 0 142 (dk_at dksX2_works_2 18 rfl rfl)
theorem dX2_works_69 : decode cX2_works 69 = .ok (.aload_n 0, 1) := dk_42 (dk_at dksX2_works_2 21 rfl rfl)
theorem dX2_works_70 : decode cX2_works 70 = .ok (.iload 4, 2) := dk_21 4 (dk_at dksX2_works_2 22 rfl rfl)
theorem dX2_works_72 : decode cX2_works 72 = .ok (.iload 5, 2) := dk_21 5 (dk_at dksX2_works_3 0 rfl rfl)
theorem dX2_works_74 : decode cX2_works 74 = .ok (.invokevirtual 205, 3) := dk_182 0 205 (dk_at dksX2_works_3 2 rfl rfl)
theorem dX2_works_77 : decode cX2_works 77 = .ok (.aload_n 0, 1) := dk_42 (dk_at dksX2_works_3 5 rfl rfl)
theorem dX2_works_78 : decode cX2_works 78 = .ok (.getfield 25, 3) := dk_180 0 25 (dk_at dksX2_works_3 6 rfl rfl)
theorem dX2_works_81 : decode cX2_works 81 = .ok (.aload_n 0, 1) := dk_42 (dk_at dksX2_works_3 9 rfl rfl)
theorem dX2_works_82 : decode cX2_works 82 = .ok (.getfield 178, 3) := dk_180 0 178 (dk_at dksX2_works_3 10 rfl rfl)
theorem dX2_works_85 : decode cX2_works 85 = .ok (.iload 4, 2) := dk_21 4 (dk_at dksX2_works_3 13 rfl rfl)
theorem dX2_works_87 : decode cX2_works 87 = .ok (.iastore, 1) := dk_79 (dk_at dksX2_works_3 15 rfl rfl)
theorem dX2_works_88 : decode cX2_works 88 = .ok (.aload_n 0, 1) := dk_42 (dk_at dksX2_works_3 16 rfl rfl)
theorem dX2_works_89 : decode cX2_works 89 = .ok (.dup, 1) := dk_89 (dk_at dksX2_works_3 17 rfl rfl)
theorem dX2_works_90 : decode cX2_works 90 = .ok (.getfield 178, 3) := dk_180 0 178 (dk_at dksX2_works_3 18 rfl rfl)
theorem dX2_works_93 : decode cX2_works 93 = .ok (.iconst 1, 1) := dk_4 (dk_at dksX2_works_3 21 rfl rfl)
theorem dX2_works_94 : decode cX2_works 94 = .ok (.iadd, 1) := dk_96 (dk_at dksX2_works_3 22 rfl rfl)
theorem dX2_works_95 : decode cX2_works 95 = .ok (.putfield 178, 3) := dk_181 0 178 (dk_at dksX2_works_4 0 rfl rfl)
theorem dX2_works_98 : decode cX2_works 98 = .ok (.iinc 2 1, 3) := dk_132 2 1 (dk_at dksX2_works_4 3 rfl rfl)
theorem dX2_works_101 : decode cX2_works 101 = .ok (.iinc 3 1, 3) := dk_132 3 1 (dk_at dksX2_works_4 6 rfl rfl)
theorem dX2_works_104 : decode cX2_works 104 = .ok (.goto (-86), 3) := dk_167 255 170 (dk_at dksX2_works_4 9 rfl rfl)
theorem dX2_works_107 : decode cX2_works 107 = .ok (.iload_n 2, 1) := dk_28 (dk_at dksX2_works_4 12 rfl rfl)
theorem dX2_works_108 : decode cX2_works 108 = .ok (.ireturn, 1) := dk_172 (dk_at dksX2_works_4 13 rfl rfl)
abbrev cX2_line : ByteArray := prog_6_method_74_code
def yX2_line : MethodName := ⟨RX2, "line", "(I)I"⟩
def dkwX2_line_1 : List UInt8 := [162, 0, 12, 42, 180, 0, 25, 27, 46, 167, 0, 5, 16, 254, 172]
abbrev dktX2_line_1 : List UInt8 := dkwX2_line_1 ++ []
def dkwX2_line_0 : List UInt8 := [27, 2, 162, 0, 5, 2, 172, 27, 2, 160, 0, 10, 42, 180, 0, 178, 167, 0, 22, 27, 42, 180, 0, 178]
abbrev dktX2_line_0 : List UInt8 := dkwX2_line_0 ++ dktX2_line_1
theorem dksX2_line_0 : cX2_line.data.toList.drop 0 = dktX2_line_0 := by decide +kernel
theorem dksX2_line_1 : cX2_line.data.toList.drop 24 = dktX2_line_1 := dk_seg dksX2_line_0 24 rfl rfl
theorem dX2_line_0 : decode cX2_line 0 = .ok (.iload_n 1, 1) := dk_27 (dk_at dksX2_line_0 0 rfl rfl)
theorem dX2_line_1 : decode cX2_line 1 = .ok (.iconst (-1), 1) := dk_2 (dk_at dksX2_line_0 1 rfl rfl)
theorem dX2_line_2 : decode cX2_line 2 = .ok (.if_icmp .ge 5, 3) := dk_162 0 5 (dk_at dksX2_line_0 2 rfl rfl)
theorem dX2_line_5 : decode cX2_line 5 = .ok (.iconst (-1), 1) := dk_2 (dk_at dksX2_line_0 5 rfl rfl)
theorem dX2_line_6 : decode cX2_line 6 = .ok (.ireturn, 1) := dk_172 (dk_at dksX2_line_0 6 rfl rfl)
theorem dX2_line_7 : decode cX2_line 7 = .ok (.iload_n 1, 1) := dk_27 (dk_at dksX2_line_0 7 rfl rfl)
theorem dX2_line_8 : decode cX2_line 8 = .ok (.iconst (-1), 1) := dk_2 (dk_at dksX2_line_0 8 rfl rfl)
theorem dX2_line_9 : decode cX2_line 9 = .ok (.if_icmp .ne 10, 3) := dk_160 0 10 (dk_at dksX2_line_0 9 rfl rfl)
theorem dX2_line_12 : decode cX2_line 12 = .ok (.aload_n 0, 1) := dk_42 (dk_at dksX2_line_0 12 rfl rfl)
theorem dX2_line_13 : decode cX2_line 13 = .ok (.getfield 178, 3) := dk_180 0 178 (dk_at dksX2_line_0 13 rfl rfl)
theorem dX2_line_16 : decode cX2_line 16 = .ok (.goto 22, 3) := dk_167 0 22 (dk_at dksX2_line_0 16 rfl rfl)
theorem dX2_line_19 : decode cX2_line 19 = .ok (.iload_n 1, 1) := dk_27 (dk_at dksX2_line_0 19 rfl rfl)
theorem dX2_line_20 : decode cX2_line 20 = .ok (.aload_n 0, 1) := dk_42 (dk_at dksX2_line_0 20 rfl rfl)
theorem dX2_line_21 : decode cX2_line 21 = .ok (.getfield 178, 3) := dk_180 0 178 (dk_at dksX2_line_0 21 rfl rfl)
theorem dX2_line_24 : decode cX2_line 24 = .ok (.if_icmp .ge 12, 3) := dk_162 0 12 (dk_at dksX2_line_1 0 rfl rfl)
theorem dX2_line_27 : decode cX2_line 27 = .ok (.aload_n 0, 1) := dk_42 (dk_at dksX2_line_1 3 rfl rfl)
theorem dX2_line_28 : decode cX2_line 28 = .ok (.getfield 25, 3) := dk_180 0 25 (dk_at dksX2_line_1 4 rfl rfl)
theorem dX2_line_31 : decode cX2_line 31 = .ok (.iload_n 1, 1) := dk_27 (dk_at dksX2_line_1 7 rfl rfl)
theorem dX2_line_32 : decode cX2_line 32 = .ok (.iaload, 1) := dk_46 (dk_at dksX2_line_1 8 rfl rfl)
theorem dX2_line_33 : decode cX2_line 33 = .ok (.goto 5, 3) := dk_167 0 5 (dk_at dksX2_line_1 9 rfl rfl)
theorem dX2_line_36 : decode cX2_line 36 = .ok (.bipush (-2), 2) := dk_16 254 (dk_at dksX2_line_1 12 rfl rfl)
theorem dX2_line_38 : decode cX2_line 38 = .ok (.ireturn, 1) := dk_172 (dk_at dksX2_line_1 14 rfl rfl)
abbrev cX2_clears : ByteArray := prog_6_method_75_code
def yX2_clears : MethodName := ⟨RX2, "clears", "()I"⟩
def dkwX2_clears_2 : List UInt8 := [167, 255, 219, 27, 172]
abbrev dktX2_clears_2 : List UInt8 := dkwX2_clears_2 ++ []
def dkwX2_clears_1 : List UInt8 := [158, 0, 6, 167, 0, 17, 42, 42, 180, 0, 25, 28, 46, 182, 0, 181, 87, 132, 1, 1, 132, 2, 255]
abbrev dktX2_clears_1 : List UInt8 := dkwX2_clears_1 ++ dktX2_clears_2
def dkwX2_clears_0 : List UInt8 := [3, 60, 42, 180, 0, 178, 4, 100, 61, 28, 155, 0, 39, 42, 42, 180, 0, 25, 28, 46, 182, 0, 139]
abbrev dktX2_clears_0 : List UInt8 := dkwX2_clears_0 ++ dktX2_clears_1
theorem dksX2_clears_0 : cX2_clears.data.toList.drop 0 = dktX2_clears_0 := by decide +kernel
theorem dksX2_clears_1 : cX2_clears.data.toList.drop 23 = dktX2_clears_1 := dk_seg dksX2_clears_0 23 rfl rfl
theorem dksX2_clears_2 : cX2_clears.data.toList.drop 46 = dktX2_clears_2 := dk_seg dksX2_clears_1 23 rfl rfl
theorem dX2_clears_0 : decode cX2_clears 0 = .ok (.iconst 0, 1) := dk_3 (dk_at dksX2_clears_0 0 rfl rfl)
theorem dX2_clears_1 : decode cX2_clears 1 = .ok (.istore_n 1, 1) := dk_60 (dk_at dksX2_clears_0 1 rfl rfl)
theorem dX2_clears_2 : decode cX2_clears 2 = .ok (.aload_n 0, 1) := dk_42 (dk_at dksX2_clears_0 2 rfl rfl)
theorem dX2_clears_3 : decode cX2_clears 3 = .ok (.getfield 178, 3) := dk_180 0 178 (dk_at dksX2_clears_0 3 rfl rfl)
theorem dX2_clears_6 : decode cX2_clears 6 = .ok (.iconst 1, 1) := dk_4 (dk_at dksX2_clears_0 6 rfl rfl)
theorem dX2_clears_7 : decode cX2_clears 7 = .ok (.isub, 1) := dk_100 (dk_at dksX2_clears_0 7 rfl rfl)
theorem dX2_clears_8 : decode cX2_clears 8 = .ok (.istore_n 2, 1) := dk_61 (dk_at dksX2_clears_0 8 rfl rfl)
theorem dX2_clears_9 : decode cX2_clears 9 = .ok (.iload_n 2, 1) := dk_28 (dk_at dksX2_clears_0 9 rfl rfl)
theorem dX2_clears_10 : decode cX2_clears 10 = .ok (.ifCond .lt 39, 3) := dk_155 0 39 (dk_at dksX2_clears_0 10 rfl rfl)
theorem dX2_clears_13 : decode cX2_clears 13 = .ok (.aload_n 0, 1) := dk_42 (dk_at dksX2_clears_0 13 rfl rfl)
theorem dX2_clears_14 : decode cX2_clears 14 = .ok (.aload_n 0, 1) := dk_42 (dk_at dksX2_clears_0 14 rfl rfl)
theorem dX2_clears_15 : decode cX2_clears 15 = .ok (.getfield 25, 3) := dk_180 0 25 (dk_at dksX2_clears_0 15 rfl rfl)
theorem dX2_clears_18 : decode cX2_clears 18 = .ok (.iload_n 2, 1) := dk_28 (dk_at dksX2_clears_0 18 rfl rfl)
theorem dX2_clears_19 : decode cX2_clears 19 = .ok (.iaload, 1) := dk_46 (dk_at dksX2_clears_0 19 rfl rfl)
theorem dX2_clears_20 : decode cX2_clears 20 = .ok (.invokevirtual 139, 3) := dk_182 0 139 (dk_at dksX2_clears_0 20 rfl rfl)
theorem dX2_clears_23 : decode cX2_clears 23 = .ok (.ifCond .le 6, 3) := dk_158 0 6 (dk_at dksX2_clears_1 0 rfl rfl)
theorem dX2_clears_26 : decode cX2_clears 26 = .ok (.goto 17, 3) := dk_167 0 17 (dk_at dksX2_clears_1 3 rfl rfl)
theorem dX2_clears_29 : decode cX2_clears 29 = .ok (.aload_n 0, 1) := dk_42 (dk_at dksX2_clears_1 6 rfl rfl)
theorem dX2_clears_30 : decode cX2_clears 30 = .ok (.aload_n 0, 1) := dk_42 (dk_at dksX2_clears_1 7 rfl rfl)
theorem dX2_clears_31 : decode cX2_clears 31 = .ok (.getfield 25, 3) := dk_180 0 25 (dk_at dksX2_clears_1 8 rfl rfl)
theorem dX2_clears_34 : decode cX2_clears 34 = .ok (.iload_n 2, 1) := dk_28 (dk_at dksX2_clears_1 11 rfl rfl)
theorem dX2_clears_35 : decode cX2_clears 35 = .ok (.iaload, 1) := dk_46 (dk_at dksX2_clears_1 12 rfl rfl)
theorem dX2_clears_36 : decode cX2_clears 36 = .ok (.invokevirtual 181, 3) := dk_182 0 181 (dk_at dksX2_clears_1 13 rfl rfl)
theorem dX2_clears_39 : decode cX2_clears 39 = .ok (.pop, 1) := dk_87 (dk_at dksX2_clears_1 16 rfl rfl)
theorem dX2_clears_40 : decode cX2_clears 40 = .ok (.iinc 1 1, 3) := dk_132 1 1 (dk_at dksX2_clears_1 17 rfl rfl)
theorem dX2_clears_43 : decode cX2_clears 43 = .ok (.iinc 2 (-1), 3) := dk_132 2 255 (dk_at dksX2_clears_1 20 rfl rfl)
theorem dX2_clears_46 : decode cX2_clears 46 = .ok (.goto (-37), 3) := dk_167 255 219 (dk_at dksX2_clears_2 0 rfl rfl)
theorem dX2_clears_49 : decode cX2_clears 49 = .ok (.iload_n 1, 1) := dk_27 (dk_at dksX2_clears_2 3 rfl rfl)
theorem dX2_clears_50 : decode cX2_clears 50 = .ok (.ireturn, 1) := dk_172 (dk_at dksX2_clears_2 4 rfl rfl)
abbrev cX2_feed : ByteArray := prog_6_method_76_code
def yX2_feed : MethodName := ⟨RX2, "feed", "(I)I"⟩
def dkwX2_feed_2 : List UInt8 := [180, 1, 21, 172]
abbrev dktX2_feed_2 : List UInt8 := dkwX2_feed_2 ++ []
def dkwX2_feed_1 : List UInt8 := [16, 253, 172, 42, 180, 0, 43, 42, 180, 1, 21, 27, 79, 42, 89, 180, 1, 21, 4, 96, 181, 1, 21, 42]
abbrev dktX2_feed_1 : List UInt8 := dkwX2_feed_1 ++ dktX2_feed_2
def dkwX2_feed_0 : List UInt8 := [27, 133, 10, 20, 1, 19, 184, 0, 68, 154, 0, 5, 2, 172, 42, 180, 1, 21, 17, 0, 160, 160, 0, 6]
abbrev dktX2_feed_0 : List UInt8 := dkwX2_feed_0 ++ dktX2_feed_1
theorem dksX2_feed_0 : cX2_feed.data.toList.drop 0 = dktX2_feed_0 := by decide +kernel
theorem dksX2_feed_1 : cX2_feed.data.toList.drop 24 = dktX2_feed_1 := dk_seg dksX2_feed_0 24 rfl rfl
theorem dksX2_feed_2 : cX2_feed.data.toList.drop 48 = dktX2_feed_2 := dk_seg dksX2_feed_1 24 rfl rfl
theorem dX2_feed_0 : decode cX2_feed 0 = .ok (.iload_n 1, 1) := dk_27 (dk_at dksX2_feed_0 0 rfl rfl)
theorem dX2_feed_1 : decode cX2_feed 1 = .ok (.i2l, 1) := dk_133 (dk_at dksX2_feed_0 1 rfl rfl)
theorem dX2_feed_2 : decode cX2_feed 2 = .ok (.lconst 1, 1) := dk_10 (dk_at dksX2_feed_0 2 rfl rfl)
theorem dX2_feed_3 : decode cX2_feed 3 = .ok (.ldc2_w 275, 3) := dk_20 1 19 (dk_at dksX2_feed_0 3 rfl rfl)
theorem dX2_feed_6 : decode cX2_feed 6 = .ok (.invokestatic 68, 3) := dk_184 0 68 (dk_at dksX2_feed_0 6 rfl rfl)
theorem dX2_feed_9 : decode cX2_feed 9 = .ok (.ifCond .ne 5, 3) := dk_154 0 5 (dk_at dksX2_feed_0 9 rfl rfl)
theorem dX2_feed_12 : decode cX2_feed 12 = .ok (.iconst (-1), 1) := dk_2 (dk_at dksX2_feed_0 12 rfl rfl)
theorem dX2_feed_13 : decode cX2_feed 13 = .ok (.ireturn, 1) := dk_172 (dk_at dksX2_feed_0 13 rfl rfl)
theorem dX2_feed_14 : decode cX2_feed 14 = .ok (.aload_n 0, 1) := dk_42 (dk_at dksX2_feed_0 14 rfl rfl)
theorem dX2_feed_15 : decode cX2_feed 15 = .ok (.getfield 277, 3) := dk_180 1 21 (dk_at dksX2_feed_0 15 rfl rfl)
theorem dX2_feed_18 : decode cX2_feed 18 = .ok (.sipush 160, 3) := dk_17 0 160 (dk_at dksX2_feed_0 18 rfl rfl)
theorem dX2_feed_21 : decode cX2_feed 21 = .ok (.if_icmp .ne 6, 3) := dk_160 0 6 (dk_at dksX2_feed_0 21 rfl rfl)
theorem dX2_feed_24 : decode cX2_feed 24 = .ok (.bipush (-3), 2) := dk_16 253 (dk_at dksX2_feed_1 0 rfl rfl)
theorem dX2_feed_26 : decode cX2_feed 26 = .ok (.ireturn, 1) := dk_172 (dk_at dksX2_feed_1 2 rfl rfl)
theorem dX2_feed_27 : decode cX2_feed 27 = .ok (.aload_n 0, 1) := dk_42 (dk_at dksX2_feed_1 3 rfl rfl)
theorem dX2_feed_28 : decode cX2_feed 28 = .ok (.getfield 43, 3) := dk_180 0 43 (dk_at dksX2_feed_1 4 rfl rfl)
theorem dX2_feed_31 : decode cX2_feed 31 = .ok (.aload_n 0, 1) := dk_42 (dk_at dksX2_feed_1 7 rfl rfl)
theorem dX2_feed_32 : decode cX2_feed 32 = .ok (.getfield 277, 3) := dk_180 1 21 (dk_at dksX2_feed_1 8 rfl rfl)
theorem dX2_feed_35 : decode cX2_feed 35 = .ok (.iload_n 1, 1) := dk_27 (dk_at dksX2_feed_1 11 rfl rfl)
theorem dX2_feed_36 : decode cX2_feed 36 = .ok (.iastore, 1) := dk_79 (dk_at dksX2_feed_1 12 rfl rfl)
theorem dX2_feed_37 : decode cX2_feed 37 = .ok (.aload_n 0, 1) := dk_42 (dk_at dksX2_feed_1 13 rfl rfl)
theorem dX2_feed_38 : decode cX2_feed 38 = .ok (.dup, 1) := dk_89 (dk_at dksX2_feed_1 14 rfl rfl)
theorem dX2_feed_39 : decode cX2_feed 39 = .ok (.getfield 277, 3) := dk_180 1 21 (dk_at dksX2_feed_1 15 rfl rfl)
theorem dX2_feed_42 : decode cX2_feed 42 = .ok (.iconst 1, 1) := dk_4 (dk_at dksX2_feed_1 18 rfl rfl)
theorem dX2_feed_43 : decode cX2_feed 43 = .ok (.iadd, 1) := dk_96 (dk_at dksX2_feed_1 19 rfl rfl)
theorem dX2_feed_44 : decode cX2_feed 44 = .ok (.putfield 277, 3) := dk_181 1 21 (dk_at dksX2_feed_1 20 rfl rfl)
theorem dX2_feed_47 : decode cX2_feed 47 = .ok (.aload_n 0, 1) := dk_42 (dk_at dksX2_feed_1 23 rfl rfl)
theorem dX2_feed_48 : decode cX2_feed 48 = .ok (.getfield 277, 3) := dk_180 1 21 (dk_at dksX2_feed_2 0 rfl rfl)
theorem dX2_feed_51 : decode cX2_feed 51 = .ok (.ireturn, 1) := dk_172 (dk_at dksX2_feed_2 3 rfl rfl)
abbrev cX2_reads : ByteArray := prog_6_method_83_code
def yX2_reads : MethodName := ⟨RX2, "reads", "()I"⟩
def dkwX2_reads_5 : List UInt8 := [42, 28, 182, 1, 51, 87, 42, 182, 0, 174, 87, 132, 2, 1, 167, 255, 237, 27, 172]
abbrev dktX2_reads_5 : List UInt8 := dkwX2_reads_5 ++ []
def dkwX2_reads_4 : List UInt8 := [17, 248, 48, 42, 180, 0, 49, 28, 46, 100, 172, 132, 2, 1, 167, 255, 218, 3, 61, 28, 27, 162, 0, 20]
abbrev dktX2_reads_4 : List UInt8 := dkwX2_reads_4 ++ dktX2_reads_5
def dkwX2_reads_3 : List UInt8 := [162, 0, 39, 42, 28, 182, 1, 51, 153, 0, 14, 42, 180, 0, 64, 28, 96, 16, 6, 161, 0, 14]
abbrev dktX2_reads_3 : List UInt8 := dkwX2_reads_3 ++ dktX2_reads_4
def dkwX2_reads_2 : List UInt8 := [181, 1, 21, 42, 180, 1, 27, 153, 0, 12, 17, 252, 24, 42, 180, 1, 24, 100, 172, 3, 61, 28, 27]
abbrev dktX2_reads_2 : List UInt8 := dkwX2_reads_2 ++ dktX2_reads_3
def dkwX2_reads_1 : List UInt8 := [182, 1, 34, 154, 255, 242, 42, 180, 1, 24, 42, 180, 1, 21, 162, 0, 8, 42, 4, 181, 1, 27, 42, 3]
abbrev dktX2_reads_1 : List UInt8 := dkwX2_reads_1 ++ dktX2_reads_2
def dkwX2_reads_0 : List UInt8 := [42, 3, 181, 1, 24, 42, 3, 181, 1, 27, 3, 60, 42, 27, 182, 1, 48, 132, 1, 1, 42, 16, 59]
abbrev dktX2_reads_0 : List UInt8 := dkwX2_reads_0 ++ dktX2_reads_1
theorem dksX2_reads_0 : cX2_reads.data.toList.drop 0 = dktX2_reads_0 := by decide +kernel
theorem dksX2_reads_1 : cX2_reads.data.toList.drop 23 = dktX2_reads_1 := dk_seg dksX2_reads_0 23 rfl rfl
theorem dksX2_reads_2 : cX2_reads.data.toList.drop 47 = dktX2_reads_2 := dk_seg dksX2_reads_1 24 rfl rfl
theorem dksX2_reads_3 : cX2_reads.data.toList.drop 70 = dktX2_reads_3 := dk_seg dksX2_reads_2 23 rfl rfl
theorem dksX2_reads_4 : cX2_reads.data.toList.drop 92 = dktX2_reads_4 := dk_seg dksX2_reads_3 22 rfl rfl
theorem dksX2_reads_5 : cX2_reads.data.toList.drop 116 = dktX2_reads_5 := dk_seg dksX2_reads_4 24 rfl rfl
theorem dX2_reads_0 : decode cX2_reads 0 = .ok (.aload_n 0, 1) := dk_42 (dk_at dksX2_reads_0 0 rfl rfl)
theorem dX2_reads_1 : decode cX2_reads 1 = .ok (.iconst 0, 1) := dk_3 (dk_at dksX2_reads_0 1 rfl rfl)
theorem dX2_reads_2 : decode cX2_reads 2 = .ok (.putfield 280, 3) := dk_181 1 24 (dk_at dksX2_reads_0 2 rfl rfl)
theorem dX2_reads_5 : decode cX2_reads 5 = .ok (.aload_n 0, 1) := dk_42 (dk_at dksX2_reads_0 5 rfl rfl)
theorem dX2_reads_6 : decode cX2_reads 6 = .ok (.iconst 0, 1) := dk_3 (dk_at dksX2_reads_0 6 rfl rfl)
theorem dX2_reads_7 : decode cX2_reads 7 = .ok (.putfield 283, 3) := dk_181 1 27 (dk_at dksX2_reads_0 7 rfl rfl)
theorem dX2_reads_10 : decode cX2_reads 10 = .ok (.iconst 0, 1) := dk_3 (dk_at dksX2_reads_0 10 rfl rfl)
theorem dX2_reads_11 : decode cX2_reads 11 = .ok (.istore_n 1, 1) := dk_60 (dk_at dksX2_reads_0 11 rfl rfl)
theorem dX2_reads_12 : decode cX2_reads 12 = .ok (.aload_n 0, 1) := dk_42 (dk_at dksX2_reads_0 12 rfl rfl)
theorem dX2_reads_13 : decode cX2_reads 13 = .ok (.iload_n 1, 1) := dk_27 (dk_at dksX2_reads_0 13 rfl rfl)
theorem dX2_reads_14 : decode cX2_reads 14 = .ok (.invokevirtual 304, 3) := dk_182 1 48 (dk_at dksX2_reads_0 14 rfl rfl)
theorem dX2_reads_17 : decode cX2_reads 17 = .ok (.iinc 1 1, 3) := dk_132 1 1 (dk_at dksX2_reads_0 17 rfl rfl)
theorem dX2_reads_20 : decode cX2_reads 20 = .ok (.aload_n 0, 1) := dk_42 (dk_at dksX2_reads_0 20 rfl rfl)
theorem dX2_reads_21 : decode cX2_reads 21 = .ok (.bipush 59, 2) := dk_16 59 (dk_at dksX2_reads_0 21 rfl rfl)
theorem dX2_reads_23 : decode cX2_reads 23 = .ok (.invokevirtual 290, 3) := dk_182 1 34 (dk_at dksX2_reads_1 0 rfl rfl)
theorem dX2_reads_26 : decode cX2_reads 26 = .ok (.ifCond .ne (-14), 3) := dk_154 255 242 (dk_at dksX2_reads_1 3 rfl rfl)
theorem dX2_reads_29 : decode cX2_reads 29 = .ok (.aload_n 0, 1) := dk_42 (dk_at dksX2_reads_1 6 rfl rfl)
theorem dX2_reads_30 : decode cX2_reads 30 = .ok (.getfield 280, 3) := dk_180 1 24 (dk_at dksX2_reads_1 7 rfl rfl)
theorem dX2_reads_33 : decode cX2_reads 33 = .ok (.aload_n 0, 1) := dk_42 (dk_at dksX2_reads_1 10 rfl rfl)
theorem dX2_reads_34 : decode cX2_reads 34 = .ok (.getfield 277, 3) := dk_180 1 21 (dk_at dksX2_reads_1 11 rfl rfl)
theorem dX2_reads_37 : decode cX2_reads 37 = .ok (.if_icmp .ge 8, 3) := dk_162 0 8 (dk_at dksX2_reads_1 14 rfl rfl)
theorem dX2_reads_40 : decode cX2_reads 40 = .ok (.aload_n 0, 1) := dk_42 (dk_at dksX2_reads_1 17 rfl rfl)
theorem dX2_reads_41 : decode cX2_reads 41 = .ok (.iconst 1, 1) := dk_4 (dk_at dksX2_reads_1 18 rfl rfl)
theorem dX2_reads_42 : decode cX2_reads 42 = .ok (.putfield 283, 3) := dk_181 1 27 (dk_at dksX2_reads_1 19 rfl rfl)
theorem dX2_reads_45 : decode cX2_reads 45 = .ok (.aload_n 0, 1) := dk_42 (dk_at dksX2_reads_1 22 rfl rfl)
theorem dX2_reads_46 : decode cX2_reads 46 = .ok (.iconst 0, 1) := dk_3 (dk_at dksX2_reads_1 23 rfl rfl)
theorem dX2_reads_47 : decode cX2_reads 47 = .ok (.putfield 277, 3) := dk_181 1 21 (dk_at dksX2_reads_2 0 rfl rfl)
theorem dX2_reads_50 : decode cX2_reads 50 = .ok (.aload_n 0, 1) := dk_42 (dk_at dksX2_reads_2 3 rfl rfl)
theorem dX2_reads_51 : decode cX2_reads 51 = .ok (.getfield 283, 3) := dk_180 1 27 (dk_at dksX2_reads_2 4 rfl rfl)
theorem dX2_reads_54 : decode cX2_reads 54 = .ok (.ifCond .eq 12, 3) := dk_153 0 12 (dk_at dksX2_reads_2 7 rfl rfl)
theorem dX2_reads_57 : decode cX2_reads 57 = .ok (.sipush (-1000), 3) := dk_17 252 24 (dk_at dksX2_reads_2 10 rfl rfl)
theorem dX2_reads_60 : decode cX2_reads 60 = .ok (.aload_n 0, 1) := dk_42 (dk_at dksX2_reads_2 13 rfl rfl)
theorem dX2_reads_61 : decode cX2_reads 61 = .ok (.getfield 280, 3) := dk_180 1 24 (dk_at dksX2_reads_2 14 rfl rfl)
theorem dX2_reads_64 : decode cX2_reads 64 = .ok (.isub, 1) := dk_100 (dk_at dksX2_reads_2 17 rfl rfl)
theorem dX2_reads_65 : decode cX2_reads 65 = .ok (.ireturn, 1) := dk_172 (dk_at dksX2_reads_2 18 rfl rfl)
theorem dX2_reads_66 : decode cX2_reads 66 = .ok (.iconst 0, 1) := dk_3 (dk_at dksX2_reads_2 19 rfl rfl)
theorem dX2_reads_67 : decode cX2_reads 67 = .ok (.istore_n 2, 1) := dk_61 (dk_at dksX2_reads_2 20 rfl rfl)
theorem dX2_reads_68 : decode cX2_reads 68 = .ok (.iload_n 2, 1) := dk_28 (dk_at dksX2_reads_2 21 rfl rfl)
theorem dX2_reads_69 : decode cX2_reads 69 = .ok (.iload_n 1, 1) := dk_27 (dk_at dksX2_reads_2 22 rfl rfl)
theorem dX2_reads_70 : decode cX2_reads 70 = .ok (.if_icmp .ge 39, 3) := dk_162 0 39 (dk_at dksX2_reads_3 0 rfl rfl)
theorem dX2_reads_73 : decode cX2_reads 73 = .ok (.aload_n 0, 1) := dk_42 (dk_at dksX2_reads_3 3 rfl rfl)
theorem dX2_reads_74 : decode cX2_reads 74 = .ok (.iload_n 2, 1) := dk_28 (dk_at dksX2_reads_3 4 rfl rfl)
theorem dX2_reads_75 : decode cX2_reads 75 = .ok (.invokevirtual 307, 3) := dk_182 1 51 (dk_at dksX2_reads_3 5 rfl rfl)
theorem dX2_reads_78 : decode cX2_reads 78 = .ok (.ifCond .eq 14, 3) := dk_153 0 14 (dk_at dksX2_reads_3 8 rfl rfl)
theorem dX2_reads_81 : decode cX2_reads 81 = .ok (.aload_n 0, 1) := dk_42 (dk_at dksX2_reads_3 11 rfl rfl)
theorem dX2_reads_82 : decode cX2_reads 82 = .ok (.getfield 64, 3) := dk_180 0 64 (dk_at dksX2_reads_3 12 rfl rfl)
theorem dX2_reads_85 : decode cX2_reads 85 = .ok (.iload_n 2, 1) := dk_28 (dk_at dksX2_reads_3 15 rfl rfl)
theorem dX2_reads_86 : decode cX2_reads 86 = .ok (.iadd, 1) := dk_96 (dk_at dksX2_reads_3 16 rfl rfl)
theorem dX2_reads_87 : decode cX2_reads 87 = .ok (.bipush 6, 2) := dk_16 6 (dk_at dksX2_reads_3 17 rfl rfl)
theorem dX2_reads_89 : decode cX2_reads 89 = .ok (.if_icmp .lt 14, 3) := dk_161 0 14 (dk_at dksX2_reads_3 19 rfl rfl)
theorem dX2_reads_92 : decode cX2_reads 92 = .ok (.sipush (-2000), 3) := dk_17 248 48 (dk_at dksX2_reads_4 0 rfl rfl)
theorem dX2_reads_95 : decode cX2_reads 95 = .ok (.aload_n 0, 1) := dk_42 (dk_at dksX2_reads_4 3 rfl rfl)
theorem dX2_reads_96 : decode cX2_reads 96 = .ok (.getfield 49, 3) := dk_180 0 49 (dk_at dksX2_reads_4 4 rfl rfl)
theorem dX2_reads_99 : decode cX2_reads 99 = .ok (.iload_n 2, 1) := dk_28 (dk_at dksX2_reads_4 7 rfl rfl)
theorem dX2_reads_100 : decode cX2_reads 100 = .ok (.iaload, 1) := dk_46 (dk_at dksX2_reads_4 8 rfl rfl)
theorem dX2_reads_101 : decode cX2_reads 101 = .ok (.isub, 1) := dk_100 (dk_at dksX2_reads_4 9 rfl rfl)
theorem dX2_reads_102 : decode cX2_reads 102 = .ok (.ireturn, 1) := dk_172 (dk_at dksX2_reads_4 10 rfl rfl)
theorem dX2_reads_103 : decode cX2_reads 103 = .ok (.iinc 2 1, 3) := dk_132 2 1 (dk_at dksX2_reads_4 11 rfl rfl)
theorem dX2_reads_106 : decode cX2_reads 106 = .ok (.goto (-38), 3) := dk_167 255 218 (dk_at dksX2_reads_4 14 rfl rfl)
theorem dX2_reads_109 : decode cX2_reads 109 = .ok (.iconst 0, 1) := dk_3 (dk_at dksX2_reads_4 17 rfl rfl)
theorem dX2_reads_110 : decode cX2_reads 110 = .ok (.istore_n 2, 1) := dk_61 (dk_at dksX2_reads_4 18 rfl rfl)
theorem dX2_reads_111 : decode cX2_reads 111 = .ok (.iload_n 2, 1) := dk_28 (dk_at dksX2_reads_4 19 rfl rfl)
theorem dX2_reads_112 : decode cX2_reads 112 = .ok (.iload_n 1, 1) := dk_27 (dk_at dksX2_reads_4 20 rfl rfl)
theorem dX2_reads_113 : decode cX2_reads 113 = .ok (.if_icmp .ge 20, 3) := dk_162 0 20 (dk_at dksX2_reads_4 21 rfl rfl)
theorem dX2_reads_116 : decode cX2_reads 116 = .ok (.aload_n 0, 1) := dk_42 (dk_at dksX2_reads_5 0 rfl rfl)
theorem dX2_reads_117 : decode cX2_reads 117 = .ok (.iload_n 2, 1) := dk_28 (dk_at dksX2_reads_5 1 rfl rfl)
theorem dX2_reads_118 : decode cX2_reads 118 = .ok (.invokevirtual 307, 3) := dk_182 1 51 (dk_at dksX2_reads_5 2 rfl rfl)
theorem dX2_reads_121 : decode cX2_reads 121 = .ok (.pop, 1) := dk_87 (dk_at dksX2_reads_5 5 rfl rfl)
theorem dX2_reads_122 : decode cX2_reads 122 = .ok (.aload_n 0, 1) := dk_42 (dk_at dksX2_reads_5 6 rfl rfl)
theorem dX2_reads_123 : decode cX2_reads 123 = .ok (.invokevirtual 174, 3) := dk_182 0 174 (dk_at dksX2_reads_5 7 rfl rfl)
theorem dX2_reads_126 : decode cX2_reads 126 = .ok (.pop, 1) := dk_87 (dk_at dksX2_reads_5 10 rfl rfl)
theorem dX2_reads_127 : decode cX2_reads 127 = .ok (.iinc 2 1, 3) := dk_132 2 1 (dk_at dksX2_reads_5 11 rfl rfl)
theorem dX2_reads_130 : decode cX2_reads 130 = .ok (.goto (-19), 3) := dk_167 255 237 (dk_at dksX2_reads_5 14 rfl rfl)
theorem dX2_reads_133 : decode cX2_reads 133 = .ok (.iload_n 1, 1) := dk_27 (dk_at dksX2_reads_5 17 rfl rfl)
theorem dX2_reads_134 : decode cX2_reads 134 = .ok (.ireturn, 1) := dk_172 (dk_at dksX2_reads_5 18 rfl rfl)
abbrev cX2_part : ByteArray := prog_6_method_81_code
def yX2_part : MethodName := ⟨RX2, "part", "(I)V"⟩
def dkwX2_part_6 : List UInt8 := [167, 0, 8, 42, 4, 181, 1, 27, 177]
abbrev dktX2_part_6 : List UInt8 := dkwX2_part_6 ++ []
def dkwX2_part_5 : List UInt8 := [96, 42, 28, 4, 96, 6, 112, 28, 5, 96, 6, 112, 182, 1, 45, 80, 132, 2, 1, 167, 255, 204]
abbrev dktX2_part_5 : List UInt8 := dkwX2_part_5 ++ dktX2_part_6
def dkwX2_part_4 : List UInt8 := [16, 6, 27, 104, 28, 96, 42, 28, 28, 182, 1, 45, 80, 42, 180, 0, 52, 16, 6, 27, 104, 6, 96, 28]
abbrev dktX2_part_4 : List UInt8 := dkwX2_part_4 ++ dktX2_part_5
def dkwX2_part_3 : List UInt8 := [28, 42, 182, 1, 41, 80, 132, 2, 1, 167, 255, 237, 3, 61, 28, 6, 162, 0, 53, 42, 180, 0, 52]
abbrev dktX2_part_3 : List UInt8 := dkwX2_part_3 ++ dktX2_part_4
def dkwX2_part_2 : List UInt8 := [167, 0, 101, 42, 16, 118, 182, 1, 34, 153, 0, 87, 3, 61, 28, 16, 9, 162, 0, 19, 42, 180, 0, 55]
abbrev dktX2_part_2 : List UInt8 := dkwX2_part_2 ++ dktX2_part_3
def dkwX2_part_1 : List UInt8 := [162, 0, 24, 42, 180, 0, 52, 16, 6, 27, 104, 28, 96, 42, 182, 1, 41, 80, 132, 2, 1, 167, 255, 232]
abbrev dktX2_part_1 : List UInt8 := dkwX2_part_1 ++ dktX2_part_2
def dkwX2_part_0 : List UInt8 := [42, 180, 0, 49, 27, 42, 180, 1, 24, 79, 42, 16, 103, 182, 1, 34, 153, 0, 35, 3, 61, 28, 16, 6]
abbrev dktX2_part_0 : List UInt8 := dkwX2_part_0 ++ dktX2_part_1
theorem dksX2_part_0 : cX2_part.data.toList.drop 0 = dktX2_part_0 := by decide +kernel
theorem dksX2_part_1 : cX2_part.data.toList.drop 24 = dktX2_part_1 := dk_seg dksX2_part_0 24 rfl rfl
theorem dksX2_part_2 : cX2_part.data.toList.drop 48 = dktX2_part_2 := dk_seg dksX2_part_1 24 rfl rfl
theorem dksX2_part_3 : cX2_part.data.toList.drop 72 = dktX2_part_3 := dk_seg dksX2_part_2 24 rfl rfl
theorem dksX2_part_4 : cX2_part.data.toList.drop 95 = dktX2_part_4 := dk_seg dksX2_part_3 23 rfl rfl
theorem dksX2_part_5 : cX2_part.data.toList.drop 119 = dktX2_part_5 := dk_seg dksX2_part_4 24 rfl rfl
theorem dksX2_part_6 : cX2_part.data.toList.drop 141 = dktX2_part_6 := dk_seg dksX2_part_5 22 rfl rfl
theorem dX2_part_0 : decode cX2_part 0 = .ok (.aload_n 0, 1) := dk_42 (dk_at dksX2_part_0 0 rfl rfl)
theorem dX2_part_1 : decode cX2_part 1 = .ok (.getfield 49, 3) := dk_180 0 49 (dk_at dksX2_part_0 1 rfl rfl)
theorem dX2_part_4 : decode cX2_part 4 = .ok (.iload_n 1, 1) := dk_27 (dk_at dksX2_part_0 4 rfl rfl)
theorem dX2_part_5 : decode cX2_part 5 = .ok (.aload_n 0, 1) := dk_42 (dk_at dksX2_part_0 5 rfl rfl)
theorem dX2_part_6 : decode cX2_part 6 = .ok (.getfield 280, 3) := dk_180 1 24 (dk_at dksX2_part_0 6 rfl rfl)
theorem dX2_part_9 : decode cX2_part 9 = .ok (.iastore, 1) := dk_79 (dk_at dksX2_part_0 9 rfl rfl)
theorem dX2_part_10 : decode cX2_part 10 = .ok (.aload_n 0, 1) := dk_42 (dk_at dksX2_part_0 10 rfl rfl)
theorem dX2_part_11 : decode cX2_part 11 = .ok (.bipush 103, 2) := dk_16 103 (dk_at dksX2_part_0 11 rfl rfl)
theorem dX2_part_13 : decode cX2_part 13 = .ok (.invokevirtual 290, 3) := dk_182 1 34 (dk_at dksX2_part_0 13 rfl rfl)
theorem dX2_part_16 : decode cX2_part 16 = .ok (.ifCond .eq 35, 3) := dk_153 0 35 (dk_at dksX2_part_0 16 rfl rfl)
theorem dX2_part_19 : decode cX2_part 19 = .ok (.iconst 0, 1) := dk_3 (dk_at dksX2_part_0 19 rfl rfl)
theorem dX2_part_20 : decode cX2_part 20 = .ok (.istore_n 2, 1) := dk_61 (dk_at dksX2_part_0 20 rfl rfl)
theorem dX2_part_21 : decode cX2_part 21 = .ok (.iload_n 2, 1) := dk_28 (dk_at dksX2_part_0 21 rfl rfl)
theorem dX2_part_22 : decode cX2_part 22 = .ok (.bipush 6, 2) := dk_16 6 (dk_at dksX2_part_0 22 rfl rfl)
theorem dX2_part_24 : decode cX2_part 24 = .ok (.if_icmp .ge 24, 3) := dk_162 0 24 (dk_at dksX2_part_1 0 rfl rfl)
theorem dX2_part_27 : decode cX2_part 27 = .ok (.aload_n 0, 1) := dk_42 (dk_at dksX2_part_1 3 rfl rfl)
theorem dX2_part_28 : decode cX2_part 28 = .ok (.getfield 52, 3) := dk_180 0 52 (dk_at dksX2_part_1 4 rfl rfl)
theorem dX2_part_31 : decode cX2_part 31 = .ok (.bipush 6, 2) := dk_16 6 (dk_at dksX2_part_1 7 rfl rfl)
theorem dX2_part_33 : decode cX2_part 33 = .ok (.iload_n 1, 1) := dk_27 (dk_at dksX2_part_1 9 rfl rfl)
theorem dX2_part_34 : decode cX2_part 34 = .ok (.imul, 1) := dk_104 (dk_at dksX2_part_1 10 rfl rfl)
theorem dX2_part_35 : decode cX2_part 35 = .ok (.iload_n 2, 1) := dk_28 (dk_at dksX2_part_1 11 rfl rfl)
theorem dX2_part_36 : decode cX2_part 36 = .ok (.iadd, 1) := dk_96 (dk_at dksX2_part_1 12 rfl rfl)
theorem dX2_part_37 : decode cX2_part 37 = .ok (.aload_n 0, 1) := dk_42 (dk_at dksX2_part_1 13 rfl rfl)
theorem dX2_part_38 : decode cX2_part 38 = .ok (.invokevirtual 297, 3) := dk_182 1 41 (dk_at dksX2_part_1 14 rfl rfl)
theorem dX2_part_41 : decode cX2_part 41 = .ok (.lastore, 1) := dk_80 (dk_at dksX2_part_1 17 rfl rfl)
theorem dX2_part_42 : decode cX2_part 42 = .ok (.iinc 2 1, 3) := dk_132 2 1 (dk_at dksX2_part_1 18 rfl rfl)
theorem dX2_part_45 : decode cX2_part 45 = .ok (.goto (-24), 3) := dk_167 255 232 (dk_at dksX2_part_1 21 rfl rfl)
theorem dX2_part_48 : decode cX2_part 48 = .ok (.goto 101, 3) := dk_167 0 101 (dk_at dksX2_part_2 0 rfl rfl)
theorem dX2_part_51 : decode cX2_part 51 = .ok (.aload_n 0, 1) := dk_42 (dk_at dksX2_part_2 3 rfl rfl)
theorem dX2_part_52 : decode cX2_part 52 = .ok (.bipush 118, 2) := dk_16 118 (dk_at dksX2_part_2 4 rfl rfl)
theorem dX2_part_54 : decode cX2_part 54 = .ok (.invokevirtual 290, 3) := dk_182 1 34 (dk_at dksX2_part_2 6 rfl rfl)
theorem dX2_part_57 : decode cX2_part 57 = .ok (.ifCond .eq 87, 3) := dk_153 0 87 (dk_at dksX2_part_2 9 rfl rfl)
theorem dX2_part_60 : decode cX2_part 60 = .ok (.iconst 0, 1) := dk_3 (dk_at dksX2_part_2 12 rfl rfl)
theorem dX2_part_61 : decode cX2_part 61 = .ok (.istore_n 2, 1) := dk_61 (dk_at dksX2_part_2 13 rfl rfl)
theorem dX2_part_62 : decode cX2_part 62 = .ok (.iload_n 2, 1) := dk_28 (dk_at dksX2_part_2 14 rfl rfl)
theorem dX2_part_63 : decode cX2_part 63 = .ok (.bipush 9, 2) := dk_16 9 (dk_at dksX2_part_2 15 rfl rfl)
theorem dX2_part_65 : decode cX2_part 65 = .ok (.if_icmp .ge 19, 3) := dk_162 0 19 (dk_at dksX2_part_2 17 rfl rfl)
theorem dX2_part_68 : decode cX2_part 68 = .ok (.aload_n 0, 1) := dk_42 (dk_at dksX2_part_2 20 rfl rfl)
theorem dX2_part_69 : decode cX2_part 69 = .ok (.getfield 55, 3) := dk_180 0 55 (dk_at dksX2_part_2 21 rfl rfl)
theorem dX2_part_72 : decode cX2_part 72 = .ok (.iload_n 2, 1) := dk_28 (dk_at dksX2_part_3 0 rfl rfl)
theorem dX2_part_73 : decode cX2_part 73 = .ok (.aload_n 0, 1) := dk_42 (dk_at dksX2_part_3 1 rfl rfl)
theorem dX2_part_74 : decode cX2_part 74 = .ok (.invokevirtual 297, 3) := dk_182 1 41 (dk_at dksX2_part_3 2 rfl rfl)
theorem dX2_part_77 : decode cX2_part 77 = .ok (.lastore, 1) := dk_80 (dk_at dksX2_part_3 5 rfl rfl)
theorem dX2_part_78 : decode cX2_part 78 = .ok (.iinc 2 1, 3) := dk_132 2 1 (dk_at dksX2_part_3 6 rfl rfl)
theorem dX2_part_81 : decode cX2_part 81 = .ok (.goto (-19), 3) := dk_167 255 237 (dk_at dksX2_part_3 9 rfl rfl)
theorem dX2_part_84 : decode cX2_part 84 = .ok (.iconst 0, 1) := dk_3 (dk_at dksX2_part_3 12 rfl rfl)
theorem dX2_part_85 : decode cX2_part 85 = .ok (.istore_n 2, 1) := dk_61 (dk_at dksX2_part_3 13 rfl rfl)
theorem dX2_part_86 : decode cX2_part 86 = .ok (.iload_n 2, 1) := dk_28 (dk_at dksX2_part_3 14 rfl rfl)
theorem dX2_part_87 : decode cX2_part 87 = .ok (.iconst 3, 1) := dk_6 (dk_at dksX2_part_3 15 rfl rfl)
theorem dX2_part_88 : decode cX2_part 88 = .ok (.if_icmp .ge 53, 3) := dk_162 0 53 (dk_at dksX2_part_3 16 rfl rfl)
theorem dX2_part_91 : decode cX2_part 91 = .ok (.aload_n 0, 1) := dk_42 (dk_at dksX2_part_3 19 rfl rfl)
theorem dX2_part_92 : decode cX2_part 92 = .ok (.getfield 52, 3) := dk_180 0 52 (dk_at dksX2_part_3 20 rfl rfl)
theorem dX2_part_95 : decode cX2_part 95 = .ok (.bipush 6, 2) := dk_16 6 (dk_at dksX2_part_4 0 rfl rfl)
theorem dX2_part_97 : decode cX2_part 97 = .ok (.iload_n 1, 1) := dk_27 (dk_at dksX2_part_4 2 rfl rfl)
theorem dX2_part_98 : decode cX2_part 98 = .ok (.imul, 1) := dk_104 (dk_at dksX2_part_4 3 rfl rfl)
theorem dX2_part_99 : decode cX2_part 99 = .ok (.iload_n 2, 1) := dk_28 (dk_at dksX2_part_4 4 rfl rfl)
theorem dX2_part_100 : decode cX2_part 100 = .ok (.iadd, 1) := dk_96 (dk_at dksX2_part_4 5 rfl rfl)
theorem dX2_part_101 : decode cX2_part 101 = .ok (.aload_n 0, 1) := dk_42 (dk_at dksX2_part_4 6 rfl rfl)
theorem dX2_part_102 : decode cX2_part 102 = .ok (.iload_n 2, 1) := dk_28 (dk_at dksX2_part_4 7 rfl rfl)
theorem dX2_part_103 : decode cX2_part 103 = .ok (.iload_n 2, 1) := dk_28 (dk_at dksX2_part_4 8 rfl rfl)
theorem dX2_part_104 : decode cX2_part 104 = .ok (.invokevirtual 301, 3) := dk_182 1 45 (dk_at dksX2_part_4 9 rfl rfl)
theorem dX2_part_107 : decode cX2_part 107 = .ok (.lastore, 1) := dk_80 (dk_at dksX2_part_4 12 rfl rfl)
theorem dX2_part_108 : decode cX2_part 108 = .ok (.aload_n 0, 1) := dk_42 (dk_at dksX2_part_4 13 rfl rfl)
theorem dX2_part_109 : decode cX2_part 109 = .ok (.getfield 52, 3) := dk_180 0 52 (dk_at dksX2_part_4 14 rfl rfl)
theorem dX2_part_112 : decode cX2_part 112 = .ok (.bipush 6, 2) := dk_16 6 (dk_at dksX2_part_4 17 rfl rfl)
theorem dX2_part_114 : decode cX2_part 114 = .ok (.iload_n 1, 1) := dk_27 (dk_at dksX2_part_4 19 rfl rfl)
theorem dX2_part_115 : decode cX2_part 115 = .ok (.imul, 1) := dk_104 (dk_at dksX2_part_4 20 rfl rfl)
theorem dX2_part_116 : decode cX2_part 116 = .ok (.iconst 3, 1) := dk_6 (dk_at dksX2_part_4 21 rfl rfl)
theorem dX2_part_117 : decode cX2_part 117 = .ok (.iadd, 1) := dk_96 (dk_at dksX2_part_4 22 rfl rfl)
theorem dX2_part_118 : decode cX2_part 118 = .ok (.iload_n 2, 1) := dk_28 (dk_at dksX2_part_4 23 rfl rfl)
theorem dX2_part_119 : decode cX2_part 119 = .ok (.iadd, 1) := dk_96 (dk_at dksX2_part_5 0 rfl rfl)
theorem dX2_part_120 : decode cX2_part 120 = .ok (.aload_n 0, 1) := dk_42 (dk_at dksX2_part_5 1 rfl rfl)
theorem dX2_part_121 : decode cX2_part 121 = .ok (.iload_n 2, 1) := dk_28 (dk_at dksX2_part_5 2 rfl rfl)
theorem dX2_part_122 : decode cX2_part 122 = .ok (.iconst 1, 1) := dk_4 (dk_at dksX2_part_5 3 rfl rfl)
theorem dX2_part_123 : decode cX2_part 123 = .ok (.iadd, 1) := dk_96 (dk_at dksX2_part_5 4 rfl rfl)
theorem dX2_part_124 : decode cX2_part 124 = .ok (.iconst 3, 1) := dk_6 (dk_at dksX2_part_5 5 rfl rfl)
theorem dX2_part_125 : decode cX2_part 125 = .ok (.irem, 1) := dk_112 (dk_at dksX2_part_5 6 rfl rfl)
theorem dX2_part_126 : decode cX2_part 126 = .ok (.iload_n 2, 1) := dk_28 (dk_at dksX2_part_5 7 rfl rfl)
theorem dX2_part_127 : decode cX2_part 127 = .ok (.iconst 2, 1) := dk_5 (dk_at dksX2_part_5 8 rfl rfl)
theorem dX2_part_128 : decode cX2_part 128 = .ok (.iadd, 1) := dk_96 (dk_at dksX2_part_5 9 rfl rfl)
theorem dX2_part_129 : decode cX2_part 129 = .ok (.iconst 3, 1) := dk_6 (dk_at dksX2_part_5 10 rfl rfl)
theorem dX2_part_130 : decode cX2_part 130 = .ok (.irem, 1) := dk_112 (dk_at dksX2_part_5 11 rfl rfl)
theorem dX2_part_131 : decode cX2_part 131 = .ok (.invokevirtual 301, 3) := dk_182 1 45 (dk_at dksX2_part_5 12 rfl rfl)
theorem dX2_part_134 : decode cX2_part 134 = .ok (.lastore, 1) := dk_80 (dk_at dksX2_part_5 15 rfl rfl)
theorem dX2_part_135 : decode cX2_part 135 = .ok (.iinc 2 1, 3) := dk_132 2 1 (dk_at dksX2_part_5 16 rfl rfl)
theorem dX2_part_138 : decode cX2_part 138 = .ok (.goto (-52), 3) := dk_167 255 204 (dk_at dksX2_part_5 19 rfl rfl)
theorem dX2_part_141 : decode cX2_part 141 = .ok (.goto 8, 3) := dk_167 0 8 (dk_at dksX2_part_6 0 rfl rfl)
theorem dX2_part_144 : decode cX2_part 144 = .ok (.aload_n 0, 1) := dk_42 (dk_at dksX2_part_6 3 rfl rfl)
theorem dX2_part_145 : decode cX2_part 145 = .ok (.iconst 1, 1) := dk_4 (dk_at dksX2_part_6 4 rfl rfl)
theorem dX2_part_146 : decode cX2_part 146 = .ok (.putfield 283, 3) := dk_181 1 27 (dk_at dksX2_part_6 5 rfl rfl)
theorem dX2_part_149 : decode cX2_part 149 = .ok (.return_, 1) := dk_177 (dk_at dksX2_part_6 8 rfl rfl)
abbrev cX2_takes : ByteArray := prog_6_method_78_code
def yX2_takes : MethodName := ⟨RX2, "takes", "(I)Z"⟩
def dkwX2_takes_1 : List UInt8 := [181, 1, 24, 4, 172]
abbrev dktX2_takes_1 : List UInt8 := dkwX2_takes_1 ++ []
def dkwX2_takes_0 : List UInt8 := [42, 180, 1, 27, 154, 0, 11, 42, 182, 1, 31, 27, 159, 0, 5, 3, 172, 42, 89, 180, 1, 24, 4, 96]
abbrev dktX2_takes_0 : List UInt8 := dkwX2_takes_0 ++ dktX2_takes_1
theorem dksX2_takes_0 : cX2_takes.data.toList.drop 0 = dktX2_takes_0 := by decide +kernel
theorem dksX2_takes_1 : cX2_takes.data.toList.drop 24 = dktX2_takes_1 := dk_seg dksX2_takes_0 24 rfl rfl
theorem dX2_takes_0 : decode cX2_takes 0 = .ok (.aload_n 0, 1) := dk_42 (dk_at dksX2_takes_0 0 rfl rfl)
theorem dX2_takes_1 : decode cX2_takes 1 = .ok (.getfield 283, 3) := dk_180 1 27 (dk_at dksX2_takes_0 1 rfl rfl)
theorem dX2_takes_4 : decode cX2_takes 4 = .ok (.ifCond .ne 11, 3) := dk_154 0 11 (dk_at dksX2_takes_0 4 rfl rfl)
theorem dX2_takes_7 : decode cX2_takes 7 = .ok (.aload_n 0, 1) := dk_42 (dk_at dksX2_takes_0 7 rfl rfl)
theorem dX2_takes_8 : decode cX2_takes 8 = .ok (.invokevirtual 287, 3) := dk_182 1 31 (dk_at dksX2_takes_0 8 rfl rfl)
theorem dX2_takes_11 : decode cX2_takes 11 = .ok (.iload_n 1, 1) := dk_27 (dk_at dksX2_takes_0 11 rfl rfl)
theorem dX2_takes_12 : decode cX2_takes 12 = .ok (.if_icmp .eq 5, 3) := dk_159 0 5 (dk_at dksX2_takes_0 12 rfl rfl)
theorem dX2_takes_15 : decode cX2_takes 15 = .ok (.iconst 0, 1) := dk_3 (dk_at dksX2_takes_0 15 rfl rfl)
theorem dX2_takes_16 : decode cX2_takes 16 = .ok (.ireturn, 1) := dk_172 (dk_at dksX2_takes_0 16 rfl rfl)
theorem dX2_takes_17 : decode cX2_takes 17 = .ok (.aload_n 0, 1) := dk_42 (dk_at dksX2_takes_0 17 rfl rfl)
theorem dX2_takes_18 : decode cX2_takes 18 = .ok (.dup, 1) := dk_89 (dk_at dksX2_takes_0 18 rfl rfl)
theorem dX2_takes_19 : decode cX2_takes 19 = .ok (.getfield 280, 3) := dk_180 1 24 (dk_at dksX2_takes_0 19 rfl rfl)
theorem dX2_takes_22 : decode cX2_takes 22 = .ok (.iconst 1, 1) := dk_4 (dk_at dksX2_takes_0 22 rfl rfl)
theorem dX2_takes_23 : decode cX2_takes 23 = .ok (.iadd, 1) := dk_96 (dk_at dksX2_takes_0 23 rfl rfl)
theorem dX2_takes_24 : decode cX2_takes 24 = .ok (.putfield 280, 3) := dk_181 1 24 (dk_at dksX2_takes_1 0 rfl rfl)
theorem dX2_takes_27 : decode cX2_takes 27 = .ok (.iconst 1, 1) := dk_4 (dk_at dksX2_takes_1 3 rfl rfl)
theorem dX2_takes_28 : decode cX2_takes 28 = .ok (.ireturn, 1) := dk_172 (dk_at dksX2_takes_1 4 rfl rfl)
abbrev cX2_here : ByteArray := prog_6_method_77_code
def yX2_here : MethodName := ⟨RX2, "here", "()I"⟩
def dkwX2_here_1 : List UInt8 := [172]
abbrev dktX2_here_1 : List UInt8 := dkwX2_here_1 ++ []
def dkwX2_here_0 : List UInt8 := [42, 180, 1, 24, 42, 180, 1, 21, 162, 0, 15, 42, 180, 0, 43, 42, 180, 1, 24, 46, 167, 0, 4, 3]
abbrev dktX2_here_0 : List UInt8 := dkwX2_here_0 ++ dktX2_here_1
theorem dksX2_here_0 : cX2_here.data.toList.drop 0 = dktX2_here_0 := by decide +kernel
theorem dksX2_here_1 : cX2_here.data.toList.drop 24 = dktX2_here_1 := dk_seg dksX2_here_0 24 rfl rfl
theorem dX2_here_0 : decode cX2_here 0 = .ok (.aload_n 0, 1) := dk_42 (dk_at dksX2_here_0 0 rfl rfl)
theorem dX2_here_1 : decode cX2_here 1 = .ok (.getfield 280, 3) := dk_180 1 24 (dk_at dksX2_here_0 1 rfl rfl)
theorem dX2_here_4 : decode cX2_here 4 = .ok (.aload_n 0, 1) := dk_42 (dk_at dksX2_here_0 4 rfl rfl)
theorem dX2_here_5 : decode cX2_here 5 = .ok (.getfield 277, 3) := dk_180 1 21 (dk_at dksX2_here_0 5 rfl rfl)
theorem dX2_here_8 : decode cX2_here 8 = .ok (.if_icmp .ge 15, 3) := dk_162 0 15 (dk_at dksX2_here_0 8 rfl rfl)
theorem dX2_here_11 : decode cX2_here 11 = .ok (.aload_n 0, 1) := dk_42 (dk_at dksX2_here_0 11 rfl rfl)
theorem dX2_here_12 : decode cX2_here 12 = .ok (.getfield 43, 3) := dk_180 0 43 (dk_at dksX2_here_0 12 rfl rfl)
theorem dX2_here_15 : decode cX2_here 15 = .ok (.aload_n 0, 1) := dk_42 (dk_at dksX2_here_0 15 rfl rfl)
theorem dX2_here_16 : decode cX2_here 16 = .ok (.getfield 280, 3) := dk_180 1 24 (dk_at dksX2_here_0 16 rfl rfl)
theorem dX2_here_19 : decode cX2_here 19 = .ok (.iaload, 1) := dk_46 (dk_at dksX2_here_0 19 rfl rfl)
theorem dX2_here_20 : decode cX2_here 20 = .ok (.goto 4, 3) := dk_167 0 4 (dk_at dksX2_here_0 20 rfl rfl)
theorem dX2_here_23 : decode cX2_here 23 = .ok (.iconst 0, 1) := dk_3 (dk_at dksX2_here_0 23 rfl rfl)
theorem dX2_here_24 : decode cX2_here 24 = .ok (.ireturn, 1) := dk_172 (dk_at dksX2_here_1 0 rfl rfl)
abbrev cX2_figures : ByteArray := prog_6_method_79_code
def yX2_figures : MethodName := ⟨RX2, "figures", "()J"⟩
def dkwX2_figures_4 : List UInt8 := [180, 1, 24, 28, 160, 0, 8, 42, 4, 181, 1, 27, 27, 153, 0, 8, 33, 117, 167, 0, 4, 33, 173]
abbrev dktX2_figures_4 : List UInt8 := dkwX2_figures_4 ++ []
def dkwX2_figures_3 : List UInt8 := [182, 1, 31, 133, 97, 20, 1, 39, 101, 66, 42, 89, 180, 1, 24, 4, 96, 181, 1, 24, 167, 255, 195, 42]
abbrev dktX2_figures_3 : List UInt8 := dkwX2_figures_3 ++ dktX2_figures_4
def dkwX2_figures_2 : List UInt8 := [182, 1, 31, 16, 48, 161, 0, 41, 42, 182, 1, 31, 16, 57, 163, 0, 32, 20, 1, 37, 33, 105, 42]
abbrev dktX2_figures_2 : List UInt8 := dkwX2_figures_2 ++ dktX2_figures_3
def dkwX2_figures_1 : List UInt8 := [180, 1, 24, 61, 9, 66, 42, 180, 1, 27, 154, 0, 60, 42, 180, 1, 24, 28, 8, 96, 162, 0, 50, 42]
abbrev dktX2_figures_1 : List UInt8 := dkwX2_figures_1 ++ dktX2_figures_2
def dkwX2_figures_0 : List UInt8 := [42, 16, 32, 182, 1, 34, 154, 0, 8, 42, 4, 181, 1, 27, 42, 16, 45, 182, 1, 34, 60, 42]
abbrev dktX2_figures_0 : List UInt8 := dkwX2_figures_0 ++ dktX2_figures_1
theorem dksX2_figures_0 : cX2_figures.data.toList.drop 0 = dktX2_figures_0 := by decide +kernel
theorem dksX2_figures_1 : cX2_figures.data.toList.drop 22 = dktX2_figures_1 := dk_seg dksX2_figures_0 22 rfl rfl
theorem dksX2_figures_2 : cX2_figures.data.toList.drop 46 = dktX2_figures_2 := dk_seg dksX2_figures_1 24 rfl rfl
theorem dksX2_figures_3 : cX2_figures.data.toList.drop 69 = dktX2_figures_3 := dk_seg dksX2_figures_2 23 rfl rfl
theorem dksX2_figures_4 : cX2_figures.data.toList.drop 93 = dktX2_figures_4 := dk_seg dksX2_figures_3 24 rfl rfl
theorem dX2_figures_0 : decode cX2_figures 0 = .ok (.aload_n 0, 1) := dk_42 (dk_at dksX2_figures_0 0 rfl rfl)
theorem dX2_figures_1 : decode cX2_figures 1 = .ok (.bipush 32, 2) := dk_16 32 (dk_at dksX2_figures_0 1 rfl rfl)
theorem dX2_figures_3 : decode cX2_figures 3 = .ok (.invokevirtual 290, 3) := dk_182 1 34 (dk_at dksX2_figures_0 3 rfl rfl)
theorem dX2_figures_6 : decode cX2_figures 6 = .ok (.ifCond .ne 8, 3) := dk_154 0 8 (dk_at dksX2_figures_0 6 rfl rfl)
theorem dX2_figures_9 : decode cX2_figures 9 = .ok (.aload_n 0, 1) := dk_42 (dk_at dksX2_figures_0 9 rfl rfl)
theorem dX2_figures_10 : decode cX2_figures 10 = .ok (.iconst 1, 1) := dk_4 (dk_at dksX2_figures_0 10 rfl rfl)
theorem dX2_figures_11 : decode cX2_figures 11 = .ok (.putfield 283, 3) := dk_181 1 27 (dk_at dksX2_figures_0 11 rfl rfl)
theorem dX2_figures_14 : decode cX2_figures 14 = .ok (.aload_n 0, 1) := dk_42 (dk_at dksX2_figures_0 14 rfl rfl)
theorem dX2_figures_15 : decode cX2_figures 15 = .ok (.bipush 45, 2) := dk_16 45 (dk_at dksX2_figures_0 15 rfl rfl)
theorem dX2_figures_17 : decode cX2_figures 17 = .ok (.invokevirtual 290, 3) := dk_182 1 34 (dk_at dksX2_figures_0 17 rfl rfl)
theorem dX2_figures_20 : decode cX2_figures 20 = .ok (.istore_n 1, 1) := dk_60 (dk_at dksX2_figures_0 20 rfl rfl)
theorem dX2_figures_21 : decode cX2_figures 21 = .ok (.aload_n 0, 1) := dk_42 (dk_at dksX2_figures_0 21 rfl rfl)
theorem dX2_figures_22 : decode cX2_figures 22 = .ok (.getfield 280, 3) := dk_180 1 24 (dk_at dksX2_figures_1 0 rfl rfl)
theorem dX2_figures_25 : decode cX2_figures 25 = .ok (.istore_n 2, 1) := dk_61 (dk_at dksX2_figures_1 3 rfl rfl)
theorem dX2_figures_26 : decode cX2_figures 26 = .ok (.lconst 0, 1) := dk_9 (dk_at dksX2_figures_1 4 rfl rfl)
theorem dX2_figures_27 : decode cX2_figures 27 = .ok (.lstore_n 3, 1) := dk_66 (dk_at dksX2_figures_1 5 rfl rfl)
theorem dX2_figures_28 : decode cX2_figures 28 = .ok (.aload_n 0, 1) := dk_42 (dk_at dksX2_figures_1 6 rfl rfl)
theorem dX2_figures_29 : decode cX2_figures 29 = .ok (.getfield 283, 3) := dk_180 1 27 (dk_at dksX2_figures_1 7 rfl rfl)
theorem dX2_figures_32 : decode cX2_figures 32 = .ok (.ifCond .ne 60, 3) := dk_154 0 60 (dk_at dksX2_figures_1 10 rfl rfl)
theorem dX2_figures_35 : decode cX2_figures 35 = .ok (.aload_n 0, 1) := dk_42 (dk_at dksX2_figures_1 13 rfl rfl)
theorem dX2_figures_36 : decode cX2_figures 36 = .ok (.getfield 280, 3) := dk_180 1 24 (dk_at dksX2_figures_1 14 rfl rfl)
theorem dX2_figures_39 : decode cX2_figures 39 = .ok (.iload_n 2, 1) := dk_28 (dk_at dksX2_figures_1 17 rfl rfl)
theorem dX2_figures_40 : decode cX2_figures 40 = .ok (.iconst 5, 1) := dk_8 (dk_at dksX2_figures_1 18 rfl rfl)
theorem dX2_figures_41 : decode cX2_figures 41 = .ok (.iadd, 1) := dk_96 (dk_at dksX2_figures_1 19 rfl rfl)
theorem dX2_figures_42 : decode cX2_figures 42 = .ok (.if_icmp .ge 50, 3) := dk_162 0 50 (dk_at dksX2_figures_1 20 rfl rfl)
theorem dX2_figures_45 : decode cX2_figures 45 = .ok (.aload_n 0, 1) := dk_42 (dk_at dksX2_figures_1 23 rfl rfl)
theorem dX2_figures_46 : decode cX2_figures 46 = .ok (.invokevirtual 287, 3) := dk_182 1 31 (dk_at dksX2_figures_2 0 rfl rfl)
theorem dX2_figures_49 : decode cX2_figures 49 = .ok (.bipush 48, 2) := dk_16 48 (dk_at dksX2_figures_2 3 rfl rfl)
theorem dX2_figures_51 : decode cX2_figures 51 = .ok (.if_icmp .lt 41, 3) := dk_161 0 41 (dk_at dksX2_figures_2 5 rfl rfl)
theorem dX2_figures_54 : decode cX2_figures 54 = .ok (.aload_n 0, 1) := dk_42 (dk_at dksX2_figures_2 8 rfl rfl)
theorem dX2_figures_55 : decode cX2_figures 55 = .ok (.invokevirtual 287, 3) := dk_182 1 31 (dk_at dksX2_figures_2 9 rfl rfl)
theorem dX2_figures_58 : decode cX2_figures 58 = .ok (.bipush 57, 2) := dk_16 57 (dk_at dksX2_figures_2 12 rfl rfl)
theorem dX2_figures_60 : decode cX2_figures 60 = .ok (.if_icmp .gt 32, 3) := dk_163 0 32 (dk_at dksX2_figures_2 14 rfl rfl)
theorem dX2_figures_63 : decode cX2_figures 63 = .ok (.ldc2_w 293, 3) := dk_20 1 37 (dk_at dksX2_figures_2 17 rfl rfl)
theorem dX2_figures_66 : decode cX2_figures 66 = .ok (.lload_n 3, 1) := dk_33 (dk_at dksX2_figures_2 20 rfl rfl)
theorem dX2_figures_67 : decode cX2_figures 67 = .ok (.lmul, 1) := dk_105 (dk_at dksX2_figures_2 21 rfl rfl)
theorem dX2_figures_68 : decode cX2_figures 68 = .ok (.aload_n 0, 1) := dk_42 (dk_at dksX2_figures_2 22 rfl rfl)
theorem dX2_figures_69 : decode cX2_figures 69 = .ok (.invokevirtual 287, 3) := dk_182 1 31 (dk_at dksX2_figures_3 0 rfl rfl)
theorem dX2_figures_72 : decode cX2_figures 72 = .ok (.i2l, 1) := dk_133 (dk_at dksX2_figures_3 3 rfl rfl)
theorem dX2_figures_73 : decode cX2_figures 73 = .ok (.ladd, 1) := dk_97 (dk_at dksX2_figures_3 4 rfl rfl)
theorem dX2_figures_74 : decode cX2_figures 74 = .ok (.ldc2_w 295, 3) := dk_20 1 39 (dk_at dksX2_figures_3 5 rfl rfl)
theorem dX2_figures_77 : decode cX2_figures 77 = .ok (.lsub, 1) := dk_101 (dk_at dksX2_figures_3 8 rfl rfl)
theorem dX2_figures_78 : decode cX2_figures 78 = .ok (.lstore_n 3, 1) := dk_66 (dk_at dksX2_figures_3 9 rfl rfl)
theorem dX2_figures_79 : decode cX2_figures 79 = .ok (.aload_n 0, 1) := dk_42 (dk_at dksX2_figures_3 10 rfl rfl)
theorem dX2_figures_80 : decode cX2_figures 80 = .ok (.dup, 1) := dk_89 (dk_at dksX2_figures_3 11 rfl rfl)
theorem dX2_figures_81 : decode cX2_figures 81 = .ok (.getfield 280, 3) := dk_180 1 24 (dk_at dksX2_figures_3 12 rfl rfl)
theorem dX2_figures_84 : decode cX2_figures 84 = .ok (.iconst 1, 1) := dk_4 (dk_at dksX2_figures_3 15 rfl rfl)
theorem dX2_figures_85 : decode cX2_figures 85 = .ok (.iadd, 1) := dk_96 (dk_at dksX2_figures_3 16 rfl rfl)
theorem dX2_figures_86 : decode cX2_figures 86 = .ok (.putfield 280, 3) := dk_181 1 24 (dk_at dksX2_figures_3 17 rfl rfl)
theorem dX2_figures_89 : decode cX2_figures 89 = .ok (.goto (-61), 3) := dk_167 255 195 (dk_at dksX2_figures_3 20 rfl rfl)
theorem dX2_figures_92 : decode cX2_figures 92 = .ok (.aload_n 0, 1) := dk_42 (dk_at dksX2_figures_3 23 rfl rfl)
theorem dX2_figures_93 : decode cX2_figures 93 = .ok (.getfield 280, 3) := dk_180 1 24 (dk_at dksX2_figures_4 0 rfl rfl)
theorem dX2_figures_96 : decode cX2_figures 96 = .ok (.iload_n 2, 1) := dk_28 (dk_at dksX2_figures_4 3 rfl rfl)
theorem dX2_figures_97 : decode cX2_figures 97 = .ok (.if_icmp .ne 8, 3) := dk_160 0 8 (dk_at dksX2_figures_4 4 rfl rfl)
theorem dX2_figures_100 : decode cX2_figures 100 = .ok (.aload_n 0, 1) := dk_42 (dk_at dksX2_figures_4 7 rfl rfl)
theorem dX2_figures_101 : decode cX2_figures 101 = .ok (.iconst 1, 1) := dk_4 (dk_at dksX2_figures_4 8 rfl rfl)
theorem dX2_figures_102 : decode cX2_figures 102 = .ok (.putfield 283, 3) := dk_181 1 27 (dk_at dksX2_figures_4 9 rfl rfl)
theorem dX2_figures_105 : decode cX2_figures 105 = .ok (.iload_n 1, 1) := dk_27 (dk_at dksX2_figures_4 12 rfl rfl)
theorem dX2_figures_106 : decode cX2_figures 106 = .ok (.ifCond .eq 8, 3) := dk_153 0 8 (dk_at dksX2_figures_4 13 rfl rfl)
theorem dX2_figures_109 : decode cX2_figures 109 = .ok (.lload_n 3, 1) := dk_33 (dk_at dksX2_figures_4 16 rfl rfl)
theorem dX2_figures_110 : decode cX2_figures 110 = .ok (.lneg, 1) := dk_117 (dk_at dksX2_figures_4 17 rfl rfl)
theorem dX2_figures_111 : decode cX2_figures 111 = .ok (.goto 4, 3) := dk_167 0 4 (dk_at dksX2_figures_4 18 rfl rfl)
theorem dX2_figures_114 : decode cX2_figures 114 = .ok (.lload_n 3, 1) := dk_33 (dk_at dksX2_figures_4 21 rfl rfl)
theorem dX2_figures_115 : decode cX2_figures 115 = .ok (.lreturn, 1) := dk_173 (dk_at dksX2_figures_4 22 rfl rfl)
abbrev cX2_placed : ByteArray := prog_6_method_80_code
def yX2_placed : MethodName := ⟨RX2, "placed", "(II)J"⟩
def dkwX2_placed_2 : List UInt8 := [33, 167, 0, 8, 20, 0, 72, 33, 105, 173]
abbrev dktX2_placed_2 : List UInt8 := dkwX2_placed_2 ++ []
def dkwX2_placed_1 : List UInt8 := [180, 0, 55, 6, 28, 104, 21, 5, 96, 47, 105, 97, 66, 132, 5, 1, 167, 255, 221, 27, 28, 160, 0, 7]
abbrev dktX2_placed_1 : List UInt8 := dkwX2_placed_1 ++ dktX2_placed_2
def dkwX2_placed_0 : List UInt8 := [9, 66, 3, 54, 5, 21, 5, 6, 162, 0, 35, 33, 42, 180, 0, 55, 6, 27, 104, 21, 5, 96, 47, 42]
abbrev dktX2_placed_0 : List UInt8 := dkwX2_placed_0 ++ dktX2_placed_1
theorem dksX2_placed_0 : cX2_placed.data.toList.drop 0 = dktX2_placed_0 := by decide +kernel
theorem dksX2_placed_1 : cX2_placed.data.toList.drop 24 = dktX2_placed_1 := dk_seg dksX2_placed_0 24 rfl rfl
theorem dksX2_placed_2 : cX2_placed.data.toList.drop 48 = dktX2_placed_2 := dk_seg dksX2_placed_1 24 rfl rfl
theorem dX2_placed_0 : decode cX2_placed 0 = .ok (.lconst 0, 1) := dk_9 (dk_at dksX2_placed_0 0 rfl rfl)
theorem dX2_placed_1 : decode cX2_placed 1 = .ok (.lstore_n 3, 1) := dk_66 (dk_at dksX2_placed_0 1 rfl rfl)
theorem dX2_placed_2 : decode cX2_placed 2 = .ok (.iconst 0, 1) := dk_3 (dk_at dksX2_placed_0 2 rfl rfl)
theorem dX2_placed_3 : decode cX2_placed 3 = .ok (.istore 5, 2) := dk_54 5 (dk_at dksX2_placed_0 3 rfl rfl)
theorem dX2_placed_5 : decode cX2_placed 5 = .ok (.iload 5, 2) := dk_21 5 (dk_at dksX2_placed_0 5 rfl rfl)
theorem dX2_placed_7 : decode cX2_placed 7 = .ok (.iconst 3, 1) := dk_6 (dk_at dksX2_placed_0 7 rfl rfl)
theorem dX2_placed_8 : decode cX2_placed 8 = .ok (.if_icmp .ge 35, 3) := dk_162 0 35 (dk_at dksX2_placed_0 8 rfl rfl)
theorem dX2_placed_11 : decode cX2_placed 11 = .ok (.lload_n 3, 1) := dk_33 (dk_at dksX2_placed_0 11 rfl rfl)
theorem dX2_placed_12 : decode cX2_placed 12 = .ok (.aload_n 0, 1) := dk_42 (dk_at dksX2_placed_0 12 rfl rfl)
theorem dX2_placed_13 : decode cX2_placed 13 = .ok (.getfield 55, 3) := dk_180 0 55 (dk_at dksX2_placed_0 13 rfl rfl)
theorem dX2_placed_16 : decode cX2_placed 16 = .ok (.iconst 3, 1) := dk_6 (dk_at dksX2_placed_0 16 rfl rfl)
theorem dX2_placed_17 : decode cX2_placed 17 = .ok (.iload_n 1, 1) := dk_27 (dk_at dksX2_placed_0 17 rfl rfl)
theorem dX2_placed_18 : decode cX2_placed 18 = .ok (.imul, 1) := dk_104 (dk_at dksX2_placed_0 18 rfl rfl)
theorem dX2_placed_19 : decode cX2_placed 19 = .ok (.iload 5, 2) := dk_21 5 (dk_at dksX2_placed_0 19 rfl rfl)
theorem dX2_placed_21 : decode cX2_placed 21 = .ok (.iadd, 1) := dk_96 (dk_at dksX2_placed_0 21 rfl rfl)
theorem dX2_placed_22 : decode cX2_placed 22 = .ok (.laload, 1) := dk_47 (dk_at dksX2_placed_0 22 rfl rfl)
theorem dX2_placed_23 : decode cX2_placed 23 = .ok (.aload_n 0, 1) := dk_42 (dk_at dksX2_placed_0 23 rfl rfl)
theorem dX2_placed_24 : decode cX2_placed 24 = .ok (.getfield 55, 3) := dk_180 0 55 (dk_at dksX2_placed_1 0 rfl rfl)
theorem dX2_placed_27 : decode cX2_placed 27 = .ok (.iconst 3, 1) := dk_6 (dk_at dksX2_placed_1 3 rfl rfl)
theorem dX2_placed_28 : decode cX2_placed 28 = .ok (.iload_n 2, 1) := dk_28 (dk_at dksX2_placed_1 4 rfl rfl)
theorem dX2_placed_29 : decode cX2_placed 29 = .ok (.imul, 1) := dk_104 (dk_at dksX2_placed_1 5 rfl rfl)
theorem dX2_placed_30 : decode cX2_placed 30 = .ok (.iload 5, 2) := dk_21 5 (dk_at dksX2_placed_1 6 rfl rfl)
theorem dX2_placed_32 : decode cX2_placed 32 = .ok (.iadd, 1) := dk_96 (dk_at dksX2_placed_1 8 rfl rfl)
theorem dX2_placed_33 : decode cX2_placed 33 = .ok (.laload, 1) := dk_47 (dk_at dksX2_placed_1 9 rfl rfl)
theorem dX2_placed_34 : decode cX2_placed 34 = .ok (.lmul, 1) := dk_105 (dk_at dksX2_placed_1 10 rfl rfl)
theorem dX2_placed_35 : decode cX2_placed 35 = .ok (.ladd, 1) := dk_97 (dk_at dksX2_placed_1 11 rfl rfl)
theorem dX2_placed_36 : decode cX2_placed 36 = .ok (.lstore_n 3, 1) := dk_66 (dk_at dksX2_placed_1 12 rfl rfl)
theorem dX2_placed_37 : decode cX2_placed 37 = .ok (.iinc 5 1, 3) := dk_132 5 1 (dk_at dksX2_placed_1 13 rfl rfl)
theorem dX2_placed_40 : decode cX2_placed 40 = .ok (.goto (-35), 3) := dk_167 255 221 (dk_at dksX2_placed_1 16 rfl rfl)
theorem dX2_placed_43 : decode cX2_placed 43 = .ok (.iload_n 1, 1) := dk_27 (dk_at dksX2_placed_1 19 rfl rfl)
theorem dX2_placed_44 : decode cX2_placed 44 = .ok (.iload_n 2, 1) := dk_28 (dk_at dksX2_placed_1 20 rfl rfl)
theorem dX2_placed_45 : decode cX2_placed 45 = .ok (.if_icmp .ne 7, 3) := dk_160 0 7 (dk_at dksX2_placed_1 21 rfl rfl)
theorem dX2_placed_48 : decode cX2_placed 48 = .ok (.lload_n 3, 1) := dk_33 (dk_at dksX2_placed_2 0 rfl rfl)
theorem dX2_placed_49 : decode cX2_placed 49 = .ok (.goto 8, 3) := dk_167 0 8 (dk_at dksX2_placed_2 1 rfl rfl)
theorem dX2_placed_52 : decode cX2_placed 52 = .ok (.ldc2_w 72, 3) := dk_20 0 72 (dk_at dksX2_placed_2 4 rfl rfl)
theorem dX2_placed_55 : decode cX2_placed 55 = .ok (.lload_n 3, 1) := dk_33 (dk_at dksX2_placed_2 7 rfl rfl)
theorem dX2_placed_56 : decode cX2_placed 56 = .ok (.lmul, 1) := dk_105 (dk_at dksX2_placed_2 8 rfl rfl)
theorem dX2_placed_57 : decode cX2_placed 57 = .ok (.lreturn, 1) := dk_173 (dk_at dksX2_placed_2 9 rfl rfl)
abbrev cX2_isRead : ByteArray := prog_6_method_82_code
def yX2_isRead : MethodName := ⟨RX2, "isRead", "(I)Z"⟩
def dkwX2_isRead_1 : List UInt8 := [28, 96, 47, 80, 132, 2, 1, 167, 255, 227, 42, 16, 6, 182, 0, 166, 172]
abbrev dktX2_isRead_1 : List UInt8 := dkwX2_isRead_1 ++ []
def dkwX2_isRead_0 : List UInt8 := [3, 61, 28, 16, 6, 162, 0, 29, 42, 180, 0, 11, 16, 36, 28, 96, 42, 180, 0, 52, 16, 6, 27, 104]
abbrev dktX2_isRead_0 : List UInt8 := dkwX2_isRead_0 ++ dktX2_isRead_1
theorem dksX2_isRead_0 : cX2_isRead.data.toList.drop 0 = dktX2_isRead_0 := by decide +kernel
theorem dksX2_isRead_1 : cX2_isRead.data.toList.drop 24 = dktX2_isRead_1 := dk_seg dksX2_isRead_0 24 rfl rfl
theorem dX2_isRead_0 : decode cX2_isRead 0 = .ok (.iconst 0, 1) := dk_3 (dk_at dksX2_isRead_0 0 rfl rfl)
theorem dX2_isRead_1 : decode cX2_isRead 1 = .ok (.istore_n 2, 1) := dk_61 (dk_at dksX2_isRead_0 1 rfl rfl)
theorem dX2_isRead_2 : decode cX2_isRead 2 = .ok (.iload_n 2, 1) := dk_28 (dk_at dksX2_isRead_0 2 rfl rfl)
theorem dX2_isRead_3 : decode cX2_isRead 3 = .ok (.bipush 6, 2) := dk_16 6 (dk_at dksX2_isRead_0 3 rfl rfl)
theorem dX2_isRead_5 : decode cX2_isRead 5 = .ok (.if_icmp .ge 29, 3) := dk_162 0 29 (dk_at dksX2_isRead_0 5 rfl rfl)
theorem dX2_isRead_8 : decode cX2_isRead 8 = .ok (.aload_n 0, 1) := dk_42 (dk_at dksX2_isRead_0 8 rfl rfl)
theorem dX2_isRead_9 : decode cX2_isRead 9 = .ok (.getfield 11, 3) := dk_180 0 11 (dk_at dksX2_isRead_0 9 rfl rfl)
theorem dX2_isRead_12 : decode cX2_isRead 12 = .ok (.bipush 36, 2) := dk_16 36 (dk_at dksX2_isRead_0 12 rfl rfl)
theorem dX2_isRead_14 : decode cX2_isRead 14 = .ok (.iload_n 2, 1) := dk_28 (dk_at dksX2_isRead_0 14 rfl rfl)
theorem dX2_isRead_15 : decode cX2_isRead 15 = .ok (.iadd, 1) := dk_96 (dk_at dksX2_isRead_0 15 rfl rfl)
theorem dX2_isRead_16 : decode cX2_isRead 16 = .ok (.aload_n 0, 1) := dk_42 (dk_at dksX2_isRead_0 16 rfl rfl)
theorem dX2_isRead_17 : decode cX2_isRead 17 = .ok (.getfield 52, 3) := dk_180 0 52 (dk_at dksX2_isRead_0 17 rfl rfl)
theorem dX2_isRead_20 : decode cX2_isRead 20 = .ok (.bipush 6, 2) := dk_16 6 (dk_at dksX2_isRead_0 20 rfl rfl)
theorem dX2_isRead_22 : decode cX2_isRead 22 = .ok (.iload_n 1, 1) := dk_27 (dk_at dksX2_isRead_0 22 rfl rfl)
theorem dX2_isRead_23 : decode cX2_isRead 23 = .ok (.imul, 1) := dk_104 (dk_at dksX2_isRead_0 23 rfl rfl)
theorem dX2_isRead_24 : decode cX2_isRead 24 = .ok (.iload_n 2, 1) := dk_28 (dk_at dksX2_isRead_1 0 rfl rfl)
theorem dX2_isRead_25 : decode cX2_isRead 25 = .ok (.iadd, 1) := dk_96 (dk_at dksX2_isRead_1 1 rfl rfl)
theorem dX2_isRead_26 : decode cX2_isRead 26 = .ok (.laload, 1) := dk_47 (dk_at dksX2_isRead_1 2 rfl rfl)
theorem dX2_isRead_27 : decode cX2_isRead 27 = .ok (.lastore, 1) := dk_80 (dk_at dksX2_isRead_1 3 rfl rfl)
theorem dX2_isRead_28 : decode cX2_isRead 28 = .ok (.iinc 2 1, 3) := dk_132 2 1 (dk_at dksX2_isRead_1 4 rfl rfl)
theorem dX2_isRead_31 : decode cX2_isRead 31 = .ok (.goto (-29), 3) := dk_167 255 227 (dk_at dksX2_isRead_1 7 rfl rfl)
theorem dX2_isRead_34 : decode cX2_isRead 34 = .ok (.aload_n 0, 1) := dk_42 (dk_at dksX2_isRead_1 10 rfl rfl)
theorem dX2_isRead_35 : decode cX2_isRead 35 = .ok (.bipush 6, 2) := dk_16 6 (dk_at dksX2_isRead_1 11 rfl rfl)
theorem dX2_isRead_37 : decode cX2_isRead 37 = .ok (.invokevirtual 166, 3) := dk_182 0 166 (dk_at dksX2_isRead_1 13 rfl rfl)
theorem dX2_isRead_40 : decode cX2_isRead 40 = .ok (.ireturn, 1) := dk_172 (dk_at dksX2_isRead_1 16 rfl rfl)
abbrev cX2_prints : ByteArray := prog_6_method_86_code
def yX2_prints : MethodName := ⟨RX2, "prints", "(II)I"⟩
def dkwX2_prints_6 : List UInt8 := [182, 0, 74, 182, 1, 60, 132, 3, 1, 167, 255, 221, 42, 180, 1, 54, 172]
abbrev dktX2_prints_6 : List UInt8 := dkwX2_prints_6 ++ []
def dkwX2_prints_5 : List UInt8 := [162, 0, 35, 42, 16, 32, 182, 1, 57, 42, 42, 28, 4, 160, 0, 8, 16, 6, 167, 0, 4, 27, 29]
abbrev dktX2_prints_5 : List UInt8 := dkwX2_prints_5 ++ dktX2_prints_6
def dkwX2_prints_4 : List UInt8 := [4, 160, 0, 11, 42, 27, 16, 6, 182, 0, 207, 87, 42, 16, 103, 182, 1, 57, 3, 62, 29, 16, 6]
abbrev dktX2_prints_4 : List UInt8 := dkwX2_prints_4 ++ dktX2_prints_5
def dkwX2_prints_3 : List UInt8 := [180, 0, 18, 29, 46, 16, 10, 112, 96, 182, 1, 57, 132, 3, 1, 167, 255, 213, 42, 180, 1, 54, 172, 28]
abbrev dktX2_prints_3 : List UInt8 := dkwX2_prints_3 ++ dktX2_prints_4
def dkwX2_prints_2 : List UInt8 := [162, 0, 41, 42, 16, 97, 42, 180, 0, 18, 29, 46, 16, 10, 108, 96, 182, 1, 57, 42, 16, 48, 42]
abbrev dktX2_prints_2 : List UInt8 := dkwX2_prints_2 ++ dktX2_prints_3
def dkwX2_prints_1 : List UInt8 := [154, 0, 5, 2, 172, 42, 3, 181, 1, 54, 28, 5, 160, 0, 56, 3, 62, 29, 42, 180, 0, 160]
abbrev dktX2_prints_1 : List UInt8 := dkwX2_prints_1 ++ dktX2_prints_2
def dkwX2_prints_0 : List UInt8 := [28, 133, 9, 20, 0, 72, 184, 0, 68, 153, 0, 16, 28, 5, 162, 0, 13, 42, 27, 182, 0, 188]
abbrev dktX2_prints_0 : List UInt8 := dkwX2_prints_0 ++ dktX2_prints_1
theorem dksX2_prints_0 : cX2_prints.data.toList.drop 0 = dktX2_prints_0 := by decide +kernel
theorem dksX2_prints_1 : cX2_prints.data.toList.drop 22 = dktX2_prints_1 := dk_seg dksX2_prints_0 22 rfl rfl
theorem dksX2_prints_2 : cX2_prints.data.toList.drop 44 = dktX2_prints_2 := dk_seg dksX2_prints_1 22 rfl rfl
theorem dksX2_prints_3 : cX2_prints.data.toList.drop 67 = dktX2_prints_3 := dk_seg dksX2_prints_2 23 rfl rfl
theorem dksX2_prints_4 : cX2_prints.data.toList.drop 91 = dktX2_prints_4 := dk_seg dksX2_prints_3 24 rfl rfl
theorem dksX2_prints_5 : cX2_prints.data.toList.drop 114 = dktX2_prints_5 := dk_seg dksX2_prints_4 23 rfl rfl
theorem dksX2_prints_6 : cX2_prints.data.toList.drop 137 = dktX2_prints_6 := dk_seg dksX2_prints_5 23 rfl rfl
theorem dX2_prints_0 : decode cX2_prints 0 = .ok (.iload_n 2, 1) := dk_28 (dk_at dksX2_prints_0 0 rfl rfl)
theorem dX2_prints_1 : decode cX2_prints 1 = .ok (.i2l, 1) := dk_133 (dk_at dksX2_prints_0 1 rfl rfl)
theorem dX2_prints_2 : decode cX2_prints 2 = .ok (.lconst 0, 1) := dk_9 (dk_at dksX2_prints_0 2 rfl rfl)
theorem dX2_prints_3 : decode cX2_prints 3 = .ok (.ldc2_w 72, 3) := dk_20 0 72 (dk_at dksX2_prints_0 3 rfl rfl)
theorem dX2_prints_6 : decode cX2_prints 6 = .ok (.invokestatic 68, 3) := dk_184 0 68 (dk_at dksX2_prints_0 6 rfl rfl)
theorem dX2_prints_9 : decode cX2_prints 9 = .ok (.ifCond .eq 16, 3) := dk_153 0 16 (dk_at dksX2_prints_0 9 rfl rfl)
theorem dX2_prints_12 : decode cX2_prints 12 = .ok (.iload_n 2, 1) := dk_28 (dk_at dksX2_prints_0 12 rfl rfl)
theorem dX2_prints_13 : decode cX2_prints 13 = .ok (.iconst 2, 1) := dk_5 (dk_at dksX2_prints_0 13 rfl rfl)
theorem dX2_prints_14 : decode cX2_prints 14 = .ok (.if_icmp .ge 13, 3) := dk_162 0 13 (dk_at dksX2_prints_0 14 rfl rfl)
theorem dX2_prints_17 : decode cX2_prints 17 = .ok (.aload_n 0, 1) := dk_42 (dk_at dksX2_prints_0 17 rfl rfl)
theorem dX2_prints_18 : decode cX2_prints 18 = .ok (.iload_n 1, 1) := dk_27 (dk_at dksX2_prints_0 18 rfl rfl)
theorem dX2_prints_19 : decode cX2_prints 19 = .ok (.invokevirtual 188, 3) := dk_182 0 188 (dk_at dksX2_prints_0 19 rfl rfl)
theorem dX2_prints_22 : decode cX2_prints 22 = .ok (.ifCond .ne 5, 3) := dk_154 0 5 (dk_at dksX2_prints_1 0 rfl rfl)
theorem dX2_prints_25 : decode cX2_prints 25 = .ok (.iconst (-1), 1) := dk_2 (dk_at dksX2_prints_1 3 rfl rfl)
theorem dX2_prints_26 : decode cX2_prints 26 = .ok (.ireturn, 1) := dk_172 (dk_at dksX2_prints_1 4 rfl rfl)
theorem dX2_prints_27 : decode cX2_prints 27 = .ok (.aload_n 0, 1) := dk_42 (dk_at dksX2_prints_1 5 rfl rfl)
theorem dX2_prints_28 : decode cX2_prints 28 = .ok (.iconst 0, 1) := dk_3 (dk_at dksX2_prints_1 6 rfl rfl)
theorem dX2_prints_29 : decode cX2_prints 29 = .ok (.putfield 310, 3) := dk_181 1 54 (dk_at dksX2_prints_1 7 rfl rfl)
theorem dX2_prints_32 : decode cX2_prints 32 = .ok (.iload_n 2, 1) := dk_28 (dk_at dksX2_prints_1 10 rfl rfl)
theorem dX2_prints_33 : decode cX2_prints 33 = .ok (.iconst 2, 1) := dk_5 (dk_at dksX2_prints_1 11 rfl rfl)
theorem dX2_prints_34 : decode cX2_prints 34 = .ok (.if_icmp .ne 56, 3) := dk_160 0 56 (dk_at dksX2_prints_1 12 rfl rfl)
theorem dX2_prints_37 : decode cX2_prints 37 = .ok (.iconst 0, 1) := dk_3 (dk_at dksX2_prints_1 15 rfl rfl)
theorem dX2_prints_38 : decode cX2_prints 38 = .ok (.istore_n 3, 1) := dk_62 (dk_at dksX2_prints_1 16 rfl rfl)
theorem dX2_prints_39 : decode cX2_prints 39 = .ok (.iload_n 3, 1) := dk_29 (dk_at dksX2_prints_1 17 rfl rfl)
theorem dX2_prints_40 : decode cX2_prints 40 = .ok (.aload_n 0, 1) := dk_42 (dk_at dksX2_prints_1 18 rfl rfl)
theorem dX2_prints_41 : decode cX2_prints 41 = .ok (.getfield 160, 3) := dk_180 0 160 (dk_at dksX2_prints_1 19 rfl rfl)
theorem dX2_prints_44 : decode cX2_prints 44 = .ok (.if_icmp .ge 41, 3) := dk_162 0 41 (dk_at dksX2_prints_2 0 rfl rfl)
theorem dX2_prints_47 : decode cX2_prints 47 = .ok (.aload_n 0, 1) := dk_42 (dk_at dksX2_prints_2 3 rfl rfl)
theorem dX2_prints_48 : decode cX2_prints 48 = .ok (.bipush 97, 2) := dk_16 97 (dk_at dksX2_prints_2 4 rfl rfl)
theorem dX2_prints_50 : decode cX2_prints 50 = .ok (.aload_n 0, 1) := dk_42 (dk_at dksX2_prints_2 6 rfl rfl)
theorem dX2_prints_51 : decode cX2_prints 51 = .ok (.getfield 18, 3) := dk_180 0 18 (dk_at dksX2_prints_2 7 rfl rfl)
theorem dX2_prints_54 : decode cX2_prints 54 = .ok (.iload_n 3, 1) := dk_29 (dk_at dksX2_prints_2 10 rfl rfl)
theorem dX2_prints_55 : decode cX2_prints 55 = .ok (.iaload, 1) := dk_46 (dk_at dksX2_prints_2 11 rfl rfl)
theorem dX2_prints_56 : decode cX2_prints 56 = .ok (.bipush 10, 2) := dk_16 10 (dk_at dksX2_prints_2 12 rfl rfl)
theorem dX2_prints_58 : decode cX2_prints 58 = .ok (.idiv, 1) := dk_108 (dk_at dksX2_prints_2 14 rfl rfl)
theorem dX2_prints_59 : decode cX2_prints 59 = .ok (.iadd, 1) := dk_96 (dk_at dksX2_prints_2 15 rfl rfl)
theorem dX2_prints_60 : decode cX2_prints 60 = .ok (.invokevirtual 313, 3) := dk_182 1 57 (dk_at dksX2_prints_2 16 rfl rfl)
theorem dX2_prints_63 : decode cX2_prints 63 = .ok (.aload_n 0, 1) := dk_42 (dk_at dksX2_prints_2 19 rfl rfl)
theorem dX2_prints_64 : decode cX2_prints 64 = .ok (.bipush 48, 2) := dk_16 48 (dk_at dksX2_prints_2 20 rfl rfl)
theorem dX2_prints_66 : decode cX2_prints 66 = .ok (.aload_n 0, 1) := dk_42 (dk_at dksX2_prints_2 22 rfl rfl)
theorem dX2_prints_67 : decode cX2_prints 67 = .ok (.getfield 18, 3) := dk_180 0 18 (dk_at dksX2_prints_3 0 rfl rfl)
theorem dX2_prints_70 : decode cX2_prints 70 = .ok (.iload_n 3, 1) := dk_29 (dk_at dksX2_prints_3 3 rfl rfl)
theorem dX2_prints_71 : decode cX2_prints 71 = .ok (.iaload, 1) := dk_46 (dk_at dksX2_prints_3 4 rfl rfl)
theorem dX2_prints_72 : decode cX2_prints 72 = .ok (.bipush 10, 2) := dk_16 10 (dk_at dksX2_prints_3 5 rfl rfl)
theorem dX2_prints_74 : decode cX2_prints 74 = .ok (.irem, 1) := dk_112 (dk_at dksX2_prints_3 7 rfl rfl)
theorem dX2_prints_75 : decode cX2_prints 75 = .ok (.iadd, 1) := dk_96 (dk_at dksX2_prints_3 8 rfl rfl)
theorem dX2_prints_76 : decode cX2_prints 76 = .ok (.invokevirtual 313, 3) := dk_182 1 57 (dk_at dksX2_prints_3 9 rfl rfl)
theorem dX2_prints_79 : decode cX2_prints 79 = .ok (.iinc 3 1, 3) := dk_132 3 1 (dk_at dksX2_prints_3 12 rfl rfl)
theorem dX2_prints_82 : decode cX2_prints 82 = .ok (.goto (-43), 3) := dk_167 255 213 (dk_at dksX2_prints_3 15 rfl rfl)
theorem dX2_prints_85 : decode cX2_prints 85 = .ok (.aload_n 0, 1) := dk_42 (dk_at dksX2_prints_3 18 rfl rfl)
theorem dX2_prints_86 : decode cX2_prints 86 = .ok (.getfield 310, 3) := dk_180 1 54 (dk_at dksX2_prints_3 19 rfl rfl)
theorem dX2_prints_89 : decode cX2_prints 89 = .ok (.ireturn, 1) := dk_172 (dk_at dksX2_prints_3 22 rfl rfl)
theorem dX2_prints_90 : decode cX2_prints 90 = .ok (.iload_n 2, 1) := dk_28 (dk_at dksX2_prints_3 23 rfl rfl)
theorem dX2_prints_91 : decode cX2_prints 91 = .ok (.iconst 1, 1) := dk_4 (dk_at dksX2_prints_4 0 rfl rfl)
theorem dX2_prints_92 : decode cX2_prints 92 = .ok (.if_icmp .ne 11, 3) := dk_160 0 11 (dk_at dksX2_prints_4 1 rfl rfl)
theorem dX2_prints_95 : decode cX2_prints 95 = .ok (.aload_n 0, 1) := dk_42 (dk_at dksX2_prints_4 4 rfl rfl)
theorem dX2_prints_96 : decode cX2_prints 96 = .ok (.iload_n 1, 1) := dk_27 (dk_at dksX2_prints_4 5 rfl rfl)
theorem dX2_prints_97 : decode cX2_prints 97 = .ok (.bipush 6, 2) := dk_16 6 (dk_at dksX2_prints_4 6 rfl rfl)
theorem dX2_prints_99 : decode cX2_prints 99 = .ok (.invokevirtual 207, 3) := dk_182 0 207 (dk_at dksX2_prints_4 8 rfl rfl)
theorem dX2_prints_102 : decode cX2_prints 102 = .ok (.pop, 1) := dk_87 (dk_at dksX2_prints_4 11 rfl rfl)
theorem dX2_prints_103 : decode cX2_prints 103 = .ok (.aload_n 0, 1) := dk_42 (dk_at dksX2_prints_4 12 rfl rfl)
theorem dX2_prints_104 : decode cX2_prints 104 = .ok (.bipush 103, 2) := dk_16 103 (dk_at dksX2_prints_4 13 rfl rfl)
theorem dX2_prints_106 : decode cX2_prints 106 = .ok (.invokevirtual 313, 3) := dk_182 1 57 (dk_at dksX2_prints_4 15 rfl rfl)
theorem dX2_prints_109 : decode cX2_prints 109 = .ok (.iconst 0, 1) := dk_3 (dk_at dksX2_prints_4 18 rfl rfl)
theorem dX2_prints_110 : decode cX2_prints 110 = .ok (.istore_n 3, 1) := dk_62 (dk_at dksX2_prints_4 19 rfl rfl)
theorem dX2_prints_111 : decode cX2_prints 111 = .ok (.iload_n 3, 1) := dk_29 (dk_at dksX2_prints_4 20 rfl rfl)
theorem dX2_prints_112 : decode cX2_prints 112 = .ok (.bipush 6, 2) := dk_16 6 (dk_at dksX2_prints_4 21 rfl rfl)
theorem dX2_prints_114 : decode cX2_prints 114 = .ok (.if_icmp .ge 35, 3) := dk_162 0 35 (dk_at dksX2_prints_5 0 rfl rfl)
theorem dX2_prints_117 : decode cX2_prints 117 = .ok (.aload_n 0, 1) := dk_42 (dk_at dksX2_prints_5 3 rfl rfl)
theorem dX2_prints_118 : decode cX2_prints 118 = .ok (.bipush 32, 2) := dk_16 32 (dk_at dksX2_prints_5 4 rfl rfl)
theorem dX2_prints_120 : decode cX2_prints 120 = .ok (.invokevirtual 313, 3) := dk_182 1 57 (dk_at dksX2_prints_5 6 rfl rfl)
theorem dX2_prints_123 : decode cX2_prints 123 = .ok (.aload_n 0, 1) := dk_42 (dk_at dksX2_prints_5 9 rfl rfl)
theorem dX2_prints_124 : decode cX2_prints 124 = .ok (.aload_n 0, 1) := dk_42 (dk_at dksX2_prints_5 10 rfl rfl)
theorem dX2_prints_125 : decode cX2_prints 125 = .ok (.iload_n 2, 1) := dk_28 (dk_at dksX2_prints_5 11 rfl rfl)
theorem dX2_prints_126 : decode cX2_prints 126 = .ok (.iconst 1, 1) := dk_4 (dk_at dksX2_prints_5 12 rfl rfl)
theorem dX2_prints_127 : decode cX2_prints 127 = .ok (.if_icmp .ne 8, 3) := dk_160 0 8 (dk_at dksX2_prints_5 13 rfl rfl)
theorem dX2_prints_130 : decode cX2_prints 130 = .ok (.bipush 6, 2) := dk_16 6 (dk_at dksX2_prints_5 16 rfl rfl)
theorem dX2_prints_132 : decode cX2_prints 132 = .ok (.goto 4, 3) := dk_167 0 4 (dk_at dksX2_prints_5 18 rfl rfl)
theorem dX2_prints_135 : decode cX2_prints 135 = .ok (.iload_n 1, 1) := dk_27 (dk_at dksX2_prints_5 21 rfl rfl)
theorem dX2_prints_136 : decode cX2_prints 136 = .ok (.iload_n 3, 1) := dk_29 (dk_at dksX2_prints_5 22 rfl rfl)
theorem dX2_prints_137 : decode cX2_prints 137 = .ok (.invokevirtual 74, 3) := dk_182 0 74 (dk_at dksX2_prints_6 0 rfl rfl)
theorem dX2_prints_140 : decode cX2_prints 140 = .ok (.invokevirtual 316, 3) := dk_182 1 60 (dk_at dksX2_prints_6 3 rfl rfl)
theorem dX2_prints_143 : decode cX2_prints 143 = .ok (.iinc 3 1, 3) := dk_132 3 1 (dk_at dksX2_prints_6 6 rfl rfl)
theorem dX2_prints_146 : decode cX2_prints 146 = .ok (.goto (-35), 3) := dk_167 255 221 (dk_at dksX2_prints_6 9 rfl rfl)
theorem dX2_prints_149 : decode cX2_prints 149 = .ok (.aload_n 0, 1) := dk_42 (dk_at dksX2_prints_6 12 rfl rfl)
theorem dX2_prints_150 : decode cX2_prints 150 = .ok (.getfield 310, 3) := dk_180 1 54 (dk_at dksX2_prints_6 13 rfl rfl)
theorem dX2_prints_153 : decode cX2_prints 153 = .ok (.ireturn, 1) := dk_172 (dk_at dksX2_prints_6 16 rfl rfl)
abbrev cX2_prints_2 : ByteArray := prog_6_method_84_code
def yX2_prints_2 : MethodName := ⟨RX2, "prints", "(I)V"⟩
def dkwX2_prints_2_0 : List UInt8 := [42, 180, 0, 46, 42, 180, 1, 54, 27, 79, 42, 89, 180, 1, 54, 4, 96, 181, 1, 54, 177]
abbrev dktX2_prints_2_0 : List UInt8 := dkwX2_prints_2_0 ++ []
theorem dksX2_prints_2_0 : cX2_prints_2.data.toList.drop 0 = dktX2_prints_2_0 := by decide +kernel
theorem dX2_prints_2_0 : decode cX2_prints_2 0 = .ok (.aload_n 0, 1) := dk_42 (dk_at dksX2_prints_2_0 0 rfl rfl)
theorem dX2_prints_2_1 : decode cX2_prints_2 1 = .ok (.getfield 46, 3) := dk_180 0 46 (dk_at dksX2_prints_2_0 1 rfl rfl)
theorem dX2_prints_2_4 : decode cX2_prints_2 4 = .ok (.aload_n 0, 1) := dk_42 (dk_at dksX2_prints_2_0 4 rfl rfl)
theorem dX2_prints_2_5 : decode cX2_prints_2 5 = .ok (.getfield 310, 3) := dk_180 1 54 (dk_at dksX2_prints_2_0 5 rfl rfl)
theorem dX2_prints_2_8 : decode cX2_prints_2 8 = .ok (.iload_n 1, 1) := dk_27 (dk_at dksX2_prints_2_0 8 rfl rfl)
theorem dX2_prints_2_9 : decode cX2_prints_2 9 = .ok (.iastore, 1) := dk_79 (dk_at dksX2_prints_2_0 9 rfl rfl)
theorem dX2_prints_2_10 : decode cX2_prints_2 10 = .ok (.aload_n 0, 1) := dk_42 (dk_at dksX2_prints_2_0 10 rfl rfl)
theorem dX2_prints_2_11 : decode cX2_prints_2 11 = .ok (.dup, 1) := dk_89 (dk_at dksX2_prints_2_0 11 rfl rfl)
theorem dX2_prints_2_12 : decode cX2_prints_2 12 = .ok (.getfield 310, 3) := dk_180 1 54 (dk_at dksX2_prints_2_0 12 rfl rfl)
theorem dX2_prints_2_15 : decode cX2_prints_2 15 = .ok (.iconst 1, 1) := dk_4 (dk_at dksX2_prints_2_0 15 rfl rfl)
theorem dX2_prints_2_16 : decode cX2_prints_2 16 = .ok (.iadd, 1) := dk_96 (dk_at dksX2_prints_2_0 16 rfl rfl)
theorem dX2_prints_2_17 : decode cX2_prints_2 17 = .ok (.putfield 310, 3) := dk_181 1 54 (dk_at dksX2_prints_2_0 17 rfl rfl)
theorem dX2_prints_2_20 : decode cX2_prints_2 20 = .ok (.return_, 1) := dk_177 (dk_at dksX2_prints_2_0 20 rfl rfl)
abbrev cX2_printsNumber : ByteArray := prog_6_method_85_code
def yX2_printsNumber : MethodName := ⟨RX2, "printsNumber", "(J)V"⟩
def dkwX2_printsNumber_3 : List UInt8 := [20, 1, 37, 109, 55, 5, 167, 255, 224, 177]
abbrev dktX2_printsNumber_3 : List UInt8 := dkwX2_printsNumber_3 ++ []
def dkwX2_printsNumber_2 : List UInt8 := [158, 0, 31, 42, 20, 1, 39, 33, 22, 5, 109, 20, 1, 37, 113, 97, 136, 182, 1, 57, 22, 5]
abbrev dktX2_printsNumber_2 : List UInt8 := dkwX2_printsNumber_2 ++ dktX2_printsNumber_3
def dkwX2_printsNumber_1 : List UInt8 := [20, 0, 196, 148, 158, 0, 14, 22, 5, 20, 1, 37, 105, 55, 5, 167, 255, 237, 22, 5, 9, 148]
abbrev dktX2_printsNumber_1 : List UInt8 := dkwX2_printsNumber_1 ++ dktX2_printsNumber_2
def dkwX2_printsNumber_0 : List UInt8 := [31, 9, 148, 156, 0, 9, 42, 16, 45, 182, 1, 57, 31, 184, 0, 98, 66, 10, 55, 5, 33, 22, 5, 109]
abbrev dktX2_printsNumber_0 : List UInt8 := dkwX2_printsNumber_0 ++ dktX2_printsNumber_1
theorem dksX2_printsNumber_0 : cX2_printsNumber.data.toList.drop 0 = dktX2_printsNumber_0 := by decide +kernel
theorem dksX2_printsNumber_1 : cX2_printsNumber.data.toList.drop 24 = dktX2_printsNumber_1 := dk_seg dksX2_printsNumber_0 24 rfl rfl
theorem dksX2_printsNumber_2 : cX2_printsNumber.data.toList.drop 46 = dktX2_printsNumber_2 := dk_seg dksX2_printsNumber_1 22 rfl rfl
theorem dksX2_printsNumber_3 : cX2_printsNumber.data.toList.drop 68 = dktX2_printsNumber_3 := dk_seg dksX2_printsNumber_2 22 rfl rfl
theorem dX2_printsNumber_0 : decode cX2_printsNumber 0 = .ok (.lload_n 1, 1) := dk_31 (dk_at dksX2_printsNumber_0 0 rfl rfl)
theorem dX2_printsNumber_1 : decode cX2_printsNumber 1 = .ok (.lconst 0, 1) := dk_9 (dk_at dksX2_printsNumber_0 1 rfl rfl)
theorem dX2_printsNumber_2 : decode cX2_printsNumber 2 = .ok (.lcmp, 1) := dk_148 (dk_at dksX2_printsNumber_0 2 rfl rfl)
theorem dX2_printsNumber_3 : decode cX2_printsNumber 3 = .ok (.ifCond .ge 9, 3) := dk_156 0 9 (dk_at dksX2_printsNumber_0 3 rfl rfl)
theorem dX2_printsNumber_6 : decode cX2_printsNumber 6 = .ok (.aload_n 0, 1) := dk_42 (dk_at dksX2_printsNumber_0 6 rfl rfl)
theorem dX2_printsNumber_7 : decode cX2_printsNumber 7 = .ok (.bipush 45, 2) := dk_16 45 (dk_at dksX2_printsNumber_0 7 rfl rfl)
theorem dX2_printsNumber_9 : decode cX2_printsNumber 9 = .ok (.invokevirtual 313, 3) := dk_182 1 57 (dk_at dksX2_printsNumber_0 9 rfl rfl)
theorem dX2_printsNumber_12 : decode cX2_printsNumber 12 = .ok (.lload_n 1, 1) := dk_31 (dk_at dksX2_printsNumber_0 12 rfl rfl)
theorem dX2_printsNumber_13 : decode cX2_printsNumber 13 = .ok (.invokestatic 98, 3) := dk_184 0 98 (dk_at dksX2_printsNumber_0 13 rfl rfl)
theorem dX2_printsNumber_16 : decode cX2_printsNumber 16 = .ok (.lstore_n 3, 1) := dk_66 (dk_at dksX2_printsNumber_0 16 rfl rfl)
theorem dX2_printsNumber_17 : decode cX2_printsNumber 17 = .ok (.lconst 1, 1) := dk_10 (dk_at dksX2_printsNumber_0 17 rfl rfl)
theorem dX2_printsNumber_18 : decode cX2_printsNumber 18 = .ok (.lstore 5, 2) := dk_55 5 (dk_at dksX2_printsNumber_0 18 rfl rfl)
theorem dX2_printsNumber_20 : decode cX2_printsNumber 20 = .ok (.lload_n 3, 1) := dk_33 (dk_at dksX2_printsNumber_0 20 rfl rfl)
theorem dX2_printsNumber_21 : decode cX2_printsNumber 21 = .ok (.lload 5, 2) := dk_22 5 (dk_at dksX2_printsNumber_0 21 rfl rfl)
theorem dX2_printsNumber_23 : decode cX2_printsNumber 23 = .ok (.ldiv, 1) := dk_109 (dk_at dksX2_printsNumber_0 23 rfl rfl)
theorem dX2_printsNumber_24 : decode cX2_printsNumber 24 = .ok (.ldc2_w 196, 3) := dk_20 0 196 (dk_at dksX2_printsNumber_1 0 rfl rfl)
theorem dX2_printsNumber_27 : decode cX2_printsNumber 27 = .ok (.lcmp, 1) := dk_148 (dk_at dksX2_printsNumber_1 3 rfl rfl)
theorem dX2_printsNumber_28 : decode cX2_printsNumber 28 = .ok (.ifCond .le 14, 3) := dk_158 0 14 (dk_at dksX2_printsNumber_1 4 rfl rfl)
theorem dX2_printsNumber_31 : decode cX2_printsNumber 31 = .ok (.lload 5, 2) := dk_22 5 (dk_at dksX2_printsNumber_1 7 rfl rfl)
theorem dX2_printsNumber_33 : decode cX2_printsNumber 33 = .ok (.ldc2_w 293, 3) := dk_20 1 37 (dk_at dksX2_printsNumber_1 9 rfl rfl)
theorem dX2_printsNumber_36 : decode cX2_printsNumber 36 = .ok (.lmul, 1) := dk_105 (dk_at dksX2_printsNumber_1 12 rfl rfl)
theorem dX2_printsNumber_37 : decode cX2_printsNumber 37 = .ok (.lstore 5, 2) := dk_55 5 (dk_at dksX2_printsNumber_1 13 rfl rfl)
theorem dX2_printsNumber_39 : decode cX2_printsNumber 39 = .ok (.goto (-19), 3) := dk_167 255 237 (dk_at dksX2_printsNumber_1 15 rfl rfl)
theorem dX2_printsNumber_42 : decode cX2_printsNumber 42 = .ok (.lload 5, 2) := dk_22 5 (dk_at dksX2_printsNumber_1 18 rfl rfl)
theorem dX2_printsNumber_44 : decode cX2_printsNumber 44 = .ok (.lconst 0, 1) := dk_9 (dk_at dksX2_printsNumber_1 20 rfl rfl)
theorem dX2_printsNumber_45 : decode cX2_printsNumber 45 = .ok (.lcmp, 1) := dk_148 (dk_at dksX2_printsNumber_1 21 rfl rfl)
theorem dX2_printsNumber_46 : decode cX2_printsNumber 46 = .ok (.ifCond .le 31, 3) := dk_158 0 31 (dk_at dksX2_printsNumber_2 0 rfl rfl)
theorem dX2_printsNumber_49 : decode cX2_printsNumber 49 = .ok (.aload_n 0, 1) := dk_42 (dk_at dksX2_printsNumber_2 3 rfl rfl)
theorem dX2_printsNumber_50 : decode cX2_printsNumber 50 = .ok (.ldc2_w 295, 3) := dk_20 1 39 (dk_at dksX2_printsNumber_2 4 rfl rfl)
theorem dX2_printsNumber_53 : decode cX2_printsNumber 53 = .ok (.lload_n 3, 1) := dk_33 (dk_at dksX2_printsNumber_2 7 rfl rfl)
theorem dX2_printsNumber_54 : decode cX2_printsNumber 54 = .ok (.lload 5, 2) := dk_22 5 (dk_at dksX2_printsNumber_2 8 rfl rfl)
theorem dX2_printsNumber_56 : decode cX2_printsNumber 56 = .ok (.ldiv, 1) := dk_109 (dk_at dksX2_printsNumber_2 10 rfl rfl)
theorem dX2_printsNumber_57 : decode cX2_printsNumber 57 = .ok (.ldc2_w 293, 3) := dk_20 1 37 (dk_at dksX2_printsNumber_2 11 rfl rfl)
theorem dX2_printsNumber_60 : decode cX2_printsNumber 60 = .ok (.lrem, 1) := dk_113 (dk_at dksX2_printsNumber_2 14 rfl rfl)
theorem dX2_printsNumber_61 : decode cX2_printsNumber 61 = .ok (.ladd, 1) := dk_97 (dk_at dksX2_printsNumber_2 15 rfl rfl)
theorem dX2_printsNumber_62 : decode cX2_printsNumber 62 = .ok (.l2i, 1) := dk_136 (dk_at dksX2_printsNumber_2 16 rfl rfl)
theorem dX2_printsNumber_63 : decode cX2_printsNumber 63 = .ok (.invokevirtual 313, 3) := dk_182 1 57 (dk_at dksX2_printsNumber_2 17 rfl rfl)
theorem dX2_printsNumber_66 : decode cX2_printsNumber 66 = .ok (.lload 5, 2) := dk_22 5 (dk_at dksX2_printsNumber_2 20 rfl rfl)
theorem dX2_printsNumber_68 : decode cX2_printsNumber 68 = .ok (.ldc2_w 293, 3) := dk_20 1 37 (dk_at dksX2_printsNumber_3 0 rfl rfl)
theorem dX2_printsNumber_71 : decode cX2_printsNumber 71 = .ok (.ldiv, 1) := dk_109 (dk_at dksX2_printsNumber_3 3 rfl rfl)
theorem dX2_printsNumber_72 : decode cX2_printsNumber 72 = .ok (.lstore 5, 2) := dk_55 5 (dk_at dksX2_printsNumber_3 4 rfl rfl)
theorem dX2_printsNumber_74 : decode cX2_printsNumber 74 = .ok (.goto (-32), 3) := dk_167 255 224 (dk_at dksX2_printsNumber_3 6 rfl rfl)
theorem dX2_printsNumber_77 : decode cX2_printsNumber 77 = .ok (.return_, 1) := dk_177 (dk_at dksX2_printsNumber_3 9 rfl rfl)
abbrev cX2_paper : ByteArray := prog_6_method_87_code
def yX2_paper : MethodName := ⟨RX2, "paper", "(I)I"⟩
def dkwX2_paper_1 : List UInt8 := [167, 0, 5, 16, 254, 172]
abbrev dktX2_paper_1 : List UInt8 := dkwX2_paper_1 ++ []
def dkwX2_paper_0 : List UInt8 := [27, 156, 0, 7, 2, 167, 0, 22, 27, 42, 180, 1, 54, 162, 0, 12, 42, 180, 0, 46, 27, 46]
abbrev dktX2_paper_0 : List UInt8 := dkwX2_paper_0 ++ dktX2_paper_1
theorem dksX2_paper_0 : cX2_paper.data.toList.drop 0 = dktX2_paper_0 := by decide +kernel
theorem dksX2_paper_1 : cX2_paper.data.toList.drop 22 = dktX2_paper_1 := dk_seg dksX2_paper_0 22 rfl rfl
theorem dX2_paper_0 : decode cX2_paper 0 = .ok (.iload_n 1, 1) := dk_27 (dk_at dksX2_paper_0 0 rfl rfl)
theorem dX2_paper_1 : decode cX2_paper 1 = .ok (.ifCond .ge 7, 3) := dk_156 0 7 (dk_at dksX2_paper_0 1 rfl rfl)
theorem dX2_paper_4 : decode cX2_paper 4 = .ok (.iconst (-1), 1) := dk_2 (dk_at dksX2_paper_0 4 rfl rfl)
theorem dX2_paper_5 : decode cX2_paper 5 = .ok (.goto 22, 3) := dk_167 0 22 (dk_at dksX2_paper_0 5 rfl rfl)
theorem dX2_paper_8 : decode cX2_paper 8 = .ok (.iload_n 1, 1) := dk_27 (dk_at dksX2_paper_0 8 rfl rfl)
theorem dX2_paper_9 : decode cX2_paper 9 = .ok (.aload_n 0, 1) := dk_42 (dk_at dksX2_paper_0 9 rfl rfl)
theorem dX2_paper_10 : decode cX2_paper 10 = .ok (.getfield 310, 3) := dk_180 1 54 (dk_at dksX2_paper_0 10 rfl rfl)
theorem dX2_paper_13 : decode cX2_paper 13 = .ok (.if_icmp .ge 12, 3) := dk_162 0 12 (dk_at dksX2_paper_0 13 rfl rfl)
theorem dX2_paper_16 : decode cX2_paper 16 = .ok (.aload_n 0, 1) := dk_42 (dk_at dksX2_paper_0 16 rfl rfl)
theorem dX2_paper_17 : decode cX2_paper 17 = .ok (.getfield 46, 3) := dk_180 0 46 (dk_at dksX2_paper_0 17 rfl rfl)
theorem dX2_paper_20 : decode cX2_paper 20 = .ok (.iload_n 1, 1) := dk_27 (dk_at dksX2_paper_0 20 rfl rfl)
theorem dX2_paper_21 : decode cX2_paper 21 = .ok (.iaload, 1) := dk_46 (dk_at dksX2_paper_0 21 rfl rfl)
theorem dX2_paper_22 : decode cX2_paper 22 = .ok (.goto 5, 3) := dk_167 0 5 (dk_at dksX2_paper_1 0 rfl rfl)
theorem dX2_paper_25 : decode cX2_paper 25 = .ok (.bipush (-2), 2) := dk_16 254 (dk_at dksX2_paper_1 3 rfl rfl)
theorem dX2_paper_27 : decode cX2_paper 27 = .ok (.ireturn, 1) := dk_172 (dk_at dksX2_paper_1 5 rfl rfl)
abbrev cX2_list : ByteArray := prog_6_method_89_code
def yX2_list : MethodName := ⟨RX2, "list", "(II)I"⟩
def dkwX2_list_2 : List UInt8 := [9, 80, 132, 3, 1, 167, 255, 235, 4, 172]
abbrev dktX2_list_2 : List UInt8 := dkwX2_list_2 ++ []
def dkwX2_list_1 : List UInt8 := [180, 0, 58, 27, 28, 79, 3, 62, 29, 16, 16, 162, 0, 21, 42, 180, 0, 61, 16, 16, 27, 104, 29, 96]
abbrev dktX2_list_1 : List UInt8 := dkwX2_list_1 ++ dktX2_list_2
def dkwX2_list_0 : List UInt8 := [27, 184, 1, 66, 153, 0, 9, 28, 16, 16, 164, 0, 5, 2, 172, 28, 156, 0, 6, 16, 242, 172, 42]
abbrev dktX2_list_0 : List UInt8 := dkwX2_list_0 ++ dktX2_list_1
theorem dksX2_list_0 : cX2_list.data.toList.drop 0 = dktX2_list_0 := by decide +kernel
theorem dksX2_list_1 : cX2_list.data.toList.drop 23 = dktX2_list_1 := dk_seg dksX2_list_0 23 rfl rfl
theorem dksX2_list_2 : cX2_list.data.toList.drop 47 = dktX2_list_2 := dk_seg dksX2_list_1 24 rfl rfl
theorem dX2_list_0 : decode cX2_list 0 = .ok (.iload_n 1, 1) := dk_27 (dk_at dksX2_list_0 0 rfl rfl)
theorem dX2_list_1 : decode cX2_list 1 = .ok (.invokestatic 322, 3) := dk_184 1 66 (dk_at dksX2_list_0 1 rfl rfl)
theorem dX2_list_4 : decode cX2_list 4 = .ok (.ifCond .eq 9, 3) := dk_153 0 9 (dk_at dksX2_list_0 4 rfl rfl)
theorem dX2_list_7 : decode cX2_list 7 = .ok (.iload_n 2, 1) := dk_28 (dk_at dksX2_list_0 7 rfl rfl)
theorem dX2_list_8 : decode cX2_list 8 = .ok (.bipush 16, 2) := dk_16 16 (dk_at dksX2_list_0 8 rfl rfl)
theorem dX2_list_10 : decode cX2_list 10 = .ok (.if_icmp .le 5, 3) := dk_164 0 5 (dk_at dksX2_list_0 10 rfl rfl)
theorem dX2_list_13 : decode cX2_list 13 = .ok (.iconst (-1), 1) := dk_2 (dk_at dksX2_list_0 13 rfl rfl)
theorem dX2_list_14 : decode cX2_list 14 = .ok (.ireturn, 1) := dk_172 (dk_at dksX2_list_0 14 rfl rfl)
theorem dX2_list_15 : decode cX2_list 15 = .ok (.iload_n 2, 1) := dk_28 (dk_at dksX2_list_0 15 rfl rfl)
theorem dX2_list_16 : decode cX2_list 16 = .ok (.ifCond .ge 6, 3) := dk_156 0 6 (dk_at dksX2_list_0 16 rfl rfl)
theorem dX2_list_19 : decode cX2_list 19 = .ok (.bipush (-14), 2) := dk_16 242 (dk_at dksX2_list_0 19 rfl rfl)
theorem dX2_list_21 : decode cX2_list 21 = .ok (.ireturn, 1) := dk_172 (dk_at dksX2_list_0 21 rfl rfl)
theorem dX2_list_22 : decode cX2_list 22 = .ok (.aload_n 0, 1) := dk_42 (dk_at dksX2_list_0 22 rfl rfl)
theorem dX2_list_23 : decode cX2_list 23 = .ok (.getfield 58, 3) := dk_180 0 58 (dk_at dksX2_list_1 0 rfl rfl)
theorem dX2_list_26 : decode cX2_list 26 = .ok (.iload_n 1, 1) := dk_27 (dk_at dksX2_list_1 3 rfl rfl)
theorem dX2_list_27 : decode cX2_list 27 = .ok (.iload_n 2, 1) := dk_28 (dk_at dksX2_list_1 4 rfl rfl)
theorem dX2_list_28 : decode cX2_list 28 = .ok (.iastore, 1) := dk_79 (dk_at dksX2_list_1 5 rfl rfl)
theorem dX2_list_29 : decode cX2_list 29 = .ok (.iconst 0, 1) := dk_3 (dk_at dksX2_list_1 6 rfl rfl)
theorem dX2_list_30 : decode cX2_list 30 = .ok (.istore_n 3, 1) := dk_62 (dk_at dksX2_list_1 7 rfl rfl)
theorem dX2_list_31 : decode cX2_list 31 = .ok (.iload_n 3, 1) := dk_29 (dk_at dksX2_list_1 8 rfl rfl)
theorem dX2_list_32 : decode cX2_list 32 = .ok (.bipush 16, 2) := dk_16 16 (dk_at dksX2_list_1 9 rfl rfl)
theorem dX2_list_34 : decode cX2_list 34 = .ok (.if_icmp .ge 21, 3) := dk_162 0 21 (dk_at dksX2_list_1 11 rfl rfl)
theorem dX2_list_37 : decode cX2_list 37 = .ok (.aload_n 0, 1) := dk_42 (dk_at dksX2_list_1 14 rfl rfl)
theorem dX2_list_38 : decode cX2_list 38 = .ok (.getfield 61, 3) := dk_180 0 61 (dk_at dksX2_list_1 15 rfl rfl)
theorem dX2_list_41 : decode cX2_list 41 = .ok (.bipush 16, 2) := dk_16 16 (dk_at dksX2_list_1 18 rfl rfl)
theorem dX2_list_43 : decode cX2_list 43 = .ok (.iload_n 1, 1) := dk_27 (dk_at dksX2_list_1 20 rfl rfl)
theorem dX2_list_44 : decode cX2_list 44 = .ok (.imul, 1) := dk_104 (dk_at dksX2_list_1 21 rfl rfl)
theorem dX2_list_45 : decode cX2_list 45 = .ok (.iload_n 3, 1) := dk_29 (dk_at dksX2_list_1 22 rfl rfl)
theorem dX2_list_46 : decode cX2_list 46 = .ok (.iadd, 1) := dk_96 (dk_at dksX2_list_1 23 rfl rfl)
theorem dX2_list_47 : decode cX2_list 47 = .ok (.lconst 0, 1) := dk_9 (dk_at dksX2_list_2 0 rfl rfl)
theorem dX2_list_48 : decode cX2_list 48 = .ok (.lastore, 1) := dk_80 (dk_at dksX2_list_2 1 rfl rfl)
theorem dX2_list_49 : decode cX2_list 49 = .ok (.iinc 3 1, 3) := dk_132 3 1 (dk_at dksX2_list_2 2 rfl rfl)
theorem dX2_list_52 : decode cX2_list 52 = .ok (.goto (-21), 3) := dk_167 255 235 (dk_at dksX2_list_2 5 rfl rfl)
theorem dX2_list_55 : decode cX2_list 55 = .ok (.iconst 1, 1) := dk_4 (dk_at dksX2_list_2 8 rfl rfl)
theorem dX2_list_56 : decode cX2_list 56 = .ok (.ireturn, 1) := dk_172 (dk_at dksX2_list_2 9 rfl rfl)
abbrev cX2_isList : ByteArray := prog_6_method_88_code
def yX2_isList : MethodName := ⟨RX2, "isList", "(I)Z"⟩
def dkwX2_isList_0 : List UInt8 := [26, 133, 9, 20, 1, 64, 184, 0, 68, 172]
abbrev dktX2_isList_0 : List UInt8 := dkwX2_isList_0 ++ []
theorem dksX2_isList_0 : cX2_isList.data.toList.drop 0 = dktX2_isList_0 := by decide +kernel
theorem dX2_isList_0 : decode cX2_isList 0 = .ok (.iload_n 0, 1) := dk_26 (dk_at dksX2_isList_0 0 rfl rfl)
theorem dX2_isList_1 : decode cX2_isList 1 = .ok (.i2l, 1) := dk_133 (dk_at dksX2_isList_0 1 rfl rfl)
theorem dX2_isList_2 : decode cX2_isList 2 = .ok (.lconst 0, 1) := dk_9 (dk_at dksX2_isList_0 2 rfl rfl)
theorem dX2_isList_3 : decode cX2_isList 3 = .ok (.ldc2_w 320, 3) := dk_20 1 64 (dk_at dksX2_isList_0 3 rfl rfl)
theorem dX2_isList_6 : decode cX2_isList 6 = .ok (.invokestatic 68, 3) := dk_184 0 68 (dk_at dksX2_isList_0 6 rfl rfl)
theorem dX2_isList_9 : decode cX2_isList 9 = .ok (.ireturn, 1) := dk_172 (dk_at dksX2_isList_0 9 rfl rfl)
abbrev cX2_set : ByteArray := prog_6_method_90_code
def yX2_set : MethodName := ⟨RX2, "set", "(IIJ)I"⟩
def dkwX2_set_2 : List UInt8 := [27, 104, 28, 96, 33, 80, 4, 172]
abbrev dktX2_set_2 : List UInt8 := dkwX2_set_2 ++ []
def dkwX2_set_1 : List UInt8 := [42, 180, 0, 58, 27, 46, 4, 100, 133, 184, 0, 68, 154, 0, 6, 16, 243, 172, 42, 180, 0, 61, 16, 16]
abbrev dktX2_set_1 : List UInt8 := dkwX2_set_1 ++ dktX2_set_2
def dkwX2_set_0 : List UInt8 := [27, 184, 1, 66, 154, 0, 5, 2, 172, 42, 180, 0, 58, 27, 46, 156, 0, 6, 16, 245, 172, 28, 133, 9]
abbrev dktX2_set_0 : List UInt8 := dkwX2_set_0 ++ dktX2_set_1
theorem dksX2_set_0 : cX2_set.data.toList.drop 0 = dktX2_set_0 := by decide +kernel
theorem dksX2_set_1 : cX2_set.data.toList.drop 24 = dktX2_set_1 := dk_seg dksX2_set_0 24 rfl rfl
theorem dksX2_set_2 : cX2_set.data.toList.drop 48 = dktX2_set_2 := dk_seg dksX2_set_1 24 rfl rfl
theorem dX2_set_0 : decode cX2_set 0 = .ok (.iload_n 1, 1) := dk_27 (dk_at dksX2_set_0 0 rfl rfl)
theorem dX2_set_1 : decode cX2_set 1 = .ok (.invokestatic 322, 3) := dk_184 1 66 (dk_at dksX2_set_0 1 rfl rfl)
theorem dX2_set_4 : decode cX2_set 4 = .ok (.ifCond .ne 5, 3) := dk_154 0 5 (dk_at dksX2_set_0 4 rfl rfl)
theorem dX2_set_7 : decode cX2_set 7 = .ok (.iconst (-1), 1) := dk_2 (dk_at dksX2_set_0 7 rfl rfl)
theorem dX2_set_8 : decode cX2_set 8 = .ok (.ireturn, 1) := dk_172 (dk_at dksX2_set_0 8 rfl rfl)
theorem dX2_set_9 : decode cX2_set 9 = .ok (.aload_n 0, 1) := dk_42 (dk_at dksX2_set_0 9 rfl rfl)
theorem dX2_set_10 : decode cX2_set 10 = .ok (.getfield 58, 3) := dk_180 0 58 (dk_at dksX2_set_0 10 rfl rfl)
theorem dX2_set_13 : decode cX2_set 13 = .ok (.iload_n 1, 1) := dk_27 (dk_at dksX2_set_0 13 rfl rfl)
theorem dX2_set_14 : decode cX2_set 14 = .ok (.iaload, 1) := dk_46 (dk_at dksX2_set_0 14 rfl rfl)
theorem dX2_set_15 : decode cX2_set 15 = .ok (.ifCond .ge 6, 3) := dk_156 0 6 (dk_at dksX2_set_0 15 rfl rfl)
theorem dX2_set_18 : decode cX2_set 18 = .ok (.bipush (-11), 2) := dk_16 245 (dk_at dksX2_set_0 18 rfl rfl)
theorem dX2_set_20 : decode cX2_set 20 = .ok (.ireturn, 1) := dk_172 (dk_at dksX2_set_0 20 rfl rfl)
theorem dX2_set_21 : decode cX2_set 21 = .ok (.iload_n 2, 1) := dk_28 (dk_at dksX2_set_0 21 rfl rfl)
theorem dX2_set_22 : decode cX2_set 22 = .ok (.i2l, 1) := dk_133 (dk_at dksX2_set_0 22 rfl rfl)
theorem dX2_set_23 : decode cX2_set 23 = .ok (.lconst 0, 1) := dk_9 (dk_at dksX2_set_0 23 rfl rfl)
theorem dX2_set_24 : decode cX2_set 24 = .ok (.aload_n 0, 1) := dk_42 (dk_at dksX2_set_1 0 rfl rfl)
theorem dX2_set_25 : decode cX2_set 25 = .ok (.getfield 58, 3) := dk_180 0 58 (dk_at dksX2_set_1 1 rfl rfl)
theorem dX2_set_28 : decode cX2_set 28 = .ok (.iload_n 1, 1) := dk_27 (dk_at dksX2_set_1 4 rfl rfl)
theorem dX2_set_29 : decode cX2_set 29 = .ok (.iaload, 1) := dk_46 (dk_at dksX2_set_1 5 rfl rfl)
theorem dX2_set_30 : decode cX2_set 30 = .ok (.iconst 1, 1) := dk_4 (dk_at dksX2_set_1 6 rfl rfl)
theorem dX2_set_31 : decode cX2_set 31 = .ok (.isub, 1) := dk_100 (dk_at dksX2_set_1 7 rfl rfl)
theorem dX2_set_32 : decode cX2_set 32 = .ok (.i2l, 1) := dk_133 (dk_at dksX2_set_1 8 rfl rfl)
theorem dX2_set_33 : decode cX2_set 33 = .ok (.invokestatic 68, 3) := dk_184 0 68 (dk_at dksX2_set_1 9 rfl rfl)
theorem dX2_set_36 : decode cX2_set 36 = .ok (.ifCond .ne 6, 3) := dk_154 0 6 (dk_at dksX2_set_1 12 rfl rfl)
theorem dX2_set_39 : decode cX2_set 39 = .ok (.bipush (-13), 2) := dk_16 243 (dk_at dksX2_set_1 15 rfl rfl)
theorem dX2_set_41 : decode cX2_set 41 = .ok (.ireturn, 1) := dk_172 (dk_at dksX2_set_1 17 rfl rfl)
theorem dX2_set_42 : decode cX2_set 42 = .ok (.aload_n 0, 1) := dk_42 (dk_at dksX2_set_1 18 rfl rfl)
theorem dX2_set_43 : decode cX2_set 43 = .ok (.getfield 61, 3) := dk_180 0 61 (dk_at dksX2_set_1 19 rfl rfl)
theorem dX2_set_46 : decode cX2_set 46 = .ok (.bipush 16, 2) := dk_16 16 (dk_at dksX2_set_1 22 rfl rfl)
theorem dX2_set_48 : decode cX2_set 48 = .ok (.iload_n 1, 1) := dk_27 (dk_at dksX2_set_2 0 rfl rfl)
theorem dX2_set_49 : decode cX2_set 49 = .ok (.imul, 1) := dk_104 (dk_at dksX2_set_2 1 rfl rfl)
theorem dX2_set_50 : decode cX2_set 50 = .ok (.iload_n 2, 1) := dk_28 (dk_at dksX2_set_2 2 rfl rfl)
theorem dX2_set_51 : decode cX2_set 51 = .ok (.iadd, 1) := dk_96 (dk_at dksX2_set_2 3 rfl rfl)
theorem dX2_set_52 : decode cX2_set 52 = .ok (.lload_n 3, 1) := dk_33 (dk_at dksX2_set_2 4 rfl rfl)
theorem dX2_set_53 : decode cX2_set 53 = .ok (.lastore, 1) := dk_80 (dk_at dksX2_set_2 5 rfl rfl)
theorem dX2_set_54 : decode cX2_set 54 = .ok (.iconst 1, 1) := dk_4 (dk_at dksX2_set_2 6 rfl rfl)
theorem dX2_set_55 : decode cX2_set 55 = .ok (.ireturn, 1) := dk_172 (dk_at dksX2_set_2 7 rfl rfl)
abbrev cX2_get : ByteArray := prog_6_method_91_code
def yX2_get : MethodName := ⟨RX2, "get", "(II)J"⟩
def dkwX2_get_1 : List UInt8 := [153, 0, 17, 42, 180, 0, 61, 16, 16, 27, 104, 28, 96, 47, 167, 0, 6, 20, 0, 203, 173]
abbrev dktX2_get_1 : List UInt8 := dkwX2_get_1 ++ []
def dkwX2_get_0 : List UInt8 := [27, 184, 1, 66, 153, 0, 35, 28, 133, 9, 42, 180, 0, 58, 27, 46, 4, 100, 133, 184, 0, 68]
abbrev dktX2_get_0 : List UInt8 := dkwX2_get_0 ++ dktX2_get_1
theorem dksX2_get_0 : cX2_get.data.toList.drop 0 = dktX2_get_0 := by decide +kernel
theorem dksX2_get_1 : cX2_get.data.toList.drop 22 = dktX2_get_1 := dk_seg dksX2_get_0 22 rfl rfl
theorem dX2_get_0 : decode cX2_get 0 = .ok (.iload_n 1, 1) := dk_27 (dk_at dksX2_get_0 0 rfl rfl)
theorem dX2_get_1 : decode cX2_get 1 = .ok (.invokestatic 322, 3) := dk_184 1 66 (dk_at dksX2_get_0 1 rfl rfl)
theorem dX2_get_4 : decode cX2_get 4 = .ok (.ifCond .eq 35, 3) := dk_153 0 35 (dk_at dksX2_get_0 4 rfl rfl)
theorem dX2_get_7 : decode cX2_get 7 = .ok (.iload_n 2, 1) := dk_28 (dk_at dksX2_get_0 7 rfl rfl)
theorem dX2_get_8 : decode cX2_get 8 = .ok (.i2l, 1) := dk_133 (dk_at dksX2_get_0 8 rfl rfl)
theorem dX2_get_9 : decode cX2_get 9 = .ok (.lconst 0, 1) := dk_9 (dk_at dksX2_get_0 9 rfl rfl)
theorem dX2_get_10 : decode cX2_get 10 = .ok (.aload_n 0, 1) := dk_42 (dk_at dksX2_get_0 10 rfl rfl)
theorem dX2_get_11 : decode cX2_get 11 = .ok (.getfield 58, 3) := dk_180 0 58 (dk_at dksX2_get_0 11 rfl rfl)
theorem dX2_get_14 : decode cX2_get 14 = .ok (.iload_n 1, 1) := dk_27 (dk_at dksX2_get_0 14 rfl rfl)
theorem dX2_get_15 : decode cX2_get 15 = .ok (.iaload, 1) := dk_46 (dk_at dksX2_get_0 15 rfl rfl)
theorem dX2_get_16 : decode cX2_get 16 = .ok (.iconst 1, 1) := dk_4 (dk_at dksX2_get_0 16 rfl rfl)
theorem dX2_get_17 : decode cX2_get 17 = .ok (.isub, 1) := dk_100 (dk_at dksX2_get_0 17 rfl rfl)
theorem dX2_get_18 : decode cX2_get 18 = .ok (.i2l, 1) := dk_133 (dk_at dksX2_get_0 18 rfl rfl)
theorem dX2_get_19 : decode cX2_get 19 = .ok (.invokestatic 68, 3) := dk_184 0 68 (dk_at dksX2_get_0 19 rfl rfl)
theorem dX2_get_22 : decode cX2_get 22 = .ok (.ifCond .eq 17, 3) := dk_153 0 17 (dk_at dksX2_get_1 0 rfl rfl)
theorem dX2_get_25 : decode cX2_get 25 = .ok (.aload_n 0, 1) := dk_42 (dk_at dksX2_get_1 3 rfl rfl)
theorem dX2_get_26 : decode cX2_get 26 = .ok (.getfield 61, 3) := dk_180 0 61 (dk_at dksX2_get_1 4 rfl rfl)
theorem dX2_get_29 : decode cX2_get 29 = .ok (.bipush 16, 2) := dk_16 16 (dk_at dksX2_get_1 7 rfl rfl)
theorem dX2_get_31 : decode cX2_get 31 = .ok (.iload_n 1, 1) := dk_27 (dk_at dksX2_get_1 9 rfl rfl)
theorem dX2_get_32 : decode cX2_get 32 = .ok (.imul, 1) := dk_104 (dk_at dksX2_get_1 10 rfl rfl)
theorem dX2_get_33 : decode cX2_get 33 = .ok (.iload_n 2, 1) := dk_28 (dk_at dksX2_get_1 11 rfl rfl)
theorem dX2_get_34 : decode cX2_get 34 = .ok (.iadd, 1) := dk_96 (dk_at dksX2_get_1 12 rfl rfl)
theorem dX2_get_35 : decode cX2_get 35 = .ok (.laload, 1) := dk_47 (dk_at dksX2_get_1 13 rfl rfl)
theorem dX2_get_36 : decode cX2_get 36 = .ok (.goto 6, 3) := dk_167 0 6 (dk_at dksX2_get_1 14 rfl rfl)
theorem dX2_get_39 : decode cX2_get 39 = .ok (.ldc2_w 203, 3) := dk_20 0 203 (dk_at dksX2_get_1 17 rfl rfl)
theorem dX2_get_42 : decode cX2_get 42 = .ok (.lreturn, 1) := dk_173 (dk_at dksX2_get_1 20 rfl rfl)
abbrev cX2_into : ByteArray := prog_6_method_92_code
def yX2_into : MethodName := ⟨RX2, "into", "(IIII)I"⟩
def dkwX2_into_6 : List UInt8 := [21, 5, 182, 0, 74, 80, 132, 5, 1, 167, 255, 170, 21, 5, 172]
abbrev dktX2_into_6 : List UInt8 := dkwX2_into_6 ++ []
def dkwX2_into_5 : List UInt8 := [16, 9, 27, 104, 21, 5, 96, 47, 167, 0, 20, 42, 28, 4, 160, 0, 8, 16, 6, 167, 0, 4, 27]
abbrev dktX2_into_5 : List UInt8 := dkwX2_into_5 ++ dktX2_into_6
def dkwX2_into_4 : List UInt8 := [42, 180, 0, 61, 16, 16, 29, 104, 21, 4, 96, 21, 5, 96, 28, 5, 160, 0, 18, 42, 180, 0, 15]
abbrev dktX2_into_4 : List UInt8 := dkwX2_into_4 ++ dktX2_into_5
def dkwX2_into_3 : List UInt8 := [16, 9, 167, 0, 5, 16, 6, 162, 0, 75, 21, 4, 42, 180, 0, 58, 29, 46, 21, 5, 100, 162, 0, 61]
abbrev dktX2_into_3 : List UInt8 := dkwX2_into_3 ++ dktX2_into_4
def dkwX2_into_2 : List UInt8 := [172, 28, 4, 160, 0, 11, 42, 27, 16, 6, 182, 0, 207, 87, 3, 54, 5, 21, 5, 28, 5, 160, 0, 8]
abbrev dktX2_into_2 : List UInt8 := dkwX2_into_2 ++ dktX2_into_3
def dkwX2_into_1 : List UInt8 := [154, 0, 5, 2, 172, 42, 180, 0, 58, 29, 46, 156, 0, 6, 16, 245, 172, 21, 4, 156, 0, 6, 16, 243]
abbrev dktX2_into_1 : List UInt8 := dkwX2_into_1 ++ dktX2_into_2
def dkwX2_into_0 : List UInt8 := [42, 27, 182, 0, 188, 153, 0, 22, 29, 184, 1, 66, 153, 0, 15, 28, 133, 9, 20, 0, 72, 184, 0, 68]
abbrev dktX2_into_0 : List UInt8 := dkwX2_into_0 ++ dktX2_into_1
theorem dksX2_into_0 : cX2_into.data.toList.drop 0 = dktX2_into_0 := by decide +kernel
theorem dksX2_into_1 : cX2_into.data.toList.drop 24 = dktX2_into_1 := dk_seg dksX2_into_0 24 rfl rfl
theorem dksX2_into_2 : cX2_into.data.toList.drop 48 = dktX2_into_2 := dk_seg dksX2_into_1 24 rfl rfl
theorem dksX2_into_3 : cX2_into.data.toList.drop 72 = dktX2_into_3 := dk_seg dksX2_into_2 24 rfl rfl
theorem dksX2_into_4 : cX2_into.data.toList.drop 96 = dktX2_into_4 := dk_seg dksX2_into_3 24 rfl rfl
theorem dksX2_into_5 : cX2_into.data.toList.drop 119 = dktX2_into_5 := dk_seg dksX2_into_4 23 rfl rfl
theorem dksX2_into_6 : cX2_into.data.toList.drop 142 = dktX2_into_6 := dk_seg dksX2_into_5 23 rfl rfl
theorem dX2_into_0 : decode cX2_into 0 = .ok (.aload_n 0, 1) := dk_42 (dk_at dksX2_into_0 0 rfl rfl)
theorem dX2_into_1 : decode cX2_into 1 = .ok (.iload_n 1, 1) := dk_27 (dk_at dksX2_into_0 1 rfl rfl)
theorem dX2_into_2 : decode cX2_into 2 = .ok (.invokevirtual 188, 3) := dk_182 0 188 (dk_at dksX2_into_0 2 rfl rfl)
theorem dX2_into_5 : decode cX2_into 5 = .ok (.ifCond .eq 22, 3) := dk_153 0 22 (dk_at dksX2_into_0 5 rfl rfl)
theorem dX2_into_8 : decode cX2_into 8 = .ok (.iload_n 3, 1) := dk_29 (dk_at dksX2_into_0 8 rfl rfl)
theorem dX2_into_9 : decode cX2_into 9 = .ok (.invokestatic 322, 3) := dk_184 1 66 (dk_at dksX2_into_0 9 rfl rfl)
theorem dX2_into_12 : decode cX2_into 12 = .ok (.ifCond .eq 15, 3) := dk_153 0 15 (dk_at dksX2_into_0 12 rfl rfl)
theorem dX2_into_15 : decode cX2_into 15 = .ok (.iload_n 2, 1) := dk_28 (dk_at dksX2_into_0 15 rfl rfl)
theorem dX2_into_16 : decode cX2_into 16 = .ok (.i2l, 1) := dk_133 (dk_at dksX2_into_0 16 rfl rfl)
theorem dX2_into_17 : decode cX2_into 17 = .ok (.lconst 0, 1) := dk_9 (dk_at dksX2_into_0 17 rfl rfl)
theorem dX2_into_18 : decode cX2_into 18 = .ok (.ldc2_w 72, 3) := dk_20 0 72 (dk_at dksX2_into_0 18 rfl rfl)
theorem dX2_into_21 : decode cX2_into 21 = .ok (.invokestatic 68, 3) := dk_184 0 68 (dk_at dksX2_into_0 21 rfl rfl)
theorem dX2_into_24 : decode cX2_into 24 = .ok (.ifCond .ne 5, 3) := dk_154 0 5 (dk_at dksX2_into_1 0 rfl rfl)
theorem dX2_into_27 : decode cX2_into 27 = .ok (.iconst (-1), 1) := dk_2 (dk_at dksX2_into_1 3 rfl rfl)
theorem dX2_into_28 : decode cX2_into 28 = .ok (.ireturn, 1) := dk_172 (dk_at dksX2_into_1 4 rfl rfl)
theorem dX2_into_29 : decode cX2_into 29 = .ok (.aload_n 0, 1) := dk_42 (dk_at dksX2_into_1 5 rfl rfl)
theorem dX2_into_30 : decode cX2_into 30 = .ok (.getfield 58, 3) := dk_180 0 58 (dk_at dksX2_into_1 6 rfl rfl)
theorem dX2_into_33 : decode cX2_into 33 = .ok (.iload_n 3, 1) := dk_29 (dk_at dksX2_into_1 9 rfl rfl)
theorem dX2_into_34 : decode cX2_into 34 = .ok (.iaload, 1) := dk_46 (dk_at dksX2_into_1 10 rfl rfl)
theorem dX2_into_35 : decode cX2_into 35 = .ok (.ifCond .ge 6, 3) := dk_156 0 6 (dk_at dksX2_into_1 11 rfl rfl)
theorem dX2_into_38 : decode cX2_into 38 = .ok (.bipush (-11), 2) := dk_16 245 (dk_at dksX2_into_1 14 rfl rfl)
theorem dX2_into_40 : decode cX2_into 40 = .ok (.ireturn, 1) := dk_172 (dk_at dksX2_into_1 16 rfl rfl)
theorem dX2_into_41 : decode cX2_into 41 = .ok (.iload 4, 2) := dk_21 4 (dk_at dksX2_into_1 17 rfl rfl)
theorem dX2_into_43 : decode cX2_into 43 = .ok (.ifCond .ge 6, 3) := dk_156 0 6 (dk_at dksX2_into_1 19 rfl rfl)
theorem dX2_into_46 : decode cX2_into 46 = .ok (.bipush (-13), 2) := dk_16 243 (dk_at dksX2_into_1 22 rfl rfl)
theorem dX2_into_48 : decode cX2_into 48 = .ok (.ireturn, 1) := dk_172 (dk_at dksX2_into_2 0 rfl rfl)
theorem dX2_into_49 : decode cX2_into 49 = .ok (.iload_n 2, 1) := dk_28 (dk_at dksX2_into_2 1 rfl rfl)
theorem dX2_into_50 : decode cX2_into 50 = .ok (.iconst 1, 1) := dk_4 (dk_at dksX2_into_2 2 rfl rfl)
theorem dX2_into_51 : decode cX2_into 51 = .ok (.if_icmp .ne 11, 3) := dk_160 0 11 (dk_at dksX2_into_2 3 rfl rfl)
theorem dX2_into_54 : decode cX2_into 54 = .ok (.aload_n 0, 1) := dk_42 (dk_at dksX2_into_2 6 rfl rfl)
theorem dX2_into_55 : decode cX2_into 55 = .ok (.iload_n 1, 1) := dk_27 (dk_at dksX2_into_2 7 rfl rfl)
theorem dX2_into_56 : decode cX2_into 56 = .ok (.bipush 6, 2) := dk_16 6 (dk_at dksX2_into_2 8 rfl rfl)
theorem dX2_into_58 : decode cX2_into 58 = .ok (.invokevirtual 207, 3) := dk_182 0 207 (dk_at dksX2_into_2 10 rfl rfl)
theorem dX2_into_61 : decode cX2_into 61 = .ok (.pop, 1) := dk_87 (dk_at dksX2_into_2 13 rfl rfl)
theorem dX2_into_62 : decode cX2_into 62 = .ok (.iconst 0, 1) := dk_3 (dk_at dksX2_into_2 14 rfl rfl)
theorem dX2_into_63 : decode cX2_into 63 = .ok (.istore 5, 2) := dk_54 5 (dk_at dksX2_into_2 15 rfl rfl)
theorem dX2_into_65 : decode cX2_into 65 = .ok (.iload 5, 2) := dk_21 5 (dk_at dksX2_into_2 17 rfl rfl)
theorem dX2_into_67 : decode cX2_into 67 = .ok (.iload_n 2, 1) := dk_28 (dk_at dksX2_into_2 19 rfl rfl)
theorem dX2_into_68 : decode cX2_into 68 = .ok (.iconst 2, 1) := dk_5 (dk_at dksX2_into_2 20 rfl rfl)
theorem dX2_into_69 : decode cX2_into 69 = .ok (.if_icmp .ne 8, 3) := dk_160 0 8 (dk_at dksX2_into_2 21 rfl rfl)
theorem dX2_into_72 : decode cX2_into 72 = .ok (.bipush 9, 2) := dk_16 9 (dk_at dksX2_into_3 0 rfl rfl)
theorem dX2_into_74 : decode cX2_into 74 = .ok (.goto 5, 3) := dk_167 0 5 (dk_at dksX2_into_3 2 rfl rfl)
theorem dX2_into_77 : decode cX2_into 77 = .ok (.bipush 6, 2) := dk_16 6 (dk_at dksX2_into_3 5 rfl rfl)
theorem dX2_into_79 : decode cX2_into 79 = .ok (.if_icmp .ge 75, 3) := dk_162 0 75 (dk_at dksX2_into_3 7 rfl rfl)
theorem dX2_into_82 : decode cX2_into 82 = .ok (.iload 4, 2) := dk_21 4 (dk_at dksX2_into_3 10 rfl rfl)
theorem dX2_into_84 : decode cX2_into 84 = .ok (.aload_n 0, 1) := dk_42 (dk_at dksX2_into_3 12 rfl rfl)
theorem dX2_into_85 : decode cX2_into 85 = .ok (.getfield 58, 3) := dk_180 0 58 (dk_at dksX2_into_3 13 rfl rfl)
theorem dX2_into_88 : decode cX2_into 88 = .ok (.iload_n 3, 1) := dk_29 (dk_at dksX2_into_3 16 rfl rfl)
theorem dX2_into_89 : decode cX2_into 89 = .ok (.iaload, 1) := dk_46 (dk_at dksX2_into_3 17 rfl rfl)
theorem dX2_into_90 : decode cX2_into 90 = .ok (.iload 5, 2) := dk_21 5 (dk_at dksX2_into_3 18 rfl rfl)
theorem dX2_into_92 : decode cX2_into 92 = .ok (.isub, 1) := dk_100 (dk_at dksX2_into_3 20 rfl rfl)
theorem dX2_into_93 : decode cX2_into 93 = .ok (.if_icmp .ge 61, 3) := dk_162 0 61 (dk_at dksX2_into_3 21 rfl rfl)
theorem dX2_into_96 : decode cX2_into 96 = .ok (.aload_n 0, 1) := dk_42 (dk_at dksX2_into_4 0 rfl rfl)
theorem dX2_into_97 : decode cX2_into 97 = .ok (.getfield 61, 3) := dk_180 0 61 (dk_at dksX2_into_4 1 rfl rfl)
theorem dX2_into_100 : decode cX2_into 100 = .ok (.bipush 16, 2) := dk_16 16 (dk_at dksX2_into_4 4 rfl rfl)
theorem dX2_into_102 : decode cX2_into 102 = .ok (.iload_n 3, 1) := dk_29 (dk_at dksX2_into_4 6 rfl rfl)
theorem dX2_into_103 : decode cX2_into 103 = .ok (.imul, 1) := dk_104 (dk_at dksX2_into_4 7 rfl rfl)
theorem dX2_into_104 : decode cX2_into 104 = .ok (.iload 4, 2) := dk_21 4 (dk_at dksX2_into_4 8 rfl rfl)
theorem dX2_into_106 : decode cX2_into 106 = .ok (.iadd, 1) := dk_96 (dk_at dksX2_into_4 10 rfl rfl)
theorem dX2_into_107 : decode cX2_into 107 = .ok (.iload 5, 2) := dk_21 5 (dk_at dksX2_into_4 11 rfl rfl)
theorem dX2_into_109 : decode cX2_into 109 = .ok (.iadd, 1) := dk_96 (dk_at dksX2_into_4 13 rfl rfl)
theorem dX2_into_110 : decode cX2_into 110 = .ok (.iload_n 2, 1) := dk_28 (dk_at dksX2_into_4 14 rfl rfl)
theorem dX2_into_111 : decode cX2_into 111 = .ok (.iconst 2, 1) := dk_5 (dk_at dksX2_into_4 15 rfl rfl)
theorem dX2_into_112 : decode cX2_into 112 = .ok (.if_icmp .ne 18, 3) := dk_160 0 18 (dk_at dksX2_into_4 16 rfl rfl)
theorem dX2_into_115 : decode cX2_into 115 = .ok (.aload_n 0, 1) := dk_42 (dk_at dksX2_into_4 19 rfl rfl)
theorem dX2_into_116 : decode cX2_into 116 = .ok (.getfield 15, 3) := dk_180 0 15 (dk_at dksX2_into_4 20 rfl rfl)
theorem dX2_into_119 : decode cX2_into 119 = .ok (.bipush 9, 2) := dk_16 9 (dk_at dksX2_into_5 0 rfl rfl)
theorem dX2_into_121 : decode cX2_into 121 = .ok (.iload_n 1, 1) := dk_27 (dk_at dksX2_into_5 2 rfl rfl)
theorem dX2_into_122 : decode cX2_into 122 = .ok (.imul, 1) := dk_104 (dk_at dksX2_into_5 3 rfl rfl)
theorem dX2_into_123 : decode cX2_into 123 = .ok (.iload 5, 2) := dk_21 5 (dk_at dksX2_into_5 4 rfl rfl)
theorem dX2_into_125 : decode cX2_into 125 = .ok (.iadd, 1) := dk_96 (dk_at dksX2_into_5 6 rfl rfl)
theorem dX2_into_126 : decode cX2_into 126 = .ok (.laload, 1) := dk_47 (dk_at dksX2_into_5 7 rfl rfl)
theorem dX2_into_127 : decode cX2_into 127 = .ok (.goto 20, 3) := dk_167 0 20 (dk_at dksX2_into_5 8 rfl rfl)
theorem dX2_into_130 : decode cX2_into 130 = .ok (.aload_n 0, 1) := dk_42 (dk_at dksX2_into_5 11 rfl rfl)
theorem dX2_into_131 : decode cX2_into 131 = .ok (.iload_n 2, 1) := dk_28 (dk_at dksX2_into_5 12 rfl rfl)
theorem dX2_into_132 : decode cX2_into 132 = .ok (.iconst 1, 1) := dk_4 (dk_at dksX2_into_5 13 rfl rfl)
theorem dX2_into_133 : decode cX2_into 133 = .ok (.if_icmp .ne 8, 3) := dk_160 0 8 (dk_at dksX2_into_5 14 rfl rfl)
theorem dX2_into_136 : decode cX2_into 136 = .ok (.bipush 6, 2) := dk_16 6 (dk_at dksX2_into_5 17 rfl rfl)
theorem dX2_into_138 : decode cX2_into 138 = .ok (.goto 4, 3) := dk_167 0 4 (dk_at dksX2_into_5 19 rfl rfl)
theorem dX2_into_141 : decode cX2_into 141 = .ok (.iload_n 1, 1) := dk_27 (dk_at dksX2_into_5 22 rfl rfl)
theorem dX2_into_142 : decode cX2_into 142 = .ok (.iload 5, 2) := dk_21 5 (dk_at dksX2_into_6 0 rfl rfl)
theorem dX2_into_144 : decode cX2_into 144 = .ok (.invokevirtual 74, 3) := dk_182 0 74 (dk_at dksX2_into_6 2 rfl rfl)
theorem dX2_into_147 : decode cX2_into 147 = .ok (.lastore, 1) := dk_80 (dk_at dksX2_into_6 5 rfl rfl)
theorem dX2_into_148 : decode cX2_into 148 = .ok (.iinc 5 1, 3) := dk_132 5 1 (dk_at dksX2_into_6 6 rfl rfl)
theorem dX2_into_151 : decode cX2_into 151 = .ok (.goto (-86), 3) := dk_167 255 170 (dk_at dksX2_into_6 9 rfl rfl)
theorem dX2_into_154 : decode cX2_into 154 = .ok (.iload 5, 2) := dk_21 5 (dk_at dksX2_into_6 12 rfl rfl)
theorem dX2_into_156 : decode cX2_into 156 = .ok (.ireturn, 1) := dk_172 (dk_at dksX2_into_6 14 rfl rfl)
abbrev cX2_from : ByteArray := prog_6_method_93_code
def yX2_from : MethodName := ⟨RX2, "from", "(II)I"⟩
def dkwX2_from_3 : List UInt8 := [80, 132, 3, 1, 167, 255, 225, 42, 182, 0, 174, 172]
abbrev dktX2_from_3 : List UInt8 := dkwX2_from_3 ++ []
def dkwX2_from_2 : List UInt8 := [162, 0, 31, 42, 180, 0, 11, 16, 36, 29, 96, 42, 180, 0, 61, 16, 16, 27, 104, 28, 96, 29, 96, 47]
abbrev dktX2_from_2 : List UInt8 := dkwX2_from_2 ++ dktX2_from_3
def dkwX2_from_1 : List UInt8 := [155, 0, 16, 28, 42, 180, 0, 58, 27, 46, 16, 6, 100, 164, 0, 6, 16, 243, 172, 3, 62, 29, 16, 6]
abbrev dktX2_from_1 : List UInt8 := dkwX2_from_1 ++ dktX2_from_2
def dkwX2_from_0 : List UInt8 := [27, 184, 1, 66, 154, 0, 5, 2, 172, 42, 180, 0, 58, 27, 46, 156, 0, 6, 16, 245, 172, 28]
abbrev dktX2_from_0 : List UInt8 := dkwX2_from_0 ++ dktX2_from_1
theorem dksX2_from_0 : cX2_from.data.toList.drop 0 = dktX2_from_0 := by decide +kernel
theorem dksX2_from_1 : cX2_from.data.toList.drop 22 = dktX2_from_1 := dk_seg dksX2_from_0 22 rfl rfl
theorem dksX2_from_2 : cX2_from.data.toList.drop 46 = dktX2_from_2 := dk_seg dksX2_from_1 24 rfl rfl
theorem dksX2_from_3 : cX2_from.data.toList.drop 70 = dktX2_from_3 := dk_seg dksX2_from_2 24 rfl rfl
theorem dX2_from_0 : decode cX2_from 0 = .ok (.iload_n 1, 1) := dk_27 (dk_at dksX2_from_0 0 rfl rfl)
theorem dX2_from_1 : decode cX2_from 1 = .ok (.invokestatic 322, 3) := dk_184 1 66 (dk_at dksX2_from_0 1 rfl rfl)
theorem dX2_from_4 : decode cX2_from 4 = .ok (.ifCond .ne 5, 3) := dk_154 0 5 (dk_at dksX2_from_0 4 rfl rfl)
theorem dX2_from_7 : decode cX2_from 7 = .ok (.iconst (-1), 1) := dk_2 (dk_at dksX2_from_0 7 rfl rfl)
theorem dX2_from_8 : decode cX2_from 8 = .ok (.ireturn, 1) := dk_172 (dk_at dksX2_from_0 8 rfl rfl)
theorem dX2_from_9 : decode cX2_from 9 = .ok (.aload_n 0, 1) := dk_42 (dk_at dksX2_from_0 9 rfl rfl)
theorem dX2_from_10 : decode cX2_from 10 = .ok (.getfield 58, 3) := dk_180 0 58 (dk_at dksX2_from_0 10 rfl rfl)
theorem dX2_from_13 : decode cX2_from 13 = .ok (.iload_n 1, 1) := dk_27 (dk_at dksX2_from_0 13 rfl rfl)
theorem dX2_from_14 : decode cX2_from 14 = .ok (.iaload, 1) := dk_46 (dk_at dksX2_from_0 14 rfl rfl)
theorem dX2_from_15 : decode cX2_from 15 = .ok (.ifCond .ge 6, 3) := dk_156 0 6 (dk_at dksX2_from_0 15 rfl rfl)
theorem dX2_from_18 : decode cX2_from 18 = .ok (.bipush (-11), 2) := dk_16 245 (dk_at dksX2_from_0 18 rfl rfl)
theorem dX2_from_20 : decode cX2_from 20 = .ok (.ireturn, 1) := dk_172 (dk_at dksX2_from_0 20 rfl rfl)
theorem dX2_from_21 : decode cX2_from 21 = .ok (.iload_n 2, 1) := dk_28 (dk_at dksX2_from_0 21 rfl rfl)
theorem dX2_from_22 : decode cX2_from 22 = .ok (.ifCond .lt 16, 3) := dk_155 0 16 (dk_at dksX2_from_1 0 rfl rfl)
theorem dX2_from_25 : decode cX2_from 25 = .ok (.iload_n 2, 1) := dk_28 (dk_at dksX2_from_1 3 rfl rfl)
theorem dX2_from_26 : decode cX2_from 26 = .ok (.aload_n 0, 1) := dk_42 (dk_at dksX2_from_1 4 rfl rfl)
theorem dX2_from_27 : decode cX2_from 27 = .ok (.getfield 58, 3) := dk_180 0 58 (dk_at dksX2_from_1 5 rfl rfl)
theorem dX2_from_30 : decode cX2_from 30 = .ok (.iload_n 1, 1) := dk_27 (dk_at dksX2_from_1 8 rfl rfl)
theorem dX2_from_31 : decode cX2_from 31 = .ok (.iaload, 1) := dk_46 (dk_at dksX2_from_1 9 rfl rfl)
theorem dX2_from_32 : decode cX2_from 32 = .ok (.bipush 6, 2) := dk_16 6 (dk_at dksX2_from_1 10 rfl rfl)
theorem dX2_from_34 : decode cX2_from 34 = .ok (.isub, 1) := dk_100 (dk_at dksX2_from_1 12 rfl rfl)
theorem dX2_from_35 : decode cX2_from 35 = .ok (.if_icmp .le 6, 3) := dk_164 0 6 (dk_at dksX2_from_1 13 rfl rfl)
theorem dX2_from_38 : decode cX2_from 38 = .ok (.bipush (-13), 2) := dk_16 243 (dk_at dksX2_from_1 16 rfl rfl)
theorem dX2_from_40 : decode cX2_from 40 = .ok (.ireturn, 1) := dk_172 (dk_at dksX2_from_1 18 rfl rfl)
theorem dX2_from_41 : decode cX2_from 41 = .ok (.iconst 0, 1) := dk_3 (dk_at dksX2_from_1 19 rfl rfl)
theorem dX2_from_42 : decode cX2_from 42 = .ok (.istore_n 3, 1) := dk_62 (dk_at dksX2_from_1 20 rfl rfl)
theorem dX2_from_43 : decode cX2_from 43 = .ok (.iload_n 3, 1) := dk_29 (dk_at dksX2_from_1 21 rfl rfl)
theorem dX2_from_44 : decode cX2_from 44 = .ok (.bipush 6, 2) := dk_16 6 (dk_at dksX2_from_1 22 rfl rfl)
theorem dX2_from_46 : decode cX2_from 46 = .ok (.if_icmp .ge 31, 3) := dk_162 0 31 (dk_at dksX2_from_2 0 rfl rfl)
theorem dX2_from_49 : decode cX2_from 49 = .ok (.aload_n 0, 1) := dk_42 (dk_at dksX2_from_2 3 rfl rfl)
theorem dX2_from_50 : decode cX2_from 50 = .ok (.getfield 11, 3) := dk_180 0 11 (dk_at dksX2_from_2 4 rfl rfl)
theorem dX2_from_53 : decode cX2_from 53 = .ok (.bipush 36, 2) := dk_16 36 (dk_at dksX2_from_2 7 rfl rfl)
theorem dX2_from_55 : decode cX2_from 55 = .ok (.iload_n 3, 1) := dk_29 (dk_at dksX2_from_2 9 rfl rfl)
theorem dX2_from_56 : decode cX2_from 56 = .ok (.iadd, 1) := dk_96 (dk_at dksX2_from_2 10 rfl rfl)
theorem dX2_from_57 : decode cX2_from 57 = .ok (.aload_n 0, 1) := dk_42 (dk_at dksX2_from_2 11 rfl rfl)
theorem dX2_from_58 : decode cX2_from 58 = .ok (.getfield 61, 3) := dk_180 0 61 (dk_at dksX2_from_2 12 rfl rfl)
theorem dX2_from_61 : decode cX2_from 61 = .ok (.bipush 16, 2) := dk_16 16 (dk_at dksX2_from_2 15 rfl rfl)
theorem dX2_from_63 : decode cX2_from 63 = .ok (.iload_n 1, 1) := dk_27 (dk_at dksX2_from_2 17 rfl rfl)
theorem dX2_from_64 : decode cX2_from 64 = .ok (.imul, 1) := dk_104 (dk_at dksX2_from_2 18 rfl rfl)
theorem dX2_from_65 : decode cX2_from 65 = .ok (.iload_n 2, 1) := dk_28 (dk_at dksX2_from_2 19 rfl rfl)
theorem dX2_from_66 : decode cX2_from 66 = .ok (.iadd, 1) := dk_96 (dk_at dksX2_from_2 20 rfl rfl)
theorem dX2_from_67 : decode cX2_from 67 = .ok (.iload_n 3, 1) := dk_29 (dk_at dksX2_from_2 21 rfl rfl)
theorem dX2_from_68 : decode cX2_from 68 = .ok (.iadd, 1) := dk_96 (dk_at dksX2_from_2 22 rfl rfl)
theorem dX2_from_69 : decode cX2_from 69 = .ok (.laload, 1) := dk_47 (dk_at dksX2_from_2 23 rfl rfl)
theorem dX2_from_70 : decode cX2_from 70 = .ok (.lastore, 1) := dk_80 (dk_at dksX2_from_3 0 rfl rfl)
theorem dX2_from_71 : decode cX2_from 71 = .ok (.iinc 3 1, 3) := dk_132 3 1 (dk_at dksX2_from_3 1 rfl rfl)
theorem dX2_from_74 : decode cX2_from 74 = .ok (.goto (-31), 3) := dk_167 255 225 (dk_at dksX2_from_3 4 rfl rfl)
theorem dX2_from_77 : decode cX2_from 77 = .ok (.aload_n 0, 1) := dk_42 (dk_at dksX2_from_3 7 rfl rfl)
theorem dX2_from_78 : decode cX2_from 78 = .ok (.invokevirtual 174, 3) := dk_182 0 174 (dk_at dksX2_from_3 8 rfl rfl)
theorem dX2_from_81 : decode cX2_from 81 = .ok (.ireturn, 1) := dk_172 (dk_at dksX2_from_3 11 rfl rfl)
abbrev cX2_image : ByteArray := prog_6_method_94_code
def yX2_image : MethodName := ⟨RX2, "image", "()I"⟩
def dkwX2_image_4 : List UInt8 := [180, 0, 64, 172]
abbrev dktX2_image_4 : List UInt8 := dkwX2_image_4 ++ []
def dkwX2_image_3 : List UInt8 := [162, 0, 21, 42, 180, 0, 22, 27, 42, 180, 0, 18, 27, 46, 79, 132, 1, 1, 167, 255, 235, 42]
abbrev dktX2_image_3 : List UInt8 := dkwX2_image_3 ++ dktX2_image_4
def dkwX2_image_2 : List UInt8 := [180, 0, 28, 27, 42, 180, 0, 25, 27, 46, 79, 132, 1, 1, 167, 255, 226, 3, 60, 27, 16, 30]
abbrev dktX2_image_2 : List UInt8 := dkwX2_image_2 ++ dktX2_image_3
def dkwX2_image_1 : List UInt8 := [180, 0, 178, 181, 1, 78, 3, 60, 27, 16, 6, 162, 0, 30, 42, 27, 16, 8, 27, 96, 182, 0, 145, 42]
abbrev dktX2_image_1 : List UInt8 := dkwX2_image_1 ++ dktX2_image_2
def dkwX2_image_0 : List UInt8 := [42, 4, 181, 1, 69, 42, 42, 180, 0, 64, 181, 1, 72, 42, 42, 180, 0, 160, 181, 1, 75, 42, 42]
abbrev dktX2_image_0 : List UInt8 := dkwX2_image_0 ++ dktX2_image_1
theorem dksX2_image_0 : cX2_image.data.toList.drop 0 = dktX2_image_0 := by decide +kernel
theorem dksX2_image_1 : cX2_image.data.toList.drop 23 = dktX2_image_1 := dk_seg dksX2_image_0 23 rfl rfl
theorem dksX2_image_2 : cX2_image.data.toList.drop 47 = dktX2_image_2 := dk_seg dksX2_image_1 24 rfl rfl
theorem dksX2_image_3 : cX2_image.data.toList.drop 69 = dktX2_image_3 := dk_seg dksX2_image_2 22 rfl rfl
theorem dksX2_image_4 : cX2_image.data.toList.drop 91 = dktX2_image_4 := dk_seg dksX2_image_3 22 rfl rfl
theorem dX2_image_0 : decode cX2_image 0 = .ok (.aload_n 0, 1) := dk_42 (dk_at dksX2_image_0 0 rfl rfl)
theorem dX2_image_1 : decode cX2_image 1 = .ok (.iconst 1, 1) := dk_4 (dk_at dksX2_image_0 1 rfl rfl)
theorem dX2_image_2 : decode cX2_image 2 = .ok (.putfield 325, 3) := dk_181 1 69 (dk_at dksX2_image_0 2 rfl rfl)
theorem dX2_image_5 : decode cX2_image 5 = .ok (.aload_n 0, 1) := dk_42 (dk_at dksX2_image_0 5 rfl rfl)
theorem dX2_image_6 : decode cX2_image 6 = .ok (.aload_n 0, 1) := dk_42 (dk_at dksX2_image_0 6 rfl rfl)
theorem dX2_image_7 : decode cX2_image 7 = .ok (.getfield 64, 3) := dk_180 0 64 (dk_at dksX2_image_0 7 rfl rfl)
theorem dX2_image_10 : decode cX2_image 10 = .ok (.putfield 328, 3) := dk_181 1 72 (dk_at dksX2_image_0 10 rfl rfl)
theorem dX2_image_13 : decode cX2_image 13 = .ok (.aload_n 0, 1) := dk_42 (dk_at dksX2_image_0 13 rfl rfl)
theorem dX2_image_14 : decode cX2_image 14 = .ok (.aload_n 0, 1) := dk_42 (dk_at dksX2_image_0 14 rfl rfl)
theorem dX2_image_15 : decode cX2_image 15 = .ok (.getfield 160, 3) := dk_180 0 160 (dk_at dksX2_image_0 15 rfl rfl)
theorem dX2_image_18 : decode cX2_image 18 = .ok (.putfield 331, 3) := dk_181 1 75 (dk_at dksX2_image_0 18 rfl rfl)
theorem dX2_image_21 : decode cX2_image 21 = .ok (.aload_n 0, 1) := dk_42 (dk_at dksX2_image_0 21 rfl rfl)
theorem dX2_image_22 : decode cX2_image 22 = .ok (.aload_n 0, 1) := dk_42 (dk_at dksX2_image_0 22 rfl rfl)
theorem dX2_image_23 : decode cX2_image 23 = .ok (.getfield 178, 3) := dk_180 0 178 (dk_at dksX2_image_1 0 rfl rfl)
theorem dX2_image_26 : decode cX2_image 26 = .ok (.putfield 334, 3) := dk_181 1 78 (dk_at dksX2_image_1 3 rfl rfl)
theorem dX2_image_29 : decode cX2_image 29 = .ok (.iconst 0, 1) := dk_3 (dk_at dksX2_image_1 6 rfl rfl)
theorem dX2_image_30 : decode cX2_image 30 = .ok (.istore_n 1, 1) := dk_60 (dk_at dksX2_image_1 7 rfl rfl)
theorem dX2_image_31 : decode cX2_image 31 = .ok (.iload_n 1, 1) := dk_27 (dk_at dksX2_image_1 8 rfl rfl)
theorem dX2_image_32 : decode cX2_image 32 = .ok (.bipush 6, 2) := dk_16 6 (dk_at dksX2_image_1 9 rfl rfl)
theorem dX2_image_34 : decode cX2_image 34 = .ok (.if_icmp .ge 30, 3) := dk_162 0 30 (dk_at dksX2_image_1 11 rfl rfl)
theorem dX2_image_37 : decode cX2_image 37 = .ok (.aload_n 0, 1) := dk_42 (dk_at dksX2_image_1 14 rfl rfl)
theorem dX2_image_38 : decode cX2_image 38 = .ok (.iload_n 1, 1) := dk_27 (dk_at dksX2_image_1 15 rfl rfl)
theorem dX2_image_39 : decode cX2_image 39 = .ok (.bipush 8, 2) := dk_16 8 (dk_at dksX2_image_1 16 rfl rfl)
theorem dX2_image_41 : decode cX2_image 41 = .ok (.iload_n 1, 1) := dk_27 (dk_at dksX2_image_1 18 rfl rfl)
theorem dX2_image_42 : decode cX2_image 42 = .ok (.iadd, 1) := dk_96 (dk_at dksX2_image_1 19 rfl rfl)
theorem dX2_image_43 : decode cX2_image 43 = .ok (.invokevirtual 145, 3) := dk_182 0 145 (dk_at dksX2_image_1 20 rfl rfl)
theorem dX2_image_46 : decode cX2_image 46 = .ok (.aload_n 0, 1) := dk_42 (dk_at dksX2_image_1 23 rfl rfl)
theorem dX2_image_47 : decode cX2_image 47 = .ok (.getfield 28, 3) := dk_180 0 28 (dk_at dksX2_image_2 0 rfl rfl)
theorem dX2_image_50 : decode cX2_image 50 = .ok (.iload_n 1, 1) := dk_27 (dk_at dksX2_image_2 3 rfl rfl)
theorem dX2_image_51 : decode cX2_image 51 = .ok (.aload_n 0, 1) := dk_42 (dk_at dksX2_image_2 4 rfl rfl)
theorem dX2_image_52 : decode cX2_image 52 = .ok (.getfield 25, 3) := dk_180 0 25 (dk_at dksX2_image_2 5 rfl rfl)
theorem dX2_image_55 : decode cX2_image 55 = .ok (.iload_n 1, 1) := dk_27 (dk_at dksX2_image_2 8 rfl rfl)
theorem dX2_image_56 : decode cX2_image 56 = .ok (.iaload, 1) := dk_46 (dk_at dksX2_image_2 9 rfl rfl)
theorem dX2_image_57 : decode cX2_image 57 = .ok (.iastore, 1) := dk_79 (dk_at dksX2_image_2 10 rfl rfl)
theorem dX2_image_58 : decode cX2_image 58 = .ok (.iinc 1 1, 3) := dk_132 1 1 (dk_at dksX2_image_2 11 rfl rfl)
theorem dX2_image_61 : decode cX2_image 61 = .ok (.goto (-30), 3) := dk_167 255 226 (dk_at dksX2_image_2 14 rfl rfl)
theorem dX2_image_64 : decode cX2_image 64 = .ok (.iconst 0, 1) := dk_3 (dk_at dksX2_image_2 17 rfl rfl)
theorem dX2_image_65 : decode cX2_image 65 = .ok (.istore_n 1, 1) := dk_60 (dk_at dksX2_image_2 18 rfl rfl)
theorem dX2_image_66 : decode cX2_image 66 = .ok (.iload_n 1, 1) := dk_27 (dk_at dksX2_image_2 19 rfl rfl)
theorem dX2_image_67 : decode cX2_image 67 = .ok (.bipush 30, 2) := dk_16 30 (dk_at dksX2_image_2 20 rfl rfl)
theorem dX2_image_69 : decode cX2_image 69 = .ok (.if_icmp .ge 21, 3) := dk_162 0 21 (dk_at dksX2_image_3 0 rfl rfl)
theorem dX2_image_72 : decode cX2_image 72 = .ok (.aload_n 0, 1) := dk_42 (dk_at dksX2_image_3 3 rfl rfl)
theorem dX2_image_73 : decode cX2_image 73 = .ok (.getfield 22, 3) := dk_180 0 22 (dk_at dksX2_image_3 4 rfl rfl)
theorem dX2_image_76 : decode cX2_image 76 = .ok (.iload_n 1, 1) := dk_27 (dk_at dksX2_image_3 7 rfl rfl)
theorem dX2_image_77 : decode cX2_image 77 = .ok (.aload_n 0, 1) := dk_42 (dk_at dksX2_image_3 8 rfl rfl)
theorem dX2_image_78 : decode cX2_image 78 = .ok (.getfield 18, 3) := dk_180 0 18 (dk_at dksX2_image_3 9 rfl rfl)
theorem dX2_image_81 : decode cX2_image 81 = .ok (.iload_n 1, 1) := dk_27 (dk_at dksX2_image_3 12 rfl rfl)
theorem dX2_image_82 : decode cX2_image 82 = .ok (.iaload, 1) := dk_46 (dk_at dksX2_image_3 13 rfl rfl)
theorem dX2_image_83 : decode cX2_image 83 = .ok (.iastore, 1) := dk_79 (dk_at dksX2_image_3 14 rfl rfl)
theorem dX2_image_84 : decode cX2_image 84 = .ok (.iinc 1 1, 3) := dk_132 1 1 (dk_at dksX2_image_3 15 rfl rfl)
theorem dX2_image_87 : decode cX2_image 87 = .ok (.goto (-21), 3) := dk_167 255 235 (dk_at dksX2_image_3 18 rfl rfl)
theorem dX2_image_90 : decode cX2_image 90 = .ok (.aload_n 0, 1) := dk_42 (dk_at dksX2_image_3 21 rfl rfl)
theorem dX2_image_91 : decode cX2_image 91 = .ok (.getfield 64, 3) := dk_180 0 64 (dk_at dksX2_image_4 0 rfl rfl)
theorem dX2_image_94 : decode cX2_image 94 = .ok (.ireturn, 1) := dk_172 (dk_at dksX2_image_4 3 rfl rfl)
abbrev cX2_back_2 : ByteArray := prog_6_method_95_code
def yX2_back_2 : MethodName := ⟨RX2, "back", "()I"⟩
def dkwX2_back_2_4 : List UInt8 := [42, 3, 181, 0, 154, 42, 180, 0, 64, 172]
abbrev dktX2_back_2_4 : List UInt8 := dkwX2_back_2_4 ++ []
def dkwX2_back_2_3 : List UInt8 := [27, 16, 30, 162, 0, 21, 42, 180, 0, 18, 27, 42, 180, 0, 22, 27, 46, 79, 132, 1, 1, 167, 255, 235]
abbrev dktX2_back_2_3 : List UInt8 := dkwX2_back_2_3 ++ dktX2_back_2_4
def dkwX2_back_2_2 : List UInt8 := [27, 182, 0, 145, 42, 180, 0, 25, 27, 42, 180, 0, 28, 27, 46, 79, 132, 1, 1, 167, 255, 226, 3, 60]
abbrev dktX2_back_2_2 : List UInt8 := dkwX2_back_2_2 ++ dktX2_back_2_3
def dkwX2_back_2_1 : List UInt8 := [181, 0, 160, 42, 42, 180, 1, 78, 181, 0, 178, 3, 60, 27, 16, 6, 162, 0, 30, 42, 16, 8, 27, 96]
abbrev dktX2_back_2_1 : List UInt8 := dkwX2_back_2_1 ++ dktX2_back_2_2
def dkwX2_back_2_0 : List UInt8 := [42, 180, 1, 69, 154, 0, 6, 16, 251, 172, 42, 42, 180, 1, 72, 181, 0, 64, 42, 42, 180, 1, 75]
abbrev dktX2_back_2_0 : List UInt8 := dkwX2_back_2_0 ++ dktX2_back_2_1
theorem dksX2_back_2_0 : cX2_back_2.data.toList.drop 0 = dktX2_back_2_0 := by decide +kernel
theorem dksX2_back_2_1 : cX2_back_2.data.toList.drop 23 = dktX2_back_2_1 := dk_seg dksX2_back_2_0 23 rfl rfl
theorem dksX2_back_2_2 : cX2_back_2.data.toList.drop 47 = dktX2_back_2_2 := dk_seg dksX2_back_2_1 24 rfl rfl
theorem dksX2_back_2_3 : cX2_back_2.data.toList.drop 71 = dktX2_back_2_3 := dk_seg dksX2_back_2_2 24 rfl rfl
theorem dksX2_back_2_4 : cX2_back_2.data.toList.drop 95 = dktX2_back_2_4 := dk_seg dksX2_back_2_3 24 rfl rfl
theorem dX2_back_2_0 : decode cX2_back_2 0 = .ok (.aload_n 0, 1) := dk_42 (dk_at dksX2_back_2_0 0 rfl rfl)
theorem dX2_back_2_1 : decode cX2_back_2 1 = .ok (.getfield 325, 3) := dk_180 1 69 (dk_at dksX2_back_2_0 1 rfl rfl)
theorem dX2_back_2_4 : decode cX2_back_2 4 = .ok (.ifCond .ne 6, 3) := dk_154 0 6 (dk_at dksX2_back_2_0 4 rfl rfl)
theorem dX2_back_2_7 : decode cX2_back_2 7 = .ok (.bipush (-5), 2) := dk_16 251 (dk_at dksX2_back_2_0 7 rfl rfl)
theorem dX2_back_2_9 : decode cX2_back_2 9 = .ok (.ireturn, 1) := dk_172 (dk_at dksX2_back_2_0 9 rfl rfl)
theorem dX2_back_2_10 : decode cX2_back_2 10 = .ok (.aload_n 0, 1) := dk_42 (dk_at dksX2_back_2_0 10 rfl rfl)
theorem dX2_back_2_11 : decode cX2_back_2 11 = .ok (.aload_n 0, 1) := dk_42 (dk_at dksX2_back_2_0 11 rfl rfl)
theorem dX2_back_2_12 : decode cX2_back_2 12 = .ok (.getfield 328, 3) := dk_180 1 72 (dk_at dksX2_back_2_0 12 rfl rfl)
theorem dX2_back_2_15 : decode cX2_back_2 15 = .ok (.putfield 64, 3) := dk_181 0 64 (dk_at dksX2_back_2_0 15 rfl rfl)
theorem dX2_back_2_18 : decode cX2_back_2 18 = .ok (.aload_n 0, 1) := dk_42 (dk_at dksX2_back_2_0 18 rfl rfl)
theorem dX2_back_2_19 : decode cX2_back_2 19 = .ok (.aload_n 0, 1) := dk_42 (dk_at dksX2_back_2_0 19 rfl rfl)
theorem dX2_back_2_20 : decode cX2_back_2 20 = .ok (.getfield 331, 3) := dk_180 1 75 (dk_at dksX2_back_2_0 20 rfl rfl)
theorem dX2_back_2_23 : decode cX2_back_2 23 = .ok (.putfield 160, 3) := dk_181 0 160 (dk_at dksX2_back_2_1 0 rfl rfl)
theorem dX2_back_2_26 : decode cX2_back_2 26 = .ok (.aload_n 0, 1) := dk_42 (dk_at dksX2_back_2_1 3 rfl rfl)
theorem dX2_back_2_27 : decode cX2_back_2 27 = .ok (.aload_n 0, 1) := dk_42 (dk_at dksX2_back_2_1 4 rfl rfl)
theorem dX2_back_2_28 : decode cX2_back_2 28 = .ok (.getfield 334, 3) := dk_180 1 78 (dk_at dksX2_back_2_1 5 rfl rfl)
theorem dX2_back_2_31 : decode cX2_back_2 31 = .ok (.putfield 178, 3) := dk_181 0 178 (dk_at dksX2_back_2_1 8 rfl rfl)
theorem dX2_back_2_34 : decode cX2_back_2 34 = .ok (.iconst 0, 1) := dk_3 (dk_at dksX2_back_2_1 11 rfl rfl)
theorem dX2_back_2_35 : decode cX2_back_2 35 = .ok (.istore_n 1, 1) := dk_60 (dk_at dksX2_back_2_1 12 rfl rfl)
theorem dX2_back_2_36 : decode cX2_back_2 36 = .ok (.iload_n 1, 1) := dk_27 (dk_at dksX2_back_2_1 13 rfl rfl)
theorem dX2_back_2_37 : decode cX2_back_2 37 = .ok (.bipush 6, 2) := dk_16 6 (dk_at dksX2_back_2_1 14 rfl rfl)
theorem dX2_back_2_39 : decode cX2_back_2 39 = .ok (.if_icmp .ge 30, 3) := dk_162 0 30 (dk_at dksX2_back_2_1 16 rfl rfl)
theorem dX2_back_2_42 : decode cX2_back_2 42 = .ok (.aload_n 0, 1) := dk_42 (dk_at dksX2_back_2_1 19 rfl rfl)
theorem dX2_back_2_43 : decode cX2_back_2 43 = .ok (.bipush 8, 2) := dk_16 8 (dk_at dksX2_back_2_1 20 rfl rfl)
theorem dX2_back_2_45 : decode cX2_back_2 45 = .ok (.iload_n 1, 1) := dk_27 (dk_at dksX2_back_2_1 22 rfl rfl)
theorem dX2_back_2_46 : decode cX2_back_2 46 = .ok (.iadd, 1) := dk_96 (dk_at dksX2_back_2_1 23 rfl rfl)
theorem dX2_back_2_47 : decode cX2_back_2 47 = .ok (.iload_n 1, 1) := dk_27 (dk_at dksX2_back_2_2 0 rfl rfl)
theorem dX2_back_2_48 : decode cX2_back_2 48 = .ok (.invokevirtual 145, 3) := dk_182 0 145 (dk_at dksX2_back_2_2 1 rfl rfl)
theorem dX2_back_2_51 : decode cX2_back_2 51 = .ok (.aload_n 0, 1) := dk_42 (dk_at dksX2_back_2_2 4 rfl rfl)
theorem dX2_back_2_52 : decode cX2_back_2 52 = .ok (.getfield 25, 3) := dk_180 0 25 (dk_at dksX2_back_2_2 5 rfl rfl)
theorem dX2_back_2_55 : decode cX2_back_2 55 = .ok (.iload_n 1, 1) := dk_27 (dk_at dksX2_back_2_2 8 rfl rfl)
theorem dX2_back_2_56 : decode cX2_back_2 56 = .ok (.aload_n 0, 1) := dk_42 (dk_at dksX2_back_2_2 9 rfl rfl)
theorem dX2_back_2_57 : decode cX2_back_2 57 = .ok (.getfield 28, 3) := dk_180 0 28 (dk_at dksX2_back_2_2 10 rfl rfl)
theorem dX2_back_2_60 : decode cX2_back_2 60 = .ok (.iload_n 1, 1) := dk_27 (dk_at dksX2_back_2_2 13 rfl rfl)
theorem dX2_back_2_61 : decode cX2_back_2 61 = .ok (.iaload, 1) := dk_46 (dk_at dksX2_back_2_2 14 rfl rfl)
theorem dX2_back_2_62 : decode cX2_back_2 62 = .ok (.iastore, 1) := dk_79 (dk_at dksX2_back_2_2 15 rfl rfl)
theorem dX2_back_2_63 : decode cX2_back_2 63 = .ok (.iinc 1 1, 3) := dk_132 1 1 (dk_at dksX2_back_2_2 16 rfl rfl)
theorem dX2_back_2_66 : decode cX2_back_2 66 = .ok (.goto (-30), 3) := dk_167 255 226 (dk_at dksX2_back_2_2 19 rfl rfl)
theorem dX2_back_2_69 : decode cX2_back_2 69 = .ok (.iconst 0, 1) := dk_3 (dk_at dksX2_back_2_2 22 rfl rfl)
theorem dX2_back_2_70 : decode cX2_back_2 70 = .ok (.istore_n 1, 1) := dk_60 (dk_at dksX2_back_2_2 23 rfl rfl)
theorem dX2_back_2_71 : decode cX2_back_2 71 = .ok (.iload_n 1, 1) := dk_27 (dk_at dksX2_back_2_3 0 rfl rfl)
theorem dX2_back_2_72 : decode cX2_back_2 72 = .ok (.bipush 30, 2) := dk_16 30 (dk_at dksX2_back_2_3 1 rfl rfl)
theorem dX2_back_2_74 : decode cX2_back_2 74 = .ok (.if_icmp .ge 21, 3) := dk_162 0 21 (dk_at dksX2_back_2_3 3 rfl rfl)
theorem dX2_back_2_77 : decode cX2_back_2 77 = .ok (.aload_n 0, 1) := dk_42 (dk_at dksX2_back_2_3 6 rfl rfl)
theorem dX2_back_2_78 : decode cX2_back_2 78 = .ok (.getfield 18, 3) := dk_180 0 18 (dk_at dksX2_back_2_3 7 rfl rfl)
theorem dX2_back_2_81 : decode cX2_back_2 81 = .ok (.iload_n 1, 1) := dk_27 (dk_at dksX2_back_2_3 10 rfl rfl)
theorem dX2_back_2_82 : decode cX2_back_2 82 = .ok (.aload_n 0, 1) := dk_42 (dk_at dksX2_back_2_3 11 rfl rfl)
theorem dX2_back_2_83 : decode cX2_back_2 83 = .ok (.getfield 22, 3) := dk_180 0 22 (dk_at dksX2_back_2_3 12 rfl rfl)
theorem dX2_back_2_86 : decode cX2_back_2 86 = .ok (.iload_n 1, 1) := dk_27 (dk_at dksX2_back_2_3 15 rfl rfl)
theorem dX2_back_2_87 : decode cX2_back_2 87 = .ok (.iaload, 1) := dk_46 (dk_at dksX2_back_2_3 16 rfl rfl)
theorem dX2_back_2_88 : decode cX2_back_2 88 = .ok (.iastore, 1) := dk_79 (dk_at dksX2_back_2_3 17 rfl rfl)
theorem dX2_back_2_89 : decode cX2_back_2 89 = .ok (.iinc 1 1, 3) := dk_132 1 1 (dk_at dksX2_back_2_3 18 rfl rfl)
theorem dX2_back_2_92 : decode cX2_back_2 92 = .ok (.goto (-21), 3) := dk_167 255 235 (dk_at dksX2_back_2_3 21 rfl rfl)
theorem dX2_back_2_95 : decode cX2_back_2 95 = .ok (.aload_n 0, 1) := dk_42 (dk_at dksX2_back_2_4 0 rfl rfl)
theorem dX2_back_2_96 : decode cX2_back_2 96 = .ok (.iconst 0, 1) := dk_3 (dk_at dksX2_back_2_4 1 rfl rfl)
theorem dX2_back_2_97 : decode cX2_back_2 97 = .ok (.putfield 154, 3) := dk_181 0 154 (dk_at dksX2_back_2_4 2 rfl rfl)
theorem dX2_back_2_100 : decode cX2_back_2 100 = .ok (.aload_n 0, 1) := dk_42 (dk_at dksX2_back_2_4 5 rfl rfl)
theorem dX2_back_2_101 : decode cX2_back_2 101 = .ok (.getfield 64, 3) := dk_180 0 64 (dk_at dksX2_back_2_4 6 rfl rfl)
theorem dX2_back_2_104 : decode cX2_back_2 104 = .ok (.ireturn, 1) := dk_172 (dk_at dksX2_back_2_4 9 rfl rfl)
abbrev cX2_count : ByteArray := prog_6_method_96_code
def yX2_count : MethodName := ⟨RX2, "count", "(I)I"⟩
def dkwX2_count_3 : List UInt8 := [172, 42, 180, 1, 54, 172, 42, 180, 0, 163, 172, 2, 172]
abbrev dktX2_count_3 : List UInt8 := dkwX2_count_3 ++ []
def dkwX2_count_2 : List UInt8 := [42, 180, 0, 64, 172, 42, 180, 0, 160, 172, 42, 180, 0, 178, 172, 42, 180, 0, 154, 172, 42, 180, 1, 21]
abbrev dktX2_count_2 : List UInt8 := dkwX2_count_2 ++ dktX2_count_3
def dkwX2_count_1 : List UInt8 := [170, 0, 0, 0, 0, 0, 78, 0, 0, 0, 0, 0, 0, 0, 6, 0, 0, 0, 43, 0, 0, 0, 48, 0, 0, 0, 53, 0, 0, 0, 58, 0, 0, 0, 63, 0, 0, 0, 68, 0, 0, 0, 73]
abbrev dktX2_count_1 : List UInt8 := dkwX2_count_1 ++ dktX2_count_2
def dkwX2_count_0 : List UInt8 := [27]
abbrev dktX2_count_0 : List UInt8 := dkwX2_count_0 ++ dktX2_count_1
theorem dksX2_count_0 : cX2_count.data.toList.drop 0 = dktX2_count_0 := by decide +kernel
theorem dksX2_count_1 : cX2_count.data.toList.drop 1 = dktX2_count_1 := dk_seg dksX2_count_0 1 rfl rfl
theorem dksX2_count_2 : cX2_count.data.toList.drop 44 = dktX2_count_2 := dk_seg dksX2_count_1 43 rfl rfl
theorem dksX2_count_3 : cX2_count.data.toList.drop 68 = dktX2_count_3 := dk_seg dksX2_count_2 24 rfl rfl
theorem dX2_count_0 : decode cX2_count 0 = .ok (.iload_n 1, 1) := dk_27 (dk_at dksX2_count_0 0 rfl rfl)
theorem dX2_count_1 : decode cX2_count 1 = .ok (.tableswitch 78 0 6 #[43, 48, 53, 58, 63, 68, 73], 43) := by decide +kernel
theorem dX2_count_44 : decode cX2_count 44 = .ok (.aload_n 0, 1) := dk_42 (dk_at dksX2_count_2 0 rfl rfl)
theorem dX2_count_45 : decode cX2_count 45 = .ok (.getfield 64, 3) := dk_180 0 64 (dk_at dksX2_count_2 1 rfl rfl)
theorem dX2_count_48 : decode cX2_count 48 = .ok (.ireturn, 1) := dk_172 (dk_at dksX2_count_2 4 rfl rfl)
theorem dX2_count_49 : decode cX2_count 49 = .ok (.aload_n 0, 1) := dk_42 (dk_at dksX2_count_2 5 rfl rfl)
theorem dX2_count_50 : decode cX2_count 50 = .ok (.getfield 160, 3) := dk_180 0 160 (dk_at dksX2_count_2 6 rfl rfl)
theorem dX2_count_53 : decode cX2_count 53 = .ok (.ireturn, 1) := dk_172 (dk_at dksX2_count_2 9 rfl rfl)
theorem dX2_count_54 : decode cX2_count 54 = .ok (.aload_n 0, 1) := dk_42 (dk_at dksX2_count_2 10 rfl rfl)
theorem dX2_count_55 : decode cX2_count 55 = .ok (.getfield 178, 3) := dk_180 0 178 (dk_at dksX2_count_2 11 rfl rfl)
theorem dX2_count_58 : decode cX2_count 58 = .ok (.ireturn, 1) := dk_172 (dk_at dksX2_count_2 14 rfl rfl)
theorem dX2_count_59 : decode cX2_count 59 = .ok (.aload_n 0, 1) := dk_42 (dk_at dksX2_count_2 15 rfl rfl)
theorem dX2_count_60 : decode cX2_count 60 = .ok (.getfield 154, 3) := dk_180 0 154 (dk_at dksX2_count_2 16 rfl rfl)
theorem dX2_count_63 : decode cX2_count 63 = .ok (.ireturn, 1) := dk_172 (dk_at dksX2_count_2 19 rfl rfl)
theorem dX2_count_64 : decode cX2_count 64 = .ok (.aload_n 0, 1) := dk_42 (dk_at dksX2_count_2 20 rfl rfl)
theorem dX2_count_65 : decode cX2_count 65 = .ok (.getfield 277, 3) := dk_180 1 21 (dk_at dksX2_count_2 21 rfl rfl)
theorem dX2_count_68 : decode cX2_count 68 = .ok (.ireturn, 1) := dk_172 (dk_at dksX2_count_3 0 rfl rfl)
theorem dX2_count_69 : decode cX2_count 69 = .ok (.aload_n 0, 1) := dk_42 (dk_at dksX2_count_3 1 rfl rfl)
theorem dX2_count_70 : decode cX2_count 70 = .ok (.getfield 310, 3) := dk_180 1 54 (dk_at dksX2_count_3 2 rfl rfl)
theorem dX2_count_73 : decode cX2_count 73 = .ok (.ireturn, 1) := dk_172 (dk_at dksX2_count_3 5 rfl rfl)
theorem dX2_count_74 : decode cX2_count 74 = .ok (.aload_n 0, 1) := dk_42 (dk_at dksX2_count_3 6 rfl rfl)
theorem dX2_count_75 : decode cX2_count 75 = .ok (.getfield 163, 3) := dk_180 0 163 (dk_at dksX2_count_3 7 rfl rfl)
theorem dX2_count_78 : decode cX2_count 78 = .ok (.ireturn, 1) := dk_172 (dk_at dksX2_count_3 10 rfl rfl)
theorem dX2_count_79 : decode cX2_count 79 = .ok (.iconst (-1), 1) := dk_2 (dk_at dksX2_count_3 11 rfl rfl)
theorem dX2_count_80 : decode cX2_count 80 = .ok (.ireturn, 1) := dk_172 (dk_at dksX2_count_3 12 rfl rfl)
theorem q111 : (Jvm.Cond.initialized "CellReducerModel") ∈ lw_all := lw_g (lw_at lw_m1 9 rfl) rfl
theorem q878 : (Jvm.Cond.selects "CellReducerModel" ({ cls := "java/lang/Object", name := "getClass", desc := "()Ljava/lang/Class;" } : Jvm.MethodName) ({ cls := "java/lang/Object", name := "getClass", desc := "()Ljava/lang/Class;" } : Jvm.MethodName)) ∈ lw_all := lw_g (lw_at lw_m4 56 rfl) rfl
theorem q1478 : (Jvm.Cond.selects "CellReducerModel" ({ cls := "java/lang/Object", name := "equals", desc := "(Ljava/lang/Object;)Z" } : Jvm.MethodName) ({ cls := "java/lang/Object", name := "equals", desc := "(Ljava/lang/Object;)Z" } : Jvm.MethodName)) ∈ lw_all := lw_g (lw_at lw_m6 176 rfl) rfl
theorem q2612 : (Jvm.Cond.instantiable "CellReducerModel" (32 : Nat)) ∈ lw_all := lw_g (lw_at lw_m11 110 rfl) rfl
theorem q2614 : (Jvm.Cond.instanceMethod ({ cls := "CellReducerModel", name := "<init>", desc := "()V" } : Jvm.MethodName)) ∈ lw_all := lw_g (lw_at lw_m11 112 rfl) rfl
theorem q2615 : (Jvm.Cond.code ({ cls := "CellReducerModel", name := "<init>", desc := "()V" } : Jvm.MethodName) prog_6_method_1_code (2 : Nat) (Option.none : Option Jvm.ClassFile.FieldType)) ∈ lw_all := lw_g (lw_at lw_m11 113 rfl) rfl
theorem q2616 : (Jvm.Cond.methodLink "CellReducerModel" (3 : Nat) ({ cls := "java/lang/Object", name := "<init>", desc := "()V" } : Jvm.MethodName)) ∈ lw_all := lw_g (lw_at lw_m11 114 rfl) rfl
theorem q2617 : (Jvm.Cond.fieldLink "CellReducerModel" (11 : Nat) "CellReducerModel" "six" "[J") ∈ lw_all := lw_g (lw_at lw_m11 115 rfl) rfl
theorem q2618 : (Jvm.Cond.fieldLink "CellReducerModel" (15 : Nat) "CellReducerModel" "change" "[J") ∈ lw_all := lw_g (lw_at lw_m11 116 rfl) rfl
theorem q2619 : (Jvm.Cond.fieldLink "CellReducerModel" (64 : Nat) "CellReducerModel" "cells" "I") ∈ lw_all := lw_g (lw_at lw_m11 117 rfl) rfl
theorem q2620 : (Jvm.Cond.fieldLink "CellReducerModel" (328 : Nat) "CellReducerModel" "imageCells" "I") ∈ lw_all := lw_g (lw_at lw_m11 118 rfl) rfl
theorem q2621 : (Jvm.Cond.fieldLink "CellReducerModel" (160 : Nat) "CellReducerModel" "logs" "I") ∈ lw_all := lw_g (lw_at lw_m11 119 rfl) rfl
theorem q2622 : (Jvm.Cond.fieldLink "CellReducerModel" (331 : Nat) "CellReducerModel" "imageLogs" "I") ∈ lw_all := lw_g (lw_at lw_m11 120 rfl) rfl
theorem q2623 : (Jvm.Cond.fieldLink "CellReducerModel" (178 : Nat) "CellReducerModel" "waiting" "I") ∈ lw_all := lw_g (lw_at lw_m11 121 rfl) rfl
theorem q2624 : (Jvm.Cond.fieldLink "CellReducerModel" (334 : Nat) "CellReducerModel" "imageWaiting" "I") ∈ lw_all := lw_g (lw_at lw_m11 122 rfl) rfl
theorem q2625 : (Jvm.Cond.fieldLink "CellReducerModel" (163 : Nat) "CellReducerModel" "all" "I") ∈ lw_all := lw_g (lw_at lw_m11 123 rfl) rfl
theorem q2626 : (Jvm.Cond.fieldLink "CellReducerModel" (154 : Nat) "CellReducerModel" "changes" "I") ∈ lw_all := lw_g (lw_at lw_m11 124 rfl) rfl
theorem q2627 : (Jvm.Cond.fieldLink "CellReducerModel" (157 : Nat) "CellReducerModel" "first" "I") ∈ lw_all := lw_g (lw_at lw_m11 125 rfl) rfl
theorem q2628 : (Jvm.Cond.fieldLink "CellReducerModel" (325 : Nat) "CellReducerModel" "isKept" "Z") ∈ lw_all := lw_g (lw_at lw_m11 126 rfl) rfl
theorem q2629 : (Jvm.Cond.fieldLink "CellReducerModel" (18 : Nat) "CellReducerModel" "log" "[I") ∈ lw_all := lw_g (lw_at lw_m11 127 rfl) rfl
theorem q2630 : (Jvm.Cond.fieldLink "CellReducerModel" (22 : Nat) "CellReducerModel" "imageLog" "[I") ∈ lw_all := lw_g (lw_at lw_m11 128 rfl) rfl
theorem q2631 : (Jvm.Cond.fieldLink "CellReducerModel" (25 : Nat) "CellReducerModel" "wait" "[I") ∈ lw_all := lw_g (lw_at lw_m11 129 rfl) rfl
theorem q2632 : (Jvm.Cond.fieldLink "CellReducerModel" (28 : Nat) "CellReducerModel" "imageWait" "[I") ∈ lw_all := lw_g (lw_at lw_m11 130 rfl) rfl
theorem q2633 : (Jvm.Cond.fieldLink "CellReducerModel" (31 : Nat) "CellReducerModel" "changed" "[I") ∈ lw_all := lw_g (lw_at lw_m11 131 rfl) rfl
theorem q2634 : (Jvm.Cond.fieldLink "CellReducerModel" (34 : Nat) "CellReducerModel" "found" "[J") ∈ lw_all := lw_g (lw_at lw_m11 132 rfl) rfl
theorem q2635 : (Jvm.Cond.fieldLink "CellReducerModel" (37 : Nat) "CellReducerModel" "four" "[J") ∈ lw_all := lw_g (lw_at lw_m11 133 rfl) rfl
theorem q2636 : (Jvm.Cond.fieldLink "CellReducerModel" (40 : Nat) "CellReducerModel" "twice" "[J") ∈ lw_all := lw_g (lw_at lw_m11 134 rfl) rfl
theorem q2637 : (Jvm.Cond.fieldLink "CellReducerModel" (43 : Nat) "CellReducerModel" "tape" "[I") ∈ lw_all := lw_g (lw_at lw_m11 135 rfl) rfl
theorem q2638 : (Jvm.Cond.fieldLink "CellReducerModel" (46 : Nat) "CellReducerModel" "paper" "[I") ∈ lw_all := lw_g (lw_at lw_m11 136 rfl) rfl
theorem q2639 : (Jvm.Cond.fieldLink "CellReducerModel" (49 : Nat) "CellReducerModel" "begun" "[I") ∈ lw_all := lw_g (lw_at lw_m11 137 rfl) rfl
theorem q2640 : (Jvm.Cond.fieldLink "CellReducerModel" (52 : Nat) "CellReducerModel" "read" "[J") ∈ lw_all := lw_g (lw_at lw_m11 138 rfl) rfl
theorem q2641 : (Jvm.Cond.fieldLink "CellReducerModel" (55 : Nat) "CellReducerModel" "places" "[J") ∈ lw_all := lw_g (lw_at lw_m11 139 rfl) rfl
theorem q2642 : (Jvm.Cond.fieldLink "CellReducerModel" (277 : Nat) "CellReducerModel" "taped" "I") ∈ lw_all := lw_g (lw_at lw_m11 140 rfl) rfl
theorem q2643 : (Jvm.Cond.fieldLink "CellReducerModel" (310 : Nat) "CellReducerModel" "papers" "I") ∈ lw_all := lw_g (lw_at lw_m11 141 rfl) rfl
theorem q2644 : (Jvm.Cond.fieldLink "CellReducerModel" (280 : Nat) "CellReducerModel" "at" "I") ∈ lw_all := lw_g (lw_at lw_m11 142 rfl) rfl
theorem q2645 : (Jvm.Cond.fieldLink "CellReducerModel" (283 : Nat) "CellReducerModel" "isWrong" "Z") ∈ lw_all := lw_g (lw_at lw_m11 143 rfl) rfl
theorem q2646 : (Jvm.Cond.fieldLink "CellReducerModel" (58 : Nat) "CellReducerModel" "items" "[I") ∈ lw_all := lw_g (lw_at lw_m11 144 rfl) rfl
theorem q2647 : (Jvm.Cond.fieldLink "CellReducerModel" (61 : Nat) "CellReducerModel" "item" "[J") ∈ lw_all := lw_g (lw_at lw_m11 145 rfl) rfl
theorem q2648 : (Jvm.Cond.fieldLink "CellReducerModel" (230 : Nat) "CellReducerModel" "many" "I") ∈ lw_all := lw_g (lw_at lw_m11 146 rfl) rfl
theorem q2649 : (Jvm.Cond.laysFinal "CellReducerModel" "CellReducerModel" "six" "[J") ∈ lw_all := lw_g (lw_at lw_m11 147 rfl) rfl
theorem q2650 : (Jvm.Cond.soleField "CellReducerModel" "six") ∈ lw_all := lw_g (lw_at lw_m11 148 rfl) rfl
theorem q2651 : (Jvm.Cond.laysFinal "CellReducerModel" "CellReducerModel" "change" "[J") ∈ lw_all := lw_g (lw_at lw_m11 149 rfl) rfl
theorem q2652 : (Jvm.Cond.soleField "CellReducerModel" "change") ∈ lw_all := lw_g (lw_at lw_m11 150 rfl) rfl
theorem q2653 : (Jvm.Cond.lays "CellReducerModel" "CellReducerModel" "cells" "I") ∈ lw_all := lw_g (lw_at lw_m11 151 rfl) rfl
theorem q2654 : (Jvm.Cond.soleField "CellReducerModel" "cells") ∈ lw_all := lw_g (lw_at lw_m11 152 rfl) rfl
theorem q2655 : (Jvm.Cond.lays "CellReducerModel" "CellReducerModel" "imageCells" "I") ∈ lw_all := lw_g (lw_at lw_m11 153 rfl) rfl
theorem q2656 : (Jvm.Cond.soleField "CellReducerModel" "imageCells") ∈ lw_all := lw_g (lw_at lw_m11 154 rfl) rfl
theorem q2657 : (Jvm.Cond.lays "CellReducerModel" "CellReducerModel" "logs" "I") ∈ lw_all := lw_g (lw_at lw_m11 155 rfl) rfl
theorem q2658 : (Jvm.Cond.soleField "CellReducerModel" "logs") ∈ lw_all := lw_g (lw_at lw_m11 156 rfl) rfl
theorem q2659 : (Jvm.Cond.lays "CellReducerModel" "CellReducerModel" "imageLogs" "I") ∈ lw_all := lw_g (lw_at lw_m11 157 rfl) rfl
theorem q2660 : (Jvm.Cond.soleField "CellReducerModel" "imageLogs") ∈ lw_all := lw_g (lw_at lw_m11 158 rfl) rfl
theorem q2661 : (Jvm.Cond.lays "CellReducerModel" "CellReducerModel" "waiting" "I") ∈ lw_all := lw_g (lw_at lw_m11 159 rfl) rfl
theorem q2662 : (Jvm.Cond.soleField "CellReducerModel" "waiting") ∈ lw_all := lw_g (lw_at lw_m11 160 rfl) rfl
theorem q2663 : (Jvm.Cond.lays "CellReducerModel" "CellReducerModel" "imageWaiting" "I") ∈ lw_all := lw_g (lw_at lw_m11 161 rfl) rfl
theorem q2664 : (Jvm.Cond.soleField "CellReducerModel" "imageWaiting") ∈ lw_all := lw_g (lw_at lw_m11 162 rfl) rfl
theorem q2665 : (Jvm.Cond.lays "CellReducerModel" "CellReducerModel" "all" "I") ∈ lw_all := lw_g (lw_at lw_m11 163 rfl) rfl
theorem q2666 : (Jvm.Cond.soleField "CellReducerModel" "all") ∈ lw_all := lw_g (lw_at lw_m11 164 rfl) rfl
theorem q2667 : (Jvm.Cond.lays "CellReducerModel" "CellReducerModel" "changes" "I") ∈ lw_all := lw_g (lw_at lw_m11 165 rfl) rfl
theorem q2668 : (Jvm.Cond.soleField "CellReducerModel" "changes") ∈ lw_all := lw_g (lw_at lw_m11 166 rfl) rfl
theorem q2669 : (Jvm.Cond.lays "CellReducerModel" "CellReducerModel" "first" "I") ∈ lw_all := lw_g (lw_at lw_m11 167 rfl) rfl
theorem q2670 : (Jvm.Cond.soleField "CellReducerModel" "first") ∈ lw_all := lw_g (lw_at lw_m11 168 rfl) rfl
theorem q2671 : (Jvm.Cond.lays "CellReducerModel" "CellReducerModel" "isKept" "Z") ∈ lw_all := lw_g (lw_at lw_m11 169 rfl) rfl
theorem q2672 : (Jvm.Cond.soleField "CellReducerModel" "isKept") ∈ lw_all := lw_g (lw_at lw_m11 170 rfl) rfl
theorem q2673 : (Jvm.Cond.laysFinal "CellReducerModel" "CellReducerModel" "log" "[I") ∈ lw_all := lw_g (lw_at lw_m11 171 rfl) rfl
theorem q2674 : (Jvm.Cond.soleField "CellReducerModel" "log") ∈ lw_all := lw_g (lw_at lw_m11 172 rfl) rfl
theorem q2675 : (Jvm.Cond.laysFinal "CellReducerModel" "CellReducerModel" "imageLog" "[I") ∈ lw_all := lw_g (lw_at lw_m11 173 rfl) rfl
theorem q2676 : (Jvm.Cond.soleField "CellReducerModel" "imageLog") ∈ lw_all := lw_g (lw_at lw_m11 174 rfl) rfl
theorem q2677 : (Jvm.Cond.laysFinal "CellReducerModel" "CellReducerModel" "wait" "[I") ∈ lw_all := lw_g (lw_at lw_m11 175 rfl) rfl
theorem q2678 : (Jvm.Cond.soleField "CellReducerModel" "wait") ∈ lw_all := lw_g (lw_at lw_m11 176 rfl) rfl
theorem q2679 : (Jvm.Cond.laysFinal "CellReducerModel" "CellReducerModel" "imageWait" "[I") ∈ lw_all := lw_g (lw_at lw_m11 177 rfl) rfl
theorem q2680 : (Jvm.Cond.soleField "CellReducerModel" "imageWait") ∈ lw_all := lw_g (lw_at lw_m11 178 rfl) rfl
theorem q2681 : (Jvm.Cond.laysFinal "CellReducerModel" "CellReducerModel" "changed" "[I") ∈ lw_all := lw_g (lw_at lw_m11 179 rfl) rfl
theorem q2682 : (Jvm.Cond.soleField "CellReducerModel" "changed") ∈ lw_all := lw_g (lw_at lw_m11 180 rfl) rfl
theorem q2683 : (Jvm.Cond.laysFinal "CellReducerModel" "CellReducerModel" "found" "[J") ∈ lw_all := lw_g (lw_at lw_m11 181 rfl) rfl
theorem q2684 : (Jvm.Cond.soleField "CellReducerModel" "found") ∈ lw_all := lw_g (lw_at lw_m11 182 rfl) rfl
theorem q2685 : (Jvm.Cond.laysFinal "CellReducerModel" "CellReducerModel" "four" "[J") ∈ lw_all := lw_g (lw_at lw_m11 183 rfl) rfl
theorem q2686 : (Jvm.Cond.soleField "CellReducerModel" "four") ∈ lw_all := lw_g (lw_at lw_m11 184 rfl) rfl
theorem q2687 : (Jvm.Cond.laysFinal "CellReducerModel" "CellReducerModel" "twice" "[J") ∈ lw_all := lw_g (lw_at lw_m11 185 rfl) rfl
theorem q2688 : (Jvm.Cond.soleField "CellReducerModel" "twice") ∈ lw_all := lw_g (lw_at lw_m11 186 rfl) rfl
theorem q2689 : (Jvm.Cond.laysFinal "CellReducerModel" "CellReducerModel" "tape" "[I") ∈ lw_all := lw_g (lw_at lw_m11 187 rfl) rfl
theorem q2690 : (Jvm.Cond.soleField "CellReducerModel" "tape") ∈ lw_all := lw_g (lw_at lw_m11 188 rfl) rfl
theorem q2691 : (Jvm.Cond.laysFinal "CellReducerModel" "CellReducerModel" "paper" "[I") ∈ lw_all := lw_g (lw_at lw_m11 189 rfl) rfl
theorem q2692 : (Jvm.Cond.soleField "CellReducerModel" "paper") ∈ lw_all := lw_g (lw_at lw_m11 190 rfl) rfl
theorem q2693 : (Jvm.Cond.laysFinal "CellReducerModel" "CellReducerModel" "begun" "[I") ∈ lw_all := lw_g (lw_at lw_m11 191 rfl) rfl
theorem q2694 : (Jvm.Cond.soleField "CellReducerModel" "begun") ∈ lw_all := lw_g (lw_at lw_m11 192 rfl) rfl
theorem q2695 : (Jvm.Cond.laysFinal "CellReducerModel" "CellReducerModel" "read" "[J") ∈ lw_all := lw_g (lw_at lw_m11 193 rfl) rfl
theorem q2696 : (Jvm.Cond.soleField "CellReducerModel" "read") ∈ lw_all := lw_g (lw_at lw_m11 194 rfl) rfl
theorem q2697 : (Jvm.Cond.laysFinal "CellReducerModel" "CellReducerModel" "places" "[J") ∈ lw_all := lw_g (lw_at lw_m11 195 rfl) rfl
theorem q2698 : (Jvm.Cond.soleField "CellReducerModel" "places") ∈ lw_all := lw_g (lw_at lw_m11 196 rfl) rfl
theorem q2699 : (Jvm.Cond.lays "CellReducerModel" "CellReducerModel" "taped" "I") ∈ lw_all := lw_g (lw_at lw_m11 197 rfl) rfl
theorem q2700 : (Jvm.Cond.soleField "CellReducerModel" "taped") ∈ lw_all := lw_g (lw_at lw_m11 198 rfl) rfl
theorem q2701 : (Jvm.Cond.lays "CellReducerModel" "CellReducerModel" "papers" "I") ∈ lw_all := lw_g (lw_at lw_m11 199 rfl) rfl
theorem q2702 : (Jvm.Cond.soleField "CellReducerModel" "papers") ∈ lw_all := lw_g (lw_at lw_m11 200 rfl) rfl
theorem q2703 : (Jvm.Cond.lays "CellReducerModel" "CellReducerModel" "at" "I") ∈ lw_all := lw_g (lw_at lw_m11 201 rfl) rfl
theorem q2704 : (Jvm.Cond.soleField "CellReducerModel" "at") ∈ lw_all := lw_g (lw_at lw_m11 202 rfl) rfl
theorem q2705 : (Jvm.Cond.lays "CellReducerModel" "CellReducerModel" "isWrong" "Z") ∈ lw_all := lw_g (lw_at lw_m11 203 rfl) rfl
theorem q2706 : (Jvm.Cond.soleField "CellReducerModel" "isWrong") ∈ lw_all := lw_g (lw_at lw_m11 204 rfl) rfl
theorem q2707 : (Jvm.Cond.laysFinal "CellReducerModel" "CellReducerModel" "items" "[I") ∈ lw_all := lw_g (lw_at lw_m11 205 rfl) rfl
theorem q2708 : (Jvm.Cond.soleField "CellReducerModel" "items") ∈ lw_all := lw_g (lw_at lw_m11 206 rfl) rfl
theorem q2709 : (Jvm.Cond.laysFinal "CellReducerModel" "CellReducerModel" "item" "[J") ∈ lw_all := lw_g (lw_at lw_m11 207 rfl) rfl
theorem q2710 : (Jvm.Cond.soleField "CellReducerModel" "item") ∈ lw_all := lw_g (lw_at lw_m11 208 rfl) rfl
theorem q2711 : (Jvm.Cond.lays "CellReducerModel" "CellReducerModel" "many" "I") ∈ lw_all := lw_g (lw_at lw_m11 209 rfl) rfl
theorem q2712 : (Jvm.Cond.soleField "CellReducerModel" "many") ∈ lw_all := lw_g (lw_at lw_m11 210 rfl) rfl
theorem q2713 : (Jvm.Cond.superclass "CellReducerModel" "java/lang/Object") ∈ lw_all := lw_g (lw_at lw_m11 211 rfl) rfl
theorem q2715 : (Jvm.Cond.instanceMethod ({ cls := "CellReducerModel", name := "undo", desc := "()I" } : Jvm.MethodName)) ∈ lw_all := lw_g (lw_at lw_m11 213 rfl) rfl
theorem q2716 : (Jvm.Cond.selects "CellReducerModel" ({ cls := "CellReducerModel", name := "undo", desc := "()I" } : Jvm.MethodName) ({ cls := "CellReducerModel", name := "undo", desc := "()I" } : Jvm.MethodName)) ∈ lw_all := lw_g (lw_at lw_m11 214 rfl) rfl
theorem q2717 : (Jvm.Cond.code ({ cls := "CellReducerModel", name := "undo", desc := "()I" } : Jvm.MethodName) prog_6_method_29_code (2 : Nat) (Option.some Jvm.ClassFile.FieldType.int)) ∈ lw_all := lw_g (lw_at lw_m11 215 rfl) rfl
theorem q2718 : (Jvm.Cond.methodLink "CellReducerModel" (145 : Nat) ({ cls := "CellReducerModel", name := "moves", desc := "(II)V" } : Jvm.MethodName)) ∈ lw_all := lw_g (lw_at lw_m11 216 rfl) rfl
theorem q2719 : (Jvm.Cond.privateMethod ({ cls := "CellReducerModel", name := "moves", desc := "(II)V" } : Jvm.MethodName)) ∈ lw_tbl := lw_at lw_m11 217 rfl
theorem q2720 : (Jvm.Cond.instanceMethod ({ cls := "CellReducerModel", name := "moves", desc := "(II)V" } : Jvm.MethodName)) ∈ lw_all := lw_g (lw_at lw_m11 218 rfl) rfl
theorem q2721 : (Jvm.Cond.code ({ cls := "CellReducerModel", name := "moves", desc := "(II)V" } : Jvm.MethodName) prog_6_method_10_code (4 : Nat) (Option.none : Option Jvm.ClassFile.FieldType)) ∈ lw_all := lw_g (lw_at lw_m11 219 rfl) rfl
theorem q2723 : (Jvm.Cond.instanceMethod ({ cls := "CellReducerModel", name := "cell", desc := "(IIIIII)I" } : Jvm.MethodName)) ∈ lw_all := lw_g (lw_at lw_m11 221 rfl) rfl
theorem q2724 : (Jvm.Cond.selects "CellReducerModel" ({ cls := "CellReducerModel", name := "cell", desc := "(IIIIII)I" } : Jvm.MethodName) ({ cls := "CellReducerModel", name := "cell", desc := "(IIIIII)I" } : Jvm.MethodName)) ∈ lw_all := lw_g (lw_at lw_m11 222 rfl) rfl
theorem q2725 : (Jvm.Cond.code ({ cls := "CellReducerModel", name := "cell", desc := "(IIIIII)I" } : Jvm.MethodName) prog_6_method_32_code (7 : Nat) (Option.some Jvm.ClassFile.FieldType.int)) ∈ lw_all := lw_g (lw_at lw_m11 223 rfl) rfl
theorem q2726 : (Jvm.Cond.methodLink "CellReducerModel" (170 : Nat) ({ cls := "CellReducerModel", name := "put", desc := "(IJJJJJJ)V" } : Jvm.MethodName)) ∈ lw_all := lw_g (lw_at lw_m11 224 rfl) rfl
theorem q2727 : (Jvm.Cond.privateMethod ({ cls := "CellReducerModel", name := "put", desc := "(IJJJJJJ)V" } : Jvm.MethodName)) ∈ lw_tbl := lw_at lw_m11 225 rfl
theorem q2728 : (Jvm.Cond.instanceMethod ({ cls := "CellReducerModel", name := "put", desc := "(IJJJJJJ)V" } : Jvm.MethodName)) ∈ lw_all := lw_g (lw_at lw_m11 226 rfl) rfl
theorem q2729 : (Jvm.Cond.code ({ cls := "CellReducerModel", name := "put", desc := "(IJJJJJJ)V" } : Jvm.MethodName) prog_6_method_8_code (14 : Nat) (Option.none : Option Jvm.ClassFile.FieldType)) ∈ lw_all := lw_g (lw_at lw_m11 227 rfl) rfl
theorem q2730 : (Jvm.Cond.methodLink "CellReducerModel" (174 : Nat) ({ cls := "CellReducerModel", name := "comes", desc := "()I" } : Jvm.MethodName)) ∈ lw_all := lw_g (lw_at lw_m11 228 rfl) rfl
theorem q2731 : (Jvm.Cond.privateMethod ({ cls := "CellReducerModel", name := "comes", desc := "()I" } : Jvm.MethodName)) ∈ lw_tbl := lw_at lw_m11 229 rfl
theorem q2732 : (Jvm.Cond.instanceMethod ({ cls := "CellReducerModel", name := "comes", desc := "()I" } : Jvm.MethodName)) ∈ lw_all := lw_g (lw_at lw_m11 230 rfl) rfl
theorem q2733 : (Jvm.Cond.code ({ cls := "CellReducerModel", name := "comes", desc := "()I" } : Jvm.MethodName) prog_6_method_31_code (1 : Nat) (Option.some Jvm.ClassFile.FieldType.int)) ∈ lw_all := lw_g (lw_at lw_m11 231 rfl) rfl
theorem q2734 : (Jvm.Cond.methodLink "CellReducerModel" (166 : Nat) ({ cls := "CellReducerModel", name := "mayBe", desc := "(I)Z" } : Jvm.MethodName)) ∈ lw_all := lw_g (lw_at lw_m11 232 rfl) rfl
theorem q2735 : (Jvm.Cond.privateMethod ({ cls := "CellReducerModel", name := "mayBe", desc := "(I)Z" } : Jvm.MethodName)) ∈ lw_tbl := lw_at lw_m11 233 rfl
theorem q2736 : (Jvm.Cond.instanceMethod ({ cls := "CellReducerModel", name := "mayBe", desc := "(I)Z" } : Jvm.MethodName)) ∈ lw_all := lw_g (lw_at lw_m11 234 rfl) rfl
theorem q2737 : (Jvm.Cond.code ({ cls := "CellReducerModel", name := "mayBe", desc := "(I)Z" } : Jvm.MethodName) prog_6_method_12_code (3 : Nat) (Option.some Jvm.ClassFile.FieldType.boolean)) ∈ lw_all := lw_g (lw_at lw_m11 235 rfl) rfl
theorem q2738 : (Jvm.Cond.methodLink "CellReducerModel" (74 : Nat) ({ cls := "CellReducerModel", name := "n", desc := "(II)J" } : Jvm.MethodName)) ∈ lw_all := lw_g (lw_at lw_m11 236 rfl) rfl
theorem q2739 : (Jvm.Cond.privateMethod ({ cls := "CellReducerModel", name := "n", desc := "(II)J" } : Jvm.MethodName)) ∈ lw_tbl := lw_at lw_m11 237 rfl
theorem q2740 : (Jvm.Cond.instanceMethod ({ cls := "CellReducerModel", name := "n", desc := "(II)J" } : Jvm.MethodName)) ∈ lw_all := lw_g (lw_at lw_m11 238 rfl) rfl
theorem q2741 : (Jvm.Cond.code ({ cls := "CellReducerModel", name := "n", desc := "(II)J" } : Jvm.MethodName) prog_6_method_6_code (3 : Nat) (Option.some Jvm.ClassFile.FieldType.long)) ∈ lw_all := lw_g (lw_at lw_m11 239 rfl) rfl
theorem q2742 : (Jvm.Cond.constantLong "CellReducerModel" (80 : Nat) (100000 : Int64)) ∈ lw_all := lw_g (lw_at lw_m12 0 rfl) rfl
theorem q2743 : (Jvm.Cond.methodLink "CellReducerModel" (68 : Nat) ({ cls := "CellReducerModel", name := "isIn", desc := "(JJJ)Z" } : Jvm.MethodName)) ∈ lw_all := lw_g (lw_at lw_m12 1 rfl) rfl
theorem q2744 : (Jvm.Cond.static ({ cls := "CellReducerModel", name := "isIn", desc := "(JJJ)Z" } : Jvm.MethodName)) ∈ lw_all := lw_g (lw_at lw_m12 2 rfl) rfl
theorem q2745 : (Jvm.Cond.code ({ cls := "CellReducerModel", name := "isIn", desc := "(JJJ)Z" } : Jvm.MethodName) prog_6_method_2_code (6 : Nat) (Option.some Jvm.ClassFile.FieldType.boolean)) ∈ lw_all := lw_g (lw_at lw_m12 3 rfl) rfl
theorem q2746 : (Jvm.Cond.constantLong "CellReducerModel" (82 : Nat) (-200000 : Int64)) ∈ lw_all := lw_g (lw_at lw_m12 4 rfl) rfl
theorem q2747 : (Jvm.Cond.constantLong "CellReducerModel" (84 : Nat) (200000 : Int64)) ∈ lw_all := lw_g (lw_at lw_m12 5 rfl) rfl
theorem q2748 : (Jvm.Cond.constantLong "CellReducerModel" (78 : Nat) (4 : Int64)) ∈ lw_all := lw_g (lw_at lw_m12 6 rfl) rfl
theorem q2749 : (Jvm.Cond.methodLink "CellReducerModel" (86 : Nat) ({ cls := "CellReducerModel", name := "volume", desc := "(I)J" } : Jvm.MethodName)) ∈ lw_all := lw_g (lw_at lw_m12 7 rfl) rfl
theorem q2750 : (Jvm.Cond.privateMethod ({ cls := "CellReducerModel", name := "volume", desc := "(I)J" } : Jvm.MethodName)) ∈ lw_tbl := lw_at lw_m12 8 rfl
theorem q2751 : (Jvm.Cond.instanceMethod ({ cls := "CellReducerModel", name := "volume", desc := "(I)J" } : Jvm.MethodName)) ∈ lw_all := lw_g (lw_at lw_m12 9 rfl) rfl
theorem q2752 : (Jvm.Cond.code ({ cls := "CellReducerModel", name := "volume", desc := "(I)J" } : Jvm.MethodName) prog_6_method_11_code (14 : Nat) (Option.some Jvm.ClassFile.FieldType.long)) ∈ lw_all := lw_g (lw_at lw_m12 10 rfl) rfl
theorem q2753 : (Jvm.Cond.methodLink "CellReducerModel" (148 : Nat) ({ cls := "CellReducerModel", name := "fresh", desc := "(I)V" } : Jvm.MethodName)) ∈ lw_all := lw_g (lw_at lw_m12 11 rfl) rfl
theorem q2754 : (Jvm.Cond.privateMethod ({ cls := "CellReducerModel", name := "fresh", desc := "(I)V" } : Jvm.MethodName)) ∈ lw_tbl := lw_at lw_m12 12 rfl
theorem q2755 : (Jvm.Cond.instanceMethod ({ cls := "CellReducerModel", name := "fresh", desc := "(I)V" } : Jvm.MethodName)) ∈ lw_all := lw_g (lw_at lw_m12 13 rfl) rfl
theorem q2756 : (Jvm.Cond.code ({ cls := "CellReducerModel", name := "fresh", desc := "(I)V" } : Jvm.MethodName) prog_6_method_9_code (3 : Nat) (Option.none : Option Jvm.ClassFile.FieldType)) ∈ lw_all := lw_g (lw_at lw_m12 14 rfl) rfl
theorem q2758 : (Jvm.Cond.instanceMethod ({ cls := "CellReducerModel", name := "drop", desc := "()I" } : Jvm.MethodName)) ∈ lw_all := lw_g (lw_at lw_m12 16 rfl) rfl
theorem q2759 : (Jvm.Cond.selects "CellReducerModel" ({ cls := "CellReducerModel", name := "drop", desc := "()I" } : Jvm.MethodName) ({ cls := "CellReducerModel", name := "drop", desc := "()I" } : Jvm.MethodName)) ∈ lw_all := lw_g (lw_at lw_m12 17 rfl) rfl
theorem q2760 : (Jvm.Cond.code ({ cls := "CellReducerModel", name := "drop", desc := "()I" } : Jvm.MethodName) prog_6_method_35_code (1 : Nat) (Option.some Jvm.ClassFile.FieldType.int)) ∈ lw_all := lw_g (lw_at lw_m12 18 rfl) rfl
theorem q2761 : (Jvm.Cond.methodLink "CellReducerModel" (181 : Nat) ({ cls := "CellReducerModel", name := "leavesLine", desc := "(I)I" } : Jvm.MethodName)) ∈ lw_all := lw_g (lw_at lw_m12 19 rfl) rfl
theorem q2762 : (Jvm.Cond.privateMethod ({ cls := "CellReducerModel", name := "leavesLine", desc := "(I)I" } : Jvm.MethodName)) ∈ lw_tbl := lw_at lw_m12 20 rfl
theorem q2763 : (Jvm.Cond.instanceMethod ({ cls := "CellReducerModel", name := "leavesLine", desc := "(I)I" } : Jvm.MethodName)) ∈ lw_all := lw_g (lw_at lw_m12 21 rfl) rfl
theorem q2764 : (Jvm.Cond.code ({ cls := "CellReducerModel", name := "leavesLine", desc := "(I)I" } : Jvm.MethodName) prog_6_method_33_code (4 : Nat) (Option.some Jvm.ClassFile.FieldType.int)) ∈ lw_all := lw_g (lw_at lw_m12 22 rfl) rfl
theorem q2765 : (Jvm.Cond.methodLink "CellReducerModel" (184 : Nat) ({ cls := "CellReducerModel", name := "leavesLog", desc := "(II)I" } : Jvm.MethodName)) ∈ lw_all := lw_g (lw_at lw_m12 23 rfl) rfl
theorem q2766 : (Jvm.Cond.privateMethod ({ cls := "CellReducerModel", name := "leavesLog", desc := "(II)I" } : Jvm.MethodName)) ∈ lw_tbl := lw_at lw_m12 24 rfl
theorem q2767 : (Jvm.Cond.instanceMethod ({ cls := "CellReducerModel", name := "leavesLog", desc := "(II)I" } : Jvm.MethodName)) ∈ lw_all := lw_g (lw_at lw_m12 25 rfl) rfl
theorem q2768 : (Jvm.Cond.code ({ cls := "CellReducerModel", name := "leavesLog", desc := "(II)I" } : Jvm.MethodName) prog_6_method_34_code (6 : Nat) (Option.some Jvm.ClassFile.FieldType.int)) ∈ lw_all := lw_g (lw_at lw_m12 26 rfl) rfl
theorem q2770 : (Jvm.Cond.instanceMethod ({ cls := "CellReducerModel", name := "add", desc := "(IIII)I" } : Jvm.MethodName)) ∈ lw_all := lw_g (lw_at lw_m12 28 rfl) rfl
theorem q2771 : (Jvm.Cond.selects "CellReducerModel" ({ cls := "CellReducerModel", name := "add", desc := "(IIII)I" } : Jvm.MethodName) ({ cls := "CellReducerModel", name := "add", desc := "(IIII)I" } : Jvm.MethodName)) ∈ lw_all := lw_g (lw_at lw_m12 29 rfl) rfl
theorem q2772 : (Jvm.Cond.code ({ cls := "CellReducerModel", name := "add", desc := "(IIII)I" } : Jvm.MethodName) prog_6_method_36_code (5 : Nat) (Option.some Jvm.ClassFile.FieldType.int)) ∈ lw_all := lw_g (lw_at lw_m12 30 rfl) rfl
theorem q2773 : (Jvm.Cond.methodLink "CellReducerModel" (188 : Nat) ({ cls := "CellReducerModel", name := "isCell", desc := "(I)Z" } : Jvm.MethodName)) ∈ lw_all := lw_g (lw_at lw_m12 31 rfl) rfl
theorem q2774 : (Jvm.Cond.privateMethod ({ cls := "CellReducerModel", name := "isCell", desc := "(I)Z" } : Jvm.MethodName)) ∈ lw_tbl := lw_at lw_m12 32 rfl
theorem q2775 : (Jvm.Cond.instanceMethod ({ cls := "CellReducerModel", name := "isCell", desc := "(I)Z" } : Jvm.MethodName)) ∈ lw_all := lw_g (lw_at lw_m12 33 rfl) rfl
theorem q2776 : (Jvm.Cond.code ({ cls := "CellReducerModel", name := "isCell", desc := "(I)Z" } : Jvm.MethodName) prog_6_method_3_code (2 : Nat) (Option.some Jvm.ClassFile.FieldType.boolean)) ∈ lw_all := lw_g (lw_at lw_m12 34 rfl) rfl
theorem q2777 : (Jvm.Cond.methodLink "CellReducerModel" (191 : Nat) ({ cls := "CellReducerModel", name := "isVector", desc := "(I)Z" } : Jvm.MethodName)) ∈ lw_all := lw_g (lw_at lw_m12 35 rfl) rfl
theorem q2778 : (Jvm.Cond.static ({ cls := "CellReducerModel", name := "isVector", desc := "(I)Z" } : Jvm.MethodName)) ∈ lw_all := lw_g (lw_at lw_m12 36 rfl) rfl
theorem q2779 : (Jvm.Cond.code ({ cls := "CellReducerModel", name := "isVector", desc := "(I)Z" } : Jvm.MethodName) prog_6_method_4_code (1 : Nat) (Option.some Jvm.ClassFile.FieldType.boolean)) ∈ lw_all := lw_g (lw_at lw_m12 37 rfl) rfl
theorem q2780 : (Jvm.Cond.constantLong "CellReducerModel" (72 : Nat) (2 : Int64)) ∈ lw_all := lw_g (lw_at lw_m12 38 rfl) rfl
theorem q2781 : (Jvm.Cond.constantLong "CellReducerModel" (194 : Nat) (-9 : Int64)) ∈ lw_all := lw_g (lw_at lw_m12 39 rfl) rfl
theorem q2782 : (Jvm.Cond.constantLong "CellReducerModel" (196 : Nat) (9 : Int64)) ∈ lw_all := lw_g (lw_at lw_m12 40 rfl) rfl
theorem q2783 : (Jvm.Cond.methodLink "CellReducerModel" (135 : Nat) ({ cls := "CellReducerModel", name := "adds", desc := "(IIIJ)V" } : Jvm.MethodName)) ∈ lw_all := lw_g (lw_at lw_m12 41 rfl) rfl
theorem q2784 : (Jvm.Cond.privateMethod ({ cls := "CellReducerModel", name := "adds", desc := "(IIIJ)V" } : Jvm.MethodName)) ∈ lw_tbl := lw_at lw_m12 42 rfl
theorem q2785 : (Jvm.Cond.instanceMethod ({ cls := "CellReducerModel", name := "adds", desc := "(IIIJ)V" } : Jvm.MethodName)) ∈ lw_all := lw_g (lw_at lw_m12 43 rfl) rfl
theorem q2786 : (Jvm.Cond.code ({ cls := "CellReducerModel", name := "adds", desc := "(IIIJ)V" } : Jvm.MethodName) prog_6_method_15_code (14 : Nat) (Option.none : Option Jvm.ClassFile.FieldType)) ∈ lw_all := lw_g (lw_at lw_m12 44 rfl) rfl
theorem q2787 : (Jvm.Cond.methodLink "CellReducerModel" (90 : Nat) ({ cls := "CellReducerModel", name := "by", desc := "(III)J" } : Jvm.MethodName)) ∈ lw_all := lw_g (lw_at lw_m12 45 rfl) rfl
theorem q2788 : (Jvm.Cond.privateMethod ({ cls := "CellReducerModel", name := "by", desc := "(III)J" } : Jvm.MethodName)) ∈ lw_tbl := lw_at lw_m12 46 rfl
theorem q2789 : (Jvm.Cond.instanceMethod ({ cls := "CellReducerModel", name := "by", desc := "(III)J" } : Jvm.MethodName)) ∈ lw_all := lw_g (lw_at lw_m12 47 rfl) rfl
theorem q2790 : (Jvm.Cond.code ({ cls := "CellReducerModel", name := "by", desc := "(III)J" } : Jvm.MethodName) prog_6_method_7_code (4 : Nat) (Option.some Jvm.ClassFile.FieldType.long)) ∈ lw_all := lw_g (lw_at lw_m12 48 rfl) rfl
theorem q2791 : (Jvm.Cond.methodLink "CellReducerModel" (198 : Nat) ({ cls := "CellReducerModel", name := "remembers", desc := "(I)V" } : Jvm.MethodName)) ∈ lw_all := lw_g (lw_at lw_m12 49 rfl) rfl
theorem q2792 : (Jvm.Cond.privateMethod ({ cls := "CellReducerModel", name := "remembers", desc := "(I)V" } : Jvm.MethodName)) ∈ lw_tbl := lw_at lw_m12 50 rfl
theorem q2793 : (Jvm.Cond.instanceMethod ({ cls := "CellReducerModel", name := "remembers", desc := "(I)V" } : Jvm.MethodName)) ∈ lw_all := lw_g (lw_at lw_m12 51 rfl) rfl
theorem q2794 : (Jvm.Cond.code ({ cls := "CellReducerModel", name := "remembers", desc := "(I)V" } : Jvm.MethodName) prog_6_method_28_code (3 : Nat) (Option.none : Option Jvm.ClassFile.FieldType)) ∈ lw_all := lw_g (lw_at lw_m12 52 rfl) rfl
theorem q2796 : (Jvm.Cond.instanceMethod ({ cls := "CellReducerModel", name := "swap", desc := "(III)I" } : Jvm.MethodName)) ∈ lw_all := lw_g (lw_at lw_m12 54 rfl) rfl
theorem q2797 : (Jvm.Cond.selects "CellReducerModel" ({ cls := "CellReducerModel", name := "swap", desc := "(III)I" } : Jvm.MethodName) ({ cls := "CellReducerModel", name := "swap", desc := "(III)I" } : Jvm.MethodName)) ∈ lw_all := lw_g (lw_at lw_m12 55 rfl) rfl
theorem q2798 : (Jvm.Cond.code ({ cls := "CellReducerModel", name := "swap", desc := "(III)I" } : Jvm.MethodName) prog_6_method_37_code (4 : Nat) (Option.some Jvm.ClassFile.FieldType.int)) ∈ lw_all := lw_g (lw_at lw_m12 56 rfl) rfl
theorem q2799 : (Jvm.Cond.methodLink "CellReducerModel" (121 : Nat) ({ cls := "CellReducerModel", name := "exchanges", desc := "(III)V" } : Jvm.MethodName)) ∈ lw_all := lw_g (lw_at lw_m12 57 rfl) rfl
theorem q2800 : (Jvm.Cond.privateMethod ({ cls := "CellReducerModel", name := "exchanges", desc := "(III)V" } : Jvm.MethodName)) ∈ lw_tbl := lw_at lw_m12 58 rfl
theorem q2801 : (Jvm.Cond.instanceMethod ({ cls := "CellReducerModel", name := "exchanges", desc := "(III)V" } : Jvm.MethodName)) ∈ lw_all := lw_g (lw_at lw_m12 59 rfl) rfl
theorem q2802 : (Jvm.Cond.code ({ cls := "CellReducerModel", name := "exchanges", desc := "(III)V" } : Jvm.MethodName) prog_6_method_14_code (7 : Nat) (Option.none : Option Jvm.ClassFile.FieldType)) ∈ lw_all := lw_g (lw_at lw_m12 60 rfl) rfl
theorem q2803 : (Jvm.Cond.methodLink "CellReducerModel" (117 : Nat) ({ cls := "CellReducerModel", name := "turnsOne", desc := "(II)V" } : Jvm.MethodName)) ∈ lw_all := lw_g (lw_at lw_m12 61 rfl) rfl
theorem q2804 : (Jvm.Cond.privateMethod ({ cls := "CellReducerModel", name := "turnsOne", desc := "(II)V" } : Jvm.MethodName)) ∈ lw_tbl := lw_at lw_m12 62 rfl
theorem q2805 : (Jvm.Cond.instanceMethod ({ cls := "CellReducerModel", name := "turnsOne", desc := "(II)V" } : Jvm.MethodName)) ∈ lw_all := lw_g (lw_at lw_m12 63 rfl) rfl
theorem q2806 : (Jvm.Cond.code ({ cls := "CellReducerModel", name := "turnsOne", desc := "(II)V" } : Jvm.MethodName) prog_6_method_13_code (4 : Nat) (Option.none : Option Jvm.ClassFile.FieldType)) ∈ lw_all := lw_g (lw_at lw_m12 64 rfl) rfl
theorem q2808 : (Jvm.Cond.instanceMethod ({ cls := "CellReducerModel", name := "number", desc := "(II)J" } : Jvm.MethodName)) ∈ lw_all := lw_g (lw_at lw_m12 66 rfl) rfl
theorem q2809 : (Jvm.Cond.selects "CellReducerModel" ({ cls := "CellReducerModel", name := "number", desc := "(II)J" } : Jvm.MethodName) ({ cls := "CellReducerModel", name := "number", desc := "(II)J" } : Jvm.MethodName)) ∈ lw_all := lw_g (lw_at lw_m12 67 rfl) rfl
theorem q2810 : (Jvm.Cond.code ({ cls := "CellReducerModel", name := "number", desc := "(II)J" } : Jvm.MethodName) prog_6_method_38_code (3 : Nat) (Option.some Jvm.ClassFile.FieldType.long)) ∈ lw_all := lw_g (lw_at lw_m12 68 rfl) rfl
theorem q2811 : (Jvm.Cond.constantLong "CellReducerModel" (201 : Nat) (7 : Int64)) ∈ lw_all := lw_g (lw_at lw_m12 69 rfl) rfl
theorem q2812 : (Jvm.Cond.constantLong "CellReducerModel" (203 : Nat) (-9223372036854775808 : Int64)) ∈ lw_all := lw_g (lw_at lw_m12 70 rfl) rfl
theorem q2814 : (Jvm.Cond.instanceMethod ({ cls := "CellReducerModel", name := "change", desc := "(III)J" } : Jvm.MethodName)) ∈ lw_all := lw_g (lw_at lw_m12 72 rfl) rfl
theorem q2815 : (Jvm.Cond.selects "CellReducerModel" ({ cls := "CellReducerModel", name := "change", desc := "(III)J" } : Jvm.MethodName) ({ cls := "CellReducerModel", name := "change", desc := "(III)J" } : Jvm.MethodName)) ∈ lw_all := lw_g (lw_at lw_m12 73 rfl) rfl
theorem q2816 : (Jvm.Cond.code ({ cls := "CellReducerModel", name := "change", desc := "(III)J" } : Jvm.MethodName) prog_6_method_39_code (4 : Nat) (Option.some Jvm.ClassFile.FieldType.long)) ∈ lw_all := lw_g (lw_at lw_m12 74 rfl) rfl
theorem q2818 : (Jvm.Cond.instanceMethod ({ cls := "CellReducerModel", name := "fails", desc := "(I)I" } : Jvm.MethodName)) ∈ lw_all := lw_g (lw_at lw_m12 76 rfl) rfl
theorem q2819 : (Jvm.Cond.selects "CellReducerModel" ({ cls := "CellReducerModel", name := "fails", desc := "(I)I" } : Jvm.MethodName) ({ cls := "CellReducerModel", name := "fails", desc := "(I)I" } : Jvm.MethodName)) ∈ lw_all := lw_g (lw_at lw_m12 77 rfl) rfl
theorem q2820 : (Jvm.Cond.code ({ cls := "CellReducerModel", name := "fails", desc := "(I)I" } : Jvm.MethodName) prog_6_method_40_code (4 : Nat) (Option.some Jvm.ClassFile.FieldType.int)) ∈ lw_all := lw_g (lw_at lw_m12 78 rfl) rfl
theorem q2821 : (Jvm.Cond.methodLink "CellReducerModel" (113 : Nat) ({ cls := "CellReducerModel", name := "applies", desc := "(II)Z" } : Jvm.MethodName)) ∈ lw_all := lw_g (lw_at lw_m12 79 rfl) rfl
theorem q2822 : (Jvm.Cond.privateMethod ({ cls := "CellReducerModel", name := "applies", desc := "(II)Z" } : Jvm.MethodName)) ∈ lw_tbl := lw_at lw_m12 80 rfl
theorem q2823 : (Jvm.Cond.instanceMethod ({ cls := "CellReducerModel", name := "applies", desc := "(II)Z" } : Jvm.MethodName)) ∈ lw_all := lw_g (lw_at lw_m12 81 rfl) rfl
theorem q2824 : (Jvm.Cond.code ({ cls := "CellReducerModel", name := "applies", desc := "(II)Z" } : Jvm.MethodName) prog_6_method_20_code (11 : Nat) (Option.some Jvm.ClassFile.FieldType.boolean)) ∈ lw_all := lw_g (lw_at lw_m12 82 rfl) rfl
theorem q2825 : (Jvm.Cond.methodLink "CellReducerModel" (98 : Nat) ({ cls := "CellReducerModel", name := "without", desc := "(J)J" } : Jvm.MethodName)) ∈ lw_all := lw_g (lw_at lw_m12 83 rfl) rfl
theorem q2826 : (Jvm.Cond.static ({ cls := "CellReducerModel", name := "without", desc := "(J)J" } : Jvm.MethodName)) ∈ lw_all := lw_g (lw_at lw_m12 84 rfl) rfl
theorem q2827 : (Jvm.Cond.code ({ cls := "CellReducerModel", name := "without", desc := "(J)J" } : Jvm.MethodName) prog_6_method_5_code (2 : Nat) (Option.some Jvm.ClassFile.FieldType.long)) ∈ lw_all := lw_g (lw_at lw_m12 85 rfl) rfl
theorem q2828 : (Jvm.Cond.methodLink "CellReducerModel" (102 : Nat) ({ cls := "CellReducerModel", name := "product", desc := "(I)I" } : Jvm.MethodName)) ∈ lw_all := lw_g (lw_at lw_m12 86 rfl) rfl
theorem q2829 : (Jvm.Cond.privateMethod ({ cls := "CellReducerModel", name := "product", desc := "(I)I" } : Jvm.MethodName)) ∈ lw_tbl := lw_at lw_m12 87 rfl
theorem q2830 : (Jvm.Cond.instanceMethod ({ cls := "CellReducerModel", name := "product", desc := "(I)I" } : Jvm.MethodName)) ∈ lw_all := lw_g (lw_at lw_m12 88 rfl) rfl
theorem q2831 : (Jvm.Cond.code ({ cls := "CellReducerModel", name := "product", desc := "(I)I" } : Jvm.MethodName) prog_6_method_17_code (2 : Nat) (Option.some Jvm.ClassFile.FieldType.int)) ∈ lw_all := lw_g (lw_at lw_m12 89 rfl) rfl
theorem q2832 : (Jvm.Cond.methodLink "CellReducerModel" (94 : Nat) ({ cls := "CellReducerModel", name := "sign", desc := "(J)I" } : Jvm.MethodName)) ∈ lw_all := lw_g (lw_at lw_m12 90 rfl) rfl
theorem q2833 : (Jvm.Cond.static ({ cls := "CellReducerModel", name := "sign", desc := "(J)I" } : Jvm.MethodName)) ∈ lw_all := lw_g (lw_at lw_m12 91 rfl) rfl
theorem q2834 : (Jvm.Cond.code ({ cls := "CellReducerModel", name := "sign", desc := "(J)I" } : Jvm.MethodName) prog_6_method_16_code (2 : Nat) (Option.some Jvm.ClassFile.FieldType.int)) ∈ lw_all := lw_g (lw_at lw_m12 92 rfl) rfl
theorem q2835 : (Jvm.Cond.methodLink "CellReducerModel" (106 : Nat) ({ cls := "CellReducerModel", name := "above", desc := "(I)I" } : Jvm.MethodName)) ∈ lw_all := lw_g (lw_at lw_m12 93 rfl) rfl
theorem q2836 : (Jvm.Cond.privateMethod ({ cls := "CellReducerModel", name := "above", desc := "(I)I" } : Jvm.MethodName)) ∈ lw_tbl := lw_at lw_m12 94 rfl
theorem q2837 : (Jvm.Cond.instanceMethod ({ cls := "CellReducerModel", name := "above", desc := "(I)I" } : Jvm.MethodName)) ∈ lw_all := lw_g (lw_at lw_m12 95 rfl) rfl
theorem q2838 : (Jvm.Cond.code ({ cls := "CellReducerModel", name := "above", desc := "(I)I" } : Jvm.MethodName) prog_6_method_18_code (4 : Nat) (Option.some Jvm.ClassFile.FieldType.int)) ∈ lw_all := lw_g (lw_at lw_m12 96 rfl) rfl
theorem q2839 : (Jvm.Cond.methodLink "CellReducerModel" (109 : Nat) ({ cls := "CellReducerModel", name := "isLong", desc := "(JJJJ)Z" } : Jvm.MethodName)) ∈ lw_all := lw_g (lw_at lw_m12 97 rfl) rfl
theorem q2840 : (Jvm.Cond.static ({ cls := "CellReducerModel", name := "isLong", desc := "(JJJJ)Z" } : Jvm.MethodName)) ∈ lw_all := lw_g (lw_at lw_m12 98 rfl) rfl
theorem q2841 : (Jvm.Cond.code ({ cls := "CellReducerModel", name := "isLong", desc := "(JJJJ)Z" } : Jvm.MethodName) prog_6_method_19_code (8 : Nat) (Option.some Jvm.ClassFile.FieldType.boolean)) ∈ lw_all := lw_g (lw_at lw_m12 99 rfl) rfl
theorem q2843 : (Jvm.Cond.instanceMethod ({ cls := "CellReducerModel", name := "step", desc := "(I)I" } : Jvm.MethodName)) ∈ lw_all := lw_g (lw_at lw_m12 101 rfl) rfl
theorem q2844 : (Jvm.Cond.selects "CellReducerModel" ({ cls := "CellReducerModel", name := "step", desc := "(I)I" } : Jvm.MethodName) ({ cls := "CellReducerModel", name := "step", desc := "(I)I" } : Jvm.MethodName)) ∈ lw_all := lw_g (lw_at lw_m12 102 rfl) rfl
theorem q2845 : (Jvm.Cond.code ({ cls := "CellReducerModel", name := "step", desc := "(I)I" } : Jvm.MethodName) prog_6_method_41_code (3 : Nat) (Option.some Jvm.ClassFile.FieldType.int)) ∈ lw_all := lw_g (lw_at lw_m12 103 rfl) rfl
theorem q2846 : (Jvm.Cond.methodLink "CellReducerModel" (139 : Nat) ({ cls := "CellReducerModel", name := "firstOf", desc := "(I)I" } : Jvm.MethodName)) ∈ lw_all := lw_g (lw_at lw_m12 104 rfl) rfl
theorem q2847 : (Jvm.Cond.privateMethod ({ cls := "CellReducerModel", name := "firstOf", desc := "(I)I" } : Jvm.MethodName)) ∈ lw_tbl := lw_at lw_m12 105 rfl
theorem q2848 : (Jvm.Cond.instanceMethod ({ cls := "CellReducerModel", name := "firstOf", desc := "(I)I" } : Jvm.MethodName)) ∈ lw_all := lw_g (lw_at lw_m12 106 rfl) rfl
theorem q2849 : (Jvm.Cond.code ({ cls := "CellReducerModel", name := "firstOf", desc := "(I)I" } : Jvm.MethodName) prog_6_method_21_code (3 : Nat) (Option.some Jvm.ClassFile.FieldType.int)) ∈ lw_all := lw_g (lw_at lw_m12 107 rfl) rfl
theorem q2850 : (Jvm.Cond.methodLink "CellReducerModel" (142 : Nat) ({ cls := "CellReducerModel", name := "does", desc := "(II)V" } : Jvm.MethodName)) ∈ lw_all := lw_g (lw_at lw_m12 108 rfl) rfl
theorem q2851 : (Jvm.Cond.privateMethod ({ cls := "CellReducerModel", name := "does", desc := "(II)V" } : Jvm.MethodName)) ∈ lw_tbl := lw_at lw_m12 109 rfl
theorem q2852 : (Jvm.Cond.instanceMethod ({ cls := "CellReducerModel", name := "does", desc := "(II)V" } : Jvm.MethodName)) ∈ lw_all := lw_g (lw_at lw_m12 110 rfl) rfl
theorem q2853 : (Jvm.Cond.code ({ cls := "CellReducerModel", name := "does", desc := "(II)V" } : Jvm.MethodName) prog_6_method_24_code (3 : Nat) (Option.none : Option Jvm.ClassFile.FieldType)) ∈ lw_all := lw_g (lw_at lw_m12 111 rfl) rfl
theorem q2854 : (Jvm.Cond.methodLink "CellReducerModel" (125 : Nat) ({ cls := "CellReducerModel", name := "turnsAll", desc := "(I)V" } : Jvm.MethodName)) ∈ lw_all := lw_g (lw_at lw_m12 112 rfl) rfl
theorem q2855 : (Jvm.Cond.privateMethod ({ cls := "CellReducerModel", name := "turnsAll", desc := "(I)V" } : Jvm.MethodName)) ∈ lw_tbl := lw_at lw_m12 113 rfl
theorem q2856 : (Jvm.Cond.instanceMethod ({ cls := "CellReducerModel", name := "turnsAll", desc := "(I)V" } : Jvm.MethodName)) ∈ lw_all := lw_g (lw_at lw_m12 114 rfl) rfl
theorem q2857 : (Jvm.Cond.code ({ cls := "CellReducerModel", name := "turnsAll", desc := "(I)V" } : Jvm.MethodName) prog_6_method_23_code (3 : Nat) (Option.none : Option Jvm.ClassFile.FieldType)) ∈ lw_all := lw_g (lw_at lw_m12 115 rfl) rfl
theorem q2858 : (Jvm.Cond.methodLink "CellReducerModel" (129 : Nat) ({ cls := "CellReducerModel", name := "turnsSome", desc := "(IZ)V" } : Jvm.MethodName)) ∈ lw_all := lw_g (lw_at lw_m12 116 rfl) rfl
theorem q2859 : (Jvm.Cond.privateMethod ({ cls := "CellReducerModel", name := "turnsSome", desc := "(IZ)V" } : Jvm.MethodName)) ∈ lw_tbl := lw_at lw_m12 117 rfl
theorem q2860 : (Jvm.Cond.instanceMethod ({ cls := "CellReducerModel", name := "turnsSome", desc := "(IZ)V" } : Jvm.MethodName)) ∈ lw_all := lw_g (lw_at lw_m12 118 rfl) rfl
theorem q2861 : (Jvm.Cond.code ({ cls := "CellReducerModel", name := "turnsSome", desc := "(IZ)V" } : Jvm.MethodName) prog_6_method_22_code (10 : Nat) (Option.none : Option Jvm.ClassFile.FieldType)) ∈ lw_all := lw_g (lw_at lw_m12 119 rfl) rfl
theorem q2862 : (Jvm.Cond.constantLong "CellReducerModel" (133 : Nat) (-1 : Int64)) ∈ lw_all := lw_g (lw_at lw_m12 120 rfl) rfl
theorem q2863 : (Jvm.Cond.methodLink "CellReducerModel" (205 : Nat) ({ cls := "CellReducerModel", name := "logs", desc := "(II)V" } : Jvm.MethodName)) ∈ lw_all := lw_g (lw_at lw_m12 121 rfl) rfl
theorem q2864 : (Jvm.Cond.privateMethod ({ cls := "CellReducerModel", name := "logs", desc := "(II)V" } : Jvm.MethodName)) ∈ lw_tbl := lw_at lw_m12 122 rfl
theorem q2865 : (Jvm.Cond.instanceMethod ({ cls := "CellReducerModel", name := "logs", desc := "(II)V" } : Jvm.MethodName)) ∈ lw_all := lw_g (lw_at lw_m12 123 rfl) rfl
theorem q2866 : (Jvm.Cond.code ({ cls := "CellReducerModel", name := "logs", desc := "(II)V" } : Jvm.MethodName) prog_6_method_30_code (4 : Nat) (Option.none : Option Jvm.ClassFile.FieldType)) ∈ lw_all := lw_g (lw_at lw_m12 124 rfl) rfl
theorem q2868 : (Jvm.Cond.instanceMethod ({ cls := "CellReducerModel", name := "reduce", desc := "(I)I" } : Jvm.MethodName)) ∈ lw_all := lw_g (lw_at lw_m12 126 rfl) rfl
theorem q2869 : (Jvm.Cond.selects "CellReducerModel" ({ cls := "CellReducerModel", name := "reduce", desc := "(I)I" } : Jvm.MethodName) ({ cls := "CellReducerModel", name := "reduce", desc := "(I)I" } : Jvm.MethodName)) ∈ lw_all := lw_g (lw_at lw_m12 127 rfl) rfl
theorem q2870 : (Jvm.Cond.code ({ cls := "CellReducerModel", name := "reduce", desc := "(I)I" } : Jvm.MethodName) prog_6_method_42_code (4 : Nat) (Option.some Jvm.ClassFile.FieldType.int)) ∈ lw_all := lw_g (lw_at lw_m12 128 rfl) rfl
theorem q2872 : (Jvm.Cond.instanceMethod ({ cls := "CellReducerModel", name := "normal", desc := "(II)J" } : Jvm.MethodName)) ∈ lw_all := lw_g (lw_at lw_m12 130 rfl) rfl
theorem q2873 : (Jvm.Cond.selects "CellReducerModel" ({ cls := "CellReducerModel", name := "normal", desc := "(II)J" } : Jvm.MethodName) ({ cls := "CellReducerModel", name := "normal", desc := "(II)J" } : Jvm.MethodName)) ∈ lw_all := lw_g (lw_at lw_m12 131 rfl) rfl
theorem q2874 : (Jvm.Cond.code ({ cls := "CellReducerModel", name := "normal", desc := "(II)J" } : Jvm.MethodName) prog_6_method_43_code (4 : Nat) (Option.some Jvm.ClassFile.FieldType.long)) ∈ lw_all := lw_g (lw_at lw_m12 132 rfl) rfl
theorem q2875 : (Jvm.Cond.methodLink "CellReducerModel" (207 : Nat) ({ cls := "CellReducerModel", name := "normals", desc := "(II)I" } : Jvm.MethodName)) ∈ lw_all := lw_g (lw_at lw_m12 133 rfl) rfl
theorem q2876 : (Jvm.Cond.privateMethod ({ cls := "CellReducerModel", name := "normals", desc := "(II)I" } : Jvm.MethodName)) ∈ lw_tbl := lw_at lw_m12 134 rfl
theorem q2877 : (Jvm.Cond.instanceMethod ({ cls := "CellReducerModel", name := "normals", desc := "(II)I" } : Jvm.MethodName)) ∈ lw_all := lw_g (lw_at lw_m12 135 rfl) rfl
theorem q2878 : (Jvm.Cond.code ({ cls := "CellReducerModel", name := "normals", desc := "(II)I" } : Jvm.MethodName) prog_6_method_26_code (3 : Nat) (Option.some Jvm.ClassFile.FieldType.int)) ∈ lw_all := lw_g (lw_at lw_m12 136 rfl) rfl
theorem q2879 : (Jvm.Cond.methodLink "CellReducerModel" (151 : Nat) ({ cls := "CellReducerModel", name := "goesOn", desc := "(I)I" } : Jvm.MethodName)) ∈ lw_all := lw_g (lw_at lw_m12 137 rfl) rfl
theorem q2880 : (Jvm.Cond.privateMethod ({ cls := "CellReducerModel", name := "goesOn", desc := "(I)I" } : Jvm.MethodName)) ∈ lw_tbl := lw_at lw_m12 138 rfl
theorem q2881 : (Jvm.Cond.instanceMethod ({ cls := "CellReducerModel", name := "goesOn", desc := "(I)I" } : Jvm.MethodName)) ∈ lw_all := lw_g (lw_at lw_m12 139 rfl) rfl
theorem q2882 : (Jvm.Cond.code ({ cls := "CellReducerModel", name := "goesOn", desc := "(I)I" } : Jvm.MethodName) prog_6_method_25_code (4 : Nat) (Option.some Jvm.ClassFile.FieldType.int)) ∈ lw_all := lw_g (lw_at lw_m12 140 rfl) rfl
theorem q2884 : (Jvm.Cond.instanceMethod ({ cls := "CellReducerModel", name := "log", desc := "(I)I" } : Jvm.MethodName)) ∈ lw_all := lw_g (lw_at lw_m12 142 rfl) rfl
theorem q2885 : (Jvm.Cond.selects "CellReducerModel" ({ cls := "CellReducerModel", name := "log", desc := "(I)I" } : Jvm.MethodName) ({ cls := "CellReducerModel", name := "log", desc := "(I)I" } : Jvm.MethodName)) ∈ lw_all := lw_g (lw_at lw_m12 143 rfl) rfl
theorem q2886 : (Jvm.Cond.code ({ cls := "CellReducerModel", name := "log", desc := "(I)I" } : Jvm.MethodName) prog_6_method_44_code (2 : Nat) (Option.some Jvm.ClassFile.FieldType.int)) ∈ lw_all := lw_g (lw_at lw_m12 144 rfl) rfl
theorem q2888 : (Jvm.Cond.instanceMethod ({ cls := "CellReducerModel", name := "forget", desc := "(I)I" } : Jvm.MethodName)) ∈ lw_all := lw_g (lw_at lw_m12 146 rfl) rfl
theorem q2889 : (Jvm.Cond.selects "CellReducerModel" ({ cls := "CellReducerModel", name := "forget", desc := "(I)I" } : Jvm.MethodName) ({ cls := "CellReducerModel", name := "forget", desc := "(I)I" } : Jvm.MethodName)) ∈ lw_all := lw_g (lw_at lw_m12 147 rfl) rfl
theorem q2890 : (Jvm.Cond.code ({ cls := "CellReducerModel", name := "forget", desc := "(I)I" } : Jvm.MethodName) prog_6_method_45_code (2 : Nat) (Option.some Jvm.ClassFile.FieldType.int)) ∈ lw_all := lw_g (lw_at lw_m12 148 rfl) rfl
theorem q2891 : (Jvm.Cond.constantLong "CellReducerModel" (210 : Nat) (8 : Int64)) ∈ lw_all := lw_g (lw_at lw_m12 149 rfl) rfl
theorem q2893 : (Jvm.Cond.instanceMethod ({ cls := "CellReducerModel", name := "same", desc := "(II)I" } : Jvm.MethodName)) ∈ lw_all := lw_g (lw_at lw_m12 151 rfl) rfl
theorem q2894 : (Jvm.Cond.selects "CellReducerModel" ({ cls := "CellReducerModel", name := "same", desc := "(II)I" } : Jvm.MethodName) ({ cls := "CellReducerModel", name := "same", desc := "(II)I" } : Jvm.MethodName)) ∈ lw_all := lw_g (lw_at lw_m12 152 rfl) rfl
theorem q2895 : (Jvm.Cond.code ({ cls := "CellReducerModel", name := "same", desc := "(II)I" } : Jvm.MethodName) prog_6_method_47_code (3 : Nat) (Option.some Jvm.ClassFile.FieldType.int)) ∈ lw_all := lw_g (lw_at lw_m12 153 rfl) rfl
theorem q2896 : (Jvm.Cond.methodLink "CellReducerModel" (215 : Nat) ({ cls := "CellReducerModel", name := "areSame", desc := "(II)Z" } : Jvm.MethodName)) ∈ lw_all := lw_g (lw_at lw_m12 154 rfl) rfl
theorem q2897 : (Jvm.Cond.privateMethod ({ cls := "CellReducerModel", name := "areSame", desc := "(II)Z" } : Jvm.MethodName)) ∈ lw_tbl := lw_at lw_m12 155 rfl
theorem q2898 : (Jvm.Cond.instanceMethod ({ cls := "CellReducerModel", name := "areSame", desc := "(II)Z" } : Jvm.MethodName)) ∈ lw_all := lw_g (lw_at lw_m12 156 rfl) rfl
theorem q2899 : (Jvm.Cond.code ({ cls := "CellReducerModel", name := "areSame", desc := "(II)Z" } : Jvm.MethodName) prog_6_method_46_code (3 : Nat) (Option.some Jvm.ClassFile.FieldType.boolean)) ∈ lw_all := lw_g (lw_at lw_m12 157 rfl) rfl
theorem q2900 : (Jvm.Cond.methodLink "CellReducerModel" (212 : Nat) ({ cls := "CellReducerModel", name := "areLike", desc := "(II)Z" } : Jvm.MethodName)) ∈ lw_all := lw_g (lw_at lw_m12 158 rfl) rfl
theorem q2901 : (Jvm.Cond.privateMethod ({ cls := "CellReducerModel", name := "areLike", desc := "(II)Z" } : Jvm.MethodName)) ∈ lw_tbl := lw_at lw_m12 159 rfl
theorem q2902 : (Jvm.Cond.instanceMethod ({ cls := "CellReducerModel", name := "areLike", desc := "(II)Z" } : Jvm.MethodName)) ∈ lw_all := lw_g (lw_at lw_m12 160 rfl) rfl
theorem q2903 : (Jvm.Cond.code ({ cls := "CellReducerModel", name := "areLike", desc := "(II)Z" } : Jvm.MethodName) prog_6_method_27_code (4 : Nat) (Option.some Jvm.ClassFile.FieldType.boolean)) ∈ lw_all := lw_g (lw_at lw_m12 161 rfl) rfl
theorem q2905 : (Jvm.Cond.instanceMethod ({ cls := "CellReducerModel", name := "bridge", desc := "(IIII)J" } : Jvm.MethodName)) ∈ lw_all := lw_g (lw_at lw_m12 163 rfl) rfl
theorem q2906 : (Jvm.Cond.selects "CellReducerModel" ({ cls := "CellReducerModel", name := "bridge", desc := "(IIII)J" } : Jvm.MethodName) ({ cls := "CellReducerModel", name := "bridge", desc := "(IIII)J" } : Jvm.MethodName)) ∈ lw_all := lw_g (lw_at lw_m12 164 rfl) rfl
theorem q2907 : (Jvm.Cond.code ({ cls := "CellReducerModel", name := "bridge", desc := "(IIII)J" } : Jvm.MethodName) prog_6_method_49_code (8 : Nat) (Option.some Jvm.ClassFile.FieldType.long)) ∈ lw_all := lw_g (lw_at lw_m12 165 rfl) rfl
theorem q2908 : (Jvm.Cond.methodLink "CellReducerModel" (218 : Nat) ({ cls := "CellReducerModel", name := "back", desc := "(III)J" } : Jvm.MethodName)) ∈ lw_all := lw_g (lw_at lw_m12 166 rfl) rfl
theorem q2909 : (Jvm.Cond.privateMethod ({ cls := "CellReducerModel", name := "back", desc := "(III)J" } : Jvm.MethodName)) ∈ lw_tbl := lw_at lw_m12 167 rfl
theorem q2910 : (Jvm.Cond.instanceMethod ({ cls := "CellReducerModel", name := "back", desc := "(III)J" } : Jvm.MethodName)) ∈ lw_all := lw_g (lw_at lw_m12 168 rfl) rfl
theorem q2911 : (Jvm.Cond.code ({ cls := "CellReducerModel", name := "back", desc := "(III)J" } : Jvm.MethodName) prog_6_method_48_code (8 : Nat) (Option.some Jvm.ClassFile.FieldType.long)) ∈ lw_all := lw_g (lw_at lw_m12 169 rfl) rfl
theorem q2913 : (Jvm.Cond.instanceMethod ({ cls := "CellReducerModel", name := "turns", desc := "(II)I" } : Jvm.MethodName)) ∈ lw_all := lw_g (lw_at lw_m12 171 rfl) rfl
theorem q2914 : (Jvm.Cond.selects "CellReducerModel" ({ cls := "CellReducerModel", name := "turns", desc := "(II)I" } : Jvm.MethodName) ({ cls := "CellReducerModel", name := "turns", desc := "(II)I" } : Jvm.MethodName)) ∈ lw_all := lw_g (lw_at lw_m12 172 rfl) rfl
theorem q2915 : (Jvm.Cond.code ({ cls := "CellReducerModel", name := "turns", desc := "(II)I" } : Jvm.MethodName) prog_6_method_53_code (3 : Nat) (Option.some Jvm.ClassFile.FieldType.int)) ∈ lw_all := lw_g (lw_at lw_m12 173 rfl) rfl
theorem q2916 : (Jvm.Cond.methodLink "CellReducerModel" (227 : Nat) ({ cls := "CellReducerModel", name := "turning", desc := "(II)I" } : Jvm.MethodName)) ∈ lw_all := lw_g (lw_at lw_m12 174 rfl) rfl
theorem q2917 : (Jvm.Cond.privateMethod ({ cls := "CellReducerModel", name := "turning", desc := "(II)I" } : Jvm.MethodName)) ∈ lw_tbl := lw_at lw_m12 175 rfl
theorem q2918 : (Jvm.Cond.instanceMethod ({ cls := "CellReducerModel", name := "turning", desc := "(II)I" } : Jvm.MethodName)) ∈ lw_all := lw_g (lw_at lw_m12 176 rfl) rfl
theorem q2919 : (Jvm.Cond.code ({ cls := "CellReducerModel", name := "turning", desc := "(II)I" } : Jvm.MethodName) prog_6_method_52_code (7 : Nat) (Option.some Jvm.ClassFile.FieldType.int)) ∈ lw_all := lw_g (lw_at lw_m12 177 rfl) rfl
theorem q2920 : (Jvm.Cond.methodLink "CellReducerModel" (224 : Nat) ({ cls := "CellReducerModel", name := "columns", desc := "(III)J" } : Jvm.MethodName)) ∈ lw_all := lw_g (lw_at lw_m12 178 rfl) rfl
theorem q2921 : (Jvm.Cond.privateMethod ({ cls := "CellReducerModel", name := "columns", desc := "(III)J" } : Jvm.MethodName)) ∈ lw_tbl := lw_at lw_m12 179 rfl
theorem q2922 : (Jvm.Cond.instanceMethod ({ cls := "CellReducerModel", name := "columns", desc := "(III)J" } : Jvm.MethodName)) ∈ lw_all := lw_g (lw_at lw_m12 180 rfl) rfl
theorem q2923 : (Jvm.Cond.code ({ cls := "CellReducerModel", name := "columns", desc := "(III)J" } : Jvm.MethodName) prog_6_method_51_code (8 : Nat) (Option.some Jvm.ClassFile.FieldType.long)) ∈ lw_all := lw_g (lw_at lw_m12 181 rfl) rfl
theorem q2924 : (Jvm.Cond.methodLink "CellReducerModel" (221 : Nat) ({ cls := "CellReducerModel", name := "figure", desc := "(II)I" } : Jvm.MethodName)) ∈ lw_all := lw_g (lw_at lw_m12 182 rfl) rfl
theorem q2925 : (Jvm.Cond.static ({ cls := "CellReducerModel", name := "figure", desc := "(II)I" } : Jvm.MethodName)) ∈ lw_all := lw_g (lw_at lw_m12 183 rfl) rfl
theorem q2926 : (Jvm.Cond.code ({ cls := "CellReducerModel", name := "figure", desc := "(II)I" } : Jvm.MethodName) prog_6_method_50_code (2 : Nat) (Option.some Jvm.ClassFile.FieldType.int)) ∈ lw_all := lw_g (lw_at lw_m12 184 rfl) rfl
theorem q2928 : (Jvm.Cond.instanceMethod ({ cls := "CellReducerModel", name := "system", desc := "(I)I" } : Jvm.MethodName)) ∈ lw_all := lw_g (lw_at lw_m12 186 rfl) rfl
theorem q2929 : (Jvm.Cond.selects "CellReducerModel" ({ cls := "CellReducerModel", name := "system", desc := "(I)I" } : Jvm.MethodName) ({ cls := "CellReducerModel", name := "system", desc := "(I)I" } : Jvm.MethodName)) ∈ lw_all := lw_g (lw_at lw_m12 187 rfl) rfl
theorem q2930 : (Jvm.Cond.code ({ cls := "CellReducerModel", name := "system", desc := "(I)I" } : Jvm.MethodName) prog_6_method_54_code (2 : Nat) (Option.some Jvm.ClassFile.FieldType.int)) ∈ lw_all := lw_g (lw_at lw_m12 188 rfl) rfl
theorem q2932 : (Jvm.Cond.instanceMethod ({ cls := "CellReducerModel", name := "shell", desc := "(III)I" } : Jvm.MethodName)) ∈ lw_all := lw_g (lw_at lw_m12 190 rfl) rfl
theorem q2933 : (Jvm.Cond.selects "CellReducerModel" ({ cls := "CellReducerModel", name := "shell", desc := "(III)I" } : Jvm.MethodName) ({ cls := "CellReducerModel", name := "shell", desc := "(III)I" } : Jvm.MethodName)) ∈ lw_all := lw_g (lw_at lw_m12 191 rfl) rfl
theorem q2934 : (Jvm.Cond.code ({ cls := "CellReducerModel", name := "shell", desc := "(III)I" } : Jvm.MethodName) prog_6_method_57_code (7 : Nat) (Option.some Jvm.ClassFile.FieldType.int)) ∈ lw_all := lw_g (lw_at lw_m12 192 rfl) rfl
theorem q2935 : (Jvm.Cond.methodLink "CellReducerModel" (237 : Nat) ({ cls := "CellReducerModel", name := "next", desc := "(IJ)J" } : Jvm.MethodName)) ∈ lw_all := lw_g (lw_at lw_m12 193 rfl) rfl
theorem q2936 : (Jvm.Cond.privateMethod ({ cls := "CellReducerModel", name := "next", desc := "(IJ)J" } : Jvm.MethodName)) ∈ lw_tbl := lw_at lw_m12 194 rfl
theorem q2937 : (Jvm.Cond.instanceMethod ({ cls := "CellReducerModel", name := "next", desc := "(IJ)J" } : Jvm.MethodName)) ∈ lw_all := lw_g (lw_at lw_m12 195 rfl) rfl
theorem q2938 : (Jvm.Cond.code ({ cls := "CellReducerModel", name := "next", desc := "(IJ)J" } : Jvm.MethodName) prog_6_method_56_code (9 : Nat) (Option.some Jvm.ClassFile.FieldType.long)) ∈ lw_all := lw_g (lw_at lw_m12 196 rfl) rfl
theorem q2939 : (Jvm.Cond.methodLink "CellReducerModel" (233 : Nat) ({ cls := "CellReducerModel", name := "square", desc := "(IJJJ)J" } : Jvm.MethodName)) ∈ lw_all := lw_g (lw_at lw_m12 197 rfl) rfl
theorem q2940 : (Jvm.Cond.privateMethod ({ cls := "CellReducerModel", name := "square", desc := "(IJJJ)J" } : Jvm.MethodName)) ∈ lw_tbl := lw_at lw_m12 198 rfl
theorem q2941 : (Jvm.Cond.instanceMethod ({ cls := "CellReducerModel", name := "square", desc := "(IJJJ)J" } : Jvm.MethodName)) ∈ lw_all := lw_g (lw_at lw_m12 199 rfl) rfl
theorem q2942 : (Jvm.Cond.code ({ cls := "CellReducerModel", name := "square", desc := "(IJJJ)J" } : Jvm.MethodName) prog_6_method_55_code (8 : Nat) (Option.some Jvm.ClassFile.FieldType.long)) ∈ lw_all := lw_g (lw_at lw_m12 200 rfl) rfl
theorem q2944 : (Jvm.Cond.instanceMethod ({ cls := "CellReducerModel", name := "squares", desc := "(I)J" } : Jvm.MethodName)) ∈ lw_all := lw_g (lw_at lw_m12 202 rfl) rfl
theorem q2945 : (Jvm.Cond.selects "CellReducerModel" ({ cls := "CellReducerModel", name := "squares", desc := "(I)J" } : Jvm.MethodName) ({ cls := "CellReducerModel", name := "squares", desc := "(I)J" } : Jvm.MethodName)) ∈ lw_all := lw_g (lw_at lw_m12 203 rfl) rfl
theorem q2946 : (Jvm.Cond.code ({ cls := "CellReducerModel", name := "squares", desc := "(I)J" } : Jvm.MethodName) prog_6_method_58_code (7 : Nat) (Option.some Jvm.ClassFile.FieldType.long)) ∈ lw_all := lw_g (lw_at lw_m12 204 rfl) rfl
theorem q2947 : (Jvm.Cond.constantLong "CellReducerModel" (241 : Nat) (60 : Int64)) ∈ lw_all := lw_g (lw_at lw_m12 205 rfl) rfl
theorem q2949 : (Jvm.Cond.instanceMethod ({ cls := "CellReducerModel", name := "within", desc := "(III)J" } : Jvm.MethodName)) ∈ lw_all := lw_g (lw_at lw_m12 207 rfl) rfl
theorem q2950 : (Jvm.Cond.selects "CellReducerModel" ({ cls := "CellReducerModel", name := "within", desc := "(III)J" } : Jvm.MethodName) ({ cls := "CellReducerModel", name := "within", desc := "(III)J" } : Jvm.MethodName)) ∈ lw_all := lw_g (lw_at lw_m12 208 rfl) rfl
theorem q2951 : (Jvm.Cond.code ({ cls := "CellReducerModel", name := "within", desc := "(III)J" } : Jvm.MethodName) prog_6_method_63_code (5 : Nat) (Option.some Jvm.ClassFile.FieldType.long)) ∈ lw_all := lw_g (lw_at lw_m12 209 rfl) rfl
theorem q2952 : (Jvm.Cond.constantLong "CellReducerModel" (250 : Nat) (6 : Int64)) ∈ lw_all := lw_g (lw_at lw_m12 210 rfl) rfl
theorem q2953 : (Jvm.Cond.methodLink "CellReducerModel" (252 : Nat) ({ cls := "CellReducerModel", name := "within", desc := "(II)I" } : Jvm.MethodName)) ∈ lw_all := lw_g (lw_at lw_m12 211 rfl) rfl
theorem q2954 : (Jvm.Cond.privateMethod ({ cls := "CellReducerModel", name := "within", desc := "(II)I" } : Jvm.MethodName)) ∈ lw_tbl := lw_at lw_m12 212 rfl
theorem q2955 : (Jvm.Cond.instanceMethod ({ cls := "CellReducerModel", name := "within", desc := "(II)I" } : Jvm.MethodName)) ∈ lw_all := lw_g (lw_at lw_m12 213 rfl) rfl
theorem q2956 : (Jvm.Cond.code ({ cls := "CellReducerModel", name := "within", desc := "(II)I" } : Jvm.MethodName) prog_6_method_60_code (9 : Nat) (Option.some Jvm.ClassFile.FieldType.int)) ∈ lw_all := lw_g (lw_at lw_m12 214 rfl) rfl
theorem q2957 : (Jvm.Cond.methodLink "CellReducerModel" (243 : Nat) ({ cls := "CellReducerModel", name := "puts", desc := "(IIIIIIII)V" } : Jvm.MethodName)) ∈ lw_all := lw_g (lw_at lw_m12 215 rfl) rfl
theorem q2958 : (Jvm.Cond.privateMethod ({ cls := "CellReducerModel", name := "puts", desc := "(IIIIIIII)V" } : Jvm.MethodName)) ∈ lw_tbl := lw_at lw_m12 216 rfl
theorem q2959 : (Jvm.Cond.instanceMethod ({ cls := "CellReducerModel", name := "puts", desc := "(IIIIIIII)V" } : Jvm.MethodName)) ∈ lw_all := lw_g (lw_at lw_m12 217 rfl) rfl
theorem q2960 : (Jvm.Cond.code ({ cls := "CellReducerModel", name := "puts", desc := "(IIIIIIII)V" } : Jvm.MethodName) prog_6_method_59_code (31 : Nat) (Option.none : Option Jvm.ClassFile.FieldType)) ∈ lw_all := lw_g (lw_at lw_m12 218 rfl) rfl
theorem q2961 : (Jvm.Cond.methodLink "CellReducerModel" (255 : Nat) ({ cls := "CellReducerModel", name := "unlike", desc := "(I)I" } : Jvm.MethodName)) ∈ lw_all := lw_g (lw_at lw_m12 219 rfl) rfl
theorem q2962 : (Jvm.Cond.privateMethod ({ cls := "CellReducerModel", name := "unlike", desc := "(I)I" } : Jvm.MethodName)) ∈ lw_tbl := lw_at lw_m12 220 rfl
theorem q2963 : (Jvm.Cond.instanceMethod ({ cls := "CellReducerModel", name := "unlike", desc := "(I)I" } : Jvm.MethodName)) ∈ lw_all := lw_g (lw_at lw_m12 221 rfl) rfl
theorem q2964 : (Jvm.Cond.code ({ cls := "CellReducerModel", name := "unlike", desc := "(I)I" } : Jvm.MethodName) prog_6_method_62_code (6 : Nat) (Option.some Jvm.ClassFile.FieldType.int)) ∈ lw_all := lw_g (lw_at lw_m12 222 rfl) rfl
theorem q2965 : (Jvm.Cond.methodLink "CellReducerModel" (247 : Nat) ({ cls := "CellReducerModel", name := "areFound", desc := "(II)Z" } : Jvm.MethodName)) ∈ lw_all := lw_g (lw_at lw_m12 223 rfl) rfl
theorem q2966 : (Jvm.Cond.privateMethod ({ cls := "CellReducerModel", name := "areFound", desc := "(II)Z" } : Jvm.MethodName)) ∈ lw_tbl := lw_at lw_m12 224 rfl
theorem q2967 : (Jvm.Cond.instanceMethod ({ cls := "CellReducerModel", name := "areFound", desc := "(II)Z" } : Jvm.MethodName)) ∈ lw_all := lw_g (lw_at lw_m12 225 rfl) rfl
theorem q2968 : (Jvm.Cond.code ({ cls := "CellReducerModel", name := "areFound", desc := "(II)Z" } : Jvm.MethodName) prog_6_method_61_code (4 : Nat) (Option.some Jvm.ClassFile.FieldType.boolean)) ∈ lw_all := lw_g (lw_at lw_m12 226 rfl) rfl
theorem q2970 : (Jvm.Cond.instanceMethod ({ cls := "CellReducerModel", name := "holds", desc := "(III)I" } : Jvm.MethodName)) ∈ lw_all := lw_g (lw_at lw_m12 228 rfl) rfl
theorem q2971 : (Jvm.Cond.selects "CellReducerModel" ({ cls := "CellReducerModel", name := "holds", desc := "(III)I" } : Jvm.MethodName) ({ cls := "CellReducerModel", name := "holds", desc := "(III)I" } : Jvm.MethodName)) ∈ lw_all := lw_g (lw_at lw_m12 229 rfl) rfl
theorem q2972 : (Jvm.Cond.code ({ cls := "CellReducerModel", name := "holds", desc := "(III)I" } : Jvm.MethodName) prog_6_method_64_code (9 : Nat) (Option.some Jvm.ClassFile.FieldType.int)) ∈ lw_all := lw_g (lw_at lw_m12 230 rfl) rfl
theorem q2974 : (Jvm.Cond.instanceMethod ({ cls := "CellReducerModel", name := "blunt", desc := "(II)J" } : Jvm.MethodName)) ∈ lw_all := lw_g (lw_at lw_m12 232 rfl) rfl
theorem q2975 : (Jvm.Cond.selects "CellReducerModel" ({ cls := "CellReducerModel", name := "blunt", desc := "(II)J" } : Jvm.MethodName) ({ cls := "CellReducerModel", name := "blunt", desc := "(II)J" } : Jvm.MethodName)) ∈ lw_all := lw_g (lw_at lw_m12 233 rfl) rfl
theorem q2976 : (Jvm.Cond.code ({ cls := "CellReducerModel", name := "blunt", desc := "(II)J" } : Jvm.MethodName) prog_6_method_70_code (8 : Nat) (Option.some Jvm.ClassFile.FieldType.long)) ∈ lw_all := lw_g (lw_at lw_m12 234 rfl) rfl
theorem q2977 : (Jvm.Cond.methodLink "CellReducerModel" (270 : Nat) ({ cls := "CellReducerModel", name := "blunts", desc := "(I)I" } : Jvm.MethodName)) ∈ lw_all := lw_g (lw_at lw_m12 235 rfl) rfl
theorem q2978 : (Jvm.Cond.privateMethod ({ cls := "CellReducerModel", name := "blunts", desc := "(I)I" } : Jvm.MethodName)) ∈ lw_tbl := lw_at lw_m12 236 rfl
theorem q2979 : (Jvm.Cond.instanceMethod ({ cls := "CellReducerModel", name := "blunts", desc := "(I)I" } : Jvm.MethodName)) ∈ lw_all := lw_g (lw_at lw_m12 237 rfl) rfl
theorem q2980 : (Jvm.Cond.code ({ cls := "CellReducerModel", name := "blunts", desc := "(I)I" } : Jvm.MethodName) prog_6_method_69_code (8 : Nat) (Option.some Jvm.ClassFile.FieldType.int)) ∈ lw_all := lw_g (lw_at lw_m12 238 rfl) rfl
theorem q2981 : (Jvm.Cond.methodLink "CellReducerModel" (267 : Nat) ({ cls := "CellReducerModel", name := "greatest", desc := "(I)I" } : Jvm.MethodName)) ∈ lw_all := lw_g (lw_at lw_m12 239 rfl) rfl
theorem q2982 : (Jvm.Cond.privateMethod ({ cls := "CellReducerModel", name := "greatest", desc := "(I)I" } : Jvm.MethodName)) ∈ lw_tbl := lw_at lw_m13 0 rfl
theorem q2983 : (Jvm.Cond.instanceMethod ({ cls := "CellReducerModel", name := "greatest", desc := "(I)I" } : Jvm.MethodName)) ∈ lw_all := lw_g (lw_at lw_m13 1 rfl) rfl
theorem q2984 : (Jvm.Cond.code ({ cls := "CellReducerModel", name := "greatest", desc := "(I)I" } : Jvm.MethodName) prog_6_method_68_code (4 : Nat) (Option.some Jvm.ClassFile.FieldType.int)) ∈ lw_all := lw_g (lw_at lw_m13 2 rfl) rfl
theorem q2985 : (Jvm.Cond.methodLink "CellReducerModel" (258 : Nat) ({ cls := "CellReducerModel", name := "one", desc := "(I)I" } : Jvm.MethodName)) ∈ lw_all := lw_g (lw_at lw_m13 3 rfl) rfl
theorem q2986 : (Jvm.Cond.static ({ cls := "CellReducerModel", name := "one", desc := "(I)I" } : Jvm.MethodName)) ∈ lw_all := lw_g (lw_at lw_m13 4 rfl) rfl
theorem q2987 : (Jvm.Cond.code ({ cls := "CellReducerModel", name := "one", desc := "(I)I" } : Jvm.MethodName) prog_6_method_66_code (1 : Nat) (Option.some Jvm.ClassFile.FieldType.int)) ∈ lw_all := lw_g (lw_at lw_m13 5 rfl) rfl
theorem q2988 : (Jvm.Cond.methodLink "CellReducerModel" (261 : Nat) ({ cls := "CellReducerModel", name := "other", desc := "(I)I" } : Jvm.MethodName)) ∈ lw_all := lw_g (lw_at lw_m13 6 rfl) rfl
theorem q2989 : (Jvm.Cond.static ({ cls := "CellReducerModel", name := "other", desc := "(I)I" } : Jvm.MethodName)) ∈ lw_all := lw_g (lw_at lw_m13 7 rfl) rfl
theorem q2990 : (Jvm.Cond.code ({ cls := "CellReducerModel", name := "other", desc := "(I)I" } : Jvm.MethodName) prog_6_method_67_code (1 : Nat) (Option.some Jvm.ClassFile.FieldType.int)) ∈ lw_all := lw_g (lw_at lw_m13 8 rfl) rfl
theorem q2991 : (Jvm.Cond.methodLink "CellReducerModel" (264 : Nat) ({ cls := "CellReducerModel", name := "twiceOf", desc := "(III)J" } : Jvm.MethodName)) ∈ lw_all := lw_g (lw_at lw_m13 9 rfl) rfl
theorem q2992 : (Jvm.Cond.privateMethod ({ cls := "CellReducerModel", name := "twiceOf", desc := "(III)J" } : Jvm.MethodName)) ∈ lw_tbl := lw_at lw_m13 10 rfl
theorem q2993 : (Jvm.Cond.instanceMethod ({ cls := "CellReducerModel", name := "twiceOf", desc := "(III)J" } : Jvm.MethodName)) ∈ lw_all := lw_g (lw_at lw_m13 11 rfl) rfl
theorem q2994 : (Jvm.Cond.code ({ cls := "CellReducerModel", name := "twiceOf", desc := "(III)J" } : Jvm.MethodName) prog_6_method_65_code (8 : Nat) (Option.some Jvm.ClassFile.FieldType.long)) ∈ lw_all := lw_g (lw_at lw_m13 12 rfl) rfl
theorem q2996 : (Jvm.Cond.instanceMethod ({ cls := "CellReducerModel", name := "waits", desc := "(I)I" } : Jvm.MethodName)) ∈ lw_all := lw_g (lw_at lw_m13 14 rfl) rfl
theorem q2997 : (Jvm.Cond.selects "CellReducerModel" ({ cls := "CellReducerModel", name := "waits", desc := "(I)I" } : Jvm.MethodName) ({ cls := "CellReducerModel", name := "waits", desc := "(I)I" } : Jvm.MethodName)) ∈ lw_all := lw_g (lw_at lw_m13 15 rfl) rfl
theorem q2998 : (Jvm.Cond.code ({ cls := "CellReducerModel", name := "waits", desc := "(I)I" } : Jvm.MethodName) prog_6_method_71_code (3 : Nat) (Option.some Jvm.ClassFile.FieldType.int)) ∈ lw_all := lw_g (lw_at lw_m13 16 rfl) rfl
theorem q3000 : (Jvm.Cond.instanceMethod ({ cls := "CellReducerModel", name := "leaves", desc := "(I)I" } : Jvm.MethodName)) ∈ lw_all := lw_g (lw_at lw_m13 18 rfl) rfl
theorem q3001 : (Jvm.Cond.selects "CellReducerModel" ({ cls := "CellReducerModel", name := "leaves", desc := "(I)I" } : Jvm.MethodName) ({ cls := "CellReducerModel", name := "leaves", desc := "(I)I" } : Jvm.MethodName)) ∈ lw_all := lw_g (lw_at lw_m13 19 rfl) rfl
theorem q3002 : (Jvm.Cond.code ({ cls := "CellReducerModel", name := "leaves", desc := "(I)I" } : Jvm.MethodName) prog_6_method_72_code (3 : Nat) (Option.some Jvm.ClassFile.FieldType.int)) ∈ lw_all := lw_g (lw_at lw_m13 20 rfl) rfl
theorem q3004 : (Jvm.Cond.instanceMethod ({ cls := "CellReducerModel", name := "works", desc := "(I)I" } : Jvm.MethodName)) ∈ lw_all := lw_g (lw_at lw_m13 22 rfl) rfl
theorem q3005 : (Jvm.Cond.selects "CellReducerModel" ({ cls := "CellReducerModel", name := "works", desc := "(I)I" } : Jvm.MethodName) ({ cls := "CellReducerModel", name := "works", desc := "(I)I" } : Jvm.MethodName)) ∈ lw_all := lw_g (lw_at lw_m13 23 rfl) rfl
theorem q3006 : (Jvm.Cond.code ({ cls := "CellReducerModel", name := "works", desc := "(I)I" } : Jvm.MethodName) prog_6_method_73_code (6 : Nat) (Option.some Jvm.ClassFile.FieldType.int)) ∈ lw_all := lw_g (lw_at lw_m13 24 rfl) rfl
theorem q3007 : (Jvm.Cond.constantLong "CellReducerModel" (273 : Nat) (99 : Int64)) ∈ lw_all := lw_g (lw_at lw_m13 25 rfl) rfl
theorem q3009 : (Jvm.Cond.instanceMethod ({ cls := "CellReducerModel", name := "line", desc := "(I)I" } : Jvm.MethodName)) ∈ lw_all := lw_g (lw_at lw_m13 27 rfl) rfl
theorem q3010 : (Jvm.Cond.selects "CellReducerModel" ({ cls := "CellReducerModel", name := "line", desc := "(I)I" } : Jvm.MethodName) ({ cls := "CellReducerModel", name := "line", desc := "(I)I" } : Jvm.MethodName)) ∈ lw_all := lw_g (lw_at lw_m13 28 rfl) rfl
theorem q3011 : (Jvm.Cond.code ({ cls := "CellReducerModel", name := "line", desc := "(I)I" } : Jvm.MethodName) prog_6_method_74_code (2 : Nat) (Option.some Jvm.ClassFile.FieldType.int)) ∈ lw_all := lw_g (lw_at lw_m13 29 rfl) rfl
theorem q3013 : (Jvm.Cond.instanceMethod ({ cls := "CellReducerModel", name := "clears", desc := "()I" } : Jvm.MethodName)) ∈ lw_all := lw_g (lw_at lw_m13 31 rfl) rfl
theorem q3014 : (Jvm.Cond.selects "CellReducerModel" ({ cls := "CellReducerModel", name := "clears", desc := "()I" } : Jvm.MethodName) ({ cls := "CellReducerModel", name := "clears", desc := "()I" } : Jvm.MethodName)) ∈ lw_all := lw_g (lw_at lw_m13 32 rfl) rfl
theorem q3015 : (Jvm.Cond.code ({ cls := "CellReducerModel", name := "clears", desc := "()I" } : Jvm.MethodName) prog_6_method_75_code (3 : Nat) (Option.some Jvm.ClassFile.FieldType.int)) ∈ lw_all := lw_g (lw_at lw_m13 33 rfl) rfl
theorem q3017 : (Jvm.Cond.instanceMethod ({ cls := "CellReducerModel", name := "feed", desc := "(I)I" } : Jvm.MethodName)) ∈ lw_all := lw_g (lw_at lw_m13 35 rfl) rfl
theorem q3018 : (Jvm.Cond.selects "CellReducerModel" ({ cls := "CellReducerModel", name := "feed", desc := "(I)I" } : Jvm.MethodName) ({ cls := "CellReducerModel", name := "feed", desc := "(I)I" } : Jvm.MethodName)) ∈ lw_all := lw_g (lw_at lw_m13 36 rfl) rfl
theorem q3019 : (Jvm.Cond.code ({ cls := "CellReducerModel", name := "feed", desc := "(I)I" } : Jvm.MethodName) prog_6_method_76_code (2 : Nat) (Option.some Jvm.ClassFile.FieldType.int)) ∈ lw_all := lw_g (lw_at lw_m13 37 rfl) rfl
theorem q3020 : (Jvm.Cond.constantLong "CellReducerModel" (275 : Nat) (127 : Int64)) ∈ lw_all := lw_g (lw_at lw_m13 38 rfl) rfl
theorem q3022 : (Jvm.Cond.instanceMethod ({ cls := "CellReducerModel", name := "reads", desc := "()I" } : Jvm.MethodName)) ∈ lw_all := lw_g (lw_at lw_m13 40 rfl) rfl
theorem q3023 : (Jvm.Cond.selects "CellReducerModel" ({ cls := "CellReducerModel", name := "reads", desc := "()I" } : Jvm.MethodName) ({ cls := "CellReducerModel", name := "reads", desc := "()I" } : Jvm.MethodName)) ∈ lw_all := lw_g (lw_at lw_m13 41 rfl) rfl
theorem q3024 : (Jvm.Cond.code ({ cls := "CellReducerModel", name := "reads", desc := "()I" } : Jvm.MethodName) prog_6_method_83_code (3 : Nat) (Option.some Jvm.ClassFile.FieldType.int)) ∈ lw_all := lw_g (lw_at lw_m13 42 rfl) rfl
theorem q3025 : (Jvm.Cond.methodLink "CellReducerModel" (304 : Nat) ({ cls := "CellReducerModel", name := "part", desc := "(I)V" } : Jvm.MethodName)) ∈ lw_all := lw_g (lw_at lw_m13 43 rfl) rfl
theorem q3026 : (Jvm.Cond.privateMethod ({ cls := "CellReducerModel", name := "part", desc := "(I)V" } : Jvm.MethodName)) ∈ lw_tbl := lw_at lw_m13 44 rfl
theorem q3027 : (Jvm.Cond.instanceMethod ({ cls := "CellReducerModel", name := "part", desc := "(I)V" } : Jvm.MethodName)) ∈ lw_all := lw_g (lw_at lw_m13 45 rfl) rfl
theorem q3028 : (Jvm.Cond.code ({ cls := "CellReducerModel", name := "part", desc := "(I)V" } : Jvm.MethodName) prog_6_method_81_code (3 : Nat) (Option.none : Option Jvm.ClassFile.FieldType)) ∈ lw_all := lw_g (lw_at lw_m13 46 rfl) rfl
theorem q3029 : (Jvm.Cond.methodLink "CellReducerModel" (290 : Nat) ({ cls := "CellReducerModel", name := "takes", desc := "(I)Z" } : Jvm.MethodName)) ∈ lw_all := lw_g (lw_at lw_m13 47 rfl) rfl
theorem q3030 : (Jvm.Cond.privateMethod ({ cls := "CellReducerModel", name := "takes", desc := "(I)Z" } : Jvm.MethodName)) ∈ lw_tbl := lw_at lw_m13 48 rfl
theorem q3031 : (Jvm.Cond.instanceMethod ({ cls := "CellReducerModel", name := "takes", desc := "(I)Z" } : Jvm.MethodName)) ∈ lw_all := lw_g (lw_at lw_m13 49 rfl) rfl
theorem q3032 : (Jvm.Cond.code ({ cls := "CellReducerModel", name := "takes", desc := "(I)Z" } : Jvm.MethodName) prog_6_method_78_code (2 : Nat) (Option.some Jvm.ClassFile.FieldType.boolean)) ∈ lw_all := lw_g (lw_at lw_m13 50 rfl) rfl
theorem q3033 : (Jvm.Cond.methodLink "CellReducerModel" (287 : Nat) ({ cls := "CellReducerModel", name := "here", desc := "()I" } : Jvm.MethodName)) ∈ lw_all := lw_g (lw_at lw_m13 51 rfl) rfl
theorem q3034 : (Jvm.Cond.privateMethod ({ cls := "CellReducerModel", name := "here", desc := "()I" } : Jvm.MethodName)) ∈ lw_tbl := lw_at lw_m13 52 rfl
theorem q3035 : (Jvm.Cond.instanceMethod ({ cls := "CellReducerModel", name := "here", desc := "()I" } : Jvm.MethodName)) ∈ lw_all := lw_g (lw_at lw_m13 53 rfl) rfl
theorem q3036 : (Jvm.Cond.code ({ cls := "CellReducerModel", name := "here", desc := "()I" } : Jvm.MethodName) prog_6_method_77_code (1 : Nat) (Option.some Jvm.ClassFile.FieldType.int)) ∈ lw_all := lw_g (lw_at lw_m13 54 rfl) rfl
theorem q3037 : (Jvm.Cond.methodLink "CellReducerModel" (297 : Nat) ({ cls := "CellReducerModel", name := "figures", desc := "()J" } : Jvm.MethodName)) ∈ lw_all := lw_g (lw_at lw_m13 55 rfl) rfl
theorem q3038 : (Jvm.Cond.privateMethod ({ cls := "CellReducerModel", name := "figures", desc := "()J" } : Jvm.MethodName)) ∈ lw_tbl := lw_at lw_m13 56 rfl
theorem q3039 : (Jvm.Cond.instanceMethod ({ cls := "CellReducerModel", name := "figures", desc := "()J" } : Jvm.MethodName)) ∈ lw_all := lw_g (lw_at lw_m13 57 rfl) rfl
theorem q3040 : (Jvm.Cond.code ({ cls := "CellReducerModel", name := "figures", desc := "()J" } : Jvm.MethodName) prog_6_method_79_code (5 : Nat) (Option.some Jvm.ClassFile.FieldType.long)) ∈ lw_all := lw_g (lw_at lw_m13 58 rfl) rfl
theorem q3041 : (Jvm.Cond.constantLong "CellReducerModel" (293 : Nat) (10 : Int64)) ∈ lw_all := lw_g (lw_at lw_m13 59 rfl) rfl
theorem q3042 : (Jvm.Cond.constantLong "CellReducerModel" (295 : Nat) (48 : Int64)) ∈ lw_all := lw_g (lw_at lw_m13 60 rfl) rfl
theorem q3043 : (Jvm.Cond.methodLink "CellReducerModel" (301 : Nat) ({ cls := "CellReducerModel", name := "placed", desc := "(II)J" } : Jvm.MethodName)) ∈ lw_all := lw_g (lw_at lw_m13 61 rfl) rfl
theorem q3044 : (Jvm.Cond.privateMethod ({ cls := "CellReducerModel", name := "placed", desc := "(II)J" } : Jvm.MethodName)) ∈ lw_tbl := lw_at lw_m13 62 rfl
theorem q3045 : (Jvm.Cond.instanceMethod ({ cls := "CellReducerModel", name := "placed", desc := "(II)J" } : Jvm.MethodName)) ∈ lw_all := lw_g (lw_at lw_m13 63 rfl) rfl
theorem q3046 : (Jvm.Cond.code ({ cls := "CellReducerModel", name := "placed", desc := "(II)J" } : Jvm.MethodName) prog_6_method_80_code (6 : Nat) (Option.some Jvm.ClassFile.FieldType.long)) ∈ lw_all := lw_g (lw_at lw_m13 64 rfl) rfl
theorem q3047 : (Jvm.Cond.methodLink "CellReducerModel" (307 : Nat) ({ cls := "CellReducerModel", name := "isRead", desc := "(I)Z" } : Jvm.MethodName)) ∈ lw_all := lw_g (lw_at lw_m13 65 rfl) rfl
theorem q3048 : (Jvm.Cond.privateMethod ({ cls := "CellReducerModel", name := "isRead", desc := "(I)Z" } : Jvm.MethodName)) ∈ lw_tbl := lw_at lw_m13 66 rfl
theorem q3049 : (Jvm.Cond.instanceMethod ({ cls := "CellReducerModel", name := "isRead", desc := "(I)Z" } : Jvm.MethodName)) ∈ lw_all := lw_g (lw_at lw_m13 67 rfl) rfl
theorem q3050 : (Jvm.Cond.code ({ cls := "CellReducerModel", name := "isRead", desc := "(I)Z" } : Jvm.MethodName) prog_6_method_82_code (3 : Nat) (Option.some Jvm.ClassFile.FieldType.boolean)) ∈ lw_all := lw_g (lw_at lw_m13 68 rfl) rfl
theorem q3052 : (Jvm.Cond.instanceMethod ({ cls := "CellReducerModel", name := "prints", desc := "(II)I" } : Jvm.MethodName)) ∈ lw_all := lw_g (lw_at lw_m13 70 rfl) rfl
theorem q3053 : (Jvm.Cond.selects "CellReducerModel" ({ cls := "CellReducerModel", name := "prints", desc := "(II)I" } : Jvm.MethodName) ({ cls := "CellReducerModel", name := "prints", desc := "(II)I" } : Jvm.MethodName)) ∈ lw_all := lw_g (lw_at lw_m13 71 rfl) rfl
theorem q3054 : (Jvm.Cond.code ({ cls := "CellReducerModel", name := "prints", desc := "(II)I" } : Jvm.MethodName) prog_6_method_86_code (4 : Nat) (Option.some Jvm.ClassFile.FieldType.int)) ∈ lw_all := lw_g (lw_at lw_m13 72 rfl) rfl
theorem q3055 : (Jvm.Cond.methodLink "CellReducerModel" (313 : Nat) ({ cls := "CellReducerModel", name := "prints", desc := "(I)V" } : Jvm.MethodName)) ∈ lw_all := lw_g (lw_at lw_m13 73 rfl) rfl
theorem q3056 : (Jvm.Cond.privateMethod ({ cls := "CellReducerModel", name := "prints", desc := "(I)V" } : Jvm.MethodName)) ∈ lw_tbl := lw_at lw_m13 74 rfl
theorem q3057 : (Jvm.Cond.instanceMethod ({ cls := "CellReducerModel", name := "prints", desc := "(I)V" } : Jvm.MethodName)) ∈ lw_all := lw_g (lw_at lw_m13 75 rfl) rfl
theorem q3058 : (Jvm.Cond.code ({ cls := "CellReducerModel", name := "prints", desc := "(I)V" } : Jvm.MethodName) prog_6_method_84_code (2 : Nat) (Option.none : Option Jvm.ClassFile.FieldType)) ∈ lw_all := lw_g (lw_at lw_m13 76 rfl) rfl
theorem q3059 : (Jvm.Cond.methodLink "CellReducerModel" (316 : Nat) ({ cls := "CellReducerModel", name := "printsNumber", desc := "(J)V" } : Jvm.MethodName)) ∈ lw_all := lw_g (lw_at lw_m13 77 rfl) rfl
theorem q3060 : (Jvm.Cond.privateMethod ({ cls := "CellReducerModel", name := "printsNumber", desc := "(J)V" } : Jvm.MethodName)) ∈ lw_tbl := lw_at lw_m13 78 rfl
theorem q3061 : (Jvm.Cond.instanceMethod ({ cls := "CellReducerModel", name := "printsNumber", desc := "(J)V" } : Jvm.MethodName)) ∈ lw_all := lw_g (lw_at lw_m13 79 rfl) rfl
theorem q3062 : (Jvm.Cond.code ({ cls := "CellReducerModel", name := "printsNumber", desc := "(J)V" } : Jvm.MethodName) prog_6_method_85_code (7 : Nat) (Option.none : Option Jvm.ClassFile.FieldType)) ∈ lw_all := lw_g (lw_at lw_m13 80 rfl) rfl
theorem q3064 : (Jvm.Cond.instanceMethod ({ cls := "CellReducerModel", name := "paper", desc := "(I)I" } : Jvm.MethodName)) ∈ lw_all := lw_g (lw_at lw_m13 82 rfl) rfl
theorem q3065 : (Jvm.Cond.selects "CellReducerModel" ({ cls := "CellReducerModel", name := "paper", desc := "(I)I" } : Jvm.MethodName) ({ cls := "CellReducerModel", name := "paper", desc := "(I)I" } : Jvm.MethodName)) ∈ lw_all := lw_g (lw_at lw_m13 83 rfl) rfl
theorem q3066 : (Jvm.Cond.code ({ cls := "CellReducerModel", name := "paper", desc := "(I)I" } : Jvm.MethodName) prog_6_method_87_code (2 : Nat) (Option.some Jvm.ClassFile.FieldType.int)) ∈ lw_all := lw_g (lw_at lw_m13 84 rfl) rfl
theorem q3068 : (Jvm.Cond.instanceMethod ({ cls := "CellReducerModel", name := "list", desc := "(II)I" } : Jvm.MethodName)) ∈ lw_all := lw_g (lw_at lw_m13 86 rfl) rfl
theorem q3069 : (Jvm.Cond.selects "CellReducerModel" ({ cls := "CellReducerModel", name := "list", desc := "(II)I" } : Jvm.MethodName) ({ cls := "CellReducerModel", name := "list", desc := "(II)I" } : Jvm.MethodName)) ∈ lw_all := lw_g (lw_at lw_m13 87 rfl) rfl
theorem q3070 : (Jvm.Cond.code ({ cls := "CellReducerModel", name := "list", desc := "(II)I" } : Jvm.MethodName) prog_6_method_89_code (4 : Nat) (Option.some Jvm.ClassFile.FieldType.int)) ∈ lw_all := lw_g (lw_at lw_m13 88 rfl) rfl
theorem q3071 : (Jvm.Cond.methodLink "CellReducerModel" (322 : Nat) ({ cls := "CellReducerModel", name := "isList", desc := "(I)Z" } : Jvm.MethodName)) ∈ lw_all := lw_g (lw_at lw_m13 89 rfl) rfl
theorem q3072 : (Jvm.Cond.static ({ cls := "CellReducerModel", name := "isList", desc := "(I)Z" } : Jvm.MethodName)) ∈ lw_all := lw_g (lw_at lw_m13 90 rfl) rfl
theorem q3073 : (Jvm.Cond.code ({ cls := "CellReducerModel", name := "isList", desc := "(I)Z" } : Jvm.MethodName) prog_6_method_88_code (1 : Nat) (Option.some Jvm.ClassFile.FieldType.boolean)) ∈ lw_all := lw_g (lw_at lw_m13 91 rfl) rfl
theorem q3074 : (Jvm.Cond.constantLong "CellReducerModel" (320 : Nat) (3 : Int64)) ∈ lw_all := lw_g (lw_at lw_m13 92 rfl) rfl
theorem q3076 : (Jvm.Cond.instanceMethod ({ cls := "CellReducerModel", name := "set", desc := "(IIJ)I" } : Jvm.MethodName)) ∈ lw_all := lw_g (lw_at lw_m13 94 rfl) rfl
theorem q3077 : (Jvm.Cond.selects "CellReducerModel" ({ cls := "CellReducerModel", name := "set", desc := "(IIJ)I" } : Jvm.MethodName) ({ cls := "CellReducerModel", name := "set", desc := "(IIJ)I" } : Jvm.MethodName)) ∈ lw_all := lw_g (lw_at lw_m13 95 rfl) rfl
theorem q3078 : (Jvm.Cond.code ({ cls := "CellReducerModel", name := "set", desc := "(IIJ)I" } : Jvm.MethodName) prog_6_method_90_code (5 : Nat) (Option.some Jvm.ClassFile.FieldType.int)) ∈ lw_all := lw_g (lw_at lw_m13 96 rfl) rfl
theorem q3080 : (Jvm.Cond.instanceMethod ({ cls := "CellReducerModel", name := "get", desc := "(II)J" } : Jvm.MethodName)) ∈ lw_all := lw_g (lw_at lw_m13 98 rfl) rfl
theorem q3081 : (Jvm.Cond.selects "CellReducerModel" ({ cls := "CellReducerModel", name := "get", desc := "(II)J" } : Jvm.MethodName) ({ cls := "CellReducerModel", name := "get", desc := "(II)J" } : Jvm.MethodName)) ∈ lw_all := lw_g (lw_at lw_m13 99 rfl) rfl
theorem q3082 : (Jvm.Cond.code ({ cls := "CellReducerModel", name := "get", desc := "(II)J" } : Jvm.MethodName) prog_6_method_91_code (3 : Nat) (Option.some Jvm.ClassFile.FieldType.long)) ∈ lw_all := lw_g (lw_at lw_m13 100 rfl) rfl
theorem q3084 : (Jvm.Cond.instanceMethod ({ cls := "CellReducerModel", name := "into", desc := "(IIII)I" } : Jvm.MethodName)) ∈ lw_all := lw_g (lw_at lw_m13 102 rfl) rfl
theorem q3085 : (Jvm.Cond.selects "CellReducerModel" ({ cls := "CellReducerModel", name := "into", desc := "(IIII)I" } : Jvm.MethodName) ({ cls := "CellReducerModel", name := "into", desc := "(IIII)I" } : Jvm.MethodName)) ∈ lw_all := lw_g (lw_at lw_m13 103 rfl) rfl
theorem q3086 : (Jvm.Cond.code ({ cls := "CellReducerModel", name := "into", desc := "(IIII)I" } : Jvm.MethodName) prog_6_method_92_code (6 : Nat) (Option.some Jvm.ClassFile.FieldType.int)) ∈ lw_all := lw_g (lw_at lw_m13 104 rfl) rfl
theorem q3088 : (Jvm.Cond.instanceMethod ({ cls := "CellReducerModel", name := "from", desc := "(II)I" } : Jvm.MethodName)) ∈ lw_all := lw_g (lw_at lw_m13 106 rfl) rfl
theorem q3089 : (Jvm.Cond.selects "CellReducerModel" ({ cls := "CellReducerModel", name := "from", desc := "(II)I" } : Jvm.MethodName) ({ cls := "CellReducerModel", name := "from", desc := "(II)I" } : Jvm.MethodName)) ∈ lw_all := lw_g (lw_at lw_m13 107 rfl) rfl
theorem q3090 : (Jvm.Cond.code ({ cls := "CellReducerModel", name := "from", desc := "(II)I" } : Jvm.MethodName) prog_6_method_93_code (4 : Nat) (Option.some Jvm.ClassFile.FieldType.int)) ∈ lw_all := lw_g (lw_at lw_m13 108 rfl) rfl
theorem q3092 : (Jvm.Cond.instanceMethod ({ cls := "CellReducerModel", name := "image", desc := "()I" } : Jvm.MethodName)) ∈ lw_all := lw_g (lw_at lw_m13 110 rfl) rfl
theorem q3093 : (Jvm.Cond.selects "CellReducerModel" ({ cls := "CellReducerModel", name := "image", desc := "()I" } : Jvm.MethodName) ({ cls := "CellReducerModel", name := "image", desc := "()I" } : Jvm.MethodName)) ∈ lw_all := lw_g (lw_at lw_m13 111 rfl) rfl
theorem q3094 : (Jvm.Cond.code ({ cls := "CellReducerModel", name := "image", desc := "()I" } : Jvm.MethodName) prog_6_method_94_code (2 : Nat) (Option.some Jvm.ClassFile.FieldType.int)) ∈ lw_all := lw_g (lw_at lw_m13 112 rfl) rfl
theorem q3096 : (Jvm.Cond.instanceMethod ({ cls := "CellReducerModel", name := "back", desc := "()I" } : Jvm.MethodName)) ∈ lw_all := lw_g (lw_at lw_m13 114 rfl) rfl
theorem q3097 : (Jvm.Cond.selects "CellReducerModel" ({ cls := "CellReducerModel", name := "back", desc := "()I" } : Jvm.MethodName) ({ cls := "CellReducerModel", name := "back", desc := "()I" } : Jvm.MethodName)) ∈ lw_all := lw_g (lw_at lw_m13 115 rfl) rfl
theorem q3098 : (Jvm.Cond.code ({ cls := "CellReducerModel", name := "back", desc := "()I" } : Jvm.MethodName) prog_6_method_95_code (2 : Nat) (Option.some Jvm.ClassFile.FieldType.int)) ∈ lw_all := lw_g (lw_at lw_m13 116 rfl) rfl
theorem q3100 : (Jvm.Cond.instanceMethod ({ cls := "CellReducerModel", name := "count", desc := "(I)I" } : Jvm.MethodName)) ∈ lw_all := lw_g (lw_at lw_m13 118 rfl) rfl
theorem q3101 : (Jvm.Cond.selects "CellReducerModel" ({ cls := "CellReducerModel", name := "count", desc := "(I)I" } : Jvm.MethodName) ({ cls := "CellReducerModel", name := "count", desc := "(I)I" } : Jvm.MethodName)) ∈ lw_all := lw_g (lw_at lw_m13 119 rfl) rfl
theorem q3102 : (Jvm.Cond.code ({ cls := "CellReducerModel", name := "count", desc := "(I)I" } : Jvm.MethodName) prog_6_method_96_code (2 : Nat) (Option.some Jvm.ClassFile.FieldType.int)) ∈ lw_all := lw_g (lw_at lw_m13 120 rfl) rfl
theorem q3125 : (Jvm.Cond.castable "CellReducerModel" "java/lang/Object") ∈ lw_tbl := lw_at lw_m13 143 rfl
theorem in_X2 : ∀ w ∈ wsX20, w ∈ lw_all := lw_in wsX20 [2649, 2651, 2653, 2655, 2657, 2659, 2661, 2663, 2665, 2667, 2669, 2671, 2673, 2675, 2677, 2679, 2681, 2683, 2685, 2687, 2689, 2691, 2693, 2695, 2697, 2699, 2701, 2703, 2705, 2707, 2709, 2711] (by decide +kernel) (by decide +kernel)
