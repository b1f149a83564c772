/-! InkPrinteryModel -/
set_option maxRecDepth 100000
def RX7 : String := "InkPrinteryModel"
def TX7 : u_T := fun k => match k with
  | 0 => ("InkPrinteryModel", "now", "[I", true)
  | 1 => ("InkPrinteryModel", "before", "[I", true)
  | 2 => ("InkPrinteryModel", "saved", "[I", true)
  | 3 => ("InkPrinteryModel", "history", "[I", true)
  | 4 => ("InkPrinteryModel", "fewest", "[I", true)
  | 5 => ("InkPrinteryModel", "shares", "[I", true)
  | 6 => ("InkPrinteryModel", "longest", "[I", true)
  | 7 => ("InkPrinteryModel", "ways", "[I", true)
  | 8 => ("InkPrinteryModel", "order", "[I", true)
  | 9 => ("InkPrinteryModel", "thrown", "I", false)
  | 10 => ("InkPrinteryModel", "depth", "I", false)
  | 11 => ("InkPrinteryModel", "wrongAt", "I", false)
  | 12 => ("InkPrinteryModel", "failedAt", "I", false)
  | 13 => ("InkPrinteryModel", "isSaved", "Z", false)
  | 14 => ("InkPrinteryModel", "line", "[I", true)
  | 15 => ("InkPrinteryModel", "lineLength", "I", false)
  | 16 => ("InkPrinteryModel", "input", "[I", true)
  | 17 => ("InkPrinteryModel", "kinds", "[I", true)
  | 18 => ("InkPrinteryModel", "firsts", "[I", true)
  | 19 => ("InkPrinteryModel", "seconds", "[I", true)
  | 20 => ("InkPrinteryModel", "length", "I", false)
  | 21 => ("InkPrinteryModel", "textLength", "I", false)
  | 22 => ("InkPrinteryModel", "at", "I", false)
  | 23 => ("InkPrinteryModel", "commands", "I", false)
  | _ => ("InkPrinteryModel", "isWrong", "Z", false)
def tyX7 : Nat → FieldType := fun k => match k with
  | 0 => .array .int
  | 1 => .array .int
  | 2 => .array .int
  | 3 => .array .int
  | 4 => .array .int
  | 5 => .array .int
  | 6 => .array .int
  | 7 => .array .int
  | 8 => .array .int
  | 9 => .int
  | 10 => .int
  | 11 => .int
  | 12 => .int
  | 13 => .boolean
  | 14 => .array .int
  | 15 => .int
  | 16 => .array .int
  | 17 => .array .int
  | 18 => .array .int
  | 19 => .array .int
  | 20 => .int
  | 21 => .int
  | 22 => .int
  | 23 => .int
  | _ => .boolean
abbrev wsX70 : List Cond := u_ws RX7 TX7 25
set_option maxRecDepth 100000 in
theorem nmX7 : ∀ a, a < 25 → ∀ b, b < 25 → a ≠ b → (TX7 a).2.1 ≠ (TX7 b).2.1 := by decide +kernel
set_option maxRecDepth 100000 in
theorem tyX7_ok : ∀ k, k < 25 → parseFieldDescriptor (TX7 k).2.2.1 = some (tyX7 k) := by decide +kernel
abbrev cX7_init : ByteArray := prog_12_method_1_code
def yX7_init : MethodName := ⟨RX7, "<init>", "()V"⟩
def dkwX7_init_7 : List UInt8 := [181, 0, 81, 42, 3, 181, 0, 84, 177]
abbrev dktX7_init_7 : List UInt8 := dkwX7_init_7 ++ []
def dkwX7_init_6 : List UInt8 := [188, 10, 181, 0, 69, 42, 3, 181, 0, 72, 42, 3, 181, 0, 75, 42, 3, 181, 0, 78, 42, 3]
abbrev dktX7_init_6 : List UInt8 := dkwX7_init_6 ++ dktX7_init_7
def dkwX7_init_5 : List UInt8 := [188, 10, 181, 0, 60, 42, 16, 32, 188, 10, 181, 0, 63, 42, 16, 32, 188, 10, 181, 0, 66, 42, 16, 32]
abbrev dktX7_init_5 : List UInt8 := dkwX7_init_5 ++ dktX7_init_6
def dkwX7_init_4 : List UInt8 := [181, 0, 47, 42, 3, 181, 0, 50, 42, 16, 80, 188, 10, 181, 0, 54, 42, 3, 181, 0, 57, 42, 16, 60]
abbrev dktX7_init_4 : List UInt8 := dkwX7_init_4 ++ dktX7_init_5
def dkwX7_init_3 : List UInt8 := [16, 7, 188, 10, 181, 0, 34, 42, 3, 181, 0, 37, 42, 3, 181, 0, 41, 42, 2, 181, 0, 44, 42, 2]
abbrev dktX7_init_3 : List UInt8 := dkwX7_init_3 ++ dktX7_init_4
def dkwX7_init_2 : List UInt8 := [16, 7, 188, 10, 181, 0, 25, 42, 16, 12, 188, 10, 181, 0, 28, 42, 16, 12, 188, 10, 181, 0, 31, 42]
abbrev dktX7_init_2 : List UInt8 := dkwX7_init_2 ++ dktX7_init_3
def dkwX7_init_1 : List UInt8 := [188, 10, 181, 0, 16, 42, 17, 2, 64, 188, 10, 181, 0, 19, 42, 17, 4, 0, 188, 10, 181, 0, 22, 42]
abbrev dktX7_init_1 : List UInt8 := dkwX7_init_1 ++ dktX7_init_2
def dkwX7_init_0 : List UInt8 := [42, 183, 0, 1, 42, 16, 72, 188, 10, 181, 0, 7, 42, 16, 72, 188, 10, 181, 0, 13, 42, 16, 72]
abbrev dktX7_init_0 : List UInt8 := dkwX7_init_0 ++ dktX7_init_1
theorem dksX7_init_0 : cX7_init.data.toList.drop 0 = dktX7_init_0 := by decide +kernel
theorem dksX7_init_1 : cX7_init.data.toList.drop 23 = dktX7_init_1 := dk_seg dksX7_init_0 23 rfl rfl
theorem dksX7_init_2 : cX7_init.data.toList.drop 47 = dktX7_init_2 := dk_seg dksX7_init_1 24 rfl rfl
theorem dksX7_init_3 : cX7_init.data.toList.drop 71 = dktX7_init_3 := dk_seg dksX7_init_2 24 rfl rfl
theorem dksX7_init_4 : cX7_init.data.toList.drop 95 = dktX7_init_4 := dk_seg dksX7_init_3 24 rfl rfl
theorem dksX7_init_5 : cX7_init.data.toList.drop 119 = dktX7_init_5 := dk_seg dksX7_init_4 24 rfl rfl
theorem dksX7_init_6 : cX7_init.data.toList.drop 143 = dktX7_init_6 := dk_seg dksX7_init_5 24 rfl rfl
theorem dksX7_init_7 : cX7_init.data.toList.drop 165 = dktX7_init_7 := dk_seg dksX7_init_6 22 rfl rfl
theorem dX7_init_0 : decode cX7_init 0 = .ok (.aload_n 0, 1) := dk_42 (dk_at dksX7_init_0 0 rfl rfl)
theorem dX7_init_1 : decode cX7_init 1 = .ok (.invokespecial 1, 3) := dk_183 0 1 (dk_at dksX7_init_0 1 rfl rfl)
theorem dX7_init_4 : decode cX7_init 4 = .ok (.aload_n 0, 1) := dk_42 (dk_at dksX7_init_0 4 rfl rfl)
theorem dX7_init_5 : decode cX7_init 5 = .ok (.bipush 72, 2) := dk_16 72 (dk_at dksX7_init_0 5 rfl rfl)
theorem dX7_init_7 : decode cX7_init 7 = .ok (.newarray .int, 2) := dk_188_10 (dk_at dksX7_init_0 7 rfl rfl)
theorem dX7_init_9 : decode cX7_init 9 = .ok (.putfield 7, 3) := dk_181 0 7 (dk_at dksX7_init_0 9 rfl rfl)
theorem dX7_init_12 : decode cX7_init 12 = .ok (.aload_n 0, 1) := dk_42 (dk_at dksX7_init_0 12 rfl rfl)
theorem dX7_init_13 : decode cX7_init 13 = .ok (.bipush 72, 2) := dk_16 72 (dk_at dksX7_init_0 13 rfl rfl)
theorem dX7_init_15 : decode cX7_init 15 = .ok (.newarray .int, 2) := dk_188_10 (dk_at dksX7_init_0 15 rfl rfl)
theorem dX7_init_17 : decode cX7_init 17 = .ok (.putfield 13, 3) := dk_181 0 13 (dk_at dksX7_init_0 17 rfl rfl)
theorem dX7_init_20 : decode cX7_init 20 = .ok (.aload_n 0, 1) := dk_42 (dk_at dksX7_init_0 20 rfl rfl)
theorem dX7_init_21 : decode cX7_init 21 = .ok (.bipush 72, 2) := dk_16 72 (dk_at dksX7_init_0 21 rfl rfl)
theorem dX7_init_23 : decode cX7_init 23 = .ok (.newarray .int, 2) := dk_188_10 (dk_at dksX7_init_1 0 rfl rfl)
theorem dX7_init_25 : decode cX7_init 25 = .ok (.putfield 16, 3) := dk_181 0 16 (dk_at dksX7_init_1 2 rfl rfl)
theorem dX7_init_28 : decode cX7_init 28 = .ok (.aload_n 0, 1) := dk_42 (dk_at dksX7_init_1 5 rfl rfl)
theorem dX7_init_29 : decode cX7_init 29 = .ok (.sipush 576, 3) := dk_17 2 64 (dk_at dksX7_init_1 6 rfl rfl)
theorem dX7_init_32 : decode cX7_init 32 = .ok (.newarray .int, 2) := dk_188_10 (dk_at dksX7_init_1 9 rfl rfl)
theorem dX7_init_34 : decode cX7_init 34 = .ok (.putfield 19, 3) := dk_181 0 19 (dk_at dksX7_init_1 11 rfl rfl)
theorem dX7_init_37 : decode cX7_init 37 = .ok (.aload_n 0, 1) := dk_42 (dk_at dksX7_init_1 14 rfl rfl)
theorem dX7_init_38 : decode cX7_init 38 = .ok (.sipush 1024, 3) := dk_17 4 0 (dk_at dksX7_init_1 15 rfl rfl)
theorem dX7_init_41 : decode cX7_init 41 = .ok (.newarray .int, 2) := dk_188_10 (dk_at dksX7_init_1 18 rfl rfl)
theorem dX7_init_43 : decode cX7_init 43 = .ok (.putfield 22, 3) := dk_181 0 22 (dk_at dksX7_init_1 20 rfl rfl)
theorem dX7_init_46 : decode cX7_init 46 = .ok (.aload_n 0, 1) := dk_42 (dk_at dksX7_init_1 23 rfl rfl)
theorem dX7_init_47 : decode cX7_init 47 = .ok (.bipush 7, 2) := dk_16 7 (dk_at dksX7_init_2 0 rfl rfl)
theorem dX7_init_49 : decode cX7_init 49 = .ok (.newarray .int, 2) := dk_188_10 (dk_at dksX7_init_2 2 rfl rfl)
theorem dX7_init_51 : decode cX7_init 51 = .ok (.putfield 25, 3) := dk_181 0 25 (dk_at dksX7_init_2 4 rfl rfl)
theorem dX7_init_54 : decode cX7_init 54 = .ok (.aload_n 0, 1) := dk_42 (dk_at dksX7_init_2 7 rfl rfl)
theorem dX7_init_55 : decode cX7_init 55 = .ok (.bipush 12, 2) := dk_16 12 (dk_at dksX7_init_2 8 rfl rfl)
theorem dX7_init_57 : decode cX7_init 57 = .ok (.newarray .int, 2) := dk_188_10 (dk_at dksX7_init_2 10 rfl rfl)
theorem dX7_init_59 : decode cX7_init 59 = .ok (.putfield 28, 3) := dk_181 0 28 (dk_at dksX7_init_2 12 rfl rfl)
theorem dX7_init_62 : decode cX7_init 62 = .ok (.aload_n 0, 1) := dk_42 (dk_at dksX7_init_2 15 rfl rfl)
theorem dX7_init_63 : decode cX7_init 63 = .ok (.bipush 12, 2) := dk_16 12 (dk_at dksX7_init_2 16 rfl rfl)
theorem dX7_init_65 : decode cX7_init 65 = .ok (.newarray .int, 2) := dk_188_10 (dk_at dksX7_init_2 18 rfl rfl)
theorem dX7_init_67 : decode cX7_init 67 = .ok (.putfield 31, 3) := dk_181 0 31 (dk_at dksX7_init_2 20 rfl rfl)
theorem dX7_init_70 : decode cX7_init 70 = .ok (.aload_n 0, 1) := dk_42 (dk_at dksX7_init_2 23 rfl rfl)
theorem dX7_init_71 : decode cX7_init 71 = .ok (.bipush 7, 2) := dk_16 7 (dk_at dksX7_init_3 0 rfl rfl)
theorem dX7_init_73 : decode cX7_init 73 = .ok (.newarray .int, 2) := dk_188_10 (dk_at dksX7_init_3 2 rfl rfl)
theorem dX7_init_75 : decode cX7_init 75 = .ok (.putfield 34, 3) := dk_181 0 34 (dk_at dksX7_init_3 4 rfl rfl)
theorem dX7_init_78 : decode cX7_init 78 = .ok (.aload_n 0, 1) := dk_42 (dk_at dksX7_init_3 7 rfl rfl)
theorem dX7_init_79 : decode cX7_init 79 = .ok (.iconst 0, 1) := dk_3 (dk_at dksX7_init_3 8 rfl rfl)
theorem dX7_init_80 : decode cX7_init 80 = .ok (.putfield 37, 3) := dk_181 0 37 (dk_at dksX7_init_3 9 rfl rfl)
theorem dX7_init_83 : decode cX7_init 83 = .ok (.aload_n 0, 1) := dk_42 (dk_at dksX7_init_3 12 rfl rfl)
theorem dX7_init_84 : decode cX7_init 84 = .ok (.iconst 0, 1) := dk_3 (dk_at dksX7_init_3 13 rfl rfl)
theorem dX7_init_85 : decode cX7_init 85 = .ok (.putfield 41, 3) := dk_181 0 41 (dk_at dksX7_init_3 14 rfl rfl)
theorem dX7_init_88 : decode cX7_init 88 = .ok (.aload_n 0, 1) := dk_42 (dk_at dksX7_init_3 17 rfl rfl)
theorem dX7_init_89 : decode cX7_init 89 = .ok (.iconst (-1), 1) := dk_2 (dk_at dksX7_init_3 18 rfl rfl)
theorem dX7_init_90 : decode cX7_init 90 = .ok (.putfield 44, 3) := dk_181 0 44 (dk_at dksX7_init_3 19 rfl rfl)
theorem dX7_init_93 : decode cX7_init 93 = .ok (.aload_n 0, 1) := dk_42 (dk_at dksX7_init_3 22 rfl rfl)
theorem dX7_init_94 : decode cX7_init 94 = .ok (.iconst (-1), 1) := dk_2 (dk_at dksX7_init_3 23 rfl rfl)
theorem dX7_init_95 : decode cX7_init 95 = .ok (.putfield 47, 3) := dk_181 0 47 (dk_at dksX7_init_4 0 rfl rfl)
theorem dX7_init_98 : decode cX7_init 98 = .ok (.aload_n 0, 1) := dk_42 (dk_at dksX7_init_4 3 rfl rfl)
theorem dX7_init_99 : decode cX7_init 99 = .ok (.iconst 0, 1) := dk_3 (dk_at dksX7_init_4 4 rfl rfl)
theorem dX7_init_100 : decode cX7_init 100 = .ok (.putfield 50, 3) := dk_181 0 50 (dk_at dksX7_init_4 5 rfl rfl)
theorem dX7_init_103 : decode cX7_init 103 = .ok (.aload_n 0, 1) := dk_42 (dk_at dksX7_init_4 8 rfl rfl)
theorem dX7_init_104 : decode cX7_init 104 = .ok (.bipush 80, 2) := dk_16 80 (dk_at dksX7_init_4 9 rfl rfl)
theorem dX7_init_106 : decode cX7_init 106 = .ok (.newarray .int, 2) := dk_188_10 (dk_at dksX7_init_4 11 rfl rfl)
theorem dX7_init_108 : decode cX7_init 108 = .ok (.putfield 54, 3) := dk_181 0 54 (dk_at dksX7_init_4 13 rfl rfl)
theorem dX7_init_111 : decode cX7_init 111 = .ok (.aload_n 0, 1) := dk_42 (dk_at dksX7_init_4 16 rfl rfl)
theorem dX7_init_112 : decode cX7_init 112 = .ok (.iconst 0, 1) := dk_3 (dk_at dksX7_init_4 17 rfl rfl)
theorem dX7_init_113 : decode cX7_init 113 = .ok (.putfield 57, 3) := dk_181 0 57 (dk_at dksX7_init_4 18 rfl rfl)
theorem dX7_init_116 : decode cX7_init 116 = .ok (.aload_n 0, 1) := dk_42 (dk_at dksX7_init_4 21 rfl rfl)
theorem dX7_init_117 : decode cX7_init 117 = .ok (.bipush 60, 2) := dk_16 60 (dk_at dksX7_init_4 22 rfl rfl)
theorem dX7_init_119 : decode cX7_init 119 = .ok (.newarray .int, 2) := dk_188_10 (dk_at dksX7_init_5 0 rfl rfl)
theorem dX7_init_121 : decode cX7_init 121 = .ok (.putfield 60, 3) := dk_181 0 60 (dk_at dksX7_init_5 2 rfl rfl)
theorem dX7_init_124 : decode cX7_init 124 = .ok (.aload_n 0, 1) := dk_42 (dk_at dksX7_init_5 5 rfl rfl)
theorem dX7_init_125 : decode cX7_init 125 = .ok (.bipush 32, 2) := dk_16 32 (dk_at dksX7_init_5 6 rfl rfl)
theorem dX7_init_127 : decode cX7_init 127 = .ok (.newarray .int, 2) := dk_188_10 (dk_at dksX7_init_5 8 rfl rfl)
theorem dX7_init_129 : decode cX7_init 129 = .ok (.putfield 63, 3) := dk_181 0 63 (dk_at dksX7_init_5 10 rfl rfl)
theorem dX7_init_132 : decode cX7_init 132 = .ok (.aload_n 0, 1) := dk_42 (dk_at dksX7_init_5 13 rfl rfl)
theorem dX7_init_133 : decode cX7_init 133 = .ok (.bipush 32, 2) := dk_16 32 (dk_at dksX7_init_5 14 rfl rfl)
theorem dX7_init_135 : decode cX7_init 135 = .ok (.newarray .int, 2) := dk_188_10 (dk_at dksX7_init_5 16 rfl rfl)
theorem dX7_init_137 : decode cX7_init 137 = .ok (.putfield 66, 3) := dk_181 0 66 (dk_at dksX7_init_5 18 rfl rfl)
theorem dX7_init_140 : decode cX7_init 140 = .ok (.aload_n 0, 1) := dk_42 (dk_at dksX7_init_5 21 rfl rfl)
theorem dX7_init_141 : decode cX7_init 141 = .ok (.bipush 32, 2) := dk_16 32 (dk_at dksX7_init_5 22 rfl rfl)
theorem dX7_init_143 : decode cX7_init 143 = .ok (.newarray .int, 2) := dk_188_10 (dk_at dksX7_init_6 0 rfl rfl)
theorem dX7_init_145 : decode cX7_init 145 = .ok (.putfield 69, 3) := dk_181 0 69 (dk_at dksX7_init_6 2 rfl rfl)
theorem dX7_init_148 : decode cX7_init 148 = .ok (.aload_n 0, 1) := dk_42 (dk_at dksX7_init_6 5 rfl rfl)
theorem dX7_init_149 : decode cX7_init 149 = .ok (.iconst 0, 1) := dk_3 (dk_at dksX7_init_6 6 rfl rfl)
theorem dX7_init_150 : decode cX7_init 150 = .ok (.putfield 72, 3) := dk_181 0 72 (dk_at dksX7_init_6 7 rfl rfl)
theorem dX7_init_153 : decode cX7_init 153 = .ok (.aload_n 0, 1) := dk_42 (dk_at dksX7_init_6 10 rfl rfl)
theorem dX7_init_154 : decode cX7_init 154 = .ok (.iconst 0, 1) := dk_3 (dk_at dksX7_init_6 11 rfl rfl)
theorem dX7_init_155 : decode cX7_init 155 = .ok (.putfield 75, 3) := dk_181 0 75 (dk_at dksX7_init_6 12 rfl rfl)
theorem dX7_init_158 : decode cX7_init 158 = .ok (.aload_n 0, 1) := dk_42 (dk_at dksX7_init_6 15 rfl rfl)
theorem dX7_init_159 : decode cX7_init 159 = .ok (.iconst 0, 1) := dk_3 (dk_at dksX7_init_6 16 rfl rfl)
theorem dX7_init_160 : decode cX7_init 160 = .ok (.putfield 78, 3) := dk_181 0 78 (dk_at dksX7_init_6 17 rfl rfl)
theorem dX7_init_163 : decode cX7_init 163 = .ok (.aload_n 0, 1) := dk_42 (dk_at dksX7_init_6 20 rfl rfl)
theorem dX7_init_164 : decode cX7_init 164 = .ok (.iconst 0, 1) := dk_3 (dk_at dksX7_init_6 21 rfl rfl)
theorem dX7_init_165 : decode cX7_init 165 = .ok (.putfield 81, 3) := dk_181 0 81 (dk_at dksX7_init_7 0 rfl rfl)
theorem dX7_init_168 : decode cX7_init 168 = .ok (.aload_n 0, 1) := dk_42 (dk_at dksX7_init_7 3 rfl rfl)
theorem dX7_init_169 : decode cX7_init 169 = .ok (.iconst 0, 1) := dk_3 (dk_at dksX7_init_7 4 rfl rfl)
theorem dX7_init_170 : decode cX7_init 170 = .ok (.putfield 84, 3) := dk_181 0 84 (dk_at dksX7_init_7 5 rfl rfl)
theorem dX7_init_173 : decode cX7_init 173 = .ok (.return_, 1) := dk_177 (dk_at dksX7_init_7 8 rfl rfl)
abbrev cX7_thrown : ByteArray := prog_12_method_2_code
def yX7_thrown : MethodName := ⟨RX7, "thrown", "()I"⟩
theorem dX7_thrown_0 : decode cX7_thrown 0 = .ok (.aload_n 0, 1) := by decide +kernel
theorem dX7_thrown_1 : decode cX7_thrown 1 = .ok (.getfield 37, 3) := by decide +kernel
theorem dX7_thrown_4 : decode cX7_thrown 4 = .ok (.ireturn, 1) := by decide +kernel
abbrev cX7_addInk : ByteArray := prog_12_method_14_code
def yX7_addInk : MethodName := ⟨RX7, "addInk", "(II)I"⟩
def dkwX7_addInk_1 : List UInt8 := [42, 27, 28, 182, 0, 110, 182, 0, 113, 172]
abbrev dktX7_addInk_1 : List UInt8 := dkwX7_addInk_1 ++ []
def dkwX7_addInk_0 : List UInt8 := [42, 182, 0, 99, 42, 27, 28, 182, 0, 102, 62, 29, 158, 0, 11, 42, 29, 182, 0, 106, 167, 0, 13, 42]
abbrev dktX7_addInk_0 : List UInt8 := dkwX7_addInk_0 ++ dktX7_addInk_1
theorem dksX7_addInk_0 : cX7_addInk.data.toList.drop 0 = dktX7_addInk_0 := by decide +kernel
theorem dksX7_addInk_1 : cX7_addInk.data.toList.drop 24 = dktX7_addInk_1 := dk_seg dksX7_addInk_0 24 rfl rfl
theorem dX7_addInk_0 : decode cX7_addInk 0 = .ok (.aload_n 0, 1) := dk_42 (dk_at dksX7_addInk_0 0 rfl rfl)
theorem dX7_addInk_1 : decode cX7_addInk 1 = .ok (.invokevirtual 99, 3) := dk_182 0 99 (dk_at dksX7_addInk_0 1 rfl rfl)
theorem dX7_addInk_4 : decode cX7_addInk 4 = .ok (.aload_n 0, 1) := dk_42 (dk_at dksX7_addInk_0 4 rfl rfl)
theorem dX7_addInk_5 : decode cX7_addInk 5 = .ok (.iload_n 1, 1) := dk_27 (dk_at dksX7_addInk_0 5 rfl rfl)
theorem dX7_addInk_6 : decode cX7_addInk 6 = .ok (.iload_n 2, 1) := dk_28 (dk_at dksX7_addInk_0 6 rfl rfl)
theorem dX7_addInk_7 : decode cX7_addInk 7 = .ok (.invokevirtual 102, 3) := dk_182 0 102 (dk_at dksX7_addInk_0 7 rfl rfl)
theorem dX7_addInk_10 : decode cX7_addInk 10 = .ok (.istore_n 3, 1) := dk_62 (dk_at dksX7_addInk_0 10 rfl rfl)
theorem dX7_addInk_11 : decode cX7_addInk 11 = .ok (.iload_n 3, 1) := dk_29 (dk_at dksX7_addInk_0 11 rfl rfl)
theorem dX7_addInk_12 : decode cX7_addInk 12 = .ok (.ifCond .le 11, 3) := dk_158 0 11 (dk_at dksX7_addInk_0 12 rfl rfl)
theorem dX7_addInk_15 : decode cX7_addInk 15 = .ok (.aload_n 0, 1) := dk_42 (dk_at dksX7_addInk_0 15 rfl rfl)
theorem dX7_addInk_16 : decode cX7_addInk 16 = .ok (.iload_n 3, 1) := dk_29 (dk_at dksX7_addInk_0 16 rfl rfl)
theorem dX7_addInk_17 : decode cX7_addInk 17 = .ok (.invokevirtual 106, 3) := dk_182 0 106 (dk_at dksX7_addInk_0 17 rfl rfl)
theorem dX7_addInk_20 : decode cX7_addInk 20 = .ok (.goto 13, 3) := dk_167 0 13 (dk_at dksX7_addInk_0 20 rfl rfl)
theorem dX7_addInk_23 : decode cX7_addInk 23 = .ok (.aload_n 0, 1) := dk_42 (dk_at dksX7_addInk_0 23 rfl rfl)
theorem dX7_addInk_24 : decode cX7_addInk 24 = .ok (.aload_n 0, 1) := dk_42 (dk_at dksX7_addInk_1 0 rfl rfl)
theorem dX7_addInk_25 : decode cX7_addInk 25 = .ok (.iload_n 1, 1) := dk_27 (dk_at dksX7_addInk_1 1 rfl rfl)
theorem dX7_addInk_26 : decode cX7_addInk 26 = .ok (.iload_n 2, 1) := dk_28 (dk_at dksX7_addInk_1 2 rfl rfl)
theorem dX7_addInk_27 : decode cX7_addInk 27 = .ok (.invokevirtual 110, 3) := dk_182 0 110 (dk_at dksX7_addInk_1 3 rfl rfl)
theorem dX7_addInk_30 : decode cX7_addInk 30 = .ok (.invokevirtual 113, 3) := dk_182 0 113 (dk_at dksX7_addInk_1 6 rfl rfl)
theorem dX7_addInk_33 : decode cX7_addInk 33 = .ok (.ireturn, 1) := dk_172 (dk_at dksX7_addInk_1 9 rfl rfl)
abbrev cX7_begin : ByteArray := prog_12_method_7_code
def yX7_begin : MethodName := ⟨RX7, "begin", "()V"⟩
def dkwX7_begin_0 : List UInt8 := [42, 3, 181, 0, 37, 42, 180, 0, 7, 3, 42, 180, 0, 13, 3, 184, 0, 87, 177]
abbrev dktX7_begin_0 : List UInt8 := dkwX7_begin_0 ++ []
theorem dksX7_begin_0 : cX7_begin.data.toList.drop 0 = dktX7_begin_0 := by decide +kernel
theorem dX7_begin_0 : decode cX7_begin 0 = .ok (.aload_n 0, 1) := dk_42 (dk_at dksX7_begin_0 0 rfl rfl)
theorem dX7_begin_1 : decode cX7_begin 1 = .ok (.iconst 0, 1) := dk_3 (dk_at dksX7_begin_0 1 rfl rfl)
theorem dX7_begin_2 : decode cX7_begin 2 = .ok (.putfield 37, 3) := dk_181 0 37 (dk_at dksX7_begin_0 2 rfl rfl)
theorem dX7_begin_5 : decode cX7_begin 5 = .ok (.aload_n 0, 1) := dk_42 (dk_at dksX7_begin_0 5 rfl rfl)
theorem dX7_begin_6 : decode cX7_begin 6 = .ok (.getfield 7, 3) := dk_180 0 7 (dk_at dksX7_begin_0 6 rfl rfl)
theorem dX7_begin_9 : decode cX7_begin 9 = .ok (.iconst 0, 1) := dk_3 (dk_at dksX7_begin_0 9 rfl rfl)
theorem dX7_begin_10 : decode cX7_begin 10 = .ok (.aload_n 0, 1) := dk_42 (dk_at dksX7_begin_0 10 rfl rfl)
theorem dX7_begin_11 : decode cX7_begin 11 = .ok (.getfield 13, 3) := dk_180 0 13 (dk_at dksX7_begin_0 11 rfl rfl)
theorem dX7_begin_14 : decode cX7_begin 14 = .ok (.iconst 0, 1) := dk_3 (dk_at dksX7_begin_0 14 rfl rfl)
theorem dX7_begin_15 : decode cX7_begin 15 = .ok (.invokestatic 87, 3) := dk_184 0 87 (dk_at dksX7_begin_0 15 rfl rfl)
theorem dX7_begin_18 : decode cX7_begin 18 = .ok (.return_, 1) := dk_177 (dk_at dksX7_begin_0 18 rfl rfl)
abbrev cX7_copy : ByteArray := prog_12_method_5_code
def yX7_copy : MethodName := ⟨RX7, "copy", "([II[II)V"⟩
def dkwX7_copy_1 : List UInt8 := [132, 4, 1, 167, 255, 234, 177]
abbrev dktX7_copy_1 : List UInt8 := dkwX7_copy_1 ++ []
def dkwX7_copy_0 : List UInt8 := [3, 54, 4, 21, 4, 16, 72, 162, 0, 21, 44, 29, 21, 4, 96, 42, 27, 21, 4, 96, 46, 79]
abbrev dktX7_copy_0 : List UInt8 := dkwX7_copy_0 ++ dktX7_copy_1
theorem dksX7_copy_0 : cX7_copy.data.toList.drop 0 = dktX7_copy_0 := by decide +kernel
theorem dksX7_copy_1 : cX7_copy.data.toList.drop 22 = dktX7_copy_1 := dk_seg dksX7_copy_0 22 rfl rfl
theorem dX7_copy_0 : decode cX7_copy 0 = .ok (.iconst 0, 1) := dk_3 (dk_at dksX7_copy_0 0 rfl rfl)
theorem dX7_copy_1 : decode cX7_copy 1 = .ok (.istore 4, 2) := dk_54 4 (dk_at dksX7_copy_0 1 rfl rfl)
theorem dX7_copy_3 : decode cX7_copy 3 = .ok (.iload 4, 2) := dk_21 4 (dk_at dksX7_copy_0 3 rfl rfl)
theorem dX7_copy_5 : decode cX7_copy 5 = .ok (.bipush 72, 2) := dk_16 72 (dk_at dksX7_copy_0 5 rfl rfl)
theorem dX7_copy_7 : decode cX7_copy 7 = .ok (.if_icmp .ge 21, 3) := dk_162 0 21 (dk_at dksX7_copy_0 7 rfl rfl)
theorem dX7_copy_10 : decode cX7_copy 10 = .ok (.aload_n 2, 1) := dk_44 (dk_at dksX7_copy_0 10 rfl rfl)
theorem dX7_copy_11 : decode cX7_copy 11 = .ok (.iload_n 3, 1) := dk_29 (dk_at dksX7_copy_0 11 rfl rfl)
theorem dX7_copy_12 : decode cX7_copy 12 = .ok (.iload 4, 2) := dk_21 4 (dk_at dksX7_copy_0 12 rfl rfl)
theorem dX7_copy_14 : decode cX7_copy 14 = .ok (.iadd, 1) := dk_96 (dk_at dksX7_copy_0 14 rfl rfl)
theorem dX7_copy_15 : decode cX7_copy 15 = .ok (.aload_n 0, 1) := dk_42 (dk_at dksX7_copy_0 15 rfl rfl)
theorem dX7_copy_16 : decode cX7_copy 16 = .ok (.iload_n 1, 1) := dk_27 (dk_at dksX7_copy_0 16 rfl rfl)
theorem dX7_copy_17 : decode cX7_copy 17 = .ok (.iload 4, 2) := dk_21 4 (dk_at dksX7_copy_0 17 rfl rfl)
theorem dX7_copy_19 : decode cX7_copy 19 = .ok (.iadd, 1) := dk_96 (dk_at dksX7_copy_0 19 rfl rfl)
theorem dX7_copy_20 : decode cX7_copy 20 = .ok (.iaload, 1) := dk_46 (dk_at dksX7_copy_0 20 rfl rfl)
theorem dX7_copy_21 : decode cX7_copy 21 = .ok (.iastore, 1) := dk_79 (dk_at dksX7_copy_0 21 rfl rfl)
theorem dX7_copy_22 : decode cX7_copy 22 = .ok (.iinc 4 1, 3) := dk_132 4 1 (dk_at dksX7_copy_1 0 rfl rfl)
theorem dX7_copy_25 : decode cX7_copy 25 = .ok (.goto (-22), 3) := dk_167 255 234 (dk_at dksX7_copy_1 3 rfl rfl)
theorem dX7_copy_28 : decode cX7_copy 28 = .ok (.return_, 1) := dk_177 (dk_at dksX7_copy_1 6 rfl rfl)
abbrev cX7_cannotPour : ByteArray := prog_12_method_12_code
def yX7_cannotPour : MethodName := ⟨RX7, "cannotPour", "(II)I"⟩
def dkwX7_cannotPour_1 : List UInt8 := [16, 8, 27, 96, 46, 28, 96, 17, 3, 231, 164, 0, 7, 5, 167, 0, 4, 3, 172]
abbrev dktX7_cannotPour_1 : List UInt8 := dkwX7_cannotPour_1 ++ []
def dkwX7_cannotPour_0 : List UInt8 := [27, 184, 0, 95, 153, 0, 14, 28, 4, 17, 3, 231, 184, 0, 91, 154, 0, 5, 4, 172, 42, 180, 0, 7]
abbrev dktX7_cannotPour_0 : List UInt8 := dkwX7_cannotPour_0 ++ dktX7_cannotPour_1
theorem dksX7_cannotPour_0 : cX7_cannotPour.data.toList.drop 0 = dktX7_cannotPour_0 := by decide +kernel
theorem dksX7_cannotPour_1 : cX7_cannotPour.data.toList.drop 24 = dktX7_cannotPour_1 := dk_seg dksX7_cannotPour_0 24 rfl rfl
theorem dX7_cannotPour_0 : decode cX7_cannotPour 0 = .ok (.iload_n 1, 1) := dk_27 (dk_at dksX7_cannotPour_0 0 rfl rfl)
theorem dX7_cannotPour_1 : decode cX7_cannotPour 1 = .ok (.invokestatic 95, 3) := dk_184 0 95 (dk_at dksX7_cannotPour_0 1 rfl rfl)
theorem dX7_cannotPour_4 : decode cX7_cannotPour 4 = .ok (.ifCond .eq 14, 3) := dk_153 0 14 (dk_at dksX7_cannotPour_0 4 rfl rfl)
theorem dX7_cannotPour_7 : decode cX7_cannotPour 7 = .ok (.iload_n 2, 1) := dk_28 (dk_at dksX7_cannotPour_0 7 rfl rfl)
theorem dX7_cannotPour_8 : decode cX7_cannotPour 8 = .ok (.iconst 1, 1) := dk_4 (dk_at dksX7_cannotPour_0 8 rfl rfl)
theorem dX7_cannotPour_9 : decode cX7_cannotPour 9 = .ok (.sipush 999, 3) := dk_17 3 231 (dk_at dksX7_cannotPour_0 9 rfl rfl)
theorem dX7_cannotPour_12 : decode cX7_cannotPour 12 = .ok (.invokestatic 91, 3) := dk_184 0 91 (dk_at dksX7_cannotPour_0 12 rfl rfl)
theorem dX7_cannotPour_15 : decode cX7_cannotPour 15 = .ok (.ifCond .ne 5, 3) := dk_154 0 5 (dk_at dksX7_cannotPour_0 15 rfl rfl)
theorem dX7_cannotPour_18 : decode cX7_cannotPour 18 = .ok (.iconst 1, 1) := dk_4 (dk_at dksX7_cannotPour_0 18 rfl rfl)
theorem dX7_cannotPour_19 : decode cX7_cannotPour 19 = .ok (.ireturn, 1) := dk_172 (dk_at dksX7_cannotPour_0 19 rfl rfl)
theorem dX7_cannotPour_20 : decode cX7_cannotPour 20 = .ok (.aload_n 0, 1) := dk_42 (dk_at dksX7_cannotPour_0 20 rfl rfl)
theorem dX7_cannotPour_21 : decode cX7_cannotPour 21 = .ok (.getfield 7, 3) := dk_180 0 7 (dk_at dksX7_cannotPour_0 21 rfl rfl)
theorem dX7_cannotPour_24 : decode cX7_cannotPour 24 = .ok (.bipush 8, 2) := dk_16 8 (dk_at dksX7_cannotPour_1 0 rfl rfl)
theorem dX7_cannotPour_26 : decode cX7_cannotPour 26 = .ok (.iload_n 1, 1) := dk_27 (dk_at dksX7_cannotPour_1 2 rfl rfl)
theorem dX7_cannotPour_27 : decode cX7_cannotPour 27 = .ok (.iadd, 1) := dk_96 (dk_at dksX7_cannotPour_1 3 rfl rfl)
theorem dX7_cannotPour_28 : decode cX7_cannotPour 28 = .ok (.iaload, 1) := dk_46 (dk_at dksX7_cannotPour_1 4 rfl rfl)
theorem dX7_cannotPour_29 : decode cX7_cannotPour 29 = .ok (.iload_n 2, 1) := dk_28 (dk_at dksX7_cannotPour_1 5 rfl rfl)
theorem dX7_cannotPour_30 : decode cX7_cannotPour 30 = .ok (.iadd, 1) := dk_96 (dk_at dksX7_cannotPour_1 6 rfl rfl)
theorem dX7_cannotPour_31 : decode cX7_cannotPour 31 = .ok (.sipush 999, 3) := dk_17 3 231 (dk_at dksX7_cannotPour_1 7 rfl rfl)
theorem dX7_cannotPour_34 : decode cX7_cannotPour 34 = .ok (.if_icmp .le 7, 3) := dk_164 0 7 (dk_at dksX7_cannotPour_1 10 rfl rfl)
theorem dX7_cannotPour_37 : decode cX7_cannotPour 37 = .ok (.iconst 2, 1) := dk_5 (dk_at dksX7_cannotPour_1 13 rfl rfl)
theorem dX7_cannotPour_38 : decode cX7_cannotPour 38 = .ok (.goto 4, 3) := dk_167 0 4 (dk_at dksX7_cannotPour_1 14 rfl rfl)
theorem dX7_cannotPour_41 : decode cX7_cannotPour 41 = .ok (.iconst 0, 1) := dk_3 (dk_at dksX7_cannotPour_1 17 rfl rfl)
theorem dX7_cannotPour_42 : decode cX7_cannotPour 42 = .ok (.ireturn, 1) := dk_172 (dk_at dksX7_cannotPour_1 18 rfl rfl)
abbrev cX7_isColour : ByteArray := prog_12_method_11_code
def yX7_isColour : MethodName := ⟨RX7, "isColour", "(I)Z"⟩
def dkwX7_isColour_0 : List UInt8 := [26, 3, 16, 9, 184, 0, 91, 172]
abbrev dktX7_isColour_0 : List UInt8 := dkwX7_isColour_0 ++ []
theorem dksX7_isColour_0 : cX7_isColour.data.toList.drop 0 = dktX7_isColour_0 := by decide +kernel
theorem dX7_isColour_0 : decode cX7_isColour 0 = .ok (.iload_n 0, 1) := dk_26 (dk_at dksX7_isColour_0 0 rfl rfl)
theorem dX7_isColour_1 : decode cX7_isColour 1 = .ok (.iconst 0, 1) := dk_3 (dk_at dksX7_isColour_0 1 rfl rfl)
theorem dX7_isColour_2 : decode cX7_isColour 2 = .ok (.bipush 9, 2) := dk_16 9 (dk_at dksX7_isColour_0 2 rfl rfl)
theorem dX7_isColour_4 : decode cX7_isColour 4 = .ok (.invokestatic 91, 3) := dk_184 0 91 (dk_at dksX7_isColour_0 4 rfl rfl)
theorem dX7_isColour_7 : decode cX7_isColour 7 = .ok (.ireturn, 1) := dk_172 (dk_at dksX7_isColour_0 7 rfl rfl)
abbrev cX7_in : ByteArray := prog_12_method_3_code
def yX7_in : MethodName := ⟨RX7, "in", "(III)Z"⟩
def dkwX7_in_0 : List UInt8 := [26, 27, 161, 0, 12, 26, 28, 163, 0, 7, 4, 167, 0, 4, 3, 172]
abbrev dktX7_in_0 : List UInt8 := dkwX7_in_0 ++ []
theorem dksX7_in_0 : cX7_in.data.toList.drop 0 = dktX7_in_0 := by decide +kernel
theorem dX7_in_0 : decode cX7_in 0 = .ok (.iload_n 0, 1) := dk_26 (dk_at dksX7_in_0 0 rfl rfl)
theorem dX7_in_1 : decode cX7_in 1 = .ok (.iload_n 1, 1) := dk_27 (dk_at dksX7_in_0 1 rfl rfl)
theorem dX7_in_2 : decode cX7_in 2 = .ok (.if_icmp .lt 12, 3) := dk_161 0 12 (dk_at dksX7_in_0 2 rfl rfl)
theorem dX7_in_5 : decode cX7_in 5 = .ok (.iload_n 0, 1) := dk_26 (dk_at dksX7_in_0 5 rfl rfl)
theorem dX7_in_6 : decode cX7_in 6 = .ok (.iload_n 2, 1) := dk_28 (dk_at dksX7_in_0 6 rfl rfl)
theorem dX7_in_7 : decode cX7_in 7 = .ok (.if_icmp .gt 7, 3) := dk_163 0 7 (dk_at dksX7_in_0 7 rfl rfl)
theorem dX7_in_10 : decode cX7_in 10 = .ok (.iconst 1, 1) := dk_4 (dk_at dksX7_in_0 10 rfl rfl)
theorem dX7_in_11 : decode cX7_in 11 = .ok (.goto 4, 3) := dk_167 0 4 (dk_at dksX7_in_0 11 rfl rfl)
theorem dX7_in_14 : decode cX7_in 14 = .ok (.iconst 0, 1) := dk_3 (dk_at dksX7_in_0 14 rfl rfl)
theorem dX7_in_15 : decode cX7_in 15 = .ok (.ireturn, 1) := dk_172 (dk_at dksX7_in_0 15 rfl rfl)
abbrev cX7_fail : ByteArray := prog_12_method_6_code
def yX7_fail : MethodName := ⟨RX7, "fail", "(I)I"⟩
def dkwX7_fail_0 : List UInt8 := [42, 27, 181, 0, 37, 3, 172]
abbrev dktX7_fail_0 : List UInt8 := dkwX7_fail_0 ++ []
theorem dksX7_fail_0 : cX7_fail.data.toList.drop 0 = dktX7_fail_0 := by decide +kernel
theorem dX7_fail_0 : decode cX7_fail 0 = .ok (.aload_n 0, 1) := dk_42 (dk_at dksX7_fail_0 0 rfl rfl)
theorem dX7_fail_1 : decode cX7_fail 1 = .ok (.iload_n 1, 1) := dk_27 (dk_at dksX7_fail_0 1 rfl rfl)
theorem dX7_fail_2 : decode cX7_fail 2 = .ok (.putfield 37, 3) := dk_181 0 37 (dk_at dksX7_fail_0 2 rfl rfl)
theorem dX7_fail_5 : decode cX7_fail 5 = .ok (.iconst 0, 1) := dk_3 (dk_at dksX7_fail_0 5 rfl rfl)
theorem dX7_fail_6 : decode cX7_fail 6 = .ok (.ireturn, 1) := dk_172 (dk_at dksX7_fail_0 6 rfl rfl)
abbrev cX7_pours : ByteArray := prog_12_method_13_code
def yX7_pours : MethodName := ⟨RX7, "pours", "(II)I"⟩
def dkwX7_pours_1 : List UInt8 := [42, 180, 0, 7, 16, 8, 27, 96, 46, 172]
abbrev dktX7_pours_1 : List UInt8 := dkwX7_pours_1 ++ []
def dkwX7_pours_0 : List UInt8 := [42, 180, 0, 7, 16, 8, 27, 96, 92, 46, 28, 96, 79, 42, 180, 0, 7, 16, 6, 92, 46, 28, 96, 79]
abbrev dktX7_pours_0 : List UInt8 := dkwX7_pours_0 ++ dktX7_pours_1
theorem dksX7_pours_0 : cX7_pours.data.toList.drop 0 = dktX7_pours_0 := by decide +kernel
theorem dksX7_pours_1 : cX7_pours.data.toList.drop 24 = dktX7_pours_1 := dk_seg dksX7_pours_0 24 rfl rfl
theorem dX7_pours_0 : decode cX7_pours 0 = .ok (.aload_n 0, 1) := dk_42 (dk_at dksX7_pours_0 0 rfl rfl)
theorem dX7_pours_1 : decode cX7_pours 1 = .ok (.getfield 7, 3) := dk_180 0 7 (dk_at dksX7_pours_0 1 rfl rfl)
theorem dX7_pours_4 : decode cX7_pours 4 = .ok (.bipush 8, 2) := dk_16 8 (dk_at dksX7_pours_0 4 rfl rfl)
theorem dX7_pours_6 : decode cX7_pours 6 = .ok (.iload_n 1, 1) := dk_27 (dk_at dksX7_pours_0 6 rfl rfl)
theorem dX7_pours_7 : decode cX7_pours 7 = .ok (.iadd, 1) := dk_96 (dk_at dksX7_pours_0 7 rfl rfl)
theorem dX7_pours_8 : decode cX7_pours 8 = .ok (.dup2, 1) := dk_92 (dk_at dksX7_pours_0 8 rfl rfl)
theorem dX7_pours_9 : decode cX7_pours 9 = .ok (.iaload, 1) := dk_46 (dk_at dksX7_pours_0 9 rfl rfl)
theorem dX7_pours_10 : decode cX7_pours 10 = .ok (.iload_n 2, 1) := dk_28 (dk_at dksX7_pours_0 10 rfl rfl)
theorem dX7_pours_11 : decode cX7_pours 11 = .ok (.iadd, 1) := dk_96 (dk_at dksX7_pours_0 11 rfl rfl)
theorem dX7_pours_12 : decode cX7_pours 12 = .ok (.iastore, 1) := dk_79 (dk_at dksX7_pours_0 12 rfl rfl)
theorem dX7_pours_13 : decode cX7_pours 13 = .ok (.aload_n 0, 1) := dk_42 (dk_at dksX7_pours_0 13 rfl rfl)
theorem dX7_pours_14 : decode cX7_pours 14 = .ok (.getfield 7, 3) := dk_180 0 7 (dk_at dksX7_pours_0 14 rfl rfl)
theorem dX7_pours_17 : decode cX7_pours 17 = .ok (.bipush 6, 2) := dk_16 6 (dk_at dksX7_pours_0 17 rfl rfl)
theorem dX7_pours_19 : decode cX7_pours 19 = .ok (.dup2, 1) := dk_92 (dk_at dksX7_pours_0 19 rfl rfl)
theorem dX7_pours_20 : decode cX7_pours 20 = .ok (.iaload, 1) := dk_46 (dk_at dksX7_pours_0 20 rfl rfl)
theorem dX7_pours_21 : decode cX7_pours 21 = .ok (.iload_n 2, 1) := dk_28 (dk_at dksX7_pours_0 21 rfl rfl)
theorem dX7_pours_22 : decode cX7_pours 22 = .ok (.iadd, 1) := dk_96 (dk_at dksX7_pours_0 22 rfl rfl)
theorem dX7_pours_23 : decode cX7_pours 23 = .ok (.iastore, 1) := dk_79 (dk_at dksX7_pours_0 23 rfl rfl)
theorem dX7_pours_24 : decode cX7_pours 24 = .ok (.aload_n 0, 1) := dk_42 (dk_at dksX7_pours_1 0 rfl rfl)
theorem dX7_pours_25 : decode cX7_pours 25 = .ok (.getfield 7, 3) := dk_180 0 7 (dk_at dksX7_pours_1 1 rfl rfl)
theorem dX7_pours_28 : decode cX7_pours 28 = .ok (.bipush 8, 2) := dk_16 8 (dk_at dksX7_pours_1 4 rfl rfl)
theorem dX7_pours_30 : decode cX7_pours 30 = .ok (.iload_n 1, 1) := dk_27 (dk_at dksX7_pours_1 6 rfl rfl)
theorem dX7_pours_31 : decode cX7_pours 31 = .ok (.iadd, 1) := dk_96 (dk_at dksX7_pours_1 7 rfl rfl)
theorem dX7_pours_32 : decode cX7_pours 32 = .ok (.iaload, 1) := dk_46 (dk_at dksX7_pours_1 8 rfl rfl)
theorem dX7_pours_33 : decode cX7_pours 33 = .ok (.ireturn, 1) := dk_172 (dk_at dksX7_pours_1 9 rfl rfl)
abbrev cX7_commit : ByteArray := prog_12_method_8_code
def yX7_commit : MethodName := ⟨RX7, "commit", "(I)I"⟩
def dkwX7_commit_3 : List UInt8 := [184, 0, 87, 42, 89, 180, 0, 41, 4, 96, 181, 0, 41, 27, 172]
abbrev dktX7_commit_3 : List UInt8 := dkwX7_commit_3 ++ []
def dkwX7_commit_2 : List UInt8 := [180, 0, 41, 4, 100, 181, 0, 41, 42, 180, 0, 13, 3, 42, 180, 0, 19, 16, 72, 42, 180, 0, 41, 104]
abbrev dktX7_commit_2 : List UInt8 := dkwX7_commit_2 ++ dktX7_commit_3
def dkwX7_commit_1 : List UInt8 := [104, 42, 180, 0, 19, 16, 72, 28, 4, 100, 104, 184, 0, 87, 132, 2, 1, 167, 255, 226, 42, 89]
abbrev dktX7_commit_1 : List UInt8 := dkwX7_commit_1 ++ dktX7_commit_2
def dkwX7_commit_0 : List UInt8 := [42, 180, 0, 41, 16, 8, 160, 0, 48, 4, 61, 28, 16, 8, 162, 0, 30, 42, 180, 0, 19, 16, 72, 28]
abbrev dktX7_commit_0 : List UInt8 := dkwX7_commit_0 ++ dktX7_commit_1
theorem dksX7_commit_0 : cX7_commit.data.toList.drop 0 = dktX7_commit_0 := by decide +kernel
theorem dksX7_commit_1 : cX7_commit.data.toList.drop 24 = dktX7_commit_1 := dk_seg dksX7_commit_0 24 rfl rfl
theorem dksX7_commit_2 : cX7_commit.data.toList.drop 46 = dktX7_commit_2 := dk_seg dksX7_commit_1 22 rfl rfl
theorem dksX7_commit_3 : cX7_commit.data.toList.drop 70 = dktX7_commit_3 := dk_seg dksX7_commit_2 24 rfl rfl
theorem dX7_commit_0 : decode cX7_commit 0 = .ok (.aload_n 0, 1) := dk_42 (dk_at dksX7_commit_0 0 rfl rfl)
theorem dX7_commit_1 : decode cX7_commit 1 = .ok (.getfield 41, 3) := dk_180 0 41 (dk_at dksX7_commit_0 1 rfl rfl)
theorem dX7_commit_4 : decode cX7_commit 4 = .ok (.bipush 8, 2) := dk_16 8 (dk_at dksX7_commit_0 4 rfl rfl)
theorem dX7_commit_6 : decode cX7_commit 6 = .ok (.if_icmp .ne 48, 3) := dk_160 0 48 (dk_at dksX7_commit_0 6 rfl rfl)
theorem dX7_commit_9 : decode cX7_commit 9 = .ok (.iconst 1, 1) := dk_4 (dk_at dksX7_commit_0 9 rfl rfl)
theorem dX7_commit_10 : decode cX7_commit 10 = .ok (.istore_n 2, 1) := dk_61 (dk_at dksX7_commit_0 10 rfl rfl)
theorem dX7_commit_11 : decode cX7_commit 11 = .ok (.iload_n 2, 1) := dk_28 (dk_at dksX7_commit_0 11 rfl rfl)
theorem dX7_commit_12 : decode cX7_commit 12 = .ok (.bipush 8, 2) := dk_16 8 (dk_at dksX7_commit_0 12 rfl rfl)
theorem dX7_commit_14 : decode cX7_commit 14 = .ok (.if_icmp .ge 30, 3) := dk_162 0 30 (dk_at dksX7_commit_0 14 rfl rfl)
theorem dX7_commit_17 : decode cX7_commit 17 = .ok (.aload_n 0, 1) := dk_42 (dk_at dksX7_commit_0 17 rfl rfl)
theorem dX7_commit_18 : decode cX7_commit 18 = .ok (.getfield 19, 3) := dk_180 0 19 (dk_at dksX7_commit_0 18 rfl rfl)
theorem dX7_commit_21 : decode cX7_commit 21 = .ok (.bipush 72, 2) := dk_16 72 (dk_at dksX7_commit_0 21 rfl rfl)
theorem dX7_commit_23 : decode cX7_commit 23 = .ok (.iload_n 2, 1) := dk_28 (dk_at dksX7_commit_0 23 rfl rfl)
theorem dX7_commit_24 : decode cX7_commit 24 = .ok (.imul, 1) := dk_104 (dk_at dksX7_commit_1 0 rfl rfl)
theorem dX7_commit_25 : decode cX7_commit 25 = .ok (.aload_n 0, 1) := dk_42 (dk_at dksX7_commit_1 1 rfl rfl)
theorem dX7_commit_26 : decode cX7_commit 26 = .ok (.getfield 19, 3) := dk_180 0 19 (dk_at dksX7_commit_1 2 rfl rfl)
theorem dX7_commit_29 : decode cX7_commit 29 = .ok (.bipush 72, 2) := dk_16 72 (dk_at dksX7_commit_1 5 rfl rfl)
theorem dX7_commit_31 : decode cX7_commit 31 = .ok (.iload_n 2, 1) := dk_28 (dk_at dksX7_commit_1 7 rfl rfl)
theorem dX7_commit_32 : decode cX7_commit 32 = .ok (.iconst 1, 1) := dk_4 (dk_at dksX7_commit_1 8 rfl rfl)
theorem dX7_commit_33 : decode cX7_commit 33 = .ok (.isub, 1) := dk_100 (dk_at dksX7_commit_1 9 rfl rfl)
theorem dX7_commit_34 : decode cX7_commit 34 = .ok (.imul, 1) := dk_104 (dk_at dksX7_commit_1 10 rfl rfl)
theorem dX7_commit_35 : decode cX7_commit 35 = .ok (.invokestatic 87, 3) := dk_184 0 87 (dk_at dksX7_commit_1 11 rfl rfl)
theorem dX7_commit_38 : decode cX7_commit 38 = .ok (.iinc 2 1, 3) := dk_132 2 1 (dk_at dksX7_commit_1 14 rfl rfl)
theorem dX7_commit_41 : decode cX7_commit 41 = .ok (.goto (-30), 3) := dk_167 255 226 (dk_at dksX7_commit_1 17 rfl rfl)
theorem dX7_commit_44 : decode cX7_commit 44 = .ok (.aload_n 0, 1) := dk_42 (dk_at dksX7_commit_1 20 rfl rfl)
theorem dX7_commit_45 : decode cX7_commit 45 = .ok (.dup, 1) := dk_89 (dk_at dksX7_commit_1 21 rfl rfl)
theorem dX7_commit_46 : decode cX7_commit 46 = .ok (.getfield 41, 3) := dk_180 0 41 (dk_at dksX7_commit_2 0 rfl rfl)
theorem dX7_commit_49 : decode cX7_commit 49 = .ok (.iconst 1, 1) := dk_4 (dk_at dksX7_commit_2 3 rfl rfl)
theorem dX7_commit_50 : decode cX7_commit 50 = .ok (.isub, 1) := dk_100 (dk_at dksX7_commit_2 4 rfl rfl)
theorem dX7_commit_51 : decode cX7_commit 51 = .ok (.putfield 41, 3) := dk_181 0 41 (dk_at dksX7_commit_2 5 rfl rfl)
theorem dX7_commit_54 : decode cX7_commit 54 = .ok (.aload_n 0, 1) := dk_42 (dk_at dksX7_commit_2 8 rfl rfl)
theorem dX7_commit_55 : decode cX7_commit 55 = .ok (.getfield 13, 3) := dk_180 0 13 (dk_at dksX7_commit_2 9 rfl rfl)
theorem dX7_commit_58 : decode cX7_commit 58 = .ok (.iconst 0, 1) := dk_3 (dk_at dksX7_commit_2 12 rfl rfl)
theorem dX7_commit_59 : decode cX7_commit 59 = .ok (.aload_n 0, 1) := dk_42 (dk_at dksX7_commit_2 13 rfl rfl)
theorem dX7_commit_60 : decode cX7_commit 60 = .ok (.getfield 19, 3) := dk_180 0 19 (dk_at dksX7_commit_2 14 rfl rfl)
theorem dX7_commit_63 : decode cX7_commit 63 = .ok (.bipush 72, 2) := dk_16 72 (dk_at dksX7_commit_2 17 rfl rfl)
theorem dX7_commit_65 : decode cX7_commit 65 = .ok (.aload_n 0, 1) := dk_42 (dk_at dksX7_commit_2 19 rfl rfl)
theorem dX7_commit_66 : decode cX7_commit 66 = .ok (.getfield 41, 3) := dk_180 0 41 (dk_at dksX7_commit_2 20 rfl rfl)
theorem dX7_commit_69 : decode cX7_commit 69 = .ok (.imul, 1) := dk_104 (dk_at dksX7_commit_2 23 rfl rfl)
theorem dX7_commit_70 : decode cX7_commit 70 = .ok (.invokestatic 87, 3) := dk_184 0 87 (dk_at dksX7_commit_3 0 rfl rfl)
theorem dX7_commit_73 : decode cX7_commit 73 = .ok (.aload_n 0, 1) := dk_42 (dk_at dksX7_commit_3 3 rfl rfl)
theorem dX7_commit_74 : decode cX7_commit 74 = .ok (.dup, 1) := dk_89 (dk_at dksX7_commit_3 4 rfl rfl)
theorem dX7_commit_75 : decode cX7_commit 75 = .ok (.getfield 41, 3) := dk_180 0 41 (dk_at dksX7_commit_3 5 rfl rfl)
theorem dX7_commit_78 : decode cX7_commit 78 = .ok (.iconst 1, 1) := dk_4 (dk_at dksX7_commit_3 8 rfl rfl)
theorem dX7_commit_79 : decode cX7_commit 79 = .ok (.iadd, 1) := dk_96 (dk_at dksX7_commit_3 9 rfl rfl)
theorem dX7_commit_80 : decode cX7_commit 80 = .ok (.putfield 41, 3) := dk_181 0 41 (dk_at dksX7_commit_3 10 rfl rfl)
theorem dX7_commit_83 : decode cX7_commit 83 = .ok (.iload_n 1, 1) := dk_27 (dk_at dksX7_commit_3 13 rfl rfl)
theorem dX7_commit_84 : decode cX7_commit 84 = .ok (.ireturn, 1) := dk_172 (dk_at dksX7_commit_3 14 rfl rfl)
abbrev cX7_addPaper : ByteArray := prog_12_method_17_code
def yX7_addPaper : MethodName := ⟨RX7, "addPaper", "(I)I"⟩
def dkwX7_addPaper_1 : List UInt8 := [27, 182, 0, 119, 182, 0, 113, 172]
abbrev dktX7_addPaper_1 : List UInt8 := dkwX7_addPaper_1 ++ []
def dkwX7_addPaper_0 : List UInt8 := [42, 182, 0, 99, 42, 27, 182, 0, 116, 61, 28, 158, 0, 11, 42, 28, 182, 0, 106, 167, 0, 12, 42, 42]
abbrev dktX7_addPaper_0 : List UInt8 := dkwX7_addPaper_0 ++ dktX7_addPaper_1
theorem dksX7_addPaper_0 : cX7_addPaper.data.toList.drop 0 = dktX7_addPaper_0 := by decide +kernel
theorem dksX7_addPaper_1 : cX7_addPaper.data.toList.drop 24 = dktX7_addPaper_1 := dk_seg dksX7_addPaper_0 24 rfl rfl
theorem dX7_addPaper_0 : decode cX7_addPaper 0 = .ok (.aload_n 0, 1) := dk_42 (dk_at dksX7_addPaper_0 0 rfl rfl)
theorem dX7_addPaper_1 : decode cX7_addPaper 1 = .ok (.invokevirtual 99, 3) := dk_182 0 99 (dk_at dksX7_addPaper_0 1 rfl rfl)
theorem dX7_addPaper_4 : decode cX7_addPaper 4 = .ok (.aload_n 0, 1) := dk_42 (dk_at dksX7_addPaper_0 4 rfl rfl)
theorem dX7_addPaper_5 : decode cX7_addPaper 5 = .ok (.iload_n 1, 1) := dk_27 (dk_at dksX7_addPaper_0 5 rfl rfl)
theorem dX7_addPaper_6 : decode cX7_addPaper 6 = .ok (.invokevirtual 116, 3) := dk_182 0 116 (dk_at dksX7_addPaper_0 6 rfl rfl)
theorem dX7_addPaper_9 : decode cX7_addPaper 9 = .ok (.istore_n 2, 1) := dk_61 (dk_at dksX7_addPaper_0 9 rfl rfl)
theorem dX7_addPaper_10 : decode cX7_addPaper 10 = .ok (.iload_n 2, 1) := dk_28 (dk_at dksX7_addPaper_0 10 rfl rfl)
theorem dX7_addPaper_11 : decode cX7_addPaper 11 = .ok (.ifCond .le 11, 3) := dk_158 0 11 (dk_at dksX7_addPaper_0 11 rfl rfl)
theorem dX7_addPaper_14 : decode cX7_addPaper 14 = .ok (.aload_n 0, 1) := dk_42 (dk_at dksX7_addPaper_0 14 rfl rfl)
theorem dX7_addPaper_15 : decode cX7_addPaper 15 = .ok (.iload_n 2, 1) := dk_28 (dk_at dksX7_addPaper_0 15 rfl rfl)
theorem dX7_addPaper_16 : decode cX7_addPaper 16 = .ok (.invokevirtual 106, 3) := dk_182 0 106 (dk_at dksX7_addPaper_0 16 rfl rfl)
theorem dX7_addPaper_19 : decode cX7_addPaper 19 = .ok (.goto 12, 3) := dk_167 0 12 (dk_at dksX7_addPaper_0 19 rfl rfl)
theorem dX7_addPaper_22 : decode cX7_addPaper 22 = .ok (.aload_n 0, 1) := dk_42 (dk_at dksX7_addPaper_0 22 rfl rfl)
theorem dX7_addPaper_23 : decode cX7_addPaper 23 = .ok (.aload_n 0, 1) := dk_42 (dk_at dksX7_addPaper_0 23 rfl rfl)
theorem dX7_addPaper_24 : decode cX7_addPaper 24 = .ok (.iload_n 1, 1) := dk_27 (dk_at dksX7_addPaper_1 0 rfl rfl)
theorem dX7_addPaper_25 : decode cX7_addPaper 25 = .ok (.invokevirtual 119, 3) := dk_182 0 119 (dk_at dksX7_addPaper_1 1 rfl rfl)
theorem dX7_addPaper_28 : decode cX7_addPaper 28 = .ok (.invokevirtual 113, 3) := dk_182 0 113 (dk_at dksX7_addPaper_1 4 rfl rfl)
theorem dX7_addPaper_31 : decode cX7_addPaper 31 = .ok (.ireturn, 1) := dk_172 (dk_at dksX7_addPaper_1 7 rfl rfl)
abbrev cX7_cannotBuy : ByteArray := prog_12_method_15_code
def yX7_cannotBuy : MethodName := ⟨RX7, "cannotBuy", "(I)I"⟩
def dkwX7_cannotBuy_1 : List UInt8 := [17, 39, 15, 164, 0, 7, 5, 167, 0, 4, 3, 172]
abbrev dktX7_cannotBuy_1 : List UInt8 := dkwX7_cannotBuy_1 ++ []
def dkwX7_cannotBuy_0 : List UInt8 := [27, 4, 17, 3, 231, 184, 0, 91, 154, 0, 7, 4, 167, 0, 22, 42, 180, 0, 7, 5, 46, 27, 96]
abbrev dktX7_cannotBuy_0 : List UInt8 := dkwX7_cannotBuy_0 ++ dktX7_cannotBuy_1
theorem dksX7_cannotBuy_0 : cX7_cannotBuy.data.toList.drop 0 = dktX7_cannotBuy_0 := by decide +kernel
theorem dksX7_cannotBuy_1 : cX7_cannotBuy.data.toList.drop 23 = dktX7_cannotBuy_1 := dk_seg dksX7_cannotBuy_0 23 rfl rfl
theorem dX7_cannotBuy_0 : decode cX7_cannotBuy 0 = .ok (.iload_n 1, 1) := dk_27 (dk_at dksX7_cannotBuy_0 0 rfl rfl)
theorem dX7_cannotBuy_1 : decode cX7_cannotBuy 1 = .ok (.iconst 1, 1) := dk_4 (dk_at dksX7_cannotBuy_0 1 rfl rfl)
theorem dX7_cannotBuy_2 : decode cX7_cannotBuy 2 = .ok (.sipush 999, 3) := dk_17 3 231 (dk_at dksX7_cannotBuy_0 2 rfl rfl)
theorem dX7_cannotBuy_5 : decode cX7_cannotBuy 5 = .ok (.invokestatic 91, 3) := dk_184 0 91 (dk_at dksX7_cannotBuy_0 5 rfl rfl)
theorem dX7_cannotBuy_8 : decode cX7_cannotBuy 8 = .ok (.ifCond .ne 7, 3) := dk_154 0 7 (dk_at dksX7_cannotBuy_0 8 rfl rfl)
theorem dX7_cannotBuy_11 : decode cX7_cannotBuy 11 = .ok (.iconst 1, 1) := dk_4 (dk_at dksX7_cannotBuy_0 11 rfl rfl)
theorem dX7_cannotBuy_12 : decode cX7_cannotBuy 12 = .ok (.goto 22, 3) := dk_167 0 22 (dk_at dksX7_cannotBuy_0 12 rfl rfl)
theorem dX7_cannotBuy_15 : decode cX7_cannotBuy 15 = .ok (.aload_n 0, 1) := dk_42 (dk_at dksX7_cannotBuy_0 15 rfl rfl)
theorem dX7_cannotBuy_16 : decode cX7_cannotBuy 16 = .ok (.getfield 7, 3) := dk_180 0 7 (dk_at dksX7_cannotBuy_0 16 rfl rfl)
theorem dX7_cannotBuy_19 : decode cX7_cannotBuy 19 = .ok (.iconst 2, 1) := dk_5 (dk_at dksX7_cannotBuy_0 19 rfl rfl)
theorem dX7_cannotBuy_20 : decode cX7_cannotBuy 20 = .ok (.iaload, 1) := dk_46 (dk_at dksX7_cannotBuy_0 20 rfl rfl)
theorem dX7_cannotBuy_21 : decode cX7_cannotBuy 21 = .ok (.iload_n 1, 1) := dk_27 (dk_at dksX7_cannotBuy_0 21 rfl rfl)
theorem dX7_cannotBuy_22 : decode cX7_cannotBuy 22 = .ok (.iadd, 1) := dk_96 (dk_at dksX7_cannotBuy_0 22 rfl rfl)
theorem dX7_cannotBuy_23 : decode cX7_cannotBuy 23 = .ok (.sipush 9999, 3) := dk_17 39 15 (dk_at dksX7_cannotBuy_1 0 rfl rfl)
theorem dX7_cannotBuy_26 : decode cX7_cannotBuy 26 = .ok (.if_icmp .le 7, 3) := dk_164 0 7 (dk_at dksX7_cannotBuy_1 3 rfl rfl)
theorem dX7_cannotBuy_29 : decode cX7_cannotBuy 29 = .ok (.iconst 2, 1) := dk_5 (dk_at dksX7_cannotBuy_1 6 rfl rfl)
theorem dX7_cannotBuy_30 : decode cX7_cannotBuy 30 = .ok (.goto 4, 3) := dk_167 0 4 (dk_at dksX7_cannotBuy_1 7 rfl rfl)
theorem dX7_cannotBuy_33 : decode cX7_cannotBuy 33 = .ok (.iconst 0, 1) := dk_3 (dk_at dksX7_cannotBuy_1 10 rfl rfl)
theorem dX7_cannotBuy_34 : decode cX7_cannotBuy 34 = .ok (.ireturn, 1) := dk_172 (dk_at dksX7_cannotBuy_1 11 rfl rfl)
abbrev cX7_buys : ByteArray := prog_12_method_16_code
def yX7_buys : MethodName := ⟨RX7, "buys", "(I)I"⟩
def dkwX7_buys_0 : List UInt8 := [42, 180, 0, 7, 5, 92, 46, 27, 96, 79, 42, 180, 0, 7, 5, 46, 172]
abbrev dktX7_buys_0 : List UInt8 := dkwX7_buys_0 ++ []
theorem dksX7_buys_0 : cX7_buys.data.toList.drop 0 = dktX7_buys_0 := by decide +kernel
theorem dX7_buys_0 : decode cX7_buys 0 = .ok (.aload_n 0, 1) := dk_42 (dk_at dksX7_buys_0 0 rfl rfl)
theorem dX7_buys_1 : decode cX7_buys 1 = .ok (.getfield 7, 3) := dk_180 0 7 (dk_at dksX7_buys_0 1 rfl rfl)
theorem dX7_buys_4 : decode cX7_buys 4 = .ok (.iconst 2, 1) := dk_5 (dk_at dksX7_buys_0 4 rfl rfl)
theorem dX7_buys_5 : decode cX7_buys 5 = .ok (.dup2, 1) := dk_92 (dk_at dksX7_buys_0 5 rfl rfl)
theorem dX7_buys_6 : decode cX7_buys 6 = .ok (.iaload, 1) := dk_46 (dk_at dksX7_buys_0 6 rfl rfl)
theorem dX7_buys_7 : decode cX7_buys 7 = .ok (.iload_n 1, 1) := dk_27 (dk_at dksX7_buys_0 7 rfl rfl)
theorem dX7_buys_8 : decode cX7_buys 8 = .ok (.iadd, 1) := dk_96 (dk_at dksX7_buys_0 8 rfl rfl)
theorem dX7_buys_9 : decode cX7_buys 9 = .ok (.iastore, 1) := dk_79 (dk_at dksX7_buys_0 9 rfl rfl)
theorem dX7_buys_10 : decode cX7_buys 10 = .ok (.aload_n 0, 1) := dk_42 (dk_at dksX7_buys_0 10 rfl rfl)
theorem dX7_buys_11 : decode cX7_buys 11 = .ok (.getfield 7, 3) := dk_180 0 7 (dk_at dksX7_buys_0 11 rfl rfl)
theorem dX7_buys_14 : decode cX7_buys 14 = .ok (.iconst 2, 1) := dk_5 (dk_at dksX7_buys_0 14 rfl rfl)
theorem dX7_buys_15 : decode cX7_buys 15 = .ok (.iaload, 1) := dk_46 (dk_at dksX7_buys_0 15 rfl rfl)
theorem dX7_buys_16 : decode cX7_buys 16 = .ok (.ireturn, 1) := dk_172 (dk_at dksX7_buys_0 16 rfl rfl)
abbrev cX7_pass : ByteArray := prog_12_method_19_code
def yX7_pass : MethodName := ⟨RX7, "pass", "(I)I"⟩
def dkwX7_pass_1 : List UInt8 := [167, 0, 8, 42, 4, 182, 0, 106, 172]
abbrev dktX7_pass_1 : List UInt8 := dkwX7_pass_1 ++ []
def dkwX7_pass_0 : List UInt8 := [42, 182, 0, 99, 27, 4, 16, 48, 184, 0, 91, 153, 0, 15, 42, 42, 27, 182, 0, 122, 182, 0, 113]
abbrev dktX7_pass_0 : List UInt8 := dkwX7_pass_0 ++ dktX7_pass_1
theorem dksX7_pass_0 : cX7_pass.data.toList.drop 0 = dktX7_pass_0 := by decide +kernel
theorem dksX7_pass_1 : cX7_pass.data.toList.drop 23 = dktX7_pass_1 := dk_seg dksX7_pass_0 23 rfl rfl
theorem dX7_pass_0 : decode cX7_pass 0 = .ok (.aload_n 0, 1) := dk_42 (dk_at dksX7_pass_0 0 rfl rfl)
theorem dX7_pass_1 : decode cX7_pass 1 = .ok (.invokevirtual 99, 3) := dk_182 0 99 (dk_at dksX7_pass_0 1 rfl rfl)
theorem dX7_pass_4 : decode cX7_pass 4 = .ok (.iload_n 1, 1) := dk_27 (dk_at dksX7_pass_0 4 rfl rfl)
theorem dX7_pass_5 : decode cX7_pass 5 = .ok (.iconst 1, 1) := dk_4 (dk_at dksX7_pass_0 5 rfl rfl)
theorem dX7_pass_6 : decode cX7_pass 6 = .ok (.bipush 48, 2) := dk_16 48 (dk_at dksX7_pass_0 6 rfl rfl)
theorem dX7_pass_8 : decode cX7_pass 8 = .ok (.invokestatic 91, 3) := dk_184 0 91 (dk_at dksX7_pass_0 8 rfl rfl)
theorem dX7_pass_11 : decode cX7_pass 11 = .ok (.ifCond .eq 15, 3) := dk_153 0 15 (dk_at dksX7_pass_0 11 rfl rfl)
theorem dX7_pass_14 : decode cX7_pass 14 = .ok (.aload_n 0, 1) := dk_42 (dk_at dksX7_pass_0 14 rfl rfl)
theorem dX7_pass_15 : decode cX7_pass 15 = .ok (.aload_n 0, 1) := dk_42 (dk_at dksX7_pass_0 15 rfl rfl)
theorem dX7_pass_16 : decode cX7_pass 16 = .ok (.iload_n 1, 1) := dk_27 (dk_at dksX7_pass_0 16 rfl rfl)
theorem dX7_pass_17 : decode cX7_pass 17 = .ok (.invokevirtual 122, 3) := dk_182 0 122 (dk_at dksX7_pass_0 17 rfl rfl)
theorem dX7_pass_20 : decode cX7_pass 20 = .ok (.invokevirtual 113, 3) := dk_182 0 113 (dk_at dksX7_pass_0 20 rfl rfl)
theorem dX7_pass_23 : decode cX7_pass 23 = .ok (.goto 8, 3) := dk_167 0 8 (dk_at dksX7_pass_1 0 rfl rfl)
theorem dX7_pass_26 : decode cX7_pass 26 = .ok (.aload_n 0, 1) := dk_42 (dk_at dksX7_pass_1 3 rfl rfl)
theorem dX7_pass_27 : decode cX7_pass 27 = .ok (.iconst 1, 1) := dk_4 (dk_at dksX7_pass_1 4 rfl rfl)
theorem dX7_pass_28 : decode cX7_pass 28 = .ok (.invokevirtual 106, 3) := dk_182 0 106 (dk_at dksX7_pass_1 5 rfl rfl)
theorem dX7_pass_31 : decode cX7_pass 31 = .ok (.ireturn, 1) := dk_172 (dk_at dksX7_pass_1 8 rfl rfl)
abbrev cX7_passes : ByteArray := prog_12_method_18_code
def yX7_passes : MethodName := ⟨RX7, "passes", "(I)I"⟩
def dkwX7_passes_4 : List UInt8 := [132, 3, 1, 167, 255, 163, 42, 180, 0, 7, 16, 18, 92, 46, 28, 96, 79, 28, 172]
abbrev dktX7_passes_4 : List UInt8 := dkwX7_passes_4 ++ []
def dkwX7_passes_3 : List UInt8 := [21, 5, 100, 96, 61, 42, 180, 0, 7, 16, 8, 21, 4, 96, 21, 5, 79, 132, 4, 1, 167, 255, 187]
abbrev dktX7_passes_3 : List UInt8 := dkwX7_passes_3 ++ dktX7_passes_4
def dkwX7_passes_2 : List UInt8 := [180, 0, 7, 16, 8, 21, 4, 96, 46, 5, 108, 54, 5, 28, 42, 180, 0, 7, 16, 8, 21, 4, 96, 46]
abbrev dktX7_passes_2 : List UInt8 := dkwX7_passes_2 ++ dktX7_passes_3
def dkwX7_passes_1 : List UInt8 := [16, 10, 162, 0, 68, 42, 180, 0, 7, 6, 46, 21, 4, 4, 96, 112, 158, 0, 6, 167, 0, 45, 42]
abbrev dktX7_passes_1 : List UInt8 := dkwX7_passes_1 ++ dktX7_passes_2
def dkwX7_passes_0 : List UInt8 := [3, 61, 3, 62, 29, 27, 162, 0, 94, 42, 180, 0, 7, 6, 92, 46, 4, 96, 79, 3, 54, 4, 21, 4]
abbrev dktX7_passes_0 : List UInt8 := dkwX7_passes_0 ++ dktX7_passes_1
theorem dksX7_passes_0 : cX7_passes.data.toList.drop 0 = dktX7_passes_0 := by decide +kernel
theorem dksX7_passes_1 : cX7_passes.data.toList.drop 24 = dktX7_passes_1 := dk_seg dksX7_passes_0 24 rfl rfl
theorem dksX7_passes_2 : cX7_passes.data.toList.drop 47 = dktX7_passes_2 := dk_seg dksX7_passes_1 23 rfl rfl
theorem dksX7_passes_3 : cX7_passes.data.toList.drop 71 = dktX7_passes_3 := dk_seg dksX7_passes_2 24 rfl rfl
theorem dksX7_passes_4 : cX7_passes.data.toList.drop 94 = dktX7_passes_4 := dk_seg dksX7_passes_3 23 rfl rfl
theorem dX7_passes_0 : decode cX7_passes 0 = .ok (.iconst 0, 1) := dk_3 (dk_at dksX7_passes_0 0 rfl rfl)
theorem dX7_passes_1 : decode cX7_passes 1 = .ok (.istore_n 2, 1) := dk_61 (dk_at dksX7_passes_0 1 rfl rfl)
theorem dX7_passes_2 : decode cX7_passes 2 = .ok (.iconst 0, 1) := dk_3 (dk_at dksX7_passes_0 2 rfl rfl)
theorem dX7_passes_3 : decode cX7_passes 3 = .ok (.istore_n 3, 1) := dk_62 (dk_at dksX7_passes_0 3 rfl rfl)
theorem dX7_passes_4 : decode cX7_passes 4 = .ok (.iload_n 3, 1) := dk_29 (dk_at dksX7_passes_0 4 rfl rfl)
theorem dX7_passes_5 : decode cX7_passes 5 = .ok (.iload_n 1, 1) := dk_27 (dk_at dksX7_passes_0 5 rfl rfl)
theorem dX7_passes_6 : decode cX7_passes 6 = .ok (.if_icmp .ge 94, 3) := dk_162 0 94 (dk_at dksX7_passes_0 6 rfl rfl)
theorem dX7_passes_9 : decode cX7_passes 9 = .ok (.aload_n 0, 1) := dk_42 (dk_at dksX7_passes_0 9 rfl rfl)
theorem dX7_passes_10 : decode cX7_passes 10 = .ok (.getfield 7, 3) := dk_180 0 7 (dk_at dksX7_passes_0 10 rfl rfl)
theorem dX7_passes_13 : decode cX7_passes 13 = .ok (.iconst 3, 1) := dk_6 (dk_at dksX7_passes_0 13 rfl rfl)
theorem dX7_passes_14 : decode cX7_passes 14 = .ok (.dup2, 1) := dk_92 (dk_at dksX7_passes_0 14 rfl rfl)
theorem dX7_passes_15 : decode cX7_passes 15 = .ok (.iaload, 1) := dk_46 (dk_at dksX7_passes_0 15 rfl rfl)
theorem dX7_passes_16 : decode cX7_passes 16 = .ok (.iconst 1, 1) := dk_4 (dk_at dksX7_passes_0 16 rfl rfl)
theorem dX7_passes_17 : decode cX7_passes 17 = .ok (.iadd, 1) := dk_96 (dk_at dksX7_passes_0 17 rfl rfl)
theorem dX7_passes_18 : decode cX7_passes 18 = .ok (.iastore, 1) := dk_79 (dk_at dksX7_passes_0 18 rfl rfl)
theorem dX7_passes_19 : decode cX7_passes 19 = .ok (.iconst 0, 1) := dk_3 (dk_at dksX7_passes_0 19 rfl rfl)
theorem dX7_passes_20 : decode cX7_passes 20 = .ok (.istore 4, 2) := dk_54 4 (dk_at dksX7_passes_0 20 rfl rfl)
theorem dX7_passes_22 : decode cX7_passes 22 = .ok (.iload 4, 2) := dk_21 4 (dk_at dksX7_passes_0 22 rfl rfl)
theorem dX7_passes_24 : decode cX7_passes 24 = .ok (.bipush 10, 2) := dk_16 10 (dk_at dksX7_passes_1 0 rfl rfl)
theorem dX7_passes_26 : decode cX7_passes 26 = .ok (.if_icmp .ge 68, 3) := dk_162 0 68 (dk_at dksX7_passes_1 2 rfl rfl)
theorem dX7_passes_29 : decode cX7_passes 29 = .ok (.aload_n 0, 1) := dk_42 (dk_at dksX7_passes_1 5 rfl rfl)
theorem dX7_passes_30 : decode cX7_passes 30 = .ok (.getfield 7, 3) := dk_180 0 7 (dk_at dksX7_passes_1 6 rfl rfl)
theorem dX7_passes_33 : decode cX7_passes 33 = .ok (.iconst 3, 1) := dk_6 (dk_at dksX7_passes_1 9 rfl rfl)
theorem dX7_passes_34 : decode cX7_passes 34 = .ok (.iaload, 1) := dk_46 (dk_at dksX7_passes_1 10 rfl rfl)
theorem dX7_passes_35 : decode cX7_passes 35 = .ok (.iload 4, 2) := dk_21 4 (dk_at dksX7_passes_1 11 rfl rfl)
theorem dX7_passes_37 : decode cX7_passes 37 = .ok (.iconst 1, 1) := dk_4 (dk_at dksX7_passes_1 13 rfl rfl)
theorem dX7_passes_38 : decode cX7_passes 38 = .ok (.iadd, 1) := dk_96 (dk_at dksX7_passes_1 14 rfl rfl)
theorem dX7_passes_39 : decode cX7_passes 39 = .ok (.irem, 1) := dk_112 (dk_at dksX7_passes_1 15 rfl rfl)
theorem dX7_passes_40 : decode cX7_passes 40 = .ok (.ifCond .le 6, 3) := dk_158 0 6 (dk_at dksX7_passes_1 16 rfl rfl)
theorem dX7_passes_43 : decode cX7_passes 43 = .ok (.goto 45, 3) := dk_167 0 45 (dk_at dksX7_passes_1 19 rfl rfl)
theorem dX7_passes_46 : decode cX7_passes 46 = .ok (.aload_n 0, 1) := dk_42 (dk_at dksX7_passes_1 22 rfl rfl)
theorem dX7_passes_47 : decode cX7_passes 47 = .ok (.getfield 7, 3) := dk_180 0 7 (dk_at dksX7_passes_2 0 rfl rfl)
theorem dX7_passes_50 : decode cX7_passes 50 = .ok (.bipush 8, 2) := dk_16 8 (dk_at dksX7_passes_2 3 rfl rfl)
theorem dX7_passes_52 : decode cX7_passes 52 = .ok (.iload 4, 2) := dk_21 4 (dk_at dksX7_passes_2 5 rfl rfl)
theorem dX7_passes_54 : decode cX7_passes 54 = .ok (.iadd, 1) := dk_96 (dk_at dksX7_passes_2 7 rfl rfl)
theorem dX7_passes_55 : decode cX7_passes 55 = .ok (.iaload, 1) := dk_46 (dk_at dksX7_passes_2 8 rfl rfl)
theorem dX7_passes_56 : decode cX7_passes 56 = .ok (.iconst 2, 1) := dk_5 (dk_at dksX7_passes_2 9 rfl rfl)
theorem dX7_passes_57 : decode cX7_passes 57 = .ok (.idiv, 1) := dk_108 (dk_at dksX7_passes_2 10 rfl rfl)
theorem dX7_passes_58 : decode cX7_passes 58 = .ok (.istore 5, 2) := dk_54 5 (dk_at dksX7_passes_2 11 rfl rfl)
theorem dX7_passes_60 : decode cX7_passes 60 = .ok (.iload_n 2, 1) := dk_28 (dk_at dksX7_passes_2 13 rfl rfl)
theorem dX7_passes_61 : decode cX7_passes 61 = .ok (.aload_n 0, 1) := dk_42 (dk_at dksX7_passes_2 14 rfl rfl)
theorem dX7_passes_62 : decode cX7_passes 62 = .ok (.getfield 7, 3) := dk_180 0 7 (dk_at dksX7_passes_2 15 rfl rfl)
theorem dX7_passes_65 : decode cX7_passes 65 = .ok (.bipush 8, 2) := dk_16 8 (dk_at dksX7_passes_2 18 rfl rfl)
theorem dX7_passes_67 : decode cX7_passes 67 = .ok (.iload 4, 2) := dk_21 4 (dk_at dksX7_passes_2 20 rfl rfl)
theorem dX7_passes_69 : decode cX7_passes 69 = .ok (.iadd, 1) := dk_96 (dk_at dksX7_passes_2 22 rfl rfl)
theorem dX7_passes_70 : decode cX7_passes 70 = .ok (.iaload, 1) := dk_46 (dk_at dksX7_passes_2 23 rfl rfl)
theorem dX7_passes_71 : decode cX7_passes 71 = .ok (.iload 5, 2) := dk_21 5 (dk_at dksX7_passes_3 0 rfl rfl)
theorem dX7_passes_73 : decode cX7_passes 73 = .ok (.isub, 1) := dk_100 (dk_at dksX7_passes_3 2 rfl rfl)
theorem dX7_passes_74 : decode cX7_passes 74 = .ok (.iadd, 1) := dk_96 (dk_at dksX7_passes_3 3 rfl rfl)
theorem dX7_passes_75 : decode cX7_passes 75 = .ok (.istore_n 2, 1) := dk_61 (dk_at dksX7_passes_3 4 rfl rfl)
theorem dX7_passes_76 : decode cX7_passes 76 = .ok (.aload_n 0, 1) := dk_42 (dk_at dksX7_passes_3 5 rfl rfl)
theorem dX7_passes_77 : decode cX7_passes 77 = .ok (.getfield 7, 3) := dk_180 0 7 (dk_at dksX7_passes_3 6 rfl rfl)
theorem dX7_passes_80 : decode cX7_passes 80 = .ok (.bipush 8, 2) := dk_16 8 (dk_at dksX7_passes_3 9 rfl rfl)
theorem dX7_passes_82 : decode cX7_passes 82 = .ok (.iload 4, 2) := dk_21 4 (dk_at dksX7_passes_3 11 rfl rfl)
theorem dX7_passes_84 : decode cX7_passes 84 = .ok (.iadd, 1) := dk_96 (dk_at dksX7_passes_3 13 rfl rfl)
theorem dX7_passes_85 : decode cX7_passes 85 = .ok (.iload 5, 2) := dk_21 5 (dk_at dksX7_passes_3 14 rfl rfl)
theorem dX7_passes_87 : decode cX7_passes 87 = .ok (.iastore, 1) := dk_79 (dk_at dksX7_passes_3 16 rfl rfl)
theorem dX7_passes_88 : decode cX7_passes 88 = .ok (.iinc 4 1, 3) := dk_132 4 1 (dk_at dksX7_passes_3 17 rfl rfl)
theorem dX7_passes_91 : decode cX7_passes 91 = .ok (.goto (-69), 3) := dk_167 255 187 (dk_at dksX7_passes_3 20 rfl rfl)
theorem dX7_passes_94 : decode cX7_passes 94 = .ok (.iinc 3 1, 3) := dk_132 3 1 (dk_at dksX7_passes_4 0 rfl rfl)
theorem dX7_passes_97 : decode cX7_passes 97 = .ok (.goto (-93), 3) := dk_167 255 163 (dk_at dksX7_passes_4 3 rfl rfl)
theorem dX7_passes_100 : decode cX7_passes 100 = .ok (.aload_n 0, 1) := dk_42 (dk_at dksX7_passes_4 6 rfl rfl)
theorem dX7_passes_101 : decode cX7_passes 101 = .ok (.getfield 7, 3) := dk_180 0 7 (dk_at dksX7_passes_4 7 rfl rfl)
theorem dX7_passes_104 : decode cX7_passes 104 = .ok (.bipush 18, 2) := dk_16 18 (dk_at dksX7_passes_4 10 rfl rfl)
theorem dX7_passes_106 : decode cX7_passes 106 = .ok (.dup2, 1) := dk_92 (dk_at dksX7_passes_4 12 rfl rfl)
theorem dX7_passes_107 : decode cX7_passes 107 = .ok (.iaload, 1) := dk_46 (dk_at dksX7_passes_4 13 rfl rfl)
theorem dX7_passes_108 : decode cX7_passes 108 = .ok (.iload_n 2, 1) := dk_28 (dk_at dksX7_passes_4 14 rfl rfl)
theorem dX7_passes_109 : decode cX7_passes 109 = .ok (.iadd, 1) := dk_96 (dk_at dksX7_passes_4 15 rfl rfl)
theorem dX7_passes_110 : decode cX7_passes 110 = .ok (.iastore, 1) := dk_79 (dk_at dksX7_passes_4 16 rfl rfl)
theorem dX7_passes_111 : decode cX7_passes 111 = .ok (.iload_n 2, 1) := dk_28 (dk_at dksX7_passes_4 17 rfl rfl)
theorem dX7_passes_112 : decode cX7_passes 112 = .ok (.ireturn, 1) := dk_172 (dk_at dksX7_passes_4 18 rfl rfl)
abbrev cX7_ink : ByteArray := prog_12_method_20_code
def yX7_ink : MethodName := ⟨RX7, "ink", "(I)I"⟩
def dkwX7_ink_1 : List UInt8 := [172]
abbrev dktX7_ink_1 : List UInt8 := dkwX7_ink_1 ++ []
def dkwX7_ink_0 : List UInt8 := [42, 27, 184, 0, 95, 182, 0, 125, 158, 0, 7, 3, 167, 0, 12, 42, 180, 0, 7, 16, 8, 27, 96, 46]
abbrev dktX7_ink_0 : List UInt8 := dkwX7_ink_0 ++ dktX7_ink_1
theorem dksX7_ink_0 : cX7_ink.data.toList.drop 0 = dktX7_ink_0 := by decide +kernel
theorem dksX7_ink_1 : cX7_ink.data.toList.drop 24 = dktX7_ink_1 := dk_seg dksX7_ink_0 24 rfl rfl
theorem dX7_ink_0 : decode cX7_ink 0 = .ok (.aload_n 0, 1) := dk_42 (dk_at dksX7_ink_0 0 rfl rfl)
theorem dX7_ink_1 : decode cX7_ink 1 = .ok (.iload_n 1, 1) := dk_27 (dk_at dksX7_ink_0 1 rfl rfl)
theorem dX7_ink_2 : decode cX7_ink 2 = .ok (.invokestatic 95, 3) := dk_184 0 95 (dk_at dksX7_ink_0 2 rfl rfl)
theorem dX7_ink_5 : decode cX7_ink 5 = .ok (.invokevirtual 125, 3) := dk_182 0 125 (dk_at dksX7_ink_0 5 rfl rfl)
theorem dX7_ink_8 : decode cX7_ink 8 = .ok (.ifCond .le 7, 3) := dk_158 0 7 (dk_at dksX7_ink_0 8 rfl rfl)
theorem dX7_ink_11 : decode cX7_ink 11 = .ok (.iconst 0, 1) := dk_3 (dk_at dksX7_ink_0 11 rfl rfl)
theorem dX7_ink_12 : decode cX7_ink 12 = .ok (.goto 12, 3) := dk_167 0 12 (dk_at dksX7_ink_0 12 rfl rfl)
theorem dX7_ink_15 : decode cX7_ink 15 = .ok (.aload_n 0, 1) := dk_42 (dk_at dksX7_ink_0 15 rfl rfl)
theorem dX7_ink_16 : decode cX7_ink 16 = .ok (.getfield 7, 3) := dk_180 0 7 (dk_at dksX7_ink_0 16 rfl rfl)
theorem dX7_ink_19 : decode cX7_ink 19 = .ok (.bipush 8, 2) := dk_16 8 (dk_at dksX7_ink_0 19 rfl rfl)
theorem dX7_ink_21 : decode cX7_ink 21 = .ok (.iload_n 1, 1) := dk_27 (dk_at dksX7_ink_0 21 rfl rfl)
theorem dX7_ink_22 : decode cX7_ink 22 = .ok (.iadd, 1) := dk_96 (dk_at dksX7_ink_0 22 rfl rfl)
theorem dX7_ink_23 : decode cX7_ink 23 = .ok (.iaload, 1) := dk_46 (dk_at dksX7_ink_0 23 rfl rfl)
theorem dX7_ink_24 : decode cX7_ink 24 = .ok (.ireturn, 1) := dk_172 (dk_at dksX7_ink_1 0 rfl rfl)
abbrev cX7_checked : ByteArray := prog_12_method_10_code
def yX7_checked : MethodName := ⟨RX7, "checked", "(Z)I"⟩
def dkwX7_checked_0 : List UInt8 := [42, 27, 153, 0, 7, 3, 167, 0, 4, 4, 181, 0, 37, 42, 180, 0, 37, 172]
abbrev dktX7_checked_0 : List UInt8 := dkwX7_checked_0 ++ []
theorem dksX7_checked_0 : cX7_checked.data.toList.drop 0 = dktX7_checked_0 := by decide +kernel
theorem dX7_checked_0 : decode cX7_checked 0 = .ok (.aload_n 0, 1) := dk_42 (dk_at dksX7_checked_0 0 rfl rfl)
theorem dX7_checked_1 : decode cX7_checked 1 = .ok (.iload_n 1, 1) := dk_27 (dk_at dksX7_checked_0 1 rfl rfl)
theorem dX7_checked_2 : decode cX7_checked 2 = .ok (.ifCond .eq 7, 3) := dk_153 0 7 (dk_at dksX7_checked_0 2 rfl rfl)
theorem dX7_checked_5 : decode cX7_checked 5 = .ok (.iconst 0, 1) := dk_3 (dk_at dksX7_checked_0 5 rfl rfl)
theorem dX7_checked_6 : decode cX7_checked 6 = .ok (.goto 4, 3) := dk_167 0 4 (dk_at dksX7_checked_0 6 rfl rfl)
theorem dX7_checked_9 : decode cX7_checked 9 = .ok (.iconst 1, 1) := dk_4 (dk_at dksX7_checked_0 9 rfl rfl)
theorem dX7_checked_10 : decode cX7_checked 10 = .ok (.putfield 37, 3) := dk_181 0 37 (dk_at dksX7_checked_0 10 rfl rfl)
theorem dX7_checked_13 : decode cX7_checked 13 = .ok (.aload_n 0, 1) := dk_42 (dk_at dksX7_checked_0 13 rfl rfl)
theorem dX7_checked_14 : decode cX7_checked 14 = .ok (.getfield 37, 3) := dk_180 0 37 (dk_at dksX7_checked_0 14 rfl rfl)
theorem dX7_checked_17 : decode cX7_checked 17 = .ok (.ireturn, 1) := dk_172 (dk_at dksX7_checked_0 17 rfl rfl)
abbrev cX7_paper : ByteArray := prog_12_method_21_code
def yX7_paper : MethodName := ⟨RX7, "paper", "()I"⟩
def dkwX7_paper_0 : List UInt8 := [42, 42, 180, 0, 7, 5, 46, 182, 0, 129, 172]
abbrev dktX7_paper_0 : List UInt8 := dkwX7_paper_0 ++ []
theorem dksX7_paper_0 : cX7_paper.data.toList.drop 0 = dktX7_paper_0 := by decide +kernel
theorem dX7_paper_0 : decode cX7_paper 0 = .ok (.aload_n 0, 1) := dk_42 (dk_at dksX7_paper_0 0 rfl rfl)
theorem dX7_paper_1 : decode cX7_paper 1 = .ok (.aload_n 0, 1) := dk_42 (dk_at dksX7_paper_0 1 rfl rfl)
theorem dX7_paper_2 : decode cX7_paper 2 = .ok (.getfield 7, 3) := dk_180 0 7 (dk_at dksX7_paper_0 2 rfl rfl)
theorem dX7_paper_5 : decode cX7_paper 5 = .ok (.iconst 2, 1) := dk_5 (dk_at dksX7_paper_0 5 rfl rfl)
theorem dX7_paper_6 : decode cX7_paper 6 = .ok (.iaload, 1) := dk_46 (dk_at dksX7_paper_0 6 rfl rfl)
theorem dX7_paper_7 : decode cX7_paper 7 = .ok (.invokevirtual 129, 3) := dk_182 0 129 (dk_at dksX7_paper_0 7 rfl rfl)
theorem dX7_paper_10 : decode cX7_paper 10 = .ok (.ireturn, 1) := dk_172 (dk_at dksX7_paper_0 10 rfl rfl)
abbrev cX7_plain : ByteArray := prog_12_method_9_code
def yX7_plain : MethodName := ⟨RX7, "plain", "(I)I"⟩
def dkwX7_plain_0 : List UInt8 := [42, 3, 181, 0, 37, 27, 172]
abbrev dktX7_plain_0 : List UInt8 := dkwX7_plain_0 ++ []
theorem dksX7_plain_0 : cX7_plain.data.toList.drop 0 = dktX7_plain_0 := by decide +kernel
theorem dX7_plain_0 : decode cX7_plain 0 = .ok (.aload_n 0, 1) := dk_42 (dk_at dksX7_plain_0 0 rfl rfl)
theorem dX7_plain_1 : decode cX7_plain 1 = .ok (.iconst 0, 1) := dk_3 (dk_at dksX7_plain_0 1 rfl rfl)
theorem dX7_plain_2 : decode cX7_plain 2 = .ok (.putfield 37, 3) := dk_181 0 37 (dk_at dksX7_plain_0 2 rfl rfl)
theorem dX7_plain_5 : decode cX7_plain 5 = .ok (.iload_n 1, 1) := dk_27 (dk_at dksX7_plain_0 5 rfl rfl)
theorem dX7_plain_6 : decode cX7_plain 6 = .ok (.ireturn, 1) := dk_172 (dk_at dksX7_plain_0 6 rfl rfl)
abbrev cX7_hour : ByteArray := prog_12_method_22_code
def yX7_hour : MethodName := ⟨RX7, "hour", "()I"⟩
def dkwX7_hour_0 : List UInt8 := [42, 42, 180, 0, 7, 6, 46, 182, 0, 129, 172]
abbrev dktX7_hour_0 : List UInt8 := dkwX7_hour_0 ++ []
theorem dksX7_hour_0 : cX7_hour.data.toList.drop 0 = dktX7_hour_0 := by decide +kernel
theorem dX7_hour_0 : decode cX7_hour 0 = .ok (.aload_n 0, 1) := dk_42 (dk_at dksX7_hour_0 0 rfl rfl)
theorem dX7_hour_1 : decode cX7_hour 1 = .ok (.aload_n 0, 1) := dk_42 (dk_at dksX7_hour_0 1 rfl rfl)
theorem dX7_hour_2 : decode cX7_hour 2 = .ok (.getfield 7, 3) := dk_180 0 7 (dk_at dksX7_hour_0 2 rfl rfl)
theorem dX7_hour_5 : decode cX7_hour 5 = .ok (.iconst 3, 1) := dk_6 (dk_at dksX7_hour_0 5 rfl rfl)
theorem dX7_hour_6 : decode cX7_hour 6 = .ok (.iaload, 1) := dk_46 (dk_at dksX7_hour_0 6 rfl rfl)
theorem dX7_hour_7 : decode cX7_hour 7 = .ok (.invokevirtual 129, 3) := dk_182 0 129 (dk_at dksX7_hour_0 7 rfl rfl)
theorem dX7_hour_10 : decode cX7_hour 10 = .ok (.ireturn, 1) := dk_172 (dk_at dksX7_hour_0 10 rfl rfl)
abbrev cX7_inkAfter : ByteArray := prog_12_method_25_code
def yX7_inkAfter : MethodName := ⟨RX7, "inkAfter", "(II)I"⟩
def dkwX7_inkAfter_0 : List UInt8 := [42, 27, 28, 182, 0, 135, 172]
abbrev dktX7_inkAfter_0 : List UInt8 := dkwX7_inkAfter_0 ++ []
theorem dksX7_inkAfter_0 : cX7_inkAfter.data.toList.drop 0 = dktX7_inkAfter_0 := by decide +kernel
theorem dX7_inkAfter_0 : decode cX7_inkAfter 0 = .ok (.aload_n 0, 1) := dk_42 (dk_at dksX7_inkAfter_0 0 rfl rfl)
theorem dX7_inkAfter_1 : decode cX7_inkAfter 1 = .ok (.iload_n 1, 1) := dk_27 (dk_at dksX7_inkAfter_0 1 rfl rfl)
theorem dX7_inkAfter_2 : decode cX7_inkAfter 2 = .ok (.iload_n 2, 1) := dk_28 (dk_at dksX7_inkAfter_0 2 rfl rfl)
theorem dX7_inkAfter_3 : decode cX7_inkAfter 3 = .ok (.invokevirtual 135, 3) := dk_182 0 135 (dk_at dksX7_inkAfter_0 3 rfl rfl)
theorem dX7_inkAfter_6 : decode cX7_inkAfter 6 = .ok (.ireturn, 1) := dk_172 (dk_at dksX7_inkAfter_0 6 rfl rfl)
abbrev cX7_after : ByteArray := prog_12_method_24_code
def yX7_after : MethodName := ⟨RX7, "after", "(II)I"⟩
def dkwX7_after_1 : List UInt8 := [182, 0, 125, 158, 0, 7, 3, 167, 0, 9, 42, 27, 28, 182, 0, 132, 172]
abbrev dktX7_after_1 : List UInt8 := dkwX7_after_1 ++ []
def dkwX7_after_0 : List UInt8 := [42, 27, 184, 0, 95, 153, 0, 17, 28, 3, 16, 99, 184, 0, 91, 153, 0, 7, 4, 167, 0, 4, 3]
abbrev dktX7_after_0 : List UInt8 := dkwX7_after_0 ++ dktX7_after_1
theorem dksX7_after_0 : cX7_after.data.toList.drop 0 = dktX7_after_0 := by decide +kernel
theorem dksX7_after_1 : cX7_after.data.toList.drop 23 = dktX7_after_1 := dk_seg dksX7_after_0 23 rfl rfl
theorem dX7_after_0 : decode cX7_after 0 = .ok (.aload_n 0, 1) := dk_42 (dk_at dksX7_after_0 0 rfl rfl)
theorem dX7_after_1 : decode cX7_after 1 = .ok (.iload_n 1, 1) := dk_27 (dk_at dksX7_after_0 1 rfl rfl)
theorem dX7_after_2 : decode cX7_after 2 = .ok (.invokestatic 95, 3) := dk_184 0 95 (dk_at dksX7_after_0 2 rfl rfl)
theorem dX7_after_5 : decode cX7_after 5 = .ok (.ifCond .eq 17, 3) := dk_153 0 17 (dk_at dksX7_after_0 5 rfl rfl)
theorem dX7_after_8 : decode cX7_after 8 = .ok (.iload_n 2, 1) := dk_28 (dk_at dksX7_after_0 8 rfl rfl)
theorem dX7_after_9 : decode cX7_after 9 = .ok (.iconst 0, 1) := dk_3 (dk_at dksX7_after_0 9 rfl rfl)
theorem dX7_after_10 : decode cX7_after 10 = .ok (.bipush 99, 2) := dk_16 99 (dk_at dksX7_after_0 10 rfl rfl)
theorem dX7_after_12 : decode cX7_after 12 = .ok (.invokestatic 91, 3) := dk_184 0 91 (dk_at dksX7_after_0 12 rfl rfl)
theorem dX7_after_15 : decode cX7_after 15 = .ok (.ifCond .eq 7, 3) := dk_153 0 7 (dk_at dksX7_after_0 15 rfl rfl)
theorem dX7_after_18 : decode cX7_after 18 = .ok (.iconst 1, 1) := dk_4 (dk_at dksX7_after_0 18 rfl rfl)
theorem dX7_after_19 : decode cX7_after 19 = .ok (.goto 4, 3) := dk_167 0 4 (dk_at dksX7_after_0 19 rfl rfl)
theorem dX7_after_22 : decode cX7_after 22 = .ok (.iconst 0, 1) := dk_3 (dk_at dksX7_after_0 22 rfl rfl)
theorem dX7_after_23 : decode cX7_after 23 = .ok (.invokevirtual 125, 3) := dk_182 0 125 (dk_at dksX7_after_1 0 rfl rfl)
theorem dX7_after_26 : decode cX7_after 26 = .ok (.ifCond .le 7, 3) := dk_158 0 7 (dk_at dksX7_after_1 3 rfl rfl)
theorem dX7_after_29 : decode cX7_after 29 = .ok (.iconst 0, 1) := dk_3 (dk_at dksX7_after_1 6 rfl rfl)
theorem dX7_after_30 : decode cX7_after 30 = .ok (.goto 9, 3) := dk_167 0 9 (dk_at dksX7_after_1 7 rfl rfl)
theorem dX7_after_33 : decode cX7_after 33 = .ok (.aload_n 0, 1) := dk_42 (dk_at dksX7_after_1 10 rfl rfl)
theorem dX7_after_34 : decode cX7_after 34 = .ok (.iload_n 1, 1) := dk_27 (dk_at dksX7_after_1 11 rfl rfl)
theorem dX7_after_35 : decode cX7_after 35 = .ok (.iload_n 2, 1) := dk_28 (dk_at dksX7_after_1 12 rfl rfl)
theorem dX7_after_36 : decode cX7_after 36 = .ok (.invokevirtual 132, 3) := dk_182 0 132 (dk_at dksX7_after_1 13 rfl rfl)
theorem dX7_after_39 : decode cX7_after 39 = .ok (.ireturn, 1) := dk_172 (dk_at dksX7_after_1 16 rfl rfl)
abbrev cX7_leftAfter : ByteArray := prog_12_method_23_code
def yX7_leftAfter : MethodName := ⟨RX7, "leftAfter", "(II)I"⟩
def dkwX7_leftAfter_2 : List UInt8 := [167, 255, 223, 29, 172]
abbrev dktX7_leftAfter_2 : List UInt8 := dkwX7_leftAfter_2 ++ []
def dkwX7_leftAfter_1 : List UInt8 := [46, 21, 4, 96, 27, 4, 96, 112, 154, 0, 9, 29, 5, 108, 167, 0, 4, 29, 62, 132, 4, 1]
abbrev dktX7_leftAfter_1 : List UInt8 := dkwX7_leftAfter_1 ++ dktX7_leftAfter_2
def dkwX7_leftAfter_0 : List UInt8 := [42, 180, 0, 7, 16, 8, 27, 96, 46, 62, 4, 54, 4, 21, 4, 28, 163, 0, 33, 42, 180, 0, 7, 6]
abbrev dktX7_leftAfter_0 : List UInt8 := dkwX7_leftAfter_0 ++ dktX7_leftAfter_1
theorem dksX7_leftAfter_0 : cX7_leftAfter.data.toList.drop 0 = dktX7_leftAfter_0 := by decide +kernel
theorem dksX7_leftAfter_1 : cX7_leftAfter.data.toList.drop 24 = dktX7_leftAfter_1 := dk_seg dksX7_leftAfter_0 24 rfl rfl
theorem dksX7_leftAfter_2 : cX7_leftAfter.data.toList.drop 46 = dktX7_leftAfter_2 := dk_seg dksX7_leftAfter_1 22 rfl rfl
theorem dX7_leftAfter_0 : decode cX7_leftAfter 0 = .ok (.aload_n 0, 1) := dk_42 (dk_at dksX7_leftAfter_0 0 rfl rfl)
theorem dX7_leftAfter_1 : decode cX7_leftAfter 1 = .ok (.getfield 7, 3) := dk_180 0 7 (dk_at dksX7_leftAfter_0 1 rfl rfl)
theorem dX7_leftAfter_4 : decode cX7_leftAfter 4 = .ok (.bipush 8, 2) := dk_16 8 (dk_at dksX7_leftAfter_0 4 rfl rfl)
theorem dX7_leftAfter_6 : decode cX7_leftAfter 6 = .ok (.iload_n 1, 1) := dk_27 (dk_at dksX7_leftAfter_0 6 rfl rfl)
theorem dX7_leftAfter_7 : decode cX7_leftAfter 7 = .ok (.iadd, 1) := dk_96 (dk_at dksX7_leftAfter_0 7 rfl rfl)
theorem dX7_leftAfter_8 : decode cX7_leftAfter 8 = .ok (.iaload, 1) := dk_46 (dk_at dksX7_leftAfter_0 8 rfl rfl)
theorem dX7_leftAfter_9 : decode cX7_leftAfter 9 = .ok (.istore_n 3, 1) := dk_62 (dk_at dksX7_leftAfter_0 9 rfl rfl)
theorem dX7_leftAfter_10 : decode cX7_leftAfter 10 = .ok (.iconst 1, 1) := dk_4 (dk_at dksX7_leftAfter_0 10 rfl rfl)
theorem dX7_leftAfter_11 : decode cX7_leftAfter 11 = .ok (.istore 4, 2) := dk_54 4 (dk_at dksX7_leftAfter_0 11 rfl rfl)
theorem dX7_leftAfter_13 : decode cX7_leftAfter 13 = .ok (.iload 4, 2) := dk_21 4 (dk_at dksX7_leftAfter_0 13 rfl rfl)
theorem dX7_leftAfter_15 : decode cX7_leftAfter 15 = .ok (.iload_n 2, 1) := dk_28 (dk_at dksX7_leftAfter_0 15 rfl rfl)
theorem dX7_leftAfter_16 : decode cX7_leftAfter 16 = .ok (.if_icmp .gt 33, 3) := dk_163 0 33 (dk_at dksX7_leftAfter_0 16 rfl rfl)
theorem dX7_leftAfter_19 : decode cX7_leftAfter 19 = .ok (.aload_n 0, 1) := dk_42 (dk_at dksX7_leftAfter_0 19 rfl rfl)
theorem dX7_leftAfter_20 : decode cX7_leftAfter 20 = .ok (.getfield 7, 3) := dk_180 0 7 (dk_at dksX7_leftAfter_0 20 rfl rfl)
theorem dX7_leftAfter_23 : decode cX7_leftAfter 23 = .ok (.iconst 3, 1) := dk_6 (dk_at dksX7_leftAfter_0 23 rfl rfl)
theorem dX7_leftAfter_24 : decode cX7_leftAfter 24 = .ok (.iaload, 1) := dk_46 (dk_at dksX7_leftAfter_1 0 rfl rfl)
theorem dX7_leftAfter_25 : decode cX7_leftAfter 25 = .ok (.iload 4, 2) := dk_21 4 (dk_at dksX7_leftAfter_1 1 rfl rfl)
theorem dX7_leftAfter_27 : decode cX7_leftAfter 27 = .ok (.iadd, 1) := dk_96 (dk_at dksX7_leftAfter_1 3 rfl rfl)
theorem dX7_leftAfter_28 : decode cX7_leftAfter 28 = .ok (.iload_n 1, 1) := dk_27 (dk_at dksX7_leftAfter_1 4 rfl rfl)
theorem dX7_leftAfter_29 : decode cX7_leftAfter 29 = .ok (.iconst 1, 1) := dk_4 (dk_at dksX7_leftAfter_1 5 rfl rfl)
theorem dX7_leftAfter_30 : decode cX7_leftAfter 30 = .ok (.iadd, 1) := dk_96 (dk_at dksX7_leftAfter_1 6 rfl rfl)
theorem dX7_leftAfter_31 : decode cX7_leftAfter 31 = .ok (.irem, 1) := dk_112 (dk_at dksX7_leftAfter_1 7 rfl rfl)
theorem dX7_leftAfter_32 : decode cX7_leftAfter 32 = .ok (.ifCond .ne 9, 3) := dk_154 0 9 (dk_at dksX7_leftAfter_1 8 rfl rfl)
theorem dX7_leftAfter_35 : decode cX7_leftAfter 35 = .ok (.iload_n 3, 1) := dk_29 (dk_at dksX7_leftAfter_1 11 rfl rfl)
theorem dX7_leftAfter_36 : decode cX7_leftAfter 36 = .ok (.iconst 2, 1) := dk_5 (dk_at dksX7_leftAfter_1 12 rfl rfl)
theorem dX7_leftAfter_37 : decode cX7_leftAfter 37 = .ok (.idiv, 1) := dk_108 (dk_at dksX7_leftAfter_1 13 rfl rfl)
theorem dX7_leftAfter_38 : decode cX7_leftAfter 38 = .ok (.goto 4, 3) := dk_167 0 4 (dk_at dksX7_leftAfter_1 14 rfl rfl)
theorem dX7_leftAfter_41 : decode cX7_leftAfter 41 = .ok (.iload_n 3, 1) := dk_29 (dk_at dksX7_leftAfter_1 17 rfl rfl)
theorem dX7_leftAfter_42 : decode cX7_leftAfter 42 = .ok (.istore_n 3, 1) := dk_62 (dk_at dksX7_leftAfter_1 18 rfl rfl)
theorem dX7_leftAfter_43 : decode cX7_leftAfter 43 = .ok (.iinc 4 1, 3) := dk_132 4 1 (dk_at dksX7_leftAfter_1 19 rfl rfl)
theorem dX7_leftAfter_46 : decode cX7_leftAfter 46 = .ok (.goto (-33), 3) := dk_167 255 223 (dk_at dksX7_leftAfter_2 0 rfl rfl)
theorem dX7_leftAfter_49 : decode cX7_leftAfter 49 = .ok (.iload_n 3, 1) := dk_29 (dk_at dksX7_leftAfter_2 3 rfl rfl)
theorem dX7_leftAfter_50 : decode cX7_leftAfter 50 = .ok (.ireturn, 1) := dk_172 (dk_at dksX7_leftAfter_2 4 rfl rfl)
abbrev cX7_inkByHalvings : ByteArray := prog_12_method_26_code
def yX7_inkByHalvings : MethodName := ⟨RX7, "inkByHalvings", "(II)I"⟩
def dkwX7_inkByHalvings_0 : List UInt8 := [42, 27, 28, 182, 0, 135, 172]
abbrev dktX7_inkByHalvings_0 : List UInt8 := dkwX7_inkByHalvings_0 ++ []
theorem dksX7_inkByHalvings_0 : cX7_inkByHalvings.data.toList.drop 0 = dktX7_inkByHalvings_0 := by decide +kernel
theorem dX7_inkByHalvings_0 : decode cX7_inkByHalvings 0 = .ok (.aload_n 0, 1) := dk_42 (dk_at dksX7_inkByHalvings_0 0 rfl rfl)
theorem dX7_inkByHalvings_1 : decode cX7_inkByHalvings 1 = .ok (.iload_n 1, 1) := dk_27 (dk_at dksX7_inkByHalvings_0 1 rfl rfl)
theorem dX7_inkByHalvings_2 : decode cX7_inkByHalvings 2 = .ok (.iload_n 2, 1) := dk_28 (dk_at dksX7_inkByHalvings_0 2 rfl rfl)
theorem dX7_inkByHalvings_3 : decode cX7_inkByHalvings 3 = .ok (.invokevirtual 135, 3) := dk_182 0 135 (dk_at dksX7_inkByHalvings_0 3 rfl rfl)
theorem dX7_inkByHalvings_6 : decode cX7_inkByHalvings 6 = .ok (.ireturn, 1) := dk_172 (dk_at dksX7_inkByHalvings_0 6 rfl rfl)
abbrev cX7_hoursUntilLess : ByteArray := prog_12_method_27_code
def yX7_hoursUntilLess : MethodName := ⟨RX7, "hoursUntilLess", "(II)I"⟩
def dkwX7_hoursUntilLess_2 : List UInt8 := [167, 255, 243, 29, 172]
abbrev dktX7_hoursUntilLess_2 : List UInt8 := dkwX7_hoursUntilLess_2 ++ []
def dkwX7_hoursUntilLess_1 : List UInt8 := [182, 0, 125, 158, 0, 5, 3, 172, 3, 62, 42, 27, 29, 182, 0, 132, 28, 161, 0, 9, 132, 3, 1]
abbrev dktX7_hoursUntilLess_1 : List UInt8 := dkwX7_hoursUntilLess_1 ++ dktX7_hoursUntilLess_2
def dkwX7_hoursUntilLess_0 : List UInt8 := [42, 27, 184, 0, 95, 153, 0, 18, 28, 4, 17, 3, 231, 184, 0, 91, 153, 0, 7, 4, 167, 0, 4, 3]
abbrev dktX7_hoursUntilLess_0 : List UInt8 := dkwX7_hoursUntilLess_0 ++ dktX7_hoursUntilLess_1
theorem dksX7_hoursUntilLess_0 : cX7_hoursUntilLess.data.toList.drop 0 = dktX7_hoursUntilLess_0 := by decide +kernel
theorem dksX7_hoursUntilLess_1 : cX7_hoursUntilLess.data.toList.drop 24 = dktX7_hoursUntilLess_1 := dk_seg dksX7_hoursUntilLess_0 24 rfl rfl
theorem dksX7_hoursUntilLess_2 : cX7_hoursUntilLess.data.toList.drop 47 = dktX7_hoursUntilLess_2 := dk_seg dksX7_hoursUntilLess_1 23 rfl rfl
theorem dX7_hoursUntilLess_0 : decode cX7_hoursUntilLess 0 = .ok (.aload_n 0, 1) := dk_42 (dk_at dksX7_hoursUntilLess_0 0 rfl rfl)
theorem dX7_hoursUntilLess_1 : decode cX7_hoursUntilLess 1 = .ok (.iload_n 1, 1) := dk_27 (dk_at dksX7_hoursUntilLess_0 1 rfl rfl)
theorem dX7_hoursUntilLess_2 : decode cX7_hoursUntilLess 2 = .ok (.invokestatic 95, 3) := dk_184 0 95 (dk_at dksX7_hoursUntilLess_0 2 rfl rfl)
theorem dX7_hoursUntilLess_5 : decode cX7_hoursUntilLess 5 = .ok (.ifCond .eq 18, 3) := dk_153 0 18 (dk_at dksX7_hoursUntilLess_0 5 rfl rfl)
theorem dX7_hoursUntilLess_8 : decode cX7_hoursUntilLess 8 = .ok (.iload_n 2, 1) := dk_28 (dk_at dksX7_hoursUntilLess_0 8 rfl rfl)
theorem dX7_hoursUntilLess_9 : decode cX7_hoursUntilLess 9 = .ok (.iconst 1, 1) := dk_4 (dk_at dksX7_hoursUntilLess_0 9 rfl rfl)
theorem dX7_hoursUntilLess_10 : decode cX7_hoursUntilLess 10 = .ok (.sipush 999, 3) := dk_17 3 231 (dk_at dksX7_hoursUntilLess_0 10 rfl rfl)
theorem dX7_hoursUntilLess_13 : decode cX7_hoursUntilLess 13 = .ok (.invokestatic 91, 3) := dk_184 0 91 (dk_at dksX7_hoursUntilLess_0 13 rfl rfl)
theorem dX7_hoursUntilLess_16 : decode cX7_hoursUntilLess 16 = .ok (.ifCond .eq 7, 3) := dk_153 0 7 (dk_at dksX7_hoursUntilLess_0 16 rfl rfl)
theorem dX7_hoursUntilLess_19 : decode cX7_hoursUntilLess 19 = .ok (.iconst 1, 1) := dk_4 (dk_at dksX7_hoursUntilLess_0 19 rfl rfl)
theorem dX7_hoursUntilLess_20 : decode cX7_hoursUntilLess 20 = .ok (.goto 4, 3) := dk_167 0 4 (dk_at dksX7_hoursUntilLess_0 20 rfl rfl)
theorem dX7_hoursUntilLess_23 : decode cX7_hoursUntilLess 23 = .ok (.iconst 0, 1) := dk_3 (dk_at dksX7_hoursUntilLess_0 23 rfl rfl)
theorem dX7_hoursUntilLess_24 : decode cX7_hoursUntilLess 24 = .ok (.invokevirtual 125, 3) := dk_182 0 125 (dk_at dksX7_hoursUntilLess_1 0 rfl rfl)
theorem dX7_hoursUntilLess_27 : decode cX7_hoursUntilLess 27 = .ok (.ifCond .le 5, 3) := dk_158 0 5 (dk_at dksX7_hoursUntilLess_1 3 rfl rfl)
theorem dX7_hoursUntilLess_30 : decode cX7_hoursUntilLess 30 = .ok (.iconst 0, 1) := dk_3 (dk_at dksX7_hoursUntilLess_1 6 rfl rfl)
theorem dX7_hoursUntilLess_31 : decode cX7_hoursUntilLess 31 = .ok (.ireturn, 1) := dk_172 (dk_at dksX7_hoursUntilLess_1 7 rfl rfl)
theorem dX7_hoursUntilLess_32 : decode cX7_hoursUntilLess 32 = .ok (.iconst 0, 1) := dk_3 (dk_at dksX7_hoursUntilLess_1 8 rfl rfl)
theorem dX7_hoursUntilLess_33 : decode cX7_hoursUntilLess 33 = .ok (.istore_n 3, 1) := dk_62 (dk_at dksX7_hoursUntilLess_1 9 rfl rfl)
theorem dX7_hoursUntilLess_34 : decode cX7_hoursUntilLess 34 = .ok (.aload_n 0, 1) := dk_42 (dk_at dksX7_hoursUntilLess_1 10 rfl rfl)
theorem dX7_hoursUntilLess_35 : decode cX7_hoursUntilLess 35 = .ok (.iload_n 1, 1) := dk_27 (dk_at dksX7_hoursUntilLess_1 11 rfl rfl)
theorem dX7_hoursUntilLess_36 : decode cX7_hoursUntilLess 36 = .ok (.iload_n 3, 1) := dk_29 (dk_at dksX7_hoursUntilLess_1 12 rfl rfl)
theorem dX7_hoursUntilLess_37 : decode cX7_hoursUntilLess 37 = .ok (.invokevirtual 132, 3) := dk_182 0 132 (dk_at dksX7_hoursUntilLess_1 13 rfl rfl)
theorem dX7_hoursUntilLess_40 : decode cX7_hoursUntilLess 40 = .ok (.iload_n 2, 1) := dk_28 (dk_at dksX7_hoursUntilLess_1 16 rfl rfl)
theorem dX7_hoursUntilLess_41 : decode cX7_hoursUntilLess 41 = .ok (.if_icmp .lt 9, 3) := dk_161 0 9 (dk_at dksX7_hoursUntilLess_1 17 rfl rfl)
theorem dX7_hoursUntilLess_44 : decode cX7_hoursUntilLess 44 = .ok (.iinc 3 1, 3) := dk_132 3 1 (dk_at dksX7_hoursUntilLess_1 20 rfl rfl)
theorem dX7_hoursUntilLess_47 : decode cX7_hoursUntilLess 47 = .ok (.goto (-13), 3) := dk_167 255 243 (dk_at dksX7_hoursUntilLess_2 0 rfl rfl)
theorem dX7_hoursUntilLess_50 : decode cX7_hoursUntilLess 50 = .ok (.iload_n 3, 1) := dk_29 (dk_at dksX7_hoursUntilLess_2 3 rfl rfl)
theorem dX7_hoursUntilLess_51 : decode cX7_hoursUntilLess 51 = .ok (.ireturn, 1) := dk_172 (dk_at dksX7_hoursUntilLess_2 4 rfl rfl)
abbrev cX7_addEdition : ByteArray := prog_12_method_33_code
def yX7_addEdition : MethodName := ⟨RX7, "addEdition", "(II)I"⟩
def dkwX7_addEdition_1 : List UInt8 := [42, 27, 28, 182, 0, 144, 182, 0, 113, 172]
abbrev dktX7_addEdition_1 : List UInt8 := dkwX7_addEdition_1 ++ []
def dkwX7_addEdition_0 : List UInt8 := [42, 182, 0, 99, 42, 27, 28, 182, 0, 141, 62, 29, 158, 0, 11, 42, 29, 182, 0, 106, 167, 0, 13, 42]
abbrev dktX7_addEdition_0 : List UInt8 := dkwX7_addEdition_0 ++ dktX7_addEdition_1
theorem dksX7_addEdition_0 : cX7_addEdition.data.toList.drop 0 = dktX7_addEdition_0 := by decide +kernel
theorem dksX7_addEdition_1 : cX7_addEdition.data.toList.drop 24 = dktX7_addEdition_1 := dk_seg dksX7_addEdition_0 24 rfl rfl
theorem dX7_addEdition_0 : decode cX7_addEdition 0 = .ok (.aload_n 0, 1) := dk_42 (dk_at dksX7_addEdition_0 0 rfl rfl)
theorem dX7_addEdition_1 : decode cX7_addEdition 1 = .ok (.invokevirtual 99, 3) := dk_182 0 99 (dk_at dksX7_addEdition_0 1 rfl rfl)
theorem dX7_addEdition_4 : decode cX7_addEdition 4 = .ok (.aload_n 0, 1) := dk_42 (dk_at dksX7_addEdition_0 4 rfl rfl)
theorem dX7_addEdition_5 : decode cX7_addEdition 5 = .ok (.iload_n 1, 1) := dk_27 (dk_at dksX7_addEdition_0 5 rfl rfl)
theorem dX7_addEdition_6 : decode cX7_addEdition 6 = .ok (.iload_n 2, 1) := dk_28 (dk_at dksX7_addEdition_0 6 rfl rfl)
theorem dX7_addEdition_7 : decode cX7_addEdition 7 = .ok (.invokevirtual 141, 3) := dk_182 0 141 (dk_at dksX7_addEdition_0 7 rfl rfl)
theorem dX7_addEdition_10 : decode cX7_addEdition 10 = .ok (.istore_n 3, 1) := dk_62 (dk_at dksX7_addEdition_0 10 rfl rfl)
theorem dX7_addEdition_11 : decode cX7_addEdition 11 = .ok (.iload_n 3, 1) := dk_29 (dk_at dksX7_addEdition_0 11 rfl rfl)
theorem dX7_addEdition_12 : decode cX7_addEdition 12 = .ok (.ifCond .le 11, 3) := dk_158 0 11 (dk_at dksX7_addEdition_0 12 rfl rfl)
theorem dX7_addEdition_15 : decode cX7_addEdition 15 = .ok (.aload_n 0, 1) := dk_42 (dk_at dksX7_addEdition_0 15 rfl rfl)
theorem dX7_addEdition_16 : decode cX7_addEdition 16 = .ok (.iload_n 3, 1) := dk_29 (dk_at dksX7_addEdition_0 16 rfl rfl)
theorem dX7_addEdition_17 : decode cX7_addEdition 17 = .ok (.invokevirtual 106, 3) := dk_182 0 106 (dk_at dksX7_addEdition_0 17 rfl rfl)
theorem dX7_addEdition_20 : decode cX7_addEdition 20 = .ok (.goto 13, 3) := dk_167 0 13 (dk_at dksX7_addEdition_0 20 rfl rfl)
theorem dX7_addEdition_23 : decode cX7_addEdition 23 = .ok (.aload_n 0, 1) := dk_42 (dk_at dksX7_addEdition_0 23 rfl rfl)
theorem dX7_addEdition_24 : decode cX7_addEdition 24 = .ok (.aload_n 0, 1) := dk_42 (dk_at dksX7_addEdition_1 0 rfl rfl)
theorem dX7_addEdition_25 : decode cX7_addEdition 25 = .ok (.iload_n 1, 1) := dk_27 (dk_at dksX7_addEdition_1 1 rfl rfl)
theorem dX7_addEdition_26 : decode cX7_addEdition 26 = .ok (.iload_n 2, 1) := dk_28 (dk_at dksX7_addEdition_1 2 rfl rfl)
theorem dX7_addEdition_27 : decode cX7_addEdition 27 = .ok (.invokevirtual 144, 3) := dk_182 0 144 (dk_at dksX7_addEdition_1 3 rfl rfl)
theorem dX7_addEdition_30 : decode cX7_addEdition 30 = .ok (.invokevirtual 113, 3) := dk_182 0 113 (dk_at dksX7_addEdition_1 6 rfl rfl)
theorem dX7_addEdition_33 : decode cX7_addEdition 33 = .ok (.ireturn, 1) := dk_172 (dk_at dksX7_addEdition_1 9 rfl rfl)
abbrev cX7_cannotAdd : ByteArray := prog_12_method_31_code
def yX7_cannotAdd : MethodName := ⟨RX7, "cannotAdd", "(II)I"⟩
def dkwX7_cannotAdd_1 : List UInt8 := [180, 0, 7, 3, 46, 16, 7, 160, 0, 7, 5, 167, 0, 4, 3, 172]
abbrev dktX7_cannotAdd_1 : List UInt8 := dkwX7_cannotAdd_1 ++ []
def dkwX7_cannotAdd_0 : List UInt8 := [27, 184, 0, 95, 153, 0, 13, 28, 4, 16, 50, 184, 0, 91, 154, 0, 7, 4, 167, 0, 19, 42]
abbrev dktX7_cannotAdd_0 : List UInt8 := dkwX7_cannotAdd_0 ++ dktX7_cannotAdd_1
theorem dksX7_cannotAdd_0 : cX7_cannotAdd.data.toList.drop 0 = dktX7_cannotAdd_0 := by decide +kernel
theorem dksX7_cannotAdd_1 : cX7_cannotAdd.data.toList.drop 22 = dktX7_cannotAdd_1 := dk_seg dksX7_cannotAdd_0 22 rfl rfl
theorem dX7_cannotAdd_0 : decode cX7_cannotAdd 0 = .ok (.iload_n 1, 1) := dk_27 (dk_at dksX7_cannotAdd_0 0 rfl rfl)
theorem dX7_cannotAdd_1 : decode cX7_cannotAdd 1 = .ok (.invokestatic 95, 3) := dk_184 0 95 (dk_at dksX7_cannotAdd_0 1 rfl rfl)
theorem dX7_cannotAdd_4 : decode cX7_cannotAdd 4 = .ok (.ifCond .eq 13, 3) := dk_153 0 13 (dk_at dksX7_cannotAdd_0 4 rfl rfl)
theorem dX7_cannotAdd_7 : decode cX7_cannotAdd 7 = .ok (.iload_n 2, 1) := dk_28 (dk_at dksX7_cannotAdd_0 7 rfl rfl)
theorem dX7_cannotAdd_8 : decode cX7_cannotAdd 8 = .ok (.iconst 1, 1) := dk_4 (dk_at dksX7_cannotAdd_0 8 rfl rfl)
theorem dX7_cannotAdd_9 : decode cX7_cannotAdd 9 = .ok (.bipush 50, 2) := dk_16 50 (dk_at dksX7_cannotAdd_0 9 rfl rfl)
theorem dX7_cannotAdd_11 : decode cX7_cannotAdd 11 = .ok (.invokestatic 91, 3) := dk_184 0 91 (dk_at dksX7_cannotAdd_0 11 rfl rfl)
theorem dX7_cannotAdd_14 : decode cX7_cannotAdd 14 = .ok (.ifCond .ne 7, 3) := dk_154 0 7 (dk_at dksX7_cannotAdd_0 14 rfl rfl)
theorem dX7_cannotAdd_17 : decode cX7_cannotAdd 17 = .ok (.iconst 1, 1) := dk_4 (dk_at dksX7_cannotAdd_0 17 rfl rfl)
theorem dX7_cannotAdd_18 : decode cX7_cannotAdd 18 = .ok (.goto 19, 3) := dk_167 0 19 (dk_at dksX7_cannotAdd_0 18 rfl rfl)
theorem dX7_cannotAdd_21 : decode cX7_cannotAdd 21 = .ok (.aload_n 0, 1) := dk_42 (dk_at dksX7_cannotAdd_0 21 rfl rfl)
theorem dX7_cannotAdd_22 : decode cX7_cannotAdd 22 = .ok (.getfield 7, 3) := dk_180 0 7 (dk_at dksX7_cannotAdd_1 0 rfl rfl)
theorem dX7_cannotAdd_25 : decode cX7_cannotAdd 25 = .ok (.iconst 0, 1) := dk_3 (dk_at dksX7_cannotAdd_1 3 rfl rfl)
theorem dX7_cannotAdd_26 : decode cX7_cannotAdd 26 = .ok (.iaload, 1) := dk_46 (dk_at dksX7_cannotAdd_1 4 rfl rfl)
theorem dX7_cannotAdd_27 : decode cX7_cannotAdd 27 = .ok (.bipush 7, 2) := dk_16 7 (dk_at dksX7_cannotAdd_1 5 rfl rfl)
theorem dX7_cannotAdd_29 : decode cX7_cannotAdd 29 = .ok (.if_icmp .ne 7, 3) := dk_160 0 7 (dk_at dksX7_cannotAdd_1 7 rfl rfl)
theorem dX7_cannotAdd_32 : decode cX7_cannotAdd 32 = .ok (.iconst 2, 1) := dk_5 (dk_at dksX7_cannotAdd_1 10 rfl rfl)
theorem dX7_cannotAdd_33 : decode cX7_cannotAdd 33 = .ok (.goto 4, 3) := dk_167 0 4 (dk_at dksX7_cannotAdd_1 11 rfl rfl)
theorem dX7_cannotAdd_36 : decode cX7_cannotAdd 36 = .ok (.iconst 0, 1) := dk_3 (dk_at dksX7_cannotAdd_1 14 rfl rfl)
theorem dX7_cannotAdd_37 : decode cX7_cannotAdd 37 = .ok (.ireturn, 1) := dk_172 (dk_at dksX7_cannotAdd_1 15 rfl rfl)
abbrev cX7_adds : ByteArray := prog_12_method_32_code
def yX7_adds : MethodName := ⟨RX7, "adds", "(II)I"⟩
def dkwX7_adds_2 : List UInt8 := [4, 96, 79, 42, 180, 0, 7, 3, 46, 4, 100, 172]
abbrev dktX7_adds_2 : List UInt8 := dkwX7_adds_2 ++ []
def dkwX7_adds_1 : List UInt8 := [180, 0, 7, 29, 4, 96, 28, 79, 42, 180, 0, 7, 29, 5, 96, 3, 79, 42, 180, 0, 7, 3, 92, 46]
abbrev dktX7_adds_1 : List UInt8 := dkwX7_adds_1 ++ dktX7_adds_2
def dkwX7_adds_0 : List UInt8 := [16, 20, 7, 42, 180, 0, 7, 3, 46, 104, 96, 62, 42, 180, 0, 7, 29, 3, 96, 27, 79, 42]
abbrev dktX7_adds_0 : List UInt8 := dkwX7_adds_0 ++ dktX7_adds_1
theorem dksX7_adds_0 : cX7_adds.data.toList.drop 0 = dktX7_adds_0 := by decide +kernel
theorem dksX7_adds_1 : cX7_adds.data.toList.drop 22 = dktX7_adds_1 := dk_seg dksX7_adds_0 22 rfl rfl
theorem dksX7_adds_2 : cX7_adds.data.toList.drop 46 = dktX7_adds_2 := dk_seg dksX7_adds_1 24 rfl rfl
theorem dX7_adds_0 : decode cX7_adds 0 = .ok (.bipush 20, 2) := dk_16 20 (dk_at dksX7_adds_0 0 rfl rfl)
theorem dX7_adds_2 : decode cX7_adds 2 = .ok (.iconst 4, 1) := dk_7 (dk_at dksX7_adds_0 2 rfl rfl)
theorem dX7_adds_3 : decode cX7_adds 3 = .ok (.aload_n 0, 1) := dk_42 (dk_at dksX7_adds_0 3 rfl rfl)
theorem dX7_adds_4 : decode cX7_adds 4 = .ok (.getfield 7, 3) := dk_180 0 7 (dk_at dksX7_adds_0 4 rfl rfl)
theorem dX7_adds_7 : decode cX7_adds 7 = .ok (.iconst 0, 1) := dk_3 (dk_at dksX7_adds_0 7 rfl rfl)
theorem dX7_adds_8 : decode cX7_adds 8 = .ok (.iaload, 1) := dk_46 (dk_at dksX7_adds_0 8 rfl rfl)
theorem dX7_adds_9 : decode cX7_adds 9 = .ok (.imul, 1) := dk_104 (dk_at dksX7_adds_0 9 rfl rfl)
theorem dX7_adds_10 : decode cX7_adds 10 = .ok (.iadd, 1) := dk_96 (dk_at dksX7_adds_0 10 rfl rfl)
theorem dX7_adds_11 : decode cX7_adds 11 = .ok (.istore_n 3, 1) := dk_62 (dk_at dksX7_adds_0 11 rfl rfl)
theorem dX7_adds_12 : decode cX7_adds 12 = .ok (.aload_n 0, 1) := dk_42 (dk_at dksX7_adds_0 12 rfl rfl)
theorem dX7_adds_13 : decode cX7_adds 13 = .ok (.getfield 7, 3) := dk_180 0 7 (dk_at dksX7_adds_0 13 rfl rfl)
theorem dX7_adds_16 : decode cX7_adds 16 = .ok (.iload_n 3, 1) := dk_29 (dk_at dksX7_adds_0 16 rfl rfl)
theorem dX7_adds_17 : decode cX7_adds 17 = .ok (.iconst 0, 1) := dk_3 (dk_at dksX7_adds_0 17 rfl rfl)
theorem dX7_adds_18 : decode cX7_adds 18 = .ok (.iadd, 1) := dk_96 (dk_at dksX7_adds_0 18 rfl rfl)
theorem dX7_adds_19 : decode cX7_adds 19 = .ok (.iload_n 1, 1) := dk_27 (dk_at dksX7_adds_0 19 rfl rfl)
theorem dX7_adds_20 : decode cX7_adds 20 = .ok (.iastore, 1) := dk_79 (dk_at dksX7_adds_0 20 rfl rfl)
theorem dX7_adds_21 : decode cX7_adds 21 = .ok (.aload_n 0, 1) := dk_42 (dk_at dksX7_adds_0 21 rfl rfl)
theorem dX7_adds_22 : decode cX7_adds 22 = .ok (.getfield 7, 3) := dk_180 0 7 (dk_at dksX7_adds_1 0 rfl rfl)
theorem dX7_adds_25 : decode cX7_adds 25 = .ok (.iload_n 3, 1) := dk_29 (dk_at dksX7_adds_1 3 rfl rfl)
theorem dX7_adds_26 : decode cX7_adds 26 = .ok (.iconst 1, 1) := dk_4 (dk_at dksX7_adds_1 4 rfl rfl)
theorem dX7_adds_27 : decode cX7_adds 27 = .ok (.iadd, 1) := dk_96 (dk_at dksX7_adds_1 5 rfl rfl)
theorem dX7_adds_28 : decode cX7_adds 28 = .ok (.iload_n 2, 1) := dk_28 (dk_at dksX7_adds_1 6 rfl rfl)
theorem dX7_adds_29 : decode cX7_adds 29 = .ok (.iastore, 1) := dk_79 (dk_at dksX7_adds_1 7 rfl rfl)
theorem dX7_adds_30 : decode cX7_adds 30 = .ok (.aload_n 0, 1) := dk_42 (dk_at dksX7_adds_1 8 rfl rfl)
theorem dX7_adds_31 : decode cX7_adds 31 = .ok (.getfield 7, 3) := dk_180 0 7 (dk_at dksX7_adds_1 9 rfl rfl)
theorem dX7_adds_34 : decode cX7_adds 34 = .ok (.iload_n 3, 1) := dk_29 (dk_at dksX7_adds_1 12 rfl rfl)
theorem dX7_adds_35 : decode cX7_adds 35 = .ok (.iconst 2, 1) := dk_5 (dk_at dksX7_adds_1 13 rfl rfl)
theorem dX7_adds_36 : decode cX7_adds 36 = .ok (.iadd, 1) := dk_96 (dk_at dksX7_adds_1 14 rfl rfl)
theorem dX7_adds_37 : decode cX7_adds 37 = .ok (.iconst 0, 1) := dk_3 (dk_at dksX7_adds_1 15 rfl rfl)
theorem dX7_adds_38 : decode cX7_adds 38 = .ok (.iastore, 1) := dk_79 (dk_at dksX7_adds_1 16 rfl rfl)
theorem dX7_adds_39 : decode cX7_adds 39 = .ok (.aload_n 0, 1) := dk_42 (dk_at dksX7_adds_1 17 rfl rfl)
theorem dX7_adds_40 : decode cX7_adds 40 = .ok (.getfield 7, 3) := dk_180 0 7 (dk_at dksX7_adds_1 18 rfl rfl)
theorem dX7_adds_43 : decode cX7_adds 43 = .ok (.iconst 0, 1) := dk_3 (dk_at dksX7_adds_1 21 rfl rfl)
theorem dX7_adds_44 : decode cX7_adds 44 = .ok (.dup2, 1) := dk_92 (dk_at dksX7_adds_1 22 rfl rfl)
theorem dX7_adds_45 : decode cX7_adds 45 = .ok (.iaload, 1) := dk_46 (dk_at dksX7_adds_1 23 rfl rfl)
theorem dX7_adds_46 : decode cX7_adds 46 = .ok (.iconst 1, 1) := dk_4 (dk_at dksX7_adds_2 0 rfl rfl)
theorem dX7_adds_47 : decode cX7_adds 47 = .ok (.iadd, 1) := dk_96 (dk_at dksX7_adds_2 1 rfl rfl)
theorem dX7_adds_48 : decode cX7_adds 48 = .ok (.iastore, 1) := dk_79 (dk_at dksX7_adds_2 2 rfl rfl)
theorem dX7_adds_49 : decode cX7_adds 49 = .ok (.aload_n 0, 1) := dk_42 (dk_at dksX7_adds_2 3 rfl rfl)
theorem dX7_adds_50 : decode cX7_adds 50 = .ok (.getfield 7, 3) := dk_180 0 7 (dk_at dksX7_adds_2 4 rfl rfl)
theorem dX7_adds_53 : decode cX7_adds 53 = .ok (.iconst 0, 1) := dk_3 (dk_at dksX7_adds_2 7 rfl rfl)
theorem dX7_adds_54 : decode cX7_adds 54 = .ok (.iaload, 1) := dk_46 (dk_at dksX7_adds_2 8 rfl rfl)
theorem dX7_adds_55 : decode cX7_adds 55 = .ok (.iconst 1, 1) := dk_4 (dk_at dksX7_adds_2 9 rfl rfl)
theorem dX7_adds_56 : decode cX7_adds 56 = .ok (.isub, 1) := dk_100 (dk_at dksX7_adds_2 10 rfl rfl)
theorem dX7_adds_57 : decode cX7_adds 57 = .ok (.ireturn, 1) := dk_172 (dk_at dksX7_adds_2 11 rfl rfl)
abbrev cX7_removeEdition : ByteArray := prog_12_method_35_code
def yX7_removeEdition : MethodName := ⟨RX7, "removeEdition", "(I)I"⟩
def dkwX7_removeEdition_1 : List UInt8 := [42, 4, 182, 0, 106, 172]
abbrev dktX7_removeEdition_1 : List UInt8 := dkwX7_removeEdition_1 ++ []
def dkwX7_removeEdition_0 : List UInt8 := [42, 182, 0, 99, 42, 27, 182, 0, 147, 153, 0, 15, 42, 42, 27, 182, 0, 150, 182, 0, 113, 167, 0, 8]
abbrev dktX7_removeEdition_0 : List UInt8 := dkwX7_removeEdition_0 ++ dktX7_removeEdition_1
theorem dksX7_removeEdition_0 : cX7_removeEdition.data.toList.drop 0 = dktX7_removeEdition_0 := by decide +kernel
theorem dksX7_removeEdition_1 : cX7_removeEdition.data.toList.drop 24 = dktX7_removeEdition_1 := dk_seg dksX7_removeEdition_0 24 rfl rfl
theorem dX7_removeEdition_0 : decode cX7_removeEdition 0 = .ok (.aload_n 0, 1) := dk_42 (dk_at dksX7_removeEdition_0 0 rfl rfl)
theorem dX7_removeEdition_1 : decode cX7_removeEdition 1 = .ok (.invokevirtual 99, 3) := dk_182 0 99 (dk_at dksX7_removeEdition_0 1 rfl rfl)
theorem dX7_removeEdition_4 : decode cX7_removeEdition 4 = .ok (.aload_n 0, 1) := dk_42 (dk_at dksX7_removeEdition_0 4 rfl rfl)
theorem dX7_removeEdition_5 : decode cX7_removeEdition 5 = .ok (.iload_n 1, 1) := dk_27 (dk_at dksX7_removeEdition_0 5 rfl rfl)
theorem dX7_removeEdition_6 : decode cX7_removeEdition 6 = .ok (.invokevirtual 147, 3) := dk_182 0 147 (dk_at dksX7_removeEdition_0 6 rfl rfl)
theorem dX7_removeEdition_9 : decode cX7_removeEdition 9 = .ok (.ifCond .eq 15, 3) := dk_153 0 15 (dk_at dksX7_removeEdition_0 9 rfl rfl)
theorem dX7_removeEdition_12 : decode cX7_removeEdition 12 = .ok (.aload_n 0, 1) := dk_42 (dk_at dksX7_removeEdition_0 12 rfl rfl)
theorem dX7_removeEdition_13 : decode cX7_removeEdition 13 = .ok (.aload_n 0, 1) := dk_42 (dk_at dksX7_removeEdition_0 13 rfl rfl)
theorem dX7_removeEdition_14 : decode cX7_removeEdition 14 = .ok (.iload_n 1, 1) := dk_27 (dk_at dksX7_removeEdition_0 14 rfl rfl)
theorem dX7_removeEdition_15 : decode cX7_removeEdition 15 = .ok (.invokevirtual 150, 3) := dk_182 0 150 (dk_at dksX7_removeEdition_0 15 rfl rfl)
theorem dX7_removeEdition_18 : decode cX7_removeEdition 18 = .ok (.invokevirtual 113, 3) := dk_182 0 113 (dk_at dksX7_removeEdition_0 18 rfl rfl)
theorem dX7_removeEdition_21 : decode cX7_removeEdition 21 = .ok (.goto 8, 3) := dk_167 0 8 (dk_at dksX7_removeEdition_0 21 rfl rfl)
theorem dX7_removeEdition_24 : decode cX7_removeEdition 24 = .ok (.aload_n 0, 1) := dk_42 (dk_at dksX7_removeEdition_1 0 rfl rfl)
theorem dX7_removeEdition_25 : decode cX7_removeEdition 25 = .ok (.iconst 1, 1) := dk_4 (dk_at dksX7_removeEdition_1 1 rfl rfl)
theorem dX7_removeEdition_26 : decode cX7_removeEdition 26 = .ok (.invokevirtual 106, 3) := dk_182 0 106 (dk_at dksX7_removeEdition_1 2 rfl rfl)
theorem dX7_removeEdition_29 : decode cX7_removeEdition 29 = .ok (.ireturn, 1) := dk_172 (dk_at dksX7_removeEdition_1 5 rfl rfl)
abbrev cX7_isEdition : ByteArray := prog_12_method_29_code
def yX7_isEdition : MethodName := ⟨RX7, "isEdition", "(I)Z"⟩
def dkwX7_isEdition_0 : List UInt8 := [27, 3, 42, 180, 0, 7, 3, 46, 4, 100, 184, 0, 91, 172]
abbrev dktX7_isEdition_0 : List UInt8 := dkwX7_isEdition_0 ++ []
theorem dksX7_isEdition_0 : cX7_isEdition.data.toList.drop 0 = dktX7_isEdition_0 := by decide +kernel
theorem dX7_isEdition_0 : decode cX7_isEdition 0 = .ok (.iload_n 1, 1) := dk_27 (dk_at dksX7_isEdition_0 0 rfl rfl)
theorem dX7_isEdition_1 : decode cX7_isEdition 1 = .ok (.iconst 0, 1) := dk_3 (dk_at dksX7_isEdition_0 1 rfl rfl)
theorem dX7_isEdition_2 : decode cX7_isEdition 2 = .ok (.aload_n 0, 1) := dk_42 (dk_at dksX7_isEdition_0 2 rfl rfl)
theorem dX7_isEdition_3 : decode cX7_isEdition 3 = .ok (.getfield 7, 3) := dk_180 0 7 (dk_at dksX7_isEdition_0 3 rfl rfl)
theorem dX7_isEdition_6 : decode cX7_isEdition 6 = .ok (.iconst 0, 1) := dk_3 (dk_at dksX7_isEdition_0 6 rfl rfl)
theorem dX7_isEdition_7 : decode cX7_isEdition 7 = .ok (.iaload, 1) := dk_46 (dk_at dksX7_isEdition_0 7 rfl rfl)
theorem dX7_isEdition_8 : decode cX7_isEdition 8 = .ok (.iconst 1, 1) := dk_4 (dk_at dksX7_isEdition_0 8 rfl rfl)
theorem dX7_isEdition_9 : decode cX7_isEdition 9 = .ok (.isub, 1) := dk_100 (dk_at dksX7_isEdition_0 9 rfl rfl)
theorem dX7_isEdition_10 : decode cX7_isEdition 10 = .ok (.invokestatic 91, 3) := dk_184 0 91 (dk_at dksX7_isEdition_0 10 rfl rfl)
theorem dX7_isEdition_13 : decode cX7_isEdition 13 = .ok (.ireturn, 1) := dk_172 (dk_at dksX7_isEdition_0 13 rfl rfl)
abbrev cX7_removes : ByteArray := prog_12_method_34_code
def yX7_removes : MethodName := ⟨RX7, "removes", "(I)I"⟩
def dkwX7_removes_2 : List UInt8 := [132, 2, 1, 167, 255, 224, 42, 180, 0, 7, 3, 46, 172]
abbrev dktX7_removes_2 : List UInt8 := dkwX7_removes_2 ++ []
def dkwX7_removes_1 : List UInt8 := [180, 0, 7, 3, 46, 104, 96, 162, 0, 23, 42, 180, 0, 7, 28, 42, 180, 0, 7, 28, 7, 96, 46, 79]
abbrev dktX7_removes_1 : List UInt8 := dkwX7_removes_1 ++ dktX7_removes_2
def dkwX7_removes_0 : List UInt8 := [42, 180, 0, 7, 3, 92, 46, 4, 100, 79, 16, 20, 7, 27, 104, 96, 61, 28, 16, 20, 7, 42]
abbrev dktX7_removes_0 : List UInt8 := dkwX7_removes_0 ++ dktX7_removes_1
theorem dksX7_removes_0 : cX7_removes.data.toList.drop 0 = dktX7_removes_0 := by decide +kernel
theorem dksX7_removes_1 : cX7_removes.data.toList.drop 22 = dktX7_removes_1 := dk_seg dksX7_removes_0 22 rfl rfl
theorem dksX7_removes_2 : cX7_removes.data.toList.drop 46 = dktX7_removes_2 := dk_seg dksX7_removes_1 24 rfl rfl
theorem dX7_removes_0 : decode cX7_removes 0 = .ok (.aload_n 0, 1) := dk_42 (dk_at dksX7_removes_0 0 rfl rfl)
theorem dX7_removes_1 : decode cX7_removes 1 = .ok (.getfield 7, 3) := dk_180 0 7 (dk_at dksX7_removes_0 1 rfl rfl)
theorem dX7_removes_4 : decode cX7_removes 4 = .ok (.iconst 0, 1) := dk_3 (dk_at dksX7_removes_0 4 rfl rfl)
theorem dX7_removes_5 : decode cX7_removes 5 = .ok (.dup2, 1) := dk_92 (dk_at dksX7_removes_0 5 rfl rfl)
theorem dX7_removes_6 : decode cX7_removes 6 = .ok (.iaload, 1) := dk_46 (dk_at dksX7_removes_0 6 rfl rfl)
theorem dX7_removes_7 : decode cX7_removes 7 = .ok (.iconst 1, 1) := dk_4 (dk_at dksX7_removes_0 7 rfl rfl)
theorem dX7_removes_8 : decode cX7_removes 8 = .ok (.isub, 1) := dk_100 (dk_at dksX7_removes_0 8 rfl rfl)
theorem dX7_removes_9 : decode cX7_removes 9 = .ok (.iastore, 1) := dk_79 (dk_at dksX7_removes_0 9 rfl rfl)
theorem dX7_removes_10 : decode cX7_removes 10 = .ok (.bipush 20, 2) := dk_16 20 (dk_at dksX7_removes_0 10 rfl rfl)
theorem dX7_removes_12 : decode cX7_removes 12 = .ok (.iconst 4, 1) := dk_7 (dk_at dksX7_removes_0 12 rfl rfl)
theorem dX7_removes_13 : decode cX7_removes 13 = .ok (.iload_n 1, 1) := dk_27 (dk_at dksX7_removes_0 13 rfl rfl)
theorem dX7_removes_14 : decode cX7_removes 14 = .ok (.imul, 1) := dk_104 (dk_at dksX7_removes_0 14 rfl rfl)
theorem dX7_removes_15 : decode cX7_removes 15 = .ok (.iadd, 1) := dk_96 (dk_at dksX7_removes_0 15 rfl rfl)
theorem dX7_removes_16 : decode cX7_removes 16 = .ok (.istore_n 2, 1) := dk_61 (dk_at dksX7_removes_0 16 rfl rfl)
theorem dX7_removes_17 : decode cX7_removes 17 = .ok (.iload_n 2, 1) := dk_28 (dk_at dksX7_removes_0 17 rfl rfl)
theorem dX7_removes_18 : decode cX7_removes 18 = .ok (.bipush 20, 2) := dk_16 20 (dk_at dksX7_removes_0 18 rfl rfl)
theorem dX7_removes_20 : decode cX7_removes 20 = .ok (.iconst 4, 1) := dk_7 (dk_at dksX7_removes_0 20 rfl rfl)
theorem dX7_removes_21 : decode cX7_removes 21 = .ok (.aload_n 0, 1) := dk_42 (dk_at dksX7_removes_0 21 rfl rfl)
theorem dX7_removes_22 : decode cX7_removes 22 = .ok (.getfield 7, 3) := dk_180 0 7 (dk_at dksX7_removes_1 0 rfl rfl)
theorem dX7_removes_25 : decode cX7_removes 25 = .ok (.iconst 0, 1) := dk_3 (dk_at dksX7_removes_1 3 rfl rfl)
theorem dX7_removes_26 : decode cX7_removes 26 = .ok (.iaload, 1) := dk_46 (dk_at dksX7_removes_1 4 rfl rfl)
theorem dX7_removes_27 : decode cX7_removes 27 = .ok (.imul, 1) := dk_104 (dk_at dksX7_removes_1 5 rfl rfl)
theorem dX7_removes_28 : decode cX7_removes 28 = .ok (.iadd, 1) := dk_96 (dk_at dksX7_removes_1 6 rfl rfl)
theorem dX7_removes_29 : decode cX7_removes 29 = .ok (.if_icmp .ge 23, 3) := dk_162 0 23 (dk_at dksX7_removes_1 7 rfl rfl)
theorem dX7_removes_32 : decode cX7_removes 32 = .ok (.aload_n 0, 1) := dk_42 (dk_at dksX7_removes_1 10 rfl rfl)
theorem dX7_removes_33 : decode cX7_removes 33 = .ok (.getfield 7, 3) := dk_180 0 7 (dk_at dksX7_removes_1 11 rfl rfl)
theorem dX7_removes_36 : decode cX7_removes 36 = .ok (.iload_n 2, 1) := dk_28 (dk_at dksX7_removes_1 14 rfl rfl)
theorem dX7_removes_37 : decode cX7_removes 37 = .ok (.aload_n 0, 1) := dk_42 (dk_at dksX7_removes_1 15 rfl rfl)
theorem dX7_removes_38 : decode cX7_removes 38 = .ok (.getfield 7, 3) := dk_180 0 7 (dk_at dksX7_removes_1 16 rfl rfl)
theorem dX7_removes_41 : decode cX7_removes 41 = .ok (.iload_n 2, 1) := dk_28 (dk_at dksX7_removes_1 19 rfl rfl)
theorem dX7_removes_42 : decode cX7_removes 42 = .ok (.iconst 4, 1) := dk_7 (dk_at dksX7_removes_1 20 rfl rfl)
theorem dX7_removes_43 : decode cX7_removes 43 = .ok (.iadd, 1) := dk_96 (dk_at dksX7_removes_1 21 rfl rfl)
theorem dX7_removes_44 : decode cX7_removes 44 = .ok (.iaload, 1) := dk_46 (dk_at dksX7_removes_1 22 rfl rfl)
theorem dX7_removes_45 : decode cX7_removes 45 = .ok (.iastore, 1) := dk_79 (dk_at dksX7_removes_1 23 rfl rfl)
theorem dX7_removes_46 : decode cX7_removes 46 = .ok (.iinc 2 1, 3) := dk_132 2 1 (dk_at dksX7_removes_2 0 rfl rfl)
theorem dX7_removes_49 : decode cX7_removes 49 = .ok (.goto (-32), 3) := dk_167 255 224 (dk_at dksX7_removes_2 3 rfl rfl)
theorem dX7_removes_52 : decode cX7_removes 52 = .ok (.aload_n 0, 1) := dk_42 (dk_at dksX7_removes_2 6 rfl rfl)
theorem dX7_removes_53 : decode cX7_removes 53 = .ok (.getfield 7, 3) := dk_180 0 7 (dk_at dksX7_removes_2 7 rfl rfl)
theorem dX7_removes_56 : decode cX7_removes 56 = .ok (.iconst 0, 1) := dk_3 (dk_at dksX7_removes_2 10 rfl rfl)
theorem dX7_removes_57 : decode cX7_removes 57 = .ok (.iaload, 1) := dk_46 (dk_at dksX7_removes_2 11 rfl rfl)
theorem dX7_removes_58 : decode cX7_removes 58 = .ok (.ireturn, 1) := dk_172 (dk_at dksX7_removes_2 12 rfl rfl)
abbrev cX7_print : ByteArray := prog_12_method_41_code
def yX7_print : MethodName := ⟨RX7, "print", "(I)I"⟩
def dkwX7_print_1 : List UInt8 := [27, 182, 0, 171, 182, 0, 113, 172]
abbrev dktX7_print_1 : List UInt8 := dkwX7_print_1 ++ []
def dkwX7_print_0 : List UInt8 := [42, 182, 0, 99, 42, 27, 182, 0, 168, 61, 28, 158, 0, 11, 42, 28, 182, 0, 106, 167, 0, 12, 42, 42]
abbrev dktX7_print_0 : List UInt8 := dkwX7_print_0 ++ dktX7_print_1
theorem dksX7_print_0 : cX7_print.data.toList.drop 0 = dktX7_print_0 := by decide +kernel
theorem dksX7_print_1 : cX7_print.data.toList.drop 24 = dktX7_print_1 := dk_seg dksX7_print_0 24 rfl rfl
theorem dX7_print_0 : decode cX7_print 0 = .ok (.aload_n 0, 1) := dk_42 (dk_at dksX7_print_0 0 rfl rfl)
theorem dX7_print_1 : decode cX7_print 1 = .ok (.invokevirtual 99, 3) := dk_182 0 99 (dk_at dksX7_print_0 1 rfl rfl)
theorem dX7_print_4 : decode cX7_print 4 = .ok (.aload_n 0, 1) := dk_42 (dk_at dksX7_print_0 4 rfl rfl)
theorem dX7_print_5 : decode cX7_print 5 = .ok (.iload_n 1, 1) := dk_27 (dk_at dksX7_print_0 5 rfl rfl)
theorem dX7_print_6 : decode cX7_print 6 = .ok (.invokevirtual 168, 3) := dk_182 0 168 (dk_at dksX7_print_0 6 rfl rfl)
theorem dX7_print_9 : decode cX7_print 9 = .ok (.istore_n 2, 1) := dk_61 (dk_at dksX7_print_0 9 rfl rfl)
theorem dX7_print_10 : decode cX7_print 10 = .ok (.iload_n 2, 1) := dk_28 (dk_at dksX7_print_0 10 rfl rfl)
theorem dX7_print_11 : decode cX7_print 11 = .ok (.ifCond .le 11, 3) := dk_158 0 11 (dk_at dksX7_print_0 11 rfl rfl)
theorem dX7_print_14 : decode cX7_print 14 = .ok (.aload_n 0, 1) := dk_42 (dk_at dksX7_print_0 14 rfl rfl)
theorem dX7_print_15 : decode cX7_print 15 = .ok (.iload_n 2, 1) := dk_28 (dk_at dksX7_print_0 15 rfl rfl)
theorem dX7_print_16 : decode cX7_print 16 = .ok (.invokevirtual 106, 3) := dk_182 0 106 (dk_at dksX7_print_0 16 rfl rfl)
theorem dX7_print_19 : decode cX7_print 19 = .ok (.goto 12, 3) := dk_167 0 12 (dk_at dksX7_print_0 19 rfl rfl)
theorem dX7_print_22 : decode cX7_print 22 = .ok (.aload_n 0, 1) := dk_42 (dk_at dksX7_print_0 22 rfl rfl)
theorem dX7_print_23 : decode cX7_print 23 = .ok (.aload_n 0, 1) := dk_42 (dk_at dksX7_print_0 23 rfl rfl)
theorem dX7_print_24 : decode cX7_print 24 = .ok (.iload_n 1, 1) := dk_27 (dk_at dksX7_print_1 0 rfl rfl)
theorem dX7_print_25 : decode cX7_print 25 = .ok (.invokevirtual 171, 3) := dk_182 0 171 (dk_at dksX7_print_1 1 rfl rfl)
theorem dX7_print_28 : decode cX7_print 28 = .ok (.invokevirtual 113, 3) := dk_182 0 113 (dk_at dksX7_print_1 4 rfl rfl)
theorem dX7_print_31 : decode cX7_print 31 = .ok (.ireturn, 1) := dk_172 (dk_at dksX7_print_1 7 rfl rfl)
abbrev cX7_cannotPrint : ByteArray := prog_12_method_39_code
def yX7_cannotPrint : MethodName := ⟨RX7, "cannotPrint", "(I)I"⟩
def dkwX7_cannotPrint_1 : List UInt8 := [180, 0, 7, 5, 46, 153, 0, 11, 42, 27, 182, 0, 159, 154, 0, 7, 6, 167, 0, 4, 3, 172]
abbrev dktX7_cannotPrint_1 : List UInt8 := dkwX7_cannotPrint_1 ++ []
def dkwX7_cannotPrint_0 : List UInt8 := [42, 27, 182, 0, 147, 154, 0, 5, 4, 172, 42, 27, 182, 0, 156, 154, 0, 7, 5, 167, 0, 25, 42]
abbrev dktX7_cannotPrint_0 : List UInt8 := dkwX7_cannotPrint_0 ++ dktX7_cannotPrint_1
theorem dksX7_cannotPrint_0 : cX7_cannotPrint.data.toList.drop 0 = dktX7_cannotPrint_0 := by decide +kernel
theorem dksX7_cannotPrint_1 : cX7_cannotPrint.data.toList.drop 23 = dktX7_cannotPrint_1 := dk_seg dksX7_cannotPrint_0 23 rfl rfl
theorem dX7_cannotPrint_0 : decode cX7_cannotPrint 0 = .ok (.aload_n 0, 1) := dk_42 (dk_at dksX7_cannotPrint_0 0 rfl rfl)
theorem dX7_cannotPrint_1 : decode cX7_cannotPrint 1 = .ok (.iload_n 1, 1) := dk_27 (dk_at dksX7_cannotPrint_0 1 rfl rfl)
theorem dX7_cannotPrint_2 : decode cX7_cannotPrint 2 = .ok (.invokevirtual 147, 3) := dk_182 0 147 (dk_at dksX7_cannotPrint_0 2 rfl rfl)
theorem dX7_cannotPrint_5 : decode cX7_cannotPrint 5 = .ok (.ifCond .ne 5, 3) := dk_154 0 5 (dk_at dksX7_cannotPrint_0 5 rfl rfl)
theorem dX7_cannotPrint_8 : decode cX7_cannotPrint 8 = .ok (.iconst 1, 1) := dk_4 (dk_at dksX7_cannotPrint_0 8 rfl rfl)
theorem dX7_cannotPrint_9 : decode cX7_cannotPrint 9 = .ok (.ireturn, 1) := dk_172 (dk_at dksX7_cannotPrint_0 9 rfl rfl)
theorem dX7_cannotPrint_10 : decode cX7_cannotPrint 10 = .ok (.aload_n 0, 1) := dk_42 (dk_at dksX7_cannotPrint_0 10 rfl rfl)
theorem dX7_cannotPrint_11 : decode cX7_cannotPrint 11 = .ok (.iload_n 1, 1) := dk_27 (dk_at dksX7_cannotPrint_0 11 rfl rfl)
theorem dX7_cannotPrint_12 : decode cX7_cannotPrint 12 = .ok (.invokevirtual 156, 3) := dk_182 0 156 (dk_at dksX7_cannotPrint_0 12 rfl rfl)
theorem dX7_cannotPrint_15 : decode cX7_cannotPrint 15 = .ok (.ifCond .ne 7, 3) := dk_154 0 7 (dk_at dksX7_cannotPrint_0 15 rfl rfl)
theorem dX7_cannotPrint_18 : decode cX7_cannotPrint 18 = .ok (.iconst 2, 1) := dk_5 (dk_at dksX7_cannotPrint_0 18 rfl rfl)
theorem dX7_cannotPrint_19 : decode cX7_cannotPrint 19 = .ok (.goto 25, 3) := dk_167 0 25 (dk_at dksX7_cannotPrint_0 19 rfl rfl)
theorem dX7_cannotPrint_22 : decode cX7_cannotPrint 22 = .ok (.aload_n 0, 1) := dk_42 (dk_at dksX7_cannotPrint_0 22 rfl rfl)
theorem dX7_cannotPrint_23 : decode cX7_cannotPrint 23 = .ok (.getfield 7, 3) := dk_180 0 7 (dk_at dksX7_cannotPrint_1 0 rfl rfl)
theorem dX7_cannotPrint_26 : decode cX7_cannotPrint 26 = .ok (.iconst 2, 1) := dk_5 (dk_at dksX7_cannotPrint_1 3 rfl rfl)
theorem dX7_cannotPrint_27 : decode cX7_cannotPrint 27 = .ok (.iaload, 1) := dk_46 (dk_at dksX7_cannotPrint_1 4 rfl rfl)
theorem dX7_cannotPrint_28 : decode cX7_cannotPrint 28 = .ok (.ifCond .eq 11, 3) := dk_153 0 11 (dk_at dksX7_cannotPrint_1 5 rfl rfl)
theorem dX7_cannotPrint_31 : decode cX7_cannotPrint 31 = .ok (.aload_n 0, 1) := dk_42 (dk_at dksX7_cannotPrint_1 8 rfl rfl)
theorem dX7_cannotPrint_32 : decode cX7_cannotPrint 32 = .ok (.iload_n 1, 1) := dk_27 (dk_at dksX7_cannotPrint_1 9 rfl rfl)
theorem dX7_cannotPrint_33 : decode cX7_cannotPrint 33 = .ok (.invokevirtual 159, 3) := dk_182 0 159 (dk_at dksX7_cannotPrint_1 10 rfl rfl)
theorem dX7_cannotPrint_36 : decode cX7_cannotPrint 36 = .ok (.ifCond .ne 7, 3) := dk_154 0 7 (dk_at dksX7_cannotPrint_1 13 rfl rfl)
theorem dX7_cannotPrint_39 : decode cX7_cannotPrint 39 = .ok (.iconst 3, 1) := dk_6 (dk_at dksX7_cannotPrint_1 16 rfl rfl)
theorem dX7_cannotPrint_40 : decode cX7_cannotPrint 40 = .ok (.goto 4, 3) := dk_167 0 4 (dk_at dksX7_cannotPrint_1 17 rfl rfl)
theorem dX7_cannotPrint_43 : decode cX7_cannotPrint 43 = .ok (.iconst 0, 1) := dk_3 (dk_at dksX7_cannotPrint_1 20 rfl rfl)
theorem dX7_cannotPrint_44 : decode cX7_cannotPrint 44 = .ok (.ireturn, 1) := dk_172 (dk_at dksX7_cannotPrint_1 21 rfl rfl)
abbrev cX7_missing : ByteArray := prog_12_method_30_code
def yX7_missing : MethodName := ⟨RX7, "missing", "(I)I"⟩
def dkwX7_missing_0 : List UInt8 := [42, 27, 4, 182, 0, 138, 42, 27, 5, 182, 0, 138, 100, 172]
abbrev dktX7_missing_0 : List UInt8 := dkwX7_missing_0 ++ []
theorem dksX7_missing_0 : cX7_missing.data.toList.drop 0 = dktX7_missing_0 := by decide +kernel
theorem dX7_missing_0 : decode cX7_missing 0 = .ok (.aload_n 0, 1) := dk_42 (dk_at dksX7_missing_0 0 rfl rfl)
theorem dX7_missing_1 : decode cX7_missing 1 = .ok (.iload_n 1, 1) := dk_27 (dk_at dksX7_missing_0 1 rfl rfl)
theorem dX7_missing_2 : decode cX7_missing 2 = .ok (.iconst 1, 1) := dk_4 (dk_at dksX7_missing_0 2 rfl rfl)
theorem dX7_missing_3 : decode cX7_missing 3 = .ok (.invokevirtual 138, 3) := dk_182 0 138 (dk_at dksX7_missing_0 3 rfl rfl)
theorem dX7_missing_6 : decode cX7_missing 6 = .ok (.aload_n 0, 1) := dk_42 (dk_at dksX7_missing_0 6 rfl rfl)
theorem dX7_missing_7 : decode cX7_missing 7 = .ok (.iload_n 1, 1) := dk_27 (dk_at dksX7_missing_0 7 rfl rfl)
theorem dX7_missing_8 : decode cX7_missing 8 = .ok (.iconst 2, 1) := dk_5 (dk_at dksX7_missing_0 8 rfl rfl)
theorem dX7_missing_9 : decode cX7_missing 9 = .ok (.invokevirtual 138, 3) := dk_182 0 138 (dk_at dksX7_missing_0 9 rfl rfl)
theorem dX7_missing_12 : decode cX7_missing 12 = .ok (.isub, 1) := dk_100 (dk_at dksX7_missing_0 12 rfl rfl)
theorem dX7_missing_13 : decode cX7_missing 13 = .ok (.ireturn, 1) := dk_172 (dk_at dksX7_missing_0 13 rfl rfl)
abbrev cX7_e : ByteArray := prog_12_method_28_code
def yX7_e : MethodName := ⟨RX7, "e", "(II)I"⟩
def dkwX7_e_0 : List UInt8 := [42, 180, 0, 7, 16, 20, 7, 27, 104, 96, 28, 96, 46, 172]
abbrev dktX7_e_0 : List UInt8 := dkwX7_e_0 ++ []
theorem dksX7_e_0 : cX7_e.data.toList.drop 0 = dktX7_e_0 := by decide +kernel
theorem dX7_e_0 : decode cX7_e 0 = .ok (.aload_n 0, 1) := dk_42 (dk_at dksX7_e_0 0 rfl rfl)
theorem dX7_e_1 : decode cX7_e 1 = .ok (.getfield 7, 3) := dk_180 0 7 (dk_at dksX7_e_0 1 rfl rfl)
theorem dX7_e_4 : decode cX7_e 4 = .ok (.bipush 20, 2) := dk_16 20 (dk_at dksX7_e_0 4 rfl rfl)
theorem dX7_e_6 : decode cX7_e 6 = .ok (.iconst 4, 1) := dk_7 (dk_at dksX7_e_0 6 rfl rfl)
theorem dX7_e_7 : decode cX7_e 7 = .ok (.iload_n 1, 1) := dk_27 (dk_at dksX7_e_0 7 rfl rfl)
theorem dX7_e_8 : decode cX7_e 8 = .ok (.imul, 1) := dk_104 (dk_at dksX7_e_0 8 rfl rfl)
theorem dX7_e_9 : decode cX7_e 9 = .ok (.iadd, 1) := dk_96 (dk_at dksX7_e_0 9 rfl rfl)
theorem dX7_e_10 : decode cX7_e 10 = .ok (.iload_n 2, 1) := dk_28 (dk_at dksX7_e_0 10 rfl rfl)
theorem dX7_e_11 : decode cX7_e 11 = .ok (.iadd, 1) := dk_96 (dk_at dksX7_e_0 11 rfl rfl)
theorem dX7_e_12 : decode cX7_e 12 = .ok (.iaload, 1) := dk_46 (dk_at dksX7_e_0 12 rfl rfl)
theorem dX7_e_13 : decode cX7_e 13 = .ok (.ireturn, 1) := dk_172 (dk_at dksX7_e_0 13 rfl rfl)
abbrev cX7_ofWell : ByteArray := prog_12_method_37_code
def yX7_ofWell : MethodName := ⟨RX7, "ofWell", "(I)I"⟩
def dkwX7_ofWell_0 : List UInt8 := [42, 180, 0, 7, 16, 8, 42, 27, 3, 182, 0, 138, 96, 46, 172]
abbrev dktX7_ofWell_0 : List UInt8 := dkwX7_ofWell_0 ++ []
theorem dksX7_ofWell_0 : cX7_ofWell.data.toList.drop 0 = dktX7_ofWell_0 := by decide +kernel
theorem dX7_ofWell_0 : decode cX7_ofWell 0 = .ok (.aload_n 0, 1) := dk_42 (dk_at dksX7_ofWell_0 0 rfl rfl)
theorem dX7_ofWell_1 : decode cX7_ofWell 1 = .ok (.getfield 7, 3) := dk_180 0 7 (dk_at dksX7_ofWell_0 1 rfl rfl)
theorem dX7_ofWell_4 : decode cX7_ofWell 4 = .ok (.bipush 8, 2) := dk_16 8 (dk_at dksX7_ofWell_0 4 rfl rfl)
theorem dX7_ofWell_6 : decode cX7_ofWell 6 = .ok (.aload_n 0, 1) := dk_42 (dk_at dksX7_ofWell_0 6 rfl rfl)
theorem dX7_ofWell_7 : decode cX7_ofWell 7 = .ok (.iload_n 1, 1) := dk_27 (dk_at dksX7_ofWell_0 7 rfl rfl)
theorem dX7_ofWell_8 : decode cX7_ofWell 8 = .ok (.iconst 0, 1) := dk_3 (dk_at dksX7_ofWell_0 8 rfl rfl)
theorem dX7_ofWell_9 : decode cX7_ofWell 9 = .ok (.invokevirtual 138, 3) := dk_182 0 138 (dk_at dksX7_ofWell_0 9 rfl rfl)
theorem dX7_ofWell_12 : decode cX7_ofWell 12 = .ok (.iadd, 1) := dk_96 (dk_at dksX7_ofWell_0 12 rfl rfl)
theorem dX7_ofWell_13 : decode cX7_ofWell 13 = .ok (.iaload, 1) := dk_46 (dk_at dksX7_ofWell_0 13 rfl rfl)
theorem dX7_ofWell_14 : decode cX7_ofWell 14 = .ok (.ireturn, 1) := dk_172 (dk_at dksX7_ofWell_0 14 rfl rfl)
abbrev cX7_printsOne : ByteArray := prog_12_method_40_code
def yX7_printsOne : MethodName := ⟨RX7, "printsOne", "(I)I"⟩
def dkwX7_printsOne_1 : List UInt8 := [182, 0, 165, 172]
abbrev dktX7_printsOne_1 : List UInt8 := dkwX7_printsOne_1 ++ []
def dkwX7_printsOne_0 : List UInt8 := [42, 27, 42, 27, 182, 0, 156, 42, 180, 0, 7, 5, 46, 42, 27, 182, 0, 159, 184, 0, 162, 184, 0, 162]
abbrev dktX7_printsOne_0 : List UInt8 := dkwX7_printsOne_0 ++ dktX7_printsOne_1
theorem dksX7_printsOne_0 : cX7_printsOne.data.toList.drop 0 = dktX7_printsOne_0 := by decide +kernel
theorem dksX7_printsOne_1 : cX7_printsOne.data.toList.drop 24 = dktX7_printsOne_1 := dk_seg dksX7_printsOne_0 24 rfl rfl
theorem dX7_printsOne_0 : decode cX7_printsOne 0 = .ok (.aload_n 0, 1) := dk_42 (dk_at dksX7_printsOne_0 0 rfl rfl)
theorem dX7_printsOne_1 : decode cX7_printsOne 1 = .ok (.iload_n 1, 1) := dk_27 (dk_at dksX7_printsOne_0 1 rfl rfl)
theorem dX7_printsOne_2 : decode cX7_printsOne 2 = .ok (.aload_n 0, 1) := dk_42 (dk_at dksX7_printsOne_0 2 rfl rfl)
theorem dX7_printsOne_3 : decode cX7_printsOne 3 = .ok (.iload_n 1, 1) := dk_27 (dk_at dksX7_printsOne_0 3 rfl rfl)
theorem dX7_printsOne_4 : decode cX7_printsOne 4 = .ok (.invokevirtual 156, 3) := dk_182 0 156 (dk_at dksX7_printsOne_0 4 rfl rfl)
theorem dX7_printsOne_7 : decode cX7_printsOne 7 = .ok (.aload_n 0, 1) := dk_42 (dk_at dksX7_printsOne_0 7 rfl rfl)
theorem dX7_printsOne_8 : decode cX7_printsOne 8 = .ok (.getfield 7, 3) := dk_180 0 7 (dk_at dksX7_printsOne_0 8 rfl rfl)
theorem dX7_printsOne_11 : decode cX7_printsOne 11 = .ok (.iconst 2, 1) := dk_5 (dk_at dksX7_printsOne_0 11 rfl rfl)
theorem dX7_printsOne_12 : decode cX7_printsOne 12 = .ok (.iaload, 1) := dk_46 (dk_at dksX7_printsOne_0 12 rfl rfl)
theorem dX7_printsOne_13 : decode cX7_printsOne 13 = .ok (.aload_n 0, 1) := dk_42 (dk_at dksX7_printsOne_0 13 rfl rfl)
theorem dX7_printsOne_14 : decode cX7_printsOne 14 = .ok (.iload_n 1, 1) := dk_27 (dk_at dksX7_printsOne_0 14 rfl rfl)
theorem dX7_printsOne_15 : decode cX7_printsOne 15 = .ok (.invokevirtual 159, 3) := dk_182 0 159 (dk_at dksX7_printsOne_0 15 rfl rfl)
theorem dX7_printsOne_18 : decode cX7_printsOne 18 = .ok (.invokestatic 162, 3) := dk_184 0 162 (dk_at dksX7_printsOne_0 18 rfl rfl)
theorem dX7_printsOne_21 : decode cX7_printsOne 21 = .ok (.invokestatic 162, 3) := dk_184 0 162 (dk_at dksX7_printsOne_0 21 rfl rfl)
theorem dX7_printsOne_24 : decode cX7_printsOne 24 = .ok (.invokevirtual 165, 3) := dk_182 0 165 (dk_at dksX7_printsOne_1 0 rfl rfl)
theorem dX7_printsOne_27 : decode cX7_printsOne 27 = .ok (.ireturn, 1) := dk_172 (dk_at dksX7_printsOne_1 3 rfl rfl)
abbrev cX7_less : ByteArray := prog_12_method_4_code
def yX7_less : MethodName := ⟨RX7, "less", "(II)I"⟩
def dkwX7_less_0 : List UInt8 := [26, 27, 162, 0, 7, 26, 167, 0, 4, 27, 172]
abbrev dktX7_less_0 : List UInt8 := dkwX7_less_0 ++ []
theorem dksX7_less_0 : cX7_less.data.toList.drop 0 = dktX7_less_0 := by decide +kernel
theorem dX7_less_0 : decode cX7_less 0 = .ok (.iload_n 0, 1) := dk_26 (dk_at dksX7_less_0 0 rfl rfl)
theorem dX7_less_1 : decode cX7_less 1 = .ok (.iload_n 1, 1) := dk_27 (dk_at dksX7_less_0 1 rfl rfl)
theorem dX7_less_2 : decode cX7_less 2 = .ok (.if_icmp .ge 7, 3) := dk_162 0 7 (dk_at dksX7_less_0 2 rfl rfl)
theorem dX7_less_5 : decode cX7_less 5 = .ok (.iload_n 0, 1) := dk_26 (dk_at dksX7_less_0 5 rfl rfl)
theorem dX7_less_6 : decode cX7_less 6 = .ok (.goto 4, 3) := dk_167 0 4 (dk_at dksX7_less_0 6 rfl rfl)
theorem dX7_less_9 : decode cX7_less 9 = .ok (.iload_n 1, 1) := dk_27 (dk_at dksX7_less_0 9 rfl rfl)
theorem dX7_less_10 : decode cX7_less 10 = .ok (.ireturn, 1) := dk_172 (dk_at dksX7_less_0 10 rfl rfl)
abbrev cX7_prints : ByteArray := prog_12_method_38_code
def yX7_prints : MethodName := ⟨RX7, "prints", "(II)I"⟩
def dkwX7_prints_3 : List UInt8 := [180, 0, 7, 16, 20, 7, 27, 104, 96, 5, 96, 92, 46, 28, 96, 79, 28, 172]
abbrev dktX7_prints_3 : List UInt8 := dkwX7_prints_3 ++ []
def dkwX7_prints_2 : List UInt8 := [180, 0, 7, 16, 8, 29, 96, 92, 46, 28, 100, 79, 42, 180, 0, 7, 16, 7, 92, 46, 28, 96, 79, 42]
abbrev dktX7_prints_2 : List UInt8 := dkwX7_prints_2 ++ dktX7_prints_3
def dkwX7_prints_1 : List UInt8 := [28, 96, 96, 79, 42, 180, 0, 7, 7, 29, 79, 42, 180, 0, 7, 5, 92, 46, 28, 100, 79, 42]
abbrev dktX7_prints_1 : List UInt8 := dkwX7_prints_1 ++ dktX7_prints_2
def dkwX7_prints_0 : List UInt8 := [42, 27, 3, 182, 0, 138, 62, 42, 180, 0, 7, 8, 92, 46, 42, 180, 0, 7, 7, 46, 29, 184, 0, 153]
abbrev dktX7_prints_0 : List UInt8 := dkwX7_prints_0 ++ dktX7_prints_1
theorem dksX7_prints_0 : cX7_prints.data.toList.drop 0 = dktX7_prints_0 := by decide +kernel
theorem dksX7_prints_1 : cX7_prints.data.toList.drop 24 = dktX7_prints_1 := dk_seg dksX7_prints_0 24 rfl rfl
theorem dksX7_prints_2 : cX7_prints.data.toList.drop 46 = dktX7_prints_2 := dk_seg dksX7_prints_1 22 rfl rfl
theorem dksX7_prints_3 : cX7_prints.data.toList.drop 70 = dktX7_prints_3 := dk_seg dksX7_prints_2 24 rfl rfl
theorem dX7_prints_0 : decode cX7_prints 0 = .ok (.aload_n 0, 1) := dk_42 (dk_at dksX7_prints_0 0 rfl rfl)
theorem dX7_prints_1 : decode cX7_prints 1 = .ok (.iload_n 1, 1) := dk_27 (dk_at dksX7_prints_0 1 rfl rfl)
theorem dX7_prints_2 : decode cX7_prints 2 = .ok (.iconst 0, 1) := dk_3 (dk_at dksX7_prints_0 2 rfl rfl)
theorem dX7_prints_3 : decode cX7_prints 3 = .ok (.invokevirtual 138, 3) := dk_182 0 138 (dk_at dksX7_prints_0 3 rfl rfl)
theorem dX7_prints_6 : decode cX7_prints 6 = .ok (.istore_n 3, 1) := dk_62 (dk_at dksX7_prints_0 6 rfl rfl)
theorem dX7_prints_7 : decode cX7_prints 7 = .ok (.aload_n 0, 1) := dk_42 (dk_at dksX7_prints_0 7 rfl rfl)
theorem dX7_prints_8 : decode cX7_prints 8 = .ok (.getfield 7, 3) := dk_180 0 7 (dk_at dksX7_prints_0 8 rfl rfl)
theorem dX7_prints_11 : decode cX7_prints 11 = .ok (.iconst 5, 1) := dk_8 (dk_at dksX7_prints_0 11 rfl rfl)
theorem dX7_prints_12 : decode cX7_prints 12 = .ok (.dup2, 1) := dk_92 (dk_at dksX7_prints_0 12 rfl rfl)
theorem dX7_prints_13 : decode cX7_prints 13 = .ok (.iaload, 1) := dk_46 (dk_at dksX7_prints_0 13 rfl rfl)
theorem dX7_prints_14 : decode cX7_prints 14 = .ok (.aload_n 0, 1) := dk_42 (dk_at dksX7_prints_0 14 rfl rfl)
theorem dX7_prints_15 : decode cX7_prints 15 = .ok (.getfield 7, 3) := dk_180 0 7 (dk_at dksX7_prints_0 15 rfl rfl)
theorem dX7_prints_18 : decode cX7_prints 18 = .ok (.iconst 4, 1) := dk_7 (dk_at dksX7_prints_0 18 rfl rfl)
theorem dX7_prints_19 : decode cX7_prints 19 = .ok (.iaload, 1) := dk_46 (dk_at dksX7_prints_0 19 rfl rfl)
theorem dX7_prints_20 : decode cX7_prints 20 = .ok (.iload_n 3, 1) := dk_29 (dk_at dksX7_prints_0 20 rfl rfl)
theorem dX7_prints_21 : decode cX7_prints 21 = .ok (.invokestatic 153, 3) := dk_184 0 153 (dk_at dksX7_prints_0 21 rfl rfl)
theorem dX7_prints_24 : decode cX7_prints 24 = .ok (.iload_n 2, 1) := dk_28 (dk_at dksX7_prints_1 0 rfl rfl)
theorem dX7_prints_25 : decode cX7_prints 25 = .ok (.iadd, 1) := dk_96 (dk_at dksX7_prints_1 1 rfl rfl)
theorem dX7_prints_26 : decode cX7_prints 26 = .ok (.iadd, 1) := dk_96 (dk_at dksX7_prints_1 2 rfl rfl)
theorem dX7_prints_27 : decode cX7_prints 27 = .ok (.iastore, 1) := dk_79 (dk_at dksX7_prints_1 3 rfl rfl)
theorem dX7_prints_28 : decode cX7_prints 28 = .ok (.aload_n 0, 1) := dk_42 (dk_at dksX7_prints_1 4 rfl rfl)
theorem dX7_prints_29 : decode cX7_prints 29 = .ok (.getfield 7, 3) := dk_180 0 7 (dk_at dksX7_prints_1 5 rfl rfl)
theorem dX7_prints_32 : decode cX7_prints 32 = .ok (.iconst 4, 1) := dk_7 (dk_at dksX7_prints_1 8 rfl rfl)
theorem dX7_prints_33 : decode cX7_prints 33 = .ok (.iload_n 3, 1) := dk_29 (dk_at dksX7_prints_1 9 rfl rfl)
theorem dX7_prints_34 : decode cX7_prints 34 = .ok (.iastore, 1) := dk_79 (dk_at dksX7_prints_1 10 rfl rfl)
theorem dX7_prints_35 : decode cX7_prints 35 = .ok (.aload_n 0, 1) := dk_42 (dk_at dksX7_prints_1 11 rfl rfl)
theorem dX7_prints_36 : decode cX7_prints 36 = .ok (.getfield 7, 3) := dk_180 0 7 (dk_at dksX7_prints_1 12 rfl rfl)
theorem dX7_prints_39 : decode cX7_prints 39 = .ok (.iconst 2, 1) := dk_5 (dk_at dksX7_prints_1 15 rfl rfl)
theorem dX7_prints_40 : decode cX7_prints 40 = .ok (.dup2, 1) := dk_92 (dk_at dksX7_prints_1 16 rfl rfl)
theorem dX7_prints_41 : decode cX7_prints 41 = .ok (.iaload, 1) := dk_46 (dk_at dksX7_prints_1 17 rfl rfl)
theorem dX7_prints_42 : decode cX7_prints 42 = .ok (.iload_n 2, 1) := dk_28 (dk_at dksX7_prints_1 18 rfl rfl)
theorem dX7_prints_43 : decode cX7_prints 43 = .ok (.isub, 1) := dk_100 (dk_at dksX7_prints_1 19 rfl rfl)
theorem dX7_prints_44 : decode cX7_prints 44 = .ok (.iastore, 1) := dk_79 (dk_at dksX7_prints_1 20 rfl rfl)
theorem dX7_prints_45 : decode cX7_prints 45 = .ok (.aload_n 0, 1) := dk_42 (dk_at dksX7_prints_1 21 rfl rfl)
theorem dX7_prints_46 : decode cX7_prints 46 = .ok (.getfield 7, 3) := dk_180 0 7 (dk_at dksX7_prints_2 0 rfl rfl)
theorem dX7_prints_49 : decode cX7_prints 49 = .ok (.bipush 8, 2) := dk_16 8 (dk_at dksX7_prints_2 3 rfl rfl)
theorem dX7_prints_51 : decode cX7_prints 51 = .ok (.iload_n 3, 1) := dk_29 (dk_at dksX7_prints_2 5 rfl rfl)
theorem dX7_prints_52 : decode cX7_prints 52 = .ok (.iadd, 1) := dk_96 (dk_at dksX7_prints_2 6 rfl rfl)
theorem dX7_prints_53 : decode cX7_prints 53 = .ok (.dup2, 1) := dk_92 (dk_at dksX7_prints_2 7 rfl rfl)
theorem dX7_prints_54 : decode cX7_prints 54 = .ok (.iaload, 1) := dk_46 (dk_at dksX7_prints_2 8 rfl rfl)
theorem dX7_prints_55 : decode cX7_prints 55 = .ok (.iload_n 2, 1) := dk_28 (dk_at dksX7_prints_2 9 rfl rfl)
theorem dX7_prints_56 : decode cX7_prints 56 = .ok (.isub, 1) := dk_100 (dk_at dksX7_prints_2 10 rfl rfl)
theorem dX7_prints_57 : decode cX7_prints 57 = .ok (.iastore, 1) := dk_79 (dk_at dksX7_prints_2 11 rfl rfl)
theorem dX7_prints_58 : decode cX7_prints 58 = .ok (.aload_n 0, 1) := dk_42 (dk_at dksX7_prints_2 12 rfl rfl)
theorem dX7_prints_59 : decode cX7_prints 59 = .ok (.getfield 7, 3) := dk_180 0 7 (dk_at dksX7_prints_2 13 rfl rfl)
theorem dX7_prints_62 : decode cX7_prints 62 = .ok (.bipush 7, 2) := dk_16 7 (dk_at dksX7_prints_2 16 rfl rfl)
theorem dX7_prints_64 : decode cX7_prints 64 = .ok (.dup2, 1) := dk_92 (dk_at dksX7_prints_2 18 rfl rfl)
theorem dX7_prints_65 : decode cX7_prints 65 = .ok (.iaload, 1) := dk_46 (dk_at dksX7_prints_2 19 rfl rfl)
theorem dX7_prints_66 : decode cX7_prints 66 = .ok (.iload_n 2, 1) := dk_28 (dk_at dksX7_prints_2 20 rfl rfl)
theorem dX7_prints_67 : decode cX7_prints 67 = .ok (.iadd, 1) := dk_96 (dk_at dksX7_prints_2 21 rfl rfl)
theorem dX7_prints_68 : decode cX7_prints 68 = .ok (.iastore, 1) := dk_79 (dk_at dksX7_prints_2 22 rfl rfl)
theorem dX7_prints_69 : decode cX7_prints 69 = .ok (.aload_n 0, 1) := dk_42 (dk_at dksX7_prints_2 23 rfl rfl)
theorem dX7_prints_70 : decode cX7_prints 70 = .ok (.getfield 7, 3) := dk_180 0 7 (dk_at dksX7_prints_3 0 rfl rfl)
theorem dX7_prints_73 : decode cX7_prints 73 = .ok (.bipush 20, 2) := dk_16 20 (dk_at dksX7_prints_3 3 rfl rfl)
theorem dX7_prints_75 : decode cX7_prints 75 = .ok (.iconst 4, 1) := dk_7 (dk_at dksX7_prints_3 5 rfl rfl)
theorem dX7_prints_76 : decode cX7_prints 76 = .ok (.iload_n 1, 1) := dk_27 (dk_at dksX7_prints_3 6 rfl rfl)
theorem dX7_prints_77 : decode cX7_prints 77 = .ok (.imul, 1) := dk_104 (dk_at dksX7_prints_3 7 rfl rfl)
theorem dX7_prints_78 : decode cX7_prints 78 = .ok (.iadd, 1) := dk_96 (dk_at dksX7_prints_3 8 rfl rfl)
theorem dX7_prints_79 : decode cX7_prints 79 = .ok (.iconst 2, 1) := dk_5 (dk_at dksX7_prints_3 9 rfl rfl)
theorem dX7_prints_80 : decode cX7_prints 80 = .ok (.iadd, 1) := dk_96 (dk_at dksX7_prints_3 10 rfl rfl)
theorem dX7_prints_81 : decode cX7_prints 81 = .ok (.dup2, 1) := dk_92 (dk_at dksX7_prints_3 11 rfl rfl)
theorem dX7_prints_82 : decode cX7_prints 82 = .ok (.iaload, 1) := dk_46 (dk_at dksX7_prints_3 12 rfl rfl)
theorem dX7_prints_83 : decode cX7_prints 83 = .ok (.iload_n 2, 1) := dk_28 (dk_at dksX7_prints_3 13 rfl rfl)
theorem dX7_prints_84 : decode cX7_prints 84 = .ok (.iadd, 1) := dk_96 (dk_at dksX7_prints_3 14 rfl rfl)
theorem dX7_prints_85 : decode cX7_prints 85 = .ok (.iastore, 1) := dk_79 (dk_at dksX7_prints_3 15 rfl rfl)
theorem dX7_prints_86 : decode cX7_prints 86 = .ok (.iload_n 2, 1) := dk_28 (dk_at dksX7_prints_3 16 rfl rfl)
theorem dX7_prints_87 : decode cX7_prints 87 = .ok (.ireturn, 1) := dk_172 (dk_at dksX7_prints_3 17 rfl rfl)
abbrev cX7_change : ByteArray := prog_12_method_36_code
def yX7_change : MethodName := ⟨RX7, "change", "(II)I"⟩
def dkwX7_change_0 : List UInt8 := [27, 26, 161, 0, 9, 27, 26, 100, 167, 0, 10, 5, 26, 27, 100, 104, 4, 96, 172]
abbrev dktX7_change_0 : List UInt8 := dkwX7_change_0 ++ []
theorem dksX7_change_0 : cX7_change.data.toList.drop 0 = dktX7_change_0 := by decide +kernel
theorem dX7_change_0 : decode cX7_change 0 = .ok (.iload_n 1, 1) := dk_27 (dk_at dksX7_change_0 0 rfl rfl)
theorem dX7_change_1 : decode cX7_change 1 = .ok (.iload_n 0, 1) := dk_26 (dk_at dksX7_change_0 1 rfl rfl)
theorem dX7_change_2 : decode cX7_change 2 = .ok (.if_icmp .lt 9, 3) := dk_161 0 9 (dk_at dksX7_change_0 2 rfl rfl)
theorem dX7_change_5 : decode cX7_change 5 = .ok (.iload_n 1, 1) := dk_27 (dk_at dksX7_change_0 5 rfl rfl)
theorem dX7_change_6 : decode cX7_change 6 = .ok (.iload_n 0, 1) := dk_26 (dk_at dksX7_change_0 6 rfl rfl)
theorem dX7_change_7 : decode cX7_change 7 = .ok (.isub, 1) := dk_100 (dk_at dksX7_change_0 7 rfl rfl)
theorem dX7_change_8 : decode cX7_change 8 = .ok (.goto 10, 3) := dk_167 0 10 (dk_at dksX7_change_0 8 rfl rfl)
theorem dX7_change_11 : decode cX7_change 11 = .ok (.iconst 2, 1) := dk_5 (dk_at dksX7_change_0 11 rfl rfl)
theorem dX7_change_12 : decode cX7_change 12 = .ok (.iload_n 0, 1) := dk_26 (dk_at dksX7_change_0 12 rfl rfl)
theorem dX7_change_13 : decode cX7_change 13 = .ok (.iload_n 1, 1) := dk_27 (dk_at dksX7_change_0 13 rfl rfl)
theorem dX7_change_14 : decode cX7_change 14 = .ok (.isub, 1) := dk_100 (dk_at dksX7_change_0 14 rfl rfl)
theorem dX7_change_15 : decode cX7_change 15 = .ok (.imul, 1) := dk_104 (dk_at dksX7_change_0 15 rfl rfl)
theorem dX7_change_16 : decode cX7_change 16 = .ok (.iconst 1, 1) := dk_4 (dk_at dksX7_change_0 16 rfl rfl)
theorem dX7_change_17 : decode cX7_change 17 = .ok (.iadd, 1) := dk_96 (dk_at dksX7_change_0 17 rfl rfl)
theorem dX7_change_18 : decode cX7_change 18 = .ok (.ireturn, 1) := dk_172 (dk_at dksX7_change_0 18 rfl rfl)
abbrev cX7_changeMinutes : ByteArray := prog_12_method_48_code
def yX7_changeMinutes : MethodName := ⟨RX7, "changeMinutes", "(II)I"⟩
def dkwX7_changeMinutes_1 : List UInt8 := [158, 0, 7, 3, 167, 0, 8, 27, 28, 184, 0, 153, 172]
abbrev dktX7_changeMinutes_1 : List UInt8 := dkwX7_changeMinutes_1 ++ []
def dkwX7_changeMinutes_0 : List UInt8 := [42, 27, 184, 0, 95, 153, 0, 14, 28, 184, 0, 95, 153, 0, 7, 4, 167, 0, 4, 3, 182, 0, 125]
abbrev dktX7_changeMinutes_0 : List UInt8 := dkwX7_changeMinutes_0 ++ dktX7_changeMinutes_1
theorem dksX7_changeMinutes_0 : cX7_changeMinutes.data.toList.drop 0 = dktX7_changeMinutes_0 := by decide +kernel
theorem dksX7_changeMinutes_1 : cX7_changeMinutes.data.toList.drop 23 = dktX7_changeMinutes_1 := dk_seg dksX7_changeMinutes_0 23 rfl rfl
theorem dX7_changeMinutes_0 : decode cX7_changeMinutes 0 = .ok (.aload_n 0, 1) := dk_42 (dk_at dksX7_changeMinutes_0 0 rfl rfl)
theorem dX7_changeMinutes_1 : decode cX7_changeMinutes 1 = .ok (.iload_n 1, 1) := dk_27 (dk_at dksX7_changeMinutes_0 1 rfl rfl)
theorem dX7_changeMinutes_2 : decode cX7_changeMinutes 2 = .ok (.invokestatic 95, 3) := dk_184 0 95 (dk_at dksX7_changeMinutes_0 2 rfl rfl)
theorem dX7_changeMinutes_5 : decode cX7_changeMinutes 5 = .ok (.ifCond .eq 14, 3) := dk_153 0 14 (dk_at dksX7_changeMinutes_0 5 rfl rfl)
theorem dX7_changeMinutes_8 : decode cX7_changeMinutes 8 = .ok (.iload_n 2, 1) := dk_28 (dk_at dksX7_changeMinutes_0 8 rfl rfl)
theorem dX7_changeMinutes_9 : decode cX7_changeMinutes 9 = .ok (.invokestatic 95, 3) := dk_184 0 95 (dk_at dksX7_changeMinutes_0 9 rfl rfl)
theorem dX7_changeMinutes_12 : decode cX7_changeMinutes 12 = .ok (.ifCond .eq 7, 3) := dk_153 0 7 (dk_at dksX7_changeMinutes_0 12 rfl rfl)
theorem dX7_changeMinutes_15 : decode cX7_changeMinutes 15 = .ok (.iconst 1, 1) := dk_4 (dk_at dksX7_changeMinutes_0 15 rfl rfl)
theorem dX7_changeMinutes_16 : decode cX7_changeMinutes 16 = .ok (.goto 4, 3) := dk_167 0 4 (dk_at dksX7_changeMinutes_0 16 rfl rfl)
theorem dX7_changeMinutes_19 : decode cX7_changeMinutes 19 = .ok (.iconst 0, 1) := dk_3 (dk_at dksX7_changeMinutes_0 19 rfl rfl)
theorem dX7_changeMinutes_20 : decode cX7_changeMinutes 20 = .ok (.invokevirtual 125, 3) := dk_182 0 125 (dk_at dksX7_changeMinutes_0 20 rfl rfl)
theorem dX7_changeMinutes_23 : decode cX7_changeMinutes 23 = .ok (.ifCond .le 7, 3) := dk_158 0 7 (dk_at dksX7_changeMinutes_1 0 rfl rfl)
theorem dX7_changeMinutes_26 : decode cX7_changeMinutes 26 = .ok (.iconst 0, 1) := dk_3 (dk_at dksX7_changeMinutes_1 3 rfl rfl)
theorem dX7_changeMinutes_27 : decode cX7_changeMinutes 27 = .ok (.goto 8, 3) := dk_167 0 8 (dk_at dksX7_changeMinutes_1 4 rfl rfl)
theorem dX7_changeMinutes_30 : decode cX7_changeMinutes 30 = .ok (.iload_n 1, 1) := dk_27 (dk_at dksX7_changeMinutes_1 7 rfl rfl)
theorem dX7_changeMinutes_31 : decode cX7_changeMinutes 31 = .ok (.iload_n 2, 1) := dk_28 (dk_at dksX7_changeMinutes_1 8 rfl rfl)
theorem dX7_changeMinutes_32 : decode cX7_changeMinutes 32 = .ok (.invokestatic 153, 3) := dk_184 0 153 (dk_at dksX7_changeMinutes_1 9 rfl rfl)
theorem dX7_changeMinutes_35 : decode cX7_changeMinutes 35 = .ok (.ireturn, 1) := dk_172 (dk_at dksX7_changeMinutes_1 12 rfl rfl)
abbrev cX7_pressColour : ByteArray := prog_12_method_49_code
def yX7_pressColour : MethodName := ⟨RX7, "pressColour", "()I"⟩
def dkwX7_pressColour_0 : List UInt8 := [42, 42, 180, 0, 7, 7, 46, 182, 0, 129, 172]
abbrev dktX7_pressColour_0 : List UInt8 := dkwX7_pressColour_0 ++ []
theorem dksX7_pressColour_0 : cX7_pressColour.data.toList.drop 0 = dktX7_pressColour_0 := by decide +kernel
theorem dX7_pressColour_0 : decode cX7_pressColour 0 = .ok (.aload_n 0, 1) := dk_42 (dk_at dksX7_pressColour_0 0 rfl rfl)
theorem dX7_pressColour_1 : decode cX7_pressColour 1 = .ok (.aload_n 0, 1) := dk_42 (dk_at dksX7_pressColour_0 1 rfl rfl)
theorem dX7_pressColour_2 : decode cX7_pressColour 2 = .ok (.getfield 7, 3) := dk_180 0 7 (dk_at dksX7_pressColour_0 2 rfl rfl)
theorem dX7_pressColour_5 : decode cX7_pressColour 5 = .ok (.iconst 4, 1) := dk_7 (dk_at dksX7_pressColour_0 5 rfl rfl)
theorem dX7_pressColour_6 : decode cX7_pressColour 6 = .ok (.iaload, 1) := dk_46 (dk_at dksX7_pressColour_0 6 rfl rfl)
theorem dX7_pressColour_7 : decode cX7_pressColour 7 = .ok (.invokevirtual 129, 3) := dk_182 0 129 (dk_at dksX7_pressColour_0 7 rfl rfl)
theorem dX7_pressColour_10 : decode cX7_pressColour 10 = .ok (.ireturn, 1) := dk_172 (dk_at dksX7_pressColour_0 10 rfl rfl)
abbrev cX7_fewestMinutes : ByteArray := prog_12_method_50_code
def yX7_fewestMinutes : MethodName := ⟨RX7, "fewestMinutes", "()I"⟩
def dkwX7_fewestMinutes_0 : List UInt8 := [42, 42, 182, 0, 189, 182, 0, 129, 172]
abbrev dktX7_fewestMinutes_0 : List UInt8 := dkwX7_fewestMinutes_0 ++ []
theorem dksX7_fewestMinutes_0 : cX7_fewestMinutes.data.toList.drop 0 = dktX7_fewestMinutes_0 := by decide +kernel
theorem dX7_fewestMinutes_0 : decode cX7_fewestMinutes 0 = .ok (.aload_n 0, 1) := dk_42 (dk_at dksX7_fewestMinutes_0 0 rfl rfl)
theorem dX7_fewestMinutes_1 : decode cX7_fewestMinutes 1 = .ok (.aload_n 0, 1) := dk_42 (dk_at dksX7_fewestMinutes_0 1 rfl rfl)
theorem dX7_fewestMinutes_2 : decode cX7_fewestMinutes 2 = .ok (.invokevirtual 189, 3) := dk_182 0 189 (dk_at dksX7_fewestMinutes_0 2 rfl rfl)
theorem dX7_fewestMinutes_5 : decode cX7_fewestMinutes 5 = .ok (.invokevirtual 129, 3) := dk_182 0 129 (dk_at dksX7_fewestMinutes_0 5 rfl rfl)
theorem dX7_fewestMinutes_8 : decode cX7_fewestMinutes 8 = .ok (.ireturn, 1) := dk_172 (dk_at dksX7_fewestMinutes_0 8 rfl rfl)
abbrev cX7_minutesOfBest : ByteArray := prog_12_method_47_code
def yX7_minutesOfBest : MethodName := ⟨RX7, "minutesOfBest", "()I"⟩
def dkwX7_minutesOfBest_0 : List UInt8 := [42, 182, 0, 182, 42, 180, 0, 22, 17, 3, 128, 42, 182, 0, 185, 96, 46, 172]
abbrev dktX7_minutesOfBest_0 : List UInt8 := dkwX7_minutesOfBest_0 ++ []
theorem dksX7_minutesOfBest_0 : cX7_minutesOfBest.data.toList.drop 0 = dktX7_minutesOfBest_0 := by decide +kernel
theorem dX7_minutesOfBest_0 : decode cX7_minutesOfBest 0 = .ok (.aload_n 0, 1) := dk_42 (dk_at dksX7_minutesOfBest_0 0 rfl rfl)
theorem dX7_minutesOfBest_1 : decode cX7_minutesOfBest 1 = .ok (.invokevirtual 182, 3) := dk_182 0 182 (dk_at dksX7_minutesOfBest_0 1 rfl rfl)
theorem dX7_minutesOfBest_4 : decode cX7_minutesOfBest 4 = .ok (.aload_n 0, 1) := dk_42 (dk_at dksX7_minutesOfBest_0 4 rfl rfl)
theorem dX7_minutesOfBest_5 : decode cX7_minutesOfBest 5 = .ok (.getfield 22, 3) := dk_180 0 22 (dk_at dksX7_minutesOfBest_0 5 rfl rfl)
theorem dX7_minutesOfBest_8 : decode cX7_minutesOfBest 8 = .ok (.sipush 896, 3) := dk_17 3 128 (dk_at dksX7_minutesOfBest_0 8 rfl rfl)
theorem dX7_minutesOfBest_11 : decode cX7_minutesOfBest 11 = .ok (.aload_n 0, 1) := dk_42 (dk_at dksX7_minutesOfBest_0 11 rfl rfl)
theorem dX7_minutesOfBest_12 : decode cX7_minutesOfBest 12 = .ok (.invokevirtual 185, 3) := dk_182 0 185 (dk_at dksX7_minutesOfBest_0 12 rfl rfl)
theorem dX7_minutesOfBest_15 : decode cX7_minutesOfBest 15 = .ok (.iadd, 1) := dk_96 (dk_at dksX7_minutesOfBest_0 15 rfl rfl)
theorem dX7_minutesOfBest_16 : decode cX7_minutesOfBest 16 = .ok (.iaload, 1) := dk_46 (dk_at dksX7_minutesOfBest_0 16 rfl rfl)
theorem dX7_minutesOfBest_17 : decode cX7_minutesOfBest 17 = .ok (.ireturn, 1) := dk_172 (dk_at dksX7_minutesOfBest_0 17 rfl rfl)
abbrev cX7_lay : ByteArray := prog_12_method_45_code
def yX7_lay : MethodName := ⟨RX7, "lay", "()V"⟩
def dkwX7_lay_5 : List UInt8 := [167, 255, 157, 132, 1, 1, 167, 255, 137, 177]
abbrev dktX7_lay_5 : List UInt8 := dkwX7_lay_5 ++ []
def dkwX7_lay_4 : List UInt8 := [132, 4, 1, 167, 255, 215, 42, 180, 0, 22, 17, 0, 128, 28, 104, 27, 96, 29, 79, 132, 2, 1]
abbrev dktX7_lay_4 : List UInt8 := dkwX7_lay_4 ++ dktX7_lay_5
def dkwX7_lay_3 : List UInt8 := [4, 126, 4, 160, 0, 18, 29, 42, 27, 28, 21, 4, 182, 0, 178, 184, 0, 162, 167, 0, 4, 29, 62]
abbrev dktX7_lay_3 : List UInt8 := dkwX7_lay_3 ++ dktX7_lay_4
def dkwX7_lay_2 : List UInt8 := [167, 0, 5, 18, 177, 62, 3, 54, 4, 21, 4, 42, 180, 0, 7, 3, 46, 162, 0, 36, 27, 21, 4, 122]
abbrev dktX7_lay_2 : List UInt8 := dkwX7_lay_2 ++ dktX7_lay_3
def dkwX7_lay_1 : List UInt8 := [16, 7, 162, 0, 16, 28, 42, 180, 0, 7, 3, 46, 161, 0, 6, 167, 0, 74, 27, 154, 0, 7, 3]
abbrev dktX7_lay_1 : List UInt8 := dkwX7_lay_1 ++ dktX7_lay_2
def dkwX7_lay_0 : List UInt8 := [3, 60, 27, 4, 42, 180, 0, 7, 3, 46, 120, 162, 0, 113, 3, 61, 28, 16, 7, 163, 0, 99, 28]
abbrev dktX7_lay_0 : List UInt8 := dkwX7_lay_0 ++ dktX7_lay_1
theorem dksX7_lay_0 : cX7_lay.data.toList.drop 0 = dktX7_lay_0 := by decide +kernel
theorem dksX7_lay_1 : cX7_lay.data.toList.drop 23 = dktX7_lay_1 := dk_seg dksX7_lay_0 23 rfl rfl
theorem dksX7_lay_2 : cX7_lay.data.toList.drop 46 = dktX7_lay_2 := dk_seg dksX7_lay_1 23 rfl rfl
theorem dksX7_lay_3 : cX7_lay.data.toList.drop 70 = dktX7_lay_3 := dk_seg dksX7_lay_2 24 rfl rfl
theorem dksX7_lay_4 : cX7_lay.data.toList.drop 93 = dktX7_lay_4 := dk_seg dksX7_lay_3 23 rfl rfl
theorem dksX7_lay_5 : cX7_lay.data.toList.drop 115 = dktX7_lay_5 := dk_seg dksX7_lay_4 22 rfl rfl
theorem dX7_lay_0 : decode cX7_lay 0 = .ok (.iconst 0, 1) := dk_3 (dk_at dksX7_lay_0 0 rfl rfl)
theorem dX7_lay_1 : decode cX7_lay 1 = .ok (.istore_n 1, 1) := dk_60 (dk_at dksX7_lay_0 1 rfl rfl)
theorem dX7_lay_2 : decode cX7_lay 2 = .ok (.iload_n 1, 1) := dk_27 (dk_at dksX7_lay_0 2 rfl rfl)
theorem dX7_lay_3 : decode cX7_lay 3 = .ok (.iconst 1, 1) := dk_4 (dk_at dksX7_lay_0 3 rfl rfl)
theorem dX7_lay_4 : decode cX7_lay 4 = .ok (.aload_n 0, 1) := dk_42 (dk_at dksX7_lay_0 4 rfl rfl)
theorem dX7_lay_5 : decode cX7_lay 5 = .ok (.getfield 7, 3) := dk_180 0 7 (dk_at dksX7_lay_0 5 rfl rfl)
theorem dX7_lay_8 : decode cX7_lay 8 = .ok (.iconst 0, 1) := dk_3 (dk_at dksX7_lay_0 8 rfl rfl)
theorem dX7_lay_9 : decode cX7_lay 9 = .ok (.iaload, 1) := dk_46 (dk_at dksX7_lay_0 9 rfl rfl)
theorem dX7_lay_10 : decode cX7_lay 10 = .ok (.ishl, 1) := dk_120 (dk_at dksX7_lay_0 10 rfl rfl)
theorem dX7_lay_11 : decode cX7_lay 11 = .ok (.if_icmp .ge 113, 3) := dk_162 0 113 (dk_at dksX7_lay_0 11 rfl rfl)
theorem dX7_lay_14 : decode cX7_lay 14 = .ok (.iconst 0, 1) := dk_3 (dk_at dksX7_lay_0 14 rfl rfl)
theorem dX7_lay_15 : decode cX7_lay 15 = .ok (.istore_n 2, 1) := dk_61 (dk_at dksX7_lay_0 15 rfl rfl)
theorem dX7_lay_16 : decode cX7_lay 16 = .ok (.iload_n 2, 1) := dk_28 (dk_at dksX7_lay_0 16 rfl rfl)
theorem dX7_lay_17 : decode cX7_lay 17 = .ok (.bipush 7, 2) := dk_16 7 (dk_at dksX7_lay_0 17 rfl rfl)
theorem dX7_lay_19 : decode cX7_lay 19 = .ok (.if_icmp .gt 99, 3) := dk_163 0 99 (dk_at dksX7_lay_0 19 rfl rfl)
theorem dX7_lay_22 : decode cX7_lay 22 = .ok (.iload_n 2, 1) := dk_28 (dk_at dksX7_lay_0 22 rfl rfl)
theorem dX7_lay_23 : decode cX7_lay 23 = .ok (.bipush 7, 2) := dk_16 7 (dk_at dksX7_lay_1 0 rfl rfl)
theorem dX7_lay_25 : decode cX7_lay 25 = .ok (.if_icmp .ge 16, 3) := dk_162 0 16 (dk_at dksX7_lay_1 2 rfl rfl)
theorem dX7_lay_28 : decode cX7_lay 28 = .ok (.iload_n 2, 1) := dk_28 (dk_at dksX7_lay_1 5 rfl rfl)
theorem dX7_lay_29 : decode cX7_lay 29 = .ok (.aload_n 0, 1) := dk_42 (dk_at dksX7_lay_1 6 rfl rfl)
theorem dX7_lay_30 : decode cX7_lay 30 = .ok (.getfield 7, 3) := dk_180 0 7 (dk_at dksX7_lay_1 7 rfl rfl)
theorem dX7_lay_33 : decode cX7_lay 33 = .ok (.iconst 0, 1) := dk_3 (dk_at dksX7_lay_1 10 rfl rfl)
theorem dX7_lay_34 : decode cX7_lay 34 = .ok (.iaload, 1) := dk_46 (dk_at dksX7_lay_1 11 rfl rfl)
theorem dX7_lay_35 : decode cX7_lay 35 = .ok (.if_icmp .lt 6, 3) := dk_161 0 6 (dk_at dksX7_lay_1 12 rfl rfl)
theorem dX7_lay_38 : decode cX7_lay 38 = .ok (.goto 74, 3) := dk_167 0 74 (dk_at dksX7_lay_1 15 rfl rfl)
theorem dX7_lay_41 : decode cX7_lay 41 = .ok (.iload_n 1, 1) := dk_27 (dk_at dksX7_lay_1 18 rfl rfl)
theorem dX7_lay_42 : decode cX7_lay 42 = .ok (.ifCond .ne 7, 3) := dk_154 0 7 (dk_at dksX7_lay_1 19 rfl rfl)
theorem dX7_lay_45 : decode cX7_lay 45 = .ok (.iconst 0, 1) := dk_3 (dk_at dksX7_lay_1 22 rfl rfl)
theorem dX7_lay_46 : decode cX7_lay 46 = .ok (.goto 5, 3) := dk_167 0 5 (dk_at dksX7_lay_2 0 rfl rfl)
theorem dX7_lay_49 : decode cX7_lay 49 = .ok (.ldc 177, 2) := dk_18 177 (dk_at dksX7_lay_2 3 rfl rfl)
theorem dX7_lay_51 : decode cX7_lay 51 = .ok (.istore_n 3, 1) := dk_62 (dk_at dksX7_lay_2 5 rfl rfl)
theorem dX7_lay_52 : decode cX7_lay 52 = .ok (.iconst 0, 1) := dk_3 (dk_at dksX7_lay_2 6 rfl rfl)
theorem dX7_lay_53 : decode cX7_lay 53 = .ok (.istore 4, 2) := dk_54 4 (dk_at dksX7_lay_2 7 rfl rfl)
theorem dX7_lay_55 : decode cX7_lay 55 = .ok (.iload 4, 2) := dk_21 4 (dk_at dksX7_lay_2 9 rfl rfl)
theorem dX7_lay_57 : decode cX7_lay 57 = .ok (.aload_n 0, 1) := dk_42 (dk_at dksX7_lay_2 11 rfl rfl)
theorem dX7_lay_58 : decode cX7_lay 58 = .ok (.getfield 7, 3) := dk_180 0 7 (dk_at dksX7_lay_2 12 rfl rfl)
theorem dX7_lay_61 : decode cX7_lay 61 = .ok (.iconst 0, 1) := dk_3 (dk_at dksX7_lay_2 15 rfl rfl)
theorem dX7_lay_62 : decode cX7_lay 62 = .ok (.iaload, 1) := dk_46 (dk_at dksX7_lay_2 16 rfl rfl)
theorem dX7_lay_63 : decode cX7_lay 63 = .ok (.if_icmp .ge 36, 3) := dk_162 0 36 (dk_at dksX7_lay_2 17 rfl rfl)
theorem dX7_lay_66 : decode cX7_lay 66 = .ok (.iload_n 1, 1) := dk_27 (dk_at dksX7_lay_2 20 rfl rfl)
theorem dX7_lay_67 : decode cX7_lay 67 = .ok (.iload 4, 2) := dk_21 4 (dk_at dksX7_lay_2 21 rfl rfl)
theorem dX7_lay_69 : decode cX7_lay 69 = .ok (.ishr, 1) := dk_122 (dk_at dksX7_lay_2 23 rfl rfl)
theorem dX7_lay_70 : decode cX7_lay 70 = .ok (.iconst 1, 1) := dk_4 (dk_at dksX7_lay_3 0 rfl rfl)
theorem dX7_lay_71 : decode cX7_lay 71 = .ok (.iand, 1) := dk_126 (dk_at dksX7_lay_3 1 rfl rfl)
theorem dX7_lay_72 : decode cX7_lay 72 = .ok (.iconst 1, 1) := dk_4 (dk_at dksX7_lay_3 2 rfl rfl)
theorem dX7_lay_73 : decode cX7_lay 73 = .ok (.if_icmp .ne 18, 3) := dk_160 0 18 (dk_at dksX7_lay_3 3 rfl rfl)
theorem dX7_lay_76 : decode cX7_lay 76 = .ok (.iload_n 3, 1) := dk_29 (dk_at dksX7_lay_3 6 rfl rfl)
theorem dX7_lay_77 : decode cX7_lay 77 = .ok (.aload_n 0, 1) := dk_42 (dk_at dksX7_lay_3 7 rfl rfl)
theorem dX7_lay_78 : decode cX7_lay 78 = .ok (.iload_n 1, 1) := dk_27 (dk_at dksX7_lay_3 8 rfl rfl)
theorem dX7_lay_79 : decode cX7_lay 79 = .ok (.iload_n 2, 1) := dk_28 (dk_at dksX7_lay_3 9 rfl rfl)
theorem dX7_lay_80 : decode cX7_lay 80 = .ok (.iload 4, 2) := dk_21 4 (dk_at dksX7_lay_3 10 rfl rfl)
theorem dX7_lay_82 : decode cX7_lay 82 = .ok (.invokevirtual 178, 3) := dk_182 0 178 (dk_at dksX7_lay_3 12 rfl rfl)
theorem dX7_lay_85 : decode cX7_lay 85 = .ok (.invokestatic 162, 3) := dk_184 0 162 (dk_at dksX7_lay_3 15 rfl rfl)
theorem dX7_lay_88 : decode cX7_lay 88 = .ok (.goto 4, 3) := dk_167 0 4 (dk_at dksX7_lay_3 18 rfl rfl)
theorem dX7_lay_91 : decode cX7_lay 91 = .ok (.iload_n 3, 1) := dk_29 (dk_at dksX7_lay_3 21 rfl rfl)
theorem dX7_lay_92 : decode cX7_lay 92 = .ok (.istore_n 3, 1) := dk_62 (dk_at dksX7_lay_3 22 rfl rfl)
theorem dX7_lay_93 : decode cX7_lay 93 = .ok (.iinc 4 1, 3) := dk_132 4 1 (dk_at dksX7_lay_4 0 rfl rfl)
theorem dX7_lay_96 : decode cX7_lay 96 = .ok (.goto (-41), 3) := dk_167 255 215 (dk_at dksX7_lay_4 3 rfl rfl)
theorem dX7_lay_99 : decode cX7_lay 99 = .ok (.aload_n 0, 1) := dk_42 (dk_at dksX7_lay_4 6 rfl rfl)
theorem dX7_lay_100 : decode cX7_lay 100 = .ok (.getfield 22, 3) := dk_180 0 22 (dk_at dksX7_lay_4 7 rfl rfl)
theorem dX7_lay_103 : decode cX7_lay 103 = .ok (.sipush 128, 3) := dk_17 0 128 (dk_at dksX7_lay_4 10 rfl rfl)
theorem dX7_lay_106 : decode cX7_lay 106 = .ok (.iload_n 2, 1) := dk_28 (dk_at dksX7_lay_4 13 rfl rfl)
theorem dX7_lay_107 : decode cX7_lay 107 = .ok (.imul, 1) := dk_104 (dk_at dksX7_lay_4 14 rfl rfl)
theorem dX7_lay_108 : decode cX7_lay 108 = .ok (.iload_n 1, 1) := dk_27 (dk_at dksX7_lay_4 15 rfl rfl)
theorem dX7_lay_109 : decode cX7_lay 109 = .ok (.iadd, 1) := dk_96 (dk_at dksX7_lay_4 16 rfl rfl)
theorem dX7_lay_110 : decode cX7_lay 110 = .ok (.iload_n 3, 1) := dk_29 (dk_at dksX7_lay_4 17 rfl rfl)
theorem dX7_lay_111 : decode cX7_lay 111 = .ok (.iastore, 1) := dk_79 (dk_at dksX7_lay_4 18 rfl rfl)
theorem dX7_lay_112 : decode cX7_lay 112 = .ok (.iinc 2 1, 3) := dk_132 2 1 (dk_at dksX7_lay_4 19 rfl rfl)
theorem dX7_lay_115 : decode cX7_lay 115 = .ok (.goto (-99), 3) := dk_167 255 157 (dk_at dksX7_lay_5 0 rfl rfl)
theorem dX7_lay_118 : decode cX7_lay 118 = .ok (.iinc 1 1, 3) := dk_132 1 1 (dk_at dksX7_lay_5 3 rfl rfl)
theorem dX7_lay_121 : decode cX7_lay 121 = .ok (.goto (-119), 3) := dk_167 255 137 (dk_at dksX7_lay_5 6 rfl rfl)
theorem dX7_lay_124 : decode cX7_lay 124 = .ok (.return_, 1) := dk_177 (dk_at dksX7_lay_5 9 rfl rfl)
abbrev cX7_with : ByteArray := prog_12_method_44_code
def yX7_with : MethodName := ⟨RX7, "with", "(III)I"⟩
def dkwX7_with_1 : List UInt8 := [96, 172]
abbrev dktX7_with_1 : List UInt8 := dkwX7_with_1 ++ []
def dkwX7_with_0 : List UInt8 := [42, 28, 29, 182, 0, 174, 42, 180, 0, 22, 17, 0, 128, 29, 104, 27, 4, 29, 120, 2, 130, 126, 96, 46]
abbrev dktX7_with_0 : List UInt8 := dkwX7_with_0 ++ dktX7_with_1
theorem dksX7_with_0 : cX7_with.data.toList.drop 0 = dktX7_with_0 := by decide +kernel
theorem dksX7_with_1 : cX7_with.data.toList.drop 24 = dktX7_with_1 := dk_seg dksX7_with_0 24 rfl rfl
theorem dX7_with_0 : decode cX7_with 0 = .ok (.aload_n 0, 1) := dk_42 (dk_at dksX7_with_0 0 rfl rfl)
theorem dX7_with_1 : decode cX7_with 1 = .ok (.iload_n 2, 1) := dk_28 (dk_at dksX7_with_0 1 rfl rfl)
theorem dX7_with_2 : decode cX7_with 2 = .ok (.iload_n 3, 1) := dk_29 (dk_at dksX7_with_0 2 rfl rfl)
theorem dX7_with_3 : decode cX7_with 3 = .ok (.invokevirtual 174, 3) := dk_182 0 174 (dk_at dksX7_with_0 3 rfl rfl)
theorem dX7_with_6 : decode cX7_with 6 = .ok (.aload_n 0, 1) := dk_42 (dk_at dksX7_with_0 6 rfl rfl)
theorem dX7_with_7 : decode cX7_with 7 = .ok (.getfield 22, 3) := dk_180 0 22 (dk_at dksX7_with_0 7 rfl rfl)
theorem dX7_with_10 : decode cX7_with 10 = .ok (.sipush 128, 3) := dk_17 0 128 (dk_at dksX7_with_0 10 rfl rfl)
theorem dX7_with_13 : decode cX7_with 13 = .ok (.iload_n 3, 1) := dk_29 (dk_at dksX7_with_0 13 rfl rfl)
theorem dX7_with_14 : decode cX7_with 14 = .ok (.imul, 1) := dk_104 (dk_at dksX7_with_0 14 rfl rfl)
theorem dX7_with_15 : decode cX7_with 15 = .ok (.iload_n 1, 1) := dk_27 (dk_at dksX7_with_0 15 rfl rfl)
theorem dX7_with_16 : decode cX7_with 16 = .ok (.iconst 1, 1) := dk_4 (dk_at dksX7_with_0 16 rfl rfl)
theorem dX7_with_17 : decode cX7_with 17 = .ok (.iload_n 3, 1) := dk_29 (dk_at dksX7_with_0 17 rfl rfl)
theorem dX7_with_18 : decode cX7_with 18 = .ok (.ishl, 1) := dk_120 (dk_at dksX7_with_0 18 rfl rfl)
theorem dX7_with_19 : decode cX7_with 19 = .ok (.iconst (-1), 1) := dk_2 (dk_at dksX7_with_0 19 rfl rfl)
theorem dX7_with_20 : decode cX7_with 20 = .ok (.ixor, 1) := dk_130 (dk_at dksX7_with_0 20 rfl rfl)
theorem dX7_with_21 : decode cX7_with 21 = .ok (.iand, 1) := dk_126 (dk_at dksX7_with_0 21 rfl rfl)
theorem dX7_with_22 : decode cX7_with 22 = .ok (.iadd, 1) := dk_96 (dk_at dksX7_with_0 22 rfl rfl)
theorem dX7_with_23 : decode cX7_with 23 = .ok (.iaload, 1) := dk_46 (dk_at dksX7_with_0 23 rfl rfl)
theorem dX7_with_24 : decode cX7_with 24 = .ok (.iadd, 1) := dk_96 (dk_at dksX7_with_1 0 rfl rfl)
theorem dX7_with_25 : decode cX7_with 25 = .ok (.ireturn, 1) := dk_172 (dk_at dksX7_with_1 1 rfl rfl)
abbrev cX7_changeTo : ByteArray := prog_12_method_43_code
def yX7_changeTo : MethodName := ⟨RX7, "changeTo", "(II)I"⟩
def dkwX7_changeTo_1 : List UInt8 := [182, 0, 138, 184, 0, 153, 172]
abbrev dktX7_changeTo_1 : List UInt8 := dkwX7_changeTo_1 ++ []
def dkwX7_changeTo_0 : List UInt8 := [27, 16, 7, 160, 0, 12, 42, 180, 0, 7, 7, 46, 167, 0, 9, 42, 27, 3, 182, 0, 138, 42, 28, 3]
abbrev dktX7_changeTo_0 : List UInt8 := dkwX7_changeTo_0 ++ dktX7_changeTo_1
theorem dksX7_changeTo_0 : cX7_changeTo.data.toList.drop 0 = dktX7_changeTo_0 := by decide +kernel
theorem dksX7_changeTo_1 : cX7_changeTo.data.toList.drop 24 = dktX7_changeTo_1 := dk_seg dksX7_changeTo_0 24 rfl rfl
theorem dX7_changeTo_0 : decode cX7_changeTo 0 = .ok (.iload_n 1, 1) := dk_27 (dk_at dksX7_changeTo_0 0 rfl rfl)
theorem dX7_changeTo_1 : decode cX7_changeTo 1 = .ok (.bipush 7, 2) := dk_16 7 (dk_at dksX7_changeTo_0 1 rfl rfl)
theorem dX7_changeTo_3 : decode cX7_changeTo 3 = .ok (.if_icmp .ne 12, 3) := dk_160 0 12 (dk_at dksX7_changeTo_0 3 rfl rfl)
theorem dX7_changeTo_6 : decode cX7_changeTo 6 = .ok (.aload_n 0, 1) := dk_42 (dk_at dksX7_changeTo_0 6 rfl rfl)
theorem dX7_changeTo_7 : decode cX7_changeTo 7 = .ok (.getfield 7, 3) := dk_180 0 7 (dk_at dksX7_changeTo_0 7 rfl rfl)
theorem dX7_changeTo_10 : decode cX7_changeTo 10 = .ok (.iconst 4, 1) := dk_7 (dk_at dksX7_changeTo_0 10 rfl rfl)
theorem dX7_changeTo_11 : decode cX7_changeTo 11 = .ok (.iaload, 1) := dk_46 (dk_at dksX7_changeTo_0 11 rfl rfl)
theorem dX7_changeTo_12 : decode cX7_changeTo 12 = .ok (.goto 9, 3) := dk_167 0 9 (dk_at dksX7_changeTo_0 12 rfl rfl)
theorem dX7_changeTo_15 : decode cX7_changeTo 15 = .ok (.aload_n 0, 1) := dk_42 (dk_at dksX7_changeTo_0 15 rfl rfl)
theorem dX7_changeTo_16 : decode cX7_changeTo 16 = .ok (.iload_n 1, 1) := dk_27 (dk_at dksX7_changeTo_0 16 rfl rfl)
theorem dX7_changeTo_17 : decode cX7_changeTo 17 = .ok (.iconst 0, 1) := dk_3 (dk_at dksX7_changeTo_0 17 rfl rfl)
theorem dX7_changeTo_18 : decode cX7_changeTo 18 = .ok (.invokevirtual 138, 3) := dk_182 0 138 (dk_at dksX7_changeTo_0 18 rfl rfl)
theorem dX7_changeTo_21 : decode cX7_changeTo 21 = .ok (.aload_n 0, 1) := dk_42 (dk_at dksX7_changeTo_0 21 rfl rfl)
theorem dX7_changeTo_22 : decode cX7_changeTo 22 = .ok (.iload_n 2, 1) := dk_28 (dk_at dksX7_changeTo_0 22 rfl rfl)
theorem dX7_changeTo_23 : decode cX7_changeTo 23 = .ok (.iconst 0, 1) := dk_3 (dk_at dksX7_changeTo_0 23 rfl rfl)
theorem dX7_changeTo_24 : decode cX7_changeTo 24 = .ok (.invokevirtual 138, 3) := dk_182 0 138 (dk_at dksX7_changeTo_1 0 rfl rfl)
theorem dX7_changeTo_27 : decode cX7_changeTo 27 = .ok (.invokestatic 153, 3) := dk_184 0 153 (dk_at dksX7_changeTo_1 3 rfl rfl)
theorem dX7_changeTo_30 : decode cX7_changeTo 30 = .ok (.ireturn, 1) := dk_172 (dk_at dksX7_changeTo_1 6 rfl rfl)
abbrev cX7_open : ByteArray := prog_12_method_42_code
def yX7_open : MethodName := ⟨RX7, "open", "()I"⟩
def dkwX7_open_1 : List UInt8 := [28, 120, 167, 0, 4, 3, 128, 60, 132, 2, 1, 167, 255, 225, 27, 172]
abbrev dktX7_open_1 : List UInt8 := dkwX7_open_1 ++ []
def dkwX7_open_0 : List UInt8 := [3, 60, 3, 61, 28, 42, 180, 0, 7, 3, 46, 162, 0, 27, 27, 42, 28, 182, 0, 156, 158, 0, 9, 4]
abbrev dktX7_open_0 : List UInt8 := dkwX7_open_0 ++ dktX7_open_1
theorem dksX7_open_0 : cX7_open.data.toList.drop 0 = dktX7_open_0 := by decide +kernel
theorem dksX7_open_1 : cX7_open.data.toList.drop 24 = dktX7_open_1 := dk_seg dksX7_open_0 24 rfl rfl
theorem dX7_open_0 : decode cX7_open 0 = .ok (.iconst 0, 1) := dk_3 (dk_at dksX7_open_0 0 rfl rfl)
theorem dX7_open_1 : decode cX7_open 1 = .ok (.istore_n 1, 1) := dk_60 (dk_at dksX7_open_0 1 rfl rfl)
theorem dX7_open_2 : decode cX7_open 2 = .ok (.iconst 0, 1) := dk_3 (dk_at dksX7_open_0 2 rfl rfl)
theorem dX7_open_3 : decode cX7_open 3 = .ok (.istore_n 2, 1) := dk_61 (dk_at dksX7_open_0 3 rfl rfl)
theorem dX7_open_4 : decode cX7_open 4 = .ok (.iload_n 2, 1) := dk_28 (dk_at dksX7_open_0 4 rfl rfl)
theorem dX7_open_5 : decode cX7_open 5 = .ok (.aload_n 0, 1) := dk_42 (dk_at dksX7_open_0 5 rfl rfl)
theorem dX7_open_6 : decode cX7_open 6 = .ok (.getfield 7, 3) := dk_180 0 7 (dk_at dksX7_open_0 6 rfl rfl)
theorem dX7_open_9 : decode cX7_open 9 = .ok (.iconst 0, 1) := dk_3 (dk_at dksX7_open_0 9 rfl rfl)
theorem dX7_open_10 : decode cX7_open 10 = .ok (.iaload, 1) := dk_46 (dk_at dksX7_open_0 10 rfl rfl)
theorem dX7_open_11 : decode cX7_open 11 = .ok (.if_icmp .ge 27, 3) := dk_162 0 27 (dk_at dksX7_open_0 11 rfl rfl)
theorem dX7_open_14 : decode cX7_open 14 = .ok (.iload_n 1, 1) := dk_27 (dk_at dksX7_open_0 14 rfl rfl)
theorem dX7_open_15 : decode cX7_open 15 = .ok (.aload_n 0, 1) := dk_42 (dk_at dksX7_open_0 15 rfl rfl)
theorem dX7_open_16 : decode cX7_open 16 = .ok (.iload_n 2, 1) := dk_28 (dk_at dksX7_open_0 16 rfl rfl)
theorem dX7_open_17 : decode cX7_open 17 = .ok (.invokevirtual 156, 3) := dk_182 0 156 (dk_at dksX7_open_0 17 rfl rfl)
theorem dX7_open_20 : decode cX7_open 20 = .ok (.ifCond .le 9, 3) := dk_158 0 9 (dk_at dksX7_open_0 20 rfl rfl)
theorem dX7_open_23 : decode cX7_open 23 = .ok (.iconst 1, 1) := dk_4 (dk_at dksX7_open_0 23 rfl rfl)
theorem dX7_open_24 : decode cX7_open 24 = .ok (.iload_n 2, 1) := dk_28 (dk_at dksX7_open_1 0 rfl rfl)
theorem dX7_open_25 : decode cX7_open 25 = .ok (.ishl, 1) := dk_120 (dk_at dksX7_open_1 1 rfl rfl)
theorem dX7_open_26 : decode cX7_open 26 = .ok (.goto 4, 3) := dk_167 0 4 (dk_at dksX7_open_1 2 rfl rfl)
theorem dX7_open_29 : decode cX7_open 29 = .ok (.iconst 0, 1) := dk_3 (dk_at dksX7_open_1 5 rfl rfl)
theorem dX7_open_30 : decode cX7_open 30 = .ok (.ior, 1) := dk_128 (dk_at dksX7_open_1 6 rfl rfl)
theorem dX7_open_31 : decode cX7_open 31 = .ok (.istore_n 1, 1) := dk_60 (dk_at dksX7_open_1 7 rfl rfl)
theorem dX7_open_32 : decode cX7_open 32 = .ok (.iinc 2 1, 3) := dk_132 2 1 (dk_at dksX7_open_1 8 rfl rfl)
theorem dX7_open_35 : decode cX7_open 35 = .ok (.goto (-31), 3) := dk_167 255 225 (dk_at dksX7_open_1 11 rfl rfl)
theorem dX7_open_38 : decode cX7_open 38 = .ok (.iload_n 1, 1) := dk_27 (dk_at dksX7_open_1 14 rfl rfl)
theorem dX7_open_39 : decode cX7_open 39 = .ok (.ireturn, 1) := dk_172 (dk_at dksX7_open_1 15 rfl rfl)
abbrev cX7_minutesByOrders : ByteArray := prog_12_method_51_code
def yX7_minutesByOrders : MethodName := ⟨RX7, "minutesByOrders", "()I"⟩
def dkwX7_minutesByOrders_0 : List UInt8 := [42, 42, 182, 0, 189, 182, 0, 129, 172]
abbrev dktX7_minutesByOrders_0 : List UInt8 := dkwX7_minutesByOrders_0 ++ []
theorem dksX7_minutesByOrders_0 : cX7_minutesByOrders.data.toList.drop 0 = dktX7_minutesByOrders_0 := by decide +kernel
theorem dX7_minutesByOrders_0 : decode cX7_minutesByOrders 0 = .ok (.aload_n 0, 1) := dk_42 (dk_at dksX7_minutesByOrders_0 0 rfl rfl)
theorem dX7_minutesByOrders_1 : decode cX7_minutesByOrders 1 = .ok (.aload_n 0, 1) := dk_42 (dk_at dksX7_minutesByOrders_0 1 rfl rfl)
theorem dX7_minutesByOrders_2 : decode cX7_minutesByOrders 2 = .ok (.invokevirtual 189, 3) := dk_182 0 189 (dk_at dksX7_minutesByOrders_0 2 rfl rfl)
theorem dX7_minutesByOrders_5 : decode cX7_minutesByOrders 5 = .ok (.invokevirtual 129, 3) := dk_182 0 129 (dk_at dksX7_minutesByOrders_0 5 rfl rfl)
theorem dX7_minutesByOrders_8 : decode cX7_minutesByOrders 8 = .ok (.ireturn, 1) := dk_172 (dk_at dksX7_minutesByOrders_0 8 rfl rfl)
abbrev cX7_editionAt : ByteArray := prog_12_method_52_code
def yX7_editionAt : MethodName := ⟨RX7, "editionAt", "(I)I"⟩
def dkwX7_editionAt_1 : List UInt8 := [42, 180, 0, 34, 27, 46, 172]
abbrev dktX7_editionAt_1 : List UInt8 := dkwX7_editionAt_1 ++ []
def dkwX7_editionAt_0 : List UInt8 := [42, 182, 0, 192, 61, 42, 27, 3, 28, 4, 100, 184, 0, 91, 182, 0, 125, 158, 0, 7, 3, 167, 0, 9]
abbrev dktX7_editionAt_0 : List UInt8 := dkwX7_editionAt_0 ++ dktX7_editionAt_1
theorem dksX7_editionAt_0 : cX7_editionAt.data.toList.drop 0 = dktX7_editionAt_0 := by decide +kernel
theorem dksX7_editionAt_1 : cX7_editionAt.data.toList.drop 24 = dktX7_editionAt_1 := dk_seg dksX7_editionAt_0 24 rfl rfl
theorem dX7_editionAt_0 : decode cX7_editionAt 0 = .ok (.aload_n 0, 1) := dk_42 (dk_at dksX7_editionAt_0 0 rfl rfl)
theorem dX7_editionAt_1 : decode cX7_editionAt 1 = .ok (.invokevirtual 192, 3) := dk_182 0 192 (dk_at dksX7_editionAt_0 1 rfl rfl)
theorem dX7_editionAt_4 : decode cX7_editionAt 4 = .ok (.istore_n 2, 1) := dk_61 (dk_at dksX7_editionAt_0 4 rfl rfl)
theorem dX7_editionAt_5 : decode cX7_editionAt 5 = .ok (.aload_n 0, 1) := dk_42 (dk_at dksX7_editionAt_0 5 rfl rfl)
theorem dX7_editionAt_6 : decode cX7_editionAt 6 = .ok (.iload_n 1, 1) := dk_27 (dk_at dksX7_editionAt_0 6 rfl rfl)
theorem dX7_editionAt_7 : decode cX7_editionAt 7 = .ok (.iconst 0, 1) := dk_3 (dk_at dksX7_editionAt_0 7 rfl rfl)
theorem dX7_editionAt_8 : decode cX7_editionAt 8 = .ok (.iload_n 2, 1) := dk_28 (dk_at dksX7_editionAt_0 8 rfl rfl)
theorem dX7_editionAt_9 : decode cX7_editionAt 9 = .ok (.iconst 1, 1) := dk_4 (dk_at dksX7_editionAt_0 9 rfl rfl)
theorem dX7_editionAt_10 : decode cX7_editionAt 10 = .ok (.isub, 1) := dk_100 (dk_at dksX7_editionAt_0 10 rfl rfl)
theorem dX7_editionAt_11 : decode cX7_editionAt 11 = .ok (.invokestatic 91, 3) := dk_184 0 91 (dk_at dksX7_editionAt_0 11 rfl rfl)
theorem dX7_editionAt_14 : decode cX7_editionAt 14 = .ok (.invokevirtual 125, 3) := dk_182 0 125 (dk_at dksX7_editionAt_0 14 rfl rfl)
theorem dX7_editionAt_17 : decode cX7_editionAt 17 = .ok (.ifCond .le 7, 3) := dk_158 0 7 (dk_at dksX7_editionAt_0 17 rfl rfl)
theorem dX7_editionAt_20 : decode cX7_editionAt 20 = .ok (.iconst 0, 1) := dk_3 (dk_at dksX7_editionAt_0 20 rfl rfl)
theorem dX7_editionAt_21 : decode cX7_editionAt 21 = .ok (.goto 9, 3) := dk_167 0 9 (dk_at dksX7_editionAt_0 21 rfl rfl)
theorem dX7_editionAt_24 : decode cX7_editionAt 24 = .ok (.aload_n 0, 1) := dk_42 (dk_at dksX7_editionAt_1 0 rfl rfl)
theorem dX7_editionAt_25 : decode cX7_editionAt 25 = .ok (.getfield 34, 3) := dk_180 0 34 (dk_at dksX7_editionAt_1 1 rfl rfl)
theorem dX7_editionAt_28 : decode cX7_editionAt 28 = .ok (.iload_n 1, 1) := dk_27 (dk_at dksX7_editionAt_1 4 rfl rfl)
theorem dX7_editionAt_29 : decode cX7_editionAt 29 = .ok (.iaload, 1) := dk_46 (dk_at dksX7_editionAt_1 5 rfl rfl)
theorem dX7_editionAt_30 : decode cX7_editionAt 30 = .ok (.ireturn, 1) := dk_172 (dk_at dksX7_editionAt_1 6 rfl rfl)
abbrev cX7_laysOrder : ByteArray := prog_12_method_46_code
def yX7_laysOrder : MethodName := ⟨RX7, "laysOrder", "()I"⟩
def dkwX7_laysOrder_3 : List UInt8 := [21, 4, 120, 2, 130, 126, 60, 21, 4, 61, 167, 255, 188, 29, 172]
abbrev dktX7_laysOrder_3 : List UInt8 := dkwX7_laysOrder_3 ++ []
def dkwX7_laysOrder_2 : List UInt8 := [96, 46, 159, 0, 9, 132, 4, 1, 167, 255, 221, 42, 180, 0, 34, 29, 21, 4, 79, 132, 3, 1, 27, 4]
abbrev dktX7_laysOrder_2 : List UInt8 := dkwX7_laysOrder_2 ++ dktX7_laysOrder_3
def dkwX7_laysOrder_1 : List UInt8 := [122, 4, 126, 153, 0, 26, 42, 27, 28, 21, 4, 182, 0, 178, 42, 180, 0, 22, 17, 0, 128, 28, 104, 27]
abbrev dktX7_laysOrder_1 : List UInt8 := dkwX7_laysOrder_1 ++ dktX7_laysOrder_2
def dkwX7_laysOrder_0 : List UInt8 := [42, 182, 0, 182, 42, 182, 0, 185, 60, 16, 7, 61, 3, 62, 27, 153, 0, 70, 3, 54, 4, 27, 21, 4]
abbrev dktX7_laysOrder_0 : List UInt8 := dkwX7_laysOrder_0 ++ dktX7_laysOrder_1
theorem dksX7_laysOrder_0 : cX7_laysOrder.data.toList.drop 0 = dktX7_laysOrder_0 := by decide +kernel
theorem dksX7_laysOrder_1 : cX7_laysOrder.data.toList.drop 24 = dktX7_laysOrder_1 := dk_seg dksX7_laysOrder_0 24 rfl rfl
theorem dksX7_laysOrder_2 : cX7_laysOrder.data.toList.drop 48 = dktX7_laysOrder_2 := dk_seg dksX7_laysOrder_1 24 rfl rfl
theorem dksX7_laysOrder_3 : cX7_laysOrder.data.toList.drop 72 = dktX7_laysOrder_3 := dk_seg dksX7_laysOrder_2 24 rfl rfl
theorem dX7_laysOrder_0 : decode cX7_laysOrder 0 = .ok (.aload_n 0, 1) := dk_42 (dk_at dksX7_laysOrder_0 0 rfl rfl)
theorem dX7_laysOrder_1 : decode cX7_laysOrder 1 = .ok (.invokevirtual 182, 3) := dk_182 0 182 (dk_at dksX7_laysOrder_0 1 rfl rfl)
theorem dX7_laysOrder_4 : decode cX7_laysOrder 4 = .ok (.aload_n 0, 1) := dk_42 (dk_at dksX7_laysOrder_0 4 rfl rfl)
theorem dX7_laysOrder_5 : decode cX7_laysOrder 5 = .ok (.invokevirtual 185, 3) := dk_182 0 185 (dk_at dksX7_laysOrder_0 5 rfl rfl)
theorem dX7_laysOrder_8 : decode cX7_laysOrder 8 = .ok (.istore_n 1, 1) := dk_60 (dk_at dksX7_laysOrder_0 8 rfl rfl)
theorem dX7_laysOrder_9 : decode cX7_laysOrder 9 = .ok (.bipush 7, 2) := dk_16 7 (dk_at dksX7_laysOrder_0 9 rfl rfl)
theorem dX7_laysOrder_11 : decode cX7_laysOrder 11 = .ok (.istore_n 2, 1) := dk_61 (dk_at dksX7_laysOrder_0 11 rfl rfl)
theorem dX7_laysOrder_12 : decode cX7_laysOrder 12 = .ok (.iconst 0, 1) := dk_3 (dk_at dksX7_laysOrder_0 12 rfl rfl)
theorem dX7_laysOrder_13 : decode cX7_laysOrder 13 = .ok (.istore_n 3, 1) := dk_62 (dk_at dksX7_laysOrder_0 13 rfl rfl)
theorem dX7_laysOrder_14 : decode cX7_laysOrder 14 = .ok (.iload_n 1, 1) := dk_27 (dk_at dksX7_laysOrder_0 14 rfl rfl)
theorem dX7_laysOrder_15 : decode cX7_laysOrder 15 = .ok (.ifCond .eq 70, 3) := dk_153 0 70 (dk_at dksX7_laysOrder_0 15 rfl rfl)
theorem dX7_laysOrder_18 : decode cX7_laysOrder 18 = .ok (.iconst 0, 1) := dk_3 (dk_at dksX7_laysOrder_0 18 rfl rfl)
theorem dX7_laysOrder_19 : decode cX7_laysOrder 19 = .ok (.istore 4, 2) := dk_54 4 (dk_at dksX7_laysOrder_0 19 rfl rfl)
theorem dX7_laysOrder_21 : decode cX7_laysOrder 21 = .ok (.iload_n 1, 1) := dk_27 (dk_at dksX7_laysOrder_0 21 rfl rfl)
theorem dX7_laysOrder_22 : decode cX7_laysOrder 22 = .ok (.iload 4, 2) := dk_21 4 (dk_at dksX7_laysOrder_0 22 rfl rfl)
theorem dX7_laysOrder_24 : decode cX7_laysOrder 24 = .ok (.ishr, 1) := dk_122 (dk_at dksX7_laysOrder_1 0 rfl rfl)
theorem dX7_laysOrder_25 : decode cX7_laysOrder 25 = .ok (.iconst 1, 1) := dk_4 (dk_at dksX7_laysOrder_1 1 rfl rfl)
theorem dX7_laysOrder_26 : decode cX7_laysOrder 26 = .ok (.iand, 1) := dk_126 (dk_at dksX7_laysOrder_1 2 rfl rfl)
theorem dX7_laysOrder_27 : decode cX7_laysOrder 27 = .ok (.ifCond .eq 26, 3) := dk_153 0 26 (dk_at dksX7_laysOrder_1 3 rfl rfl)
theorem dX7_laysOrder_30 : decode cX7_laysOrder 30 = .ok (.aload_n 0, 1) := dk_42 (dk_at dksX7_laysOrder_1 6 rfl rfl)
theorem dX7_laysOrder_31 : decode cX7_laysOrder 31 = .ok (.iload_n 1, 1) := dk_27 (dk_at dksX7_laysOrder_1 7 rfl rfl)
theorem dX7_laysOrder_32 : decode cX7_laysOrder 32 = .ok (.iload_n 2, 1) := dk_28 (dk_at dksX7_laysOrder_1 8 rfl rfl)
theorem dX7_laysOrder_33 : decode cX7_laysOrder 33 = .ok (.iload 4, 2) := dk_21 4 (dk_at dksX7_laysOrder_1 9 rfl rfl)
theorem dX7_laysOrder_35 : decode cX7_laysOrder 35 = .ok (.invokevirtual 178, 3) := dk_182 0 178 (dk_at dksX7_laysOrder_1 11 rfl rfl)
theorem dX7_laysOrder_38 : decode cX7_laysOrder 38 = .ok (.aload_n 0, 1) := dk_42 (dk_at dksX7_laysOrder_1 14 rfl rfl)
theorem dX7_laysOrder_39 : decode cX7_laysOrder 39 = .ok (.getfield 22, 3) := dk_180 0 22 (dk_at dksX7_laysOrder_1 15 rfl rfl)
theorem dX7_laysOrder_42 : decode cX7_laysOrder 42 = .ok (.sipush 128, 3) := dk_17 0 128 (dk_at dksX7_laysOrder_1 18 rfl rfl)
theorem dX7_laysOrder_45 : decode cX7_laysOrder 45 = .ok (.iload_n 2, 1) := dk_28 (dk_at dksX7_laysOrder_1 21 rfl rfl)
theorem dX7_laysOrder_46 : decode cX7_laysOrder 46 = .ok (.imul, 1) := dk_104 (dk_at dksX7_laysOrder_1 22 rfl rfl)
theorem dX7_laysOrder_47 : decode cX7_laysOrder 47 = .ok (.iload_n 1, 1) := dk_27 (dk_at dksX7_laysOrder_1 23 rfl rfl)
theorem dX7_laysOrder_48 : decode cX7_laysOrder 48 = .ok (.iadd, 1) := dk_96 (dk_at dksX7_laysOrder_2 0 rfl rfl)
theorem dX7_laysOrder_49 : decode cX7_laysOrder 49 = .ok (.iaload, 1) := dk_46 (dk_at dksX7_laysOrder_2 1 rfl rfl)
theorem dX7_laysOrder_50 : decode cX7_laysOrder 50 = .ok (.if_icmp .eq 9, 3) := dk_159 0 9 (dk_at dksX7_laysOrder_2 2 rfl rfl)
theorem dX7_laysOrder_53 : decode cX7_laysOrder 53 = .ok (.iinc 4 1, 3) := dk_132 4 1 (dk_at dksX7_laysOrder_2 5 rfl rfl)
theorem dX7_laysOrder_56 : decode cX7_laysOrder 56 = .ok (.goto (-35), 3) := dk_167 255 221 (dk_at dksX7_laysOrder_2 8 rfl rfl)
theorem dX7_laysOrder_59 : decode cX7_laysOrder 59 = .ok (.aload_n 0, 1) := dk_42 (dk_at dksX7_laysOrder_2 11 rfl rfl)
theorem dX7_laysOrder_60 : decode cX7_laysOrder 60 = .ok (.getfield 34, 3) := dk_180 0 34 (dk_at dksX7_laysOrder_2 12 rfl rfl)
theorem dX7_laysOrder_63 : decode cX7_laysOrder 63 = .ok (.iload_n 3, 1) := dk_29 (dk_at dksX7_laysOrder_2 15 rfl rfl)
theorem dX7_laysOrder_64 : decode cX7_laysOrder 64 = .ok (.iload 4, 2) := dk_21 4 (dk_at dksX7_laysOrder_2 16 rfl rfl)
theorem dX7_laysOrder_66 : decode cX7_laysOrder 66 = .ok (.iastore, 1) := dk_79 (dk_at dksX7_laysOrder_2 18 rfl rfl)
theorem dX7_laysOrder_67 : decode cX7_laysOrder 67 = .ok (.iinc 3 1, 3) := dk_132 3 1 (dk_at dksX7_laysOrder_2 19 rfl rfl)
theorem dX7_laysOrder_70 : decode cX7_laysOrder 70 = .ok (.iload_n 1, 1) := dk_27 (dk_at dksX7_laysOrder_2 22 rfl rfl)
theorem dX7_laysOrder_71 : decode cX7_laysOrder 71 = .ok (.iconst 1, 1) := dk_4 (dk_at dksX7_laysOrder_2 23 rfl rfl)
theorem dX7_laysOrder_72 : decode cX7_laysOrder 72 = .ok (.iload 4, 2) := dk_21 4 (dk_at dksX7_laysOrder_3 0 rfl rfl)
theorem dX7_laysOrder_74 : decode cX7_laysOrder 74 = .ok (.ishl, 1) := dk_120 (dk_at dksX7_laysOrder_3 2 rfl rfl)
theorem dX7_laysOrder_75 : decode cX7_laysOrder 75 = .ok (.iconst (-1), 1) := dk_2 (dk_at dksX7_laysOrder_3 3 rfl rfl)
theorem dX7_laysOrder_76 : decode cX7_laysOrder 76 = .ok (.ixor, 1) := dk_130 (dk_at dksX7_laysOrder_3 4 rfl rfl)
theorem dX7_laysOrder_77 : decode cX7_laysOrder 77 = .ok (.iand, 1) := dk_126 (dk_at dksX7_laysOrder_3 5 rfl rfl)
theorem dX7_laysOrder_78 : decode cX7_laysOrder 78 = .ok (.istore_n 1, 1) := dk_60 (dk_at dksX7_laysOrder_3 6 rfl rfl)
theorem dX7_laysOrder_79 : decode cX7_laysOrder 79 = .ok (.iload 4, 2) := dk_21 4 (dk_at dksX7_laysOrder_3 7 rfl rfl)
theorem dX7_laysOrder_81 : decode cX7_laysOrder 81 = .ok (.istore_n 2, 1) := dk_61 (dk_at dksX7_laysOrder_3 9 rfl rfl)
theorem dX7_laysOrder_82 : decode cX7_laysOrder 82 = .ok (.goto (-68), 3) := dk_167 255 188 (dk_at dksX7_laysOrder_3 10 rfl rfl)
theorem dX7_laysOrder_85 : decode cX7_laysOrder 85 = .ok (.iload_n 3, 1) := dk_29 (dk_at dksX7_laysOrder_3 13 rfl rfl)
theorem dX7_laysOrder_86 : decode cX7_laysOrder 86 = .ok (.ireturn, 1) := dk_172 (dk_at dksX7_laysOrder_3 14 rfl rfl)
abbrev cX7_shareOf : ByteArray := prog_12_method_56_code
def yX7_shareOf : MethodName := ⟨RX7, "shareOf", "(I)I"⟩
def dkwX7_shareOf_0 : List UInt8 := [42, 27, 182, 0, 201, 172]
abbrev dktX7_shareOf_0 : List UInt8 := dkwX7_shareOf_0 ++ []
theorem dksX7_shareOf_0 : cX7_shareOf.data.toList.drop 0 = dktX7_shareOf_0 := by decide +kernel
theorem dX7_shareOf_0 : decode cX7_shareOf 0 = .ok (.aload_n 0, 1) := dk_42 (dk_at dksX7_shareOf_0 0 rfl rfl)
theorem dX7_shareOf_1 : decode cX7_shareOf 1 = .ok (.iload_n 1, 1) := dk_27 (dk_at dksX7_shareOf_0 1 rfl rfl)
theorem dX7_shareOf_2 : decode cX7_shareOf 2 = .ok (.invokevirtual 201, 3) := dk_182 0 201 (dk_at dksX7_shareOf_0 2 rfl rfl)
theorem dX7_shareOf_5 : decode cX7_shareOf 5 = .ok (.ireturn, 1) := dk_172 (dk_at dksX7_shareOf_0 5 rfl rfl)
abbrev cX7_sharing : ByteArray := prog_12_method_55_code
def yX7_sharing : MethodName := ⟨RX7, "sharing", "(I)I"⟩
def dkwX7_sharing_1 : List UInt8 := [172]
abbrev dktX7_sharing_1 : List UInt8 := dkwX7_sharing_1 ++ []
def dkwX7_sharing_0 : List UInt8 := [42, 42, 27, 182, 0, 147, 182, 0, 125, 158, 0, 5, 3, 172, 42, 182, 0, 198, 42, 180, 0, 25, 27, 46]
abbrev dktX7_sharing_0 : List UInt8 := dkwX7_sharing_0 ++ dktX7_sharing_1
theorem dksX7_sharing_0 : cX7_sharing.data.toList.drop 0 = dktX7_sharing_0 := by decide +kernel
theorem dksX7_sharing_1 : cX7_sharing.data.toList.drop 24 = dktX7_sharing_1 := dk_seg dksX7_sharing_0 24 rfl rfl
theorem dX7_sharing_0 : decode cX7_sharing 0 = .ok (.aload_n 0, 1) := dk_42 (dk_at dksX7_sharing_0 0 rfl rfl)
theorem dX7_sharing_1 : decode cX7_sharing 1 = .ok (.aload_n 0, 1) := dk_42 (dk_at dksX7_sharing_0 1 rfl rfl)
theorem dX7_sharing_2 : decode cX7_sharing 2 = .ok (.iload_n 1, 1) := dk_27 (dk_at dksX7_sharing_0 2 rfl rfl)
theorem dX7_sharing_3 : decode cX7_sharing 3 = .ok (.invokevirtual 147, 3) := dk_182 0 147 (dk_at dksX7_sharing_0 3 rfl rfl)
theorem dX7_sharing_6 : decode cX7_sharing 6 = .ok (.invokevirtual 125, 3) := dk_182 0 125 (dk_at dksX7_sharing_0 6 rfl rfl)
theorem dX7_sharing_9 : decode cX7_sharing 9 = .ok (.ifCond .le 5, 3) := dk_158 0 5 (dk_at dksX7_sharing_0 9 rfl rfl)
theorem dX7_sharing_12 : decode cX7_sharing 12 = .ok (.iconst 0, 1) := dk_3 (dk_at dksX7_sharing_0 12 rfl rfl)
theorem dX7_sharing_13 : decode cX7_sharing 13 = .ok (.ireturn, 1) := dk_172 (dk_at dksX7_sharing_0 13 rfl rfl)
theorem dX7_sharing_14 : decode cX7_sharing 14 = .ok (.aload_n 0, 1) := dk_42 (dk_at dksX7_sharing_0 14 rfl rfl)
theorem dX7_sharing_15 : decode cX7_sharing 15 = .ok (.invokevirtual 198, 3) := dk_182 0 198 (dk_at dksX7_sharing_0 15 rfl rfl)
theorem dX7_sharing_18 : decode cX7_sharing 18 = .ok (.aload_n 0, 1) := dk_42 (dk_at dksX7_sharing_0 18 rfl rfl)
theorem dX7_sharing_19 : decode cX7_sharing 19 = .ok (.getfield 25, 3) := dk_180 0 25 (dk_at dksX7_sharing_0 19 rfl rfl)
theorem dX7_sharing_22 : decode cX7_sharing 22 = .ok (.iload_n 1, 1) := dk_27 (dk_at dksX7_sharing_0 22 rfl rfl)
theorem dX7_sharing_23 : decode cX7_sharing 23 = .ok (.iaload, 1) := dk_46 (dk_at dksX7_sharing_0 23 rfl rfl)
theorem dX7_sharing_24 : decode cX7_sharing 24 = .ok (.ireturn, 1) := dk_172 (dk_at dksX7_sharing_1 0 rfl rfl)
abbrev cX7_share : ByteArray := prog_12_method_54_code
def yX7_share : MethodName := ⟨RX7, "share", "()V"⟩
def dkwX7_share_2 : List UInt8 := [92, 46, 4, 96, 79, 132, 1, 1, 167, 255, 223, 177]
abbrev dktX7_share_2 : List UInt8 := dkwX7_share_2 ++ []
def dkwX7_share_1 : List UInt8 := [42, 180, 0, 7, 5, 46, 162, 0, 29, 42, 182, 0, 195, 155, 0, 22, 42, 180, 0, 25, 42, 182, 0, 195]
abbrev dktX7_share_1 : List UInt8 := dkwX7_share_1 ++ dktX7_share_2
def dkwX7_share_0 : List UInt8 := [3, 60, 27, 16, 7, 162, 0, 16, 42, 180, 0, 25, 27, 3, 79, 132, 1, 1, 167, 255, 240, 3, 60, 27]
abbrev dktX7_share_0 : List UInt8 := dkwX7_share_0 ++ dktX7_share_1
theorem dksX7_share_0 : cX7_share.data.toList.drop 0 = dktX7_share_0 := by decide +kernel
theorem dksX7_share_1 : cX7_share.data.toList.drop 24 = dktX7_share_1 := dk_seg dksX7_share_0 24 rfl rfl
theorem dksX7_share_2 : cX7_share.data.toList.drop 48 = dktX7_share_2 := dk_seg dksX7_share_1 24 rfl rfl
theorem dX7_share_0 : decode cX7_share 0 = .ok (.iconst 0, 1) := dk_3 (dk_at dksX7_share_0 0 rfl rfl)
theorem dX7_share_1 : decode cX7_share 1 = .ok (.istore_n 1, 1) := dk_60 (dk_at dksX7_share_0 1 rfl rfl)
theorem dX7_share_2 : decode cX7_share 2 = .ok (.iload_n 1, 1) := dk_27 (dk_at dksX7_share_0 2 rfl rfl)
theorem dX7_share_3 : decode cX7_share 3 = .ok (.bipush 7, 2) := dk_16 7 (dk_at dksX7_share_0 3 rfl rfl)
theorem dX7_share_5 : decode cX7_share 5 = .ok (.if_icmp .ge 16, 3) := dk_162 0 16 (dk_at dksX7_share_0 5 rfl rfl)
theorem dX7_share_8 : decode cX7_share 8 = .ok (.aload_n 0, 1) := dk_42 (dk_at dksX7_share_0 8 rfl rfl)
theorem dX7_share_9 : decode cX7_share 9 = .ok (.getfield 25, 3) := dk_180 0 25 (dk_at dksX7_share_0 9 rfl rfl)
theorem dX7_share_12 : decode cX7_share 12 = .ok (.iload_n 1, 1) := dk_27 (dk_at dksX7_share_0 12 rfl rfl)
theorem dX7_share_13 : decode cX7_share 13 = .ok (.iconst 0, 1) := dk_3 (dk_at dksX7_share_0 13 rfl rfl)
theorem dX7_share_14 : decode cX7_share 14 = .ok (.iastore, 1) := dk_79 (dk_at dksX7_share_0 14 rfl rfl)
theorem dX7_share_15 : decode cX7_share 15 = .ok (.iinc 1 1, 3) := dk_132 1 1 (dk_at dksX7_share_0 15 rfl rfl)
theorem dX7_share_18 : decode cX7_share 18 = .ok (.goto (-16), 3) := dk_167 255 240 (dk_at dksX7_share_0 18 rfl rfl)
theorem dX7_share_21 : decode cX7_share 21 = .ok (.iconst 0, 1) := dk_3 (dk_at dksX7_share_0 21 rfl rfl)
theorem dX7_share_22 : decode cX7_share 22 = .ok (.istore_n 1, 1) := dk_60 (dk_at dksX7_share_0 22 rfl rfl)
theorem dX7_share_23 : decode cX7_share 23 = .ok (.iload_n 1, 1) := dk_27 (dk_at dksX7_share_0 23 rfl rfl)
theorem dX7_share_24 : decode cX7_share 24 = .ok (.aload_n 0, 1) := dk_42 (dk_at dksX7_share_1 0 rfl rfl)
theorem dX7_share_25 : decode cX7_share 25 = .ok (.getfield 7, 3) := dk_180 0 7 (dk_at dksX7_share_1 1 rfl rfl)
theorem dX7_share_28 : decode cX7_share 28 = .ok (.iconst 2, 1) := dk_5 (dk_at dksX7_share_1 4 rfl rfl)
theorem dX7_share_29 : decode cX7_share 29 = .ok (.iaload, 1) := dk_46 (dk_at dksX7_share_1 5 rfl rfl)
theorem dX7_share_30 : decode cX7_share 30 = .ok (.if_icmp .ge 29, 3) := dk_162 0 29 (dk_at dksX7_share_1 6 rfl rfl)
theorem dX7_share_33 : decode cX7_share 33 = .ok (.aload_n 0, 1) := dk_42 (dk_at dksX7_share_1 9 rfl rfl)
theorem dX7_share_34 : decode cX7_share 34 = .ok (.invokevirtual 195, 3) := dk_182 0 195 (dk_at dksX7_share_1 10 rfl rfl)
theorem dX7_share_37 : decode cX7_share 37 = .ok (.ifCond .lt 22, 3) := dk_155 0 22 (dk_at dksX7_share_1 13 rfl rfl)
theorem dX7_share_40 : decode cX7_share 40 = .ok (.aload_n 0, 1) := dk_42 (dk_at dksX7_share_1 16 rfl rfl)
theorem dX7_share_41 : decode cX7_share 41 = .ok (.getfield 25, 3) := dk_180 0 25 (dk_at dksX7_share_1 17 rfl rfl)
theorem dX7_share_44 : decode cX7_share 44 = .ok (.aload_n 0, 1) := dk_42 (dk_at dksX7_share_1 20 rfl rfl)
theorem dX7_share_45 : decode cX7_share 45 = .ok (.invokevirtual 195, 3) := dk_182 0 195 (dk_at dksX7_share_1 21 rfl rfl)
theorem dX7_share_48 : decode cX7_share 48 = .ok (.dup2, 1) := dk_92 (dk_at dksX7_share_2 0 rfl rfl)
theorem dX7_share_49 : decode cX7_share 49 = .ok (.iaload, 1) := dk_46 (dk_at dksX7_share_2 1 rfl rfl)
theorem dX7_share_50 : decode cX7_share 50 = .ok (.iconst 1, 1) := dk_4 (dk_at dksX7_share_2 2 rfl rfl)
theorem dX7_share_51 : decode cX7_share 51 = .ok (.iadd, 1) := dk_96 (dk_at dksX7_share_2 3 rfl rfl)
theorem dX7_share_52 : decode cX7_share 52 = .ok (.iastore, 1) := dk_79 (dk_at dksX7_share_2 4 rfl rfl)
theorem dX7_share_53 : decode cX7_share 53 = .ok (.iinc 1 1, 3) := dk_132 1 1 (dk_at dksX7_share_2 5 rfl rfl)
theorem dX7_share_56 : decode cX7_share 56 = .ok (.goto (-33), 3) := dk_167 255 223 (dk_at dksX7_share_2 8 rfl rfl)
theorem dX7_share_59 : decode cX7_share 59 = .ok (.return_, 1) := dk_177 (dk_at dksX7_share_2 11 rfl rfl)
abbrev cX7_nextShare : ByteArray := prog_12_method_53_code
def yX7_nextShare : MethodName := ⟨RX7, "nextShare", "()I"⟩
def dkwX7_nextShare_2 : List UInt8 := [162, 0, 5, 28, 60, 132, 2, 1, 167, 255, 208, 27, 172]
abbrev dktX7_nextShare_2 : List UInt8 := dkwX7_nextShare_2 ++ []
def dkwX7_nextShare_1 : List UInt8 := [182, 0, 156, 162, 0, 24, 27, 155, 0, 18, 42, 180, 0, 25, 28, 46, 42, 180, 0, 25, 27, 46]
abbrev dktX7_nextShare_1 : List UInt8 := dkwX7_nextShare_1 ++ dktX7_nextShare_2
def dkwX7_nextShare_0 : List UInt8 := [2, 60, 3, 61, 28, 42, 180, 0, 7, 3, 46, 162, 0, 44, 42, 180, 0, 25, 28, 46, 42, 28]
abbrev dktX7_nextShare_0 : List UInt8 := dkwX7_nextShare_0 ++ dktX7_nextShare_1
theorem dksX7_nextShare_0 : cX7_nextShare.data.toList.drop 0 = dktX7_nextShare_0 := by decide +kernel
theorem dksX7_nextShare_1 : cX7_nextShare.data.toList.drop 22 = dktX7_nextShare_1 := dk_seg dksX7_nextShare_0 22 rfl rfl
theorem dksX7_nextShare_2 : cX7_nextShare.data.toList.drop 44 = dktX7_nextShare_2 := dk_seg dksX7_nextShare_1 22 rfl rfl
theorem dX7_nextShare_0 : decode cX7_nextShare 0 = .ok (.iconst (-1), 1) := dk_2 (dk_at dksX7_nextShare_0 0 rfl rfl)
theorem dX7_nextShare_1 : decode cX7_nextShare 1 = .ok (.istore_n 1, 1) := dk_60 (dk_at dksX7_nextShare_0 1 rfl rfl)
theorem dX7_nextShare_2 : decode cX7_nextShare 2 = .ok (.iconst 0, 1) := dk_3 (dk_at dksX7_nextShare_0 2 rfl rfl)
theorem dX7_nextShare_3 : decode cX7_nextShare 3 = .ok (.istore_n 2, 1) := dk_61 (dk_at dksX7_nextShare_0 3 rfl rfl)
theorem dX7_nextShare_4 : decode cX7_nextShare 4 = .ok (.iload_n 2, 1) := dk_28 (dk_at dksX7_nextShare_0 4 rfl rfl)
theorem dX7_nextShare_5 : decode cX7_nextShare 5 = .ok (.aload_n 0, 1) := dk_42 (dk_at dksX7_nextShare_0 5 rfl rfl)
theorem dX7_nextShare_6 : decode cX7_nextShare 6 = .ok (.getfield 7, 3) := dk_180 0 7 (dk_at dksX7_nextShare_0 6 rfl rfl)
theorem dX7_nextShare_9 : decode cX7_nextShare 9 = .ok (.iconst 0, 1) := dk_3 (dk_at dksX7_nextShare_0 9 rfl rfl)
theorem dX7_nextShare_10 : decode cX7_nextShare 10 = .ok (.iaload, 1) := dk_46 (dk_at dksX7_nextShare_0 10 rfl rfl)
theorem dX7_nextShare_11 : decode cX7_nextShare 11 = .ok (.if_icmp .ge 44, 3) := dk_162 0 44 (dk_at dksX7_nextShare_0 11 rfl rfl)
theorem dX7_nextShare_14 : decode cX7_nextShare 14 = .ok (.aload_n 0, 1) := dk_42 (dk_at dksX7_nextShare_0 14 rfl rfl)
theorem dX7_nextShare_15 : decode cX7_nextShare 15 = .ok (.getfield 25, 3) := dk_180 0 25 (dk_at dksX7_nextShare_0 15 rfl rfl)
theorem dX7_nextShare_18 : decode cX7_nextShare 18 = .ok (.iload_n 2, 1) := dk_28 (dk_at dksX7_nextShare_0 18 rfl rfl)
theorem dX7_nextShare_19 : decode cX7_nextShare 19 = .ok (.iaload, 1) := dk_46 (dk_at dksX7_nextShare_0 19 rfl rfl)
theorem dX7_nextShare_20 : decode cX7_nextShare 20 = .ok (.aload_n 0, 1) := dk_42 (dk_at dksX7_nextShare_0 20 rfl rfl)
theorem dX7_nextShare_21 : decode cX7_nextShare 21 = .ok (.iload_n 2, 1) := dk_28 (dk_at dksX7_nextShare_0 21 rfl rfl)
theorem dX7_nextShare_22 : decode cX7_nextShare 22 = .ok (.invokevirtual 156, 3) := dk_182 0 156 (dk_at dksX7_nextShare_1 0 rfl rfl)
theorem dX7_nextShare_25 : decode cX7_nextShare 25 = .ok (.if_icmp .ge 24, 3) := dk_162 0 24 (dk_at dksX7_nextShare_1 3 rfl rfl)
theorem dX7_nextShare_28 : decode cX7_nextShare 28 = .ok (.iload_n 1, 1) := dk_27 (dk_at dksX7_nextShare_1 6 rfl rfl)
theorem dX7_nextShare_29 : decode cX7_nextShare 29 = .ok (.ifCond .lt 18, 3) := dk_155 0 18 (dk_at dksX7_nextShare_1 7 rfl rfl)
theorem dX7_nextShare_32 : decode cX7_nextShare 32 = .ok (.aload_n 0, 1) := dk_42 (dk_at dksX7_nextShare_1 10 rfl rfl)
theorem dX7_nextShare_33 : decode cX7_nextShare 33 = .ok (.getfield 25, 3) := dk_180 0 25 (dk_at dksX7_nextShare_1 11 rfl rfl)
theorem dX7_nextShare_36 : decode cX7_nextShare 36 = .ok (.iload_n 2, 1) := dk_28 (dk_at dksX7_nextShare_1 14 rfl rfl)
theorem dX7_nextShare_37 : decode cX7_nextShare 37 = .ok (.iaload, 1) := dk_46 (dk_at dksX7_nextShare_1 15 rfl rfl)
theorem dX7_nextShare_38 : decode cX7_nextShare 38 = .ok (.aload_n 0, 1) := dk_42 (dk_at dksX7_nextShare_1 16 rfl rfl)
theorem dX7_nextShare_39 : decode cX7_nextShare 39 = .ok (.getfield 25, 3) := dk_180 0 25 (dk_at dksX7_nextShare_1 17 rfl rfl)
theorem dX7_nextShare_42 : decode cX7_nextShare 42 = .ok (.iload_n 1, 1) := dk_27 (dk_at dksX7_nextShare_1 20 rfl rfl)
theorem dX7_nextShare_43 : decode cX7_nextShare 43 = .ok (.iaload, 1) := dk_46 (dk_at dksX7_nextShare_1 21 rfl rfl)
theorem dX7_nextShare_44 : decode cX7_nextShare 44 = .ok (.if_icmp .ge 5, 3) := dk_162 0 5 (dk_at dksX7_nextShare_2 0 rfl rfl)
theorem dX7_nextShare_47 : decode cX7_nextShare 47 = .ok (.iload_n 2, 1) := dk_28 (dk_at dksX7_nextShare_2 3 rfl rfl)
theorem dX7_nextShare_48 : decode cX7_nextShare 48 = .ok (.istore_n 1, 1) := dk_60 (dk_at dksX7_nextShare_2 4 rfl rfl)
theorem dX7_nextShare_49 : decode cX7_nextShare 49 = .ok (.iinc 2 1, 3) := dk_132 2 1 (dk_at dksX7_nextShare_2 5 rfl rfl)
theorem dX7_nextShare_52 : decode cX7_nextShare 52 = .ok (.goto (-48), 3) := dk_167 255 208 (dk_at dksX7_nextShare_2 8 rfl rfl)
theorem dX7_nextShare_55 : decode cX7_nextShare 55 = .ok (.iload_n 1, 1) := dk_27 (dk_at dksX7_nextShare_2 11 rfl rfl)
theorem dX7_nextShare_56 : decode cX7_nextShare 56 = .ok (.ireturn, 1) := dk_172 (dk_at dksX7_nextShare_2 12 rfl rfl)
abbrev cX7_shareByLevel : ByteArray := prog_12_method_57_code
def yX7_shareByLevel : MethodName := ⟨RX7, "shareByLevel", "(I)I"⟩
def dkwX7_shareByLevel_0 : List UInt8 := [42, 27, 182, 0, 201, 172]
abbrev dktX7_shareByLevel_0 : List UInt8 := dkwX7_shareByLevel_0 ++ []
theorem dksX7_shareByLevel_0 : cX7_shareByLevel.data.toList.drop 0 = dktX7_shareByLevel_0 := by decide +kernel
theorem dX7_shareByLevel_0 : decode cX7_shareByLevel 0 = .ok (.aload_n 0, 1) := dk_42 (dk_at dksX7_shareByLevel_0 0 rfl rfl)
theorem dX7_shareByLevel_1 : decode cX7_shareByLevel 1 = .ok (.iload_n 1, 1) := dk_27 (dk_at dksX7_shareByLevel_0 1 rfl rfl)
theorem dX7_shareByLevel_2 : decode cX7_shareByLevel 2 = .ok (.invokevirtual 201, 3) := dk_182 0 201 (dk_at dksX7_shareByLevel_0 2 rfl rfl)
theorem dX7_shareByLevel_5 : decode cX7_shareByLevel 5 = .ok (.ireturn, 1) := dk_172 (dk_at dksX7_shareByLevel_0 5 rfl rfl)
abbrev cX7_printAll : ByteArray := prog_12_method_59_code
def yX7_printAll : MethodName := ⟨RX7, "printAll", "()I"⟩
def dkwX7_printAll_0 : List UInt8 := [42, 182, 0, 99, 42, 42, 182, 0, 204, 182, 0, 113, 172]
abbrev dktX7_printAll_0 : List UInt8 := dkwX7_printAll_0 ++ []
theorem dksX7_printAll_0 : cX7_printAll.data.toList.drop 0 = dktX7_printAll_0 := by decide +kernel
theorem dX7_printAll_0 : decode cX7_printAll 0 = .ok (.aload_n 0, 1) := dk_42 (dk_at dksX7_printAll_0 0 rfl rfl)
theorem dX7_printAll_1 : decode cX7_printAll 1 = .ok (.invokevirtual 99, 3) := dk_182 0 99 (dk_at dksX7_printAll_0 1 rfl rfl)
theorem dX7_printAll_4 : decode cX7_printAll 4 = .ok (.aload_n 0, 1) := dk_42 (dk_at dksX7_printAll_0 4 rfl rfl)
theorem dX7_printAll_5 : decode cX7_printAll 5 = .ok (.aload_n 0, 1) := dk_42 (dk_at dksX7_printAll_0 5 rfl rfl)
theorem dX7_printAll_6 : decode cX7_printAll 6 = .ok (.invokevirtual 204, 3) := dk_182 0 204 (dk_at dksX7_printAll_0 6 rfl rfl)
theorem dX7_printAll_9 : decode cX7_printAll 9 = .ok (.invokevirtual 113, 3) := dk_182 0 113 (dk_at dksX7_printAll_0 9 rfl rfl)
theorem dX7_printAll_12 : decode cX7_printAll 12 = .ok (.ireturn, 1) := dk_172 (dk_at dksX7_printAll_0 12 rfl rfl)
abbrev cX7_printsAll : ByteArray := prog_12_method_58_code
def yX7_printsAll : MethodName := ⟨RX7, "printsAll", "()I"⟩
def dkwX7_printsAll_3 : List UInt8 := [28, 172]
abbrev dktX7_printsAll_3 : List UInt8 := dkwX7_printsAll_3 ++ []
def dkwX7_printsAll_2 : List UInt8 := [158, 0, 18, 28, 42, 42, 180, 0, 34, 29, 46, 21, 4, 182, 0, 165, 96, 61, 132, 3, 1, 167, 255, 202]
abbrev dktX7_printsAll_2 : List UInt8 := dkwX7_printsAll_2 ++ dktX7_printsAll_3
def dkwX7_printsAll_1 : List UInt8 := [180, 0, 34, 29, 46, 46, 42, 42, 180, 0, 34, 29, 46, 182, 0, 159, 184, 0, 162, 54, 4, 21, 4]
abbrev dktX7_printsAll_1 : List UInt8 := dkwX7_printsAll_1 ++ dktX7_printsAll_2
def dkwX7_printsAll_0 : List UInt8 := [42, 182, 0, 198, 42, 182, 0, 192, 60, 3, 61, 3, 62, 29, 27, 162, 0, 55, 42, 180, 0, 25, 42]
abbrev dktX7_printsAll_0 : List UInt8 := dkwX7_printsAll_0 ++ dktX7_printsAll_1
theorem dksX7_printsAll_0 : cX7_printsAll.data.toList.drop 0 = dktX7_printsAll_0 := by decide +kernel
theorem dksX7_printsAll_1 : cX7_printsAll.data.toList.drop 23 = dktX7_printsAll_1 := dk_seg dksX7_printsAll_0 23 rfl rfl
theorem dksX7_printsAll_2 : cX7_printsAll.data.toList.drop 46 = dktX7_printsAll_2 := dk_seg dksX7_printsAll_1 23 rfl rfl
theorem dksX7_printsAll_3 : cX7_printsAll.data.toList.drop 70 = dktX7_printsAll_3 := dk_seg dksX7_printsAll_2 24 rfl rfl
theorem dX7_printsAll_0 : decode cX7_printsAll 0 = .ok (.aload_n 0, 1) := dk_42 (dk_at dksX7_printsAll_0 0 rfl rfl)
theorem dX7_printsAll_1 : decode cX7_printsAll 1 = .ok (.invokevirtual 198, 3) := dk_182 0 198 (dk_at dksX7_printsAll_0 1 rfl rfl)
theorem dX7_printsAll_4 : decode cX7_printsAll 4 = .ok (.aload_n 0, 1) := dk_42 (dk_at dksX7_printsAll_0 4 rfl rfl)
theorem dX7_printsAll_5 : decode cX7_printsAll 5 = .ok (.invokevirtual 192, 3) := dk_182 0 192 (dk_at dksX7_printsAll_0 5 rfl rfl)
theorem dX7_printsAll_8 : decode cX7_printsAll 8 = .ok (.istore_n 1, 1) := dk_60 (dk_at dksX7_printsAll_0 8 rfl rfl)
theorem dX7_printsAll_9 : decode cX7_printsAll 9 = .ok (.iconst 0, 1) := dk_3 (dk_at dksX7_printsAll_0 9 rfl rfl)
theorem dX7_printsAll_10 : decode cX7_printsAll 10 = .ok (.istore_n 2, 1) := dk_61 (dk_at dksX7_printsAll_0 10 rfl rfl)
theorem dX7_printsAll_11 : decode cX7_printsAll 11 = .ok (.iconst 0, 1) := dk_3 (dk_at dksX7_printsAll_0 11 rfl rfl)
theorem dX7_printsAll_12 : decode cX7_printsAll 12 = .ok (.istore_n 3, 1) := dk_62 (dk_at dksX7_printsAll_0 12 rfl rfl)
theorem dX7_printsAll_13 : decode cX7_printsAll 13 = .ok (.iload_n 3, 1) := dk_29 (dk_at dksX7_printsAll_0 13 rfl rfl)
theorem dX7_printsAll_14 : decode cX7_printsAll 14 = .ok (.iload_n 1, 1) := dk_27 (dk_at dksX7_printsAll_0 14 rfl rfl)
theorem dX7_printsAll_15 : decode cX7_printsAll 15 = .ok (.if_icmp .ge 55, 3) := dk_162 0 55 (dk_at dksX7_printsAll_0 15 rfl rfl)
theorem dX7_printsAll_18 : decode cX7_printsAll 18 = .ok (.aload_n 0, 1) := dk_42 (dk_at dksX7_printsAll_0 18 rfl rfl)
theorem dX7_printsAll_19 : decode cX7_printsAll 19 = .ok (.getfield 25, 3) := dk_180 0 25 (dk_at dksX7_printsAll_0 19 rfl rfl)
theorem dX7_printsAll_22 : decode cX7_printsAll 22 = .ok (.aload_n 0, 1) := dk_42 (dk_at dksX7_printsAll_0 22 rfl rfl)
theorem dX7_printsAll_23 : decode cX7_printsAll 23 = .ok (.getfield 34, 3) := dk_180 0 34 (dk_at dksX7_printsAll_1 0 rfl rfl)
theorem dX7_printsAll_26 : decode cX7_printsAll 26 = .ok (.iload_n 3, 1) := dk_29 (dk_at dksX7_printsAll_1 3 rfl rfl)
theorem dX7_printsAll_27 : decode cX7_printsAll 27 = .ok (.iaload, 1) := dk_46 (dk_at dksX7_printsAll_1 4 rfl rfl)
theorem dX7_printsAll_28 : decode cX7_printsAll 28 = .ok (.iaload, 1) := dk_46 (dk_at dksX7_printsAll_1 5 rfl rfl)
theorem dX7_printsAll_29 : decode cX7_printsAll 29 = .ok (.aload_n 0, 1) := dk_42 (dk_at dksX7_printsAll_1 6 rfl rfl)
theorem dX7_printsAll_30 : decode cX7_printsAll 30 = .ok (.aload_n 0, 1) := dk_42 (dk_at dksX7_printsAll_1 7 rfl rfl)
theorem dX7_printsAll_31 : decode cX7_printsAll 31 = .ok (.getfield 34, 3) := dk_180 0 34 (dk_at dksX7_printsAll_1 8 rfl rfl)
theorem dX7_printsAll_34 : decode cX7_printsAll 34 = .ok (.iload_n 3, 1) := dk_29 (dk_at dksX7_printsAll_1 11 rfl rfl)
theorem dX7_printsAll_35 : decode cX7_printsAll 35 = .ok (.iaload, 1) := dk_46 (dk_at dksX7_printsAll_1 12 rfl rfl)
theorem dX7_printsAll_36 : decode cX7_printsAll 36 = .ok (.invokevirtual 159, 3) := dk_182 0 159 (dk_at dksX7_printsAll_1 13 rfl rfl)
theorem dX7_printsAll_39 : decode cX7_printsAll 39 = .ok (.invokestatic 162, 3) := dk_184 0 162 (dk_at dksX7_printsAll_1 16 rfl rfl)
theorem dX7_printsAll_42 : decode cX7_printsAll 42 = .ok (.istore 4, 2) := dk_54 4 (dk_at dksX7_printsAll_1 19 rfl rfl)
theorem dX7_printsAll_44 : decode cX7_printsAll 44 = .ok (.iload 4, 2) := dk_21 4 (dk_at dksX7_printsAll_1 21 rfl rfl)
theorem dX7_printsAll_46 : decode cX7_printsAll 46 = .ok (.ifCond .le 18, 3) := dk_158 0 18 (dk_at dksX7_printsAll_2 0 rfl rfl)
theorem dX7_printsAll_49 : decode cX7_printsAll 49 = .ok (.iload_n 2, 1) := dk_28 (dk_at dksX7_printsAll_2 3 rfl rfl)
theorem dX7_printsAll_50 : decode cX7_printsAll 50 = .ok (.aload_n 0, 1) := dk_42 (dk_at dksX7_printsAll_2 4 rfl rfl)
theorem dX7_printsAll_51 : decode cX7_printsAll 51 = .ok (.aload_n 0, 1) := dk_42 (dk_at dksX7_printsAll_2 5 rfl rfl)
theorem dX7_printsAll_52 : decode cX7_printsAll 52 = .ok (.getfield 34, 3) := dk_180 0 34 (dk_at dksX7_printsAll_2 6 rfl rfl)
theorem dX7_printsAll_55 : decode cX7_printsAll 55 = .ok (.iload_n 3, 1) := dk_29 (dk_at dksX7_printsAll_2 9 rfl rfl)
theorem dX7_printsAll_56 : decode cX7_printsAll 56 = .ok (.iaload, 1) := dk_46 (dk_at dksX7_printsAll_2 10 rfl rfl)
theorem dX7_printsAll_57 : decode cX7_printsAll 57 = .ok (.iload 4, 2) := dk_21 4 (dk_at dksX7_printsAll_2 11 rfl rfl)
theorem dX7_printsAll_59 : decode cX7_printsAll 59 = .ok (.invokevirtual 165, 3) := dk_182 0 165 (dk_at dksX7_printsAll_2 13 rfl rfl)
theorem dX7_printsAll_62 : decode cX7_printsAll 62 = .ok (.iadd, 1) := dk_96 (dk_at dksX7_printsAll_2 16 rfl rfl)
theorem dX7_printsAll_63 : decode cX7_printsAll 63 = .ok (.istore_n 2, 1) := dk_61 (dk_at dksX7_printsAll_2 17 rfl rfl)
theorem dX7_printsAll_64 : decode cX7_printsAll 64 = .ok (.iinc 3 1, 3) := dk_132 3 1 (dk_at dksX7_printsAll_2 18 rfl rfl)
theorem dX7_printsAll_67 : decode cX7_printsAll 67 = .ok (.goto (-54), 3) := dk_167 255 202 (dk_at dksX7_printsAll_2 21 rfl rfl)
theorem dX7_printsAll_70 : decode cX7_printsAll 70 = .ok (.iload_n 2, 1) := dk_28 (dk_at dksX7_printsAll_3 0 rfl rfl)
theorem dX7_printsAll_71 : decode cX7_printsAll 71 = .ok (.ireturn, 1) := dk_172 (dk_at dksX7_printsAll_3 1 rfl rfl)
abbrev cX7_editionCount : ByteArray := prog_12_method_60_code
def yX7_editionCount : MethodName := ⟨RX7, "editionCount", "()I"⟩
def dkwX7_editionCount_0 : List UInt8 := [42, 42, 180, 0, 7, 3, 46, 182, 0, 129, 172]
abbrev dktX7_editionCount_0 : List UInt8 := dkwX7_editionCount_0 ++ []
theorem dksX7_editionCount_0 : cX7_editionCount.data.toList.drop 0 = dktX7_editionCount_0 := by decide +kernel
theorem dX7_editionCount_0 : decode cX7_editionCount 0 = .ok (.aload_n 0, 1) := dk_42 (dk_at dksX7_editionCount_0 0 rfl rfl)
theorem dX7_editionCount_1 : decode cX7_editionCount 1 = .ok (.aload_n 0, 1) := dk_42 (dk_at dksX7_editionCount_0 1 rfl rfl)
theorem dX7_editionCount_2 : decode cX7_editionCount 2 = .ok (.getfield 7, 3) := dk_180 0 7 (dk_at dksX7_editionCount_0 2 rfl rfl)
theorem dX7_editionCount_5 : decode cX7_editionCount 5 = .ok (.iconst 0, 1) := dk_3 (dk_at dksX7_editionCount_0 5 rfl rfl)
theorem dX7_editionCount_6 : decode cX7_editionCount 6 = .ok (.iaload, 1) := dk_46 (dk_at dksX7_editionCount_0 6 rfl rfl)
theorem dX7_editionCount_7 : decode cX7_editionCount 7 = .ok (.invokevirtual 129, 3) := dk_182 0 129 (dk_at dksX7_editionCount_0 7 rfl rfl)
theorem dX7_editionCount_10 : decode cX7_editionCount 10 = .ok (.ireturn, 1) := dk_172 (dk_at dksX7_editionCount_0 10 rfl rfl)
abbrev cX7_colourOf : ByteArray := prog_12_method_62_code
def yX7_colourOf : MethodName := ⟨RX7, "colourOf", "(I)I"⟩
def dkwX7_colourOf_0 : List UInt8 := [42, 27, 3, 182, 0, 207, 172]
abbrev dktX7_colourOf_0 : List UInt8 := dkwX7_colourOf_0 ++ []
theorem dksX7_colourOf_0 : cX7_colourOf.data.toList.drop 0 = dktX7_colourOf_0 := by decide +kernel
theorem dX7_colourOf_0 : decode cX7_colourOf 0 = .ok (.aload_n 0, 1) := dk_42 (dk_at dksX7_colourOf_0 0 rfl rfl)
theorem dX7_colourOf_1 : decode cX7_colourOf 1 = .ok (.iload_n 1, 1) := dk_27 (dk_at dksX7_colourOf_0 1 rfl rfl)
theorem dX7_colourOf_2 : decode cX7_colourOf 2 = .ok (.iconst 0, 1) := dk_3 (dk_at dksX7_colourOf_0 2 rfl rfl)
theorem dX7_colourOf_3 : decode cX7_colourOf 3 = .ok (.invokevirtual 207, 3) := dk_182 0 207 (dk_at dksX7_colourOf_0 3 rfl rfl)
theorem dX7_colourOf_6 : decode cX7_colourOf 6 = .ok (.ireturn, 1) := dk_172 (dk_at dksX7_colourOf_0 6 rfl rfl)
abbrev cX7_of : ByteArray := prog_12_method_61_code
def yX7_of : MethodName := ⟨RX7, "of", "(II)I"⟩
def dkwX7_of_0 : List UInt8 := [42, 42, 27, 182, 0, 147, 182, 0, 125, 158, 0, 7, 3, 167, 0, 9, 42, 27, 28, 182, 0, 138, 172]
abbrev dktX7_of_0 : List UInt8 := dkwX7_of_0 ++ []
theorem dksX7_of_0 : cX7_of.data.toList.drop 0 = dktX7_of_0 := by decide +kernel
theorem dX7_of_0 : decode cX7_of 0 = .ok (.aload_n 0, 1) := dk_42 (dk_at dksX7_of_0 0 rfl rfl)
theorem dX7_of_1 : decode cX7_of 1 = .ok (.aload_n 0, 1) := dk_42 (dk_at dksX7_of_0 1 rfl rfl)
theorem dX7_of_2 : decode cX7_of 2 = .ok (.iload_n 1, 1) := dk_27 (dk_at dksX7_of_0 2 rfl rfl)
theorem dX7_of_3 : decode cX7_of 3 = .ok (.invokevirtual 147, 3) := dk_182 0 147 (dk_at dksX7_of_0 3 rfl rfl)
theorem dX7_of_6 : decode cX7_of 6 = .ok (.invokevirtual 125, 3) := dk_182 0 125 (dk_at dksX7_of_0 6 rfl rfl)
theorem dX7_of_9 : decode cX7_of 9 = .ok (.ifCond .le 7, 3) := dk_158 0 7 (dk_at dksX7_of_0 9 rfl rfl)
theorem dX7_of_12 : decode cX7_of 12 = .ok (.iconst 0, 1) := dk_3 (dk_at dksX7_of_0 12 rfl rfl)
theorem dX7_of_13 : decode cX7_of 13 = .ok (.goto 9, 3) := dk_167 0 9 (dk_at dksX7_of_0 13 rfl rfl)
theorem dX7_of_16 : decode cX7_of 16 = .ok (.aload_n 0, 1) := dk_42 (dk_at dksX7_of_0 16 rfl rfl)
theorem dX7_of_17 : decode cX7_of 17 = .ok (.iload_n 1, 1) := dk_27 (dk_at dksX7_of_0 17 rfl rfl)
theorem dX7_of_18 : decode cX7_of 18 = .ok (.iload_n 2, 1) := dk_28 (dk_at dksX7_of_0 18 rfl rfl)
theorem dX7_of_19 : decode cX7_of 19 = .ok (.invokevirtual 138, 3) := dk_182 0 138 (dk_at dksX7_of_0 19 rfl rfl)
theorem dX7_of_22 : decode cX7_of 22 = .ok (.ireturn, 1) := dk_172 (dk_at dksX7_of_0 22 rfl rfl)
abbrev cX7_runOf : ByteArray := prog_12_method_63_code
def yX7_runOf : MethodName := ⟨RX7, "runOf", "(I)I"⟩
def dkwX7_runOf_0 : List UInt8 := [42, 27, 4, 182, 0, 207, 172]
abbrev dktX7_runOf_0 : List UInt8 := dkwX7_runOf_0 ++ []
theorem dksX7_runOf_0 : cX7_runOf.data.toList.drop 0 = dktX7_runOf_0 := by decide +kernel
theorem dX7_runOf_0 : decode cX7_runOf 0 = .ok (.aload_n 0, 1) := dk_42 (dk_at dksX7_runOf_0 0 rfl rfl)
theorem dX7_runOf_1 : decode cX7_runOf 1 = .ok (.iload_n 1, 1) := dk_27 (dk_at dksX7_runOf_0 1 rfl rfl)
theorem dX7_runOf_2 : decode cX7_runOf 2 = .ok (.iconst 1, 1) := dk_4 (dk_at dksX7_runOf_0 2 rfl rfl)
theorem dX7_runOf_3 : decode cX7_runOf 3 = .ok (.invokevirtual 207, 3) := dk_182 0 207 (dk_at dksX7_runOf_0 3 rfl rfl)
theorem dX7_runOf_6 : decode cX7_runOf 6 = .ok (.ireturn, 1) := dk_172 (dk_at dksX7_runOf_0 6 rfl rfl)
abbrev cX7_printedOf : ByteArray := prog_12_method_64_code
def yX7_printedOf : MethodName := ⟨RX7, "printedOf", "(I)I"⟩
def dkwX7_printedOf_0 : List UInt8 := [42, 27, 5, 182, 0, 207, 172]
abbrev dktX7_printedOf_0 : List UInt8 := dkwX7_printedOf_0 ++ []
theorem dksX7_printedOf_0 : cX7_printedOf.data.toList.drop 0 = dktX7_printedOf_0 := by decide +kernel
theorem dX7_printedOf_0 : decode cX7_printedOf 0 = .ok (.aload_n 0, 1) := dk_42 (dk_at dksX7_printedOf_0 0 rfl rfl)
theorem dX7_printedOf_1 : decode cX7_printedOf 1 = .ok (.iload_n 1, 1) := dk_27 (dk_at dksX7_printedOf_0 1 rfl rfl)
theorem dX7_printedOf_2 : decode cX7_printedOf 2 = .ok (.iconst 2, 1) := dk_5 (dk_at dksX7_printedOf_0 2 rfl rfl)
theorem dX7_printedOf_3 : decode cX7_printedOf 3 = .ok (.invokevirtual 207, 3) := dk_182 0 207 (dk_at dksX7_printedOf_0 3 rfl rfl)
theorem dX7_printedOf_6 : decode cX7_printedOf 6 = .ok (.ireturn, 1) := dk_172 (dk_at dksX7_printedOf_0 6 rfl rfl)
abbrev cX7_isComplete : ByteArray := prog_12_method_65_code
def yX7_isComplete : MethodName := ⟨RX7, "isComplete", "(I)Z"⟩
def dkwX7_isComplete_1 : List UInt8 := [3, 172]
abbrev dktX7_isComplete_1 : List UInt8 := dkwX7_isComplete_1 ++ []
def dkwX7_isComplete_0 : List UInt8 := [42, 42, 27, 182, 0, 147, 182, 0, 125, 154, 0, 15, 42, 27, 182, 0, 156, 154, 0, 7, 4, 167, 0, 4]
abbrev dktX7_isComplete_0 : List UInt8 := dkwX7_isComplete_0 ++ dktX7_isComplete_1
theorem dksX7_isComplete_0 : cX7_isComplete.data.toList.drop 0 = dktX7_isComplete_0 := by decide +kernel
theorem dksX7_isComplete_1 : cX7_isComplete.data.toList.drop 24 = dktX7_isComplete_1 := dk_seg dksX7_isComplete_0 24 rfl rfl
theorem dX7_isComplete_0 : decode cX7_isComplete 0 = .ok (.aload_n 0, 1) := dk_42 (dk_at dksX7_isComplete_0 0 rfl rfl)
theorem dX7_isComplete_1 : decode cX7_isComplete 1 = .ok (.aload_n 0, 1) := dk_42 (dk_at dksX7_isComplete_0 1 rfl rfl)
theorem dX7_isComplete_2 : decode cX7_isComplete 2 = .ok (.iload_n 1, 1) := dk_27 (dk_at dksX7_isComplete_0 2 rfl rfl)
theorem dX7_isComplete_3 : decode cX7_isComplete 3 = .ok (.invokevirtual 147, 3) := dk_182 0 147 (dk_at dksX7_isComplete_0 3 rfl rfl)
theorem dX7_isComplete_6 : decode cX7_isComplete 6 = .ok (.invokevirtual 125, 3) := dk_182 0 125 (dk_at dksX7_isComplete_0 6 rfl rfl)
theorem dX7_isComplete_9 : decode cX7_isComplete 9 = .ok (.ifCond .ne 15, 3) := dk_154 0 15 (dk_at dksX7_isComplete_0 9 rfl rfl)
theorem dX7_isComplete_12 : decode cX7_isComplete 12 = .ok (.aload_n 0, 1) := dk_42 (dk_at dksX7_isComplete_0 12 rfl rfl)
theorem dX7_isComplete_13 : decode cX7_isComplete 13 = .ok (.iload_n 1, 1) := dk_27 (dk_at dksX7_isComplete_0 13 rfl rfl)
theorem dX7_isComplete_14 : decode cX7_isComplete 14 = .ok (.invokevirtual 156, 3) := dk_182 0 156 (dk_at dksX7_isComplete_0 14 rfl rfl)
theorem dX7_isComplete_17 : decode cX7_isComplete 17 = .ok (.ifCond .ne 7, 3) := dk_154 0 7 (dk_at dksX7_isComplete_0 17 rfl rfl)
theorem dX7_isComplete_20 : decode cX7_isComplete 20 = .ok (.iconst 1, 1) := dk_4 (dk_at dksX7_isComplete_0 20 rfl rfl)
theorem dX7_isComplete_21 : decode cX7_isComplete 21 = .ok (.goto 4, 3) := dk_167 0 4 (dk_at dksX7_isComplete_0 21 rfl rfl)
theorem dX7_isComplete_24 : decode cX7_isComplete 24 = .ok (.iconst 0, 1) := dk_3 (dk_at dksX7_isComplete_1 0 rfl rfl)
theorem dX7_isComplete_25 : decode cX7_isComplete 25 = .ok (.ireturn, 1) := dk_172 (dk_at dksX7_isComplete_1 1 rfl rfl)
abbrev cX7_editionByMissing : ByteArray := prog_12_method_66_code
def yX7_editionByMissing : MethodName := ⟨RX7, "editionByMissing", "(I)I"⟩
def dkwX7_editionByMissing_4 : List UInt8 := [182, 0, 106, 172]
abbrev dktX7_editionByMissing_4 : List UInt8 := dkwX7_editionByMissing_4 ++ []
def dkwX7_editionByMissing_3 : List UInt8 := [3, 96, 62, 132, 4, 1, 167, 255, 200, 29, 27, 160, 0, 5, 28, 172, 132, 2, 1, 167, 255, 172, 42, 4]
abbrev dktX7_editionByMissing_3 : List UInt8 := dkwX7_editionByMissing_3 ++ dktX7_editionByMissing_4
def dkwX7_editionByMissing_2 : List UInt8 := [42, 21, 4, 182, 0, 156, 42, 28, 182, 0, 156, 160, 0, 13, 21, 4, 28, 162, 0, 7, 4, 167, 0, 4]
abbrev dktX7_editionByMissing_2 : List UInt8 := dkwX7_editionByMissing_2 ++ dktX7_editionByMissing_3
def dkwX7_editionByMissing_1 : List UInt8 := [42, 180, 0, 7, 3, 46, 162, 0, 51, 29, 42, 21, 4, 182, 0, 156, 42, 28, 182, 0, 156, 163, 0, 23]
abbrev dktX7_editionByMissing_1 : List UInt8 := dkwX7_editionByMissing_1 ++ dktX7_editionByMissing_2
def dkwX7_editionByMissing_0 : List UInt8 := [42, 3, 181, 0, 37, 3, 61, 28, 42, 180, 0, 7, 3, 46, 162, 0, 80, 3, 62, 3, 54, 4, 21, 4]
abbrev dktX7_editionByMissing_0 : List UInt8 := dkwX7_editionByMissing_0 ++ dktX7_editionByMissing_1
theorem dksX7_editionByMissing_0 : cX7_editionByMissing.data.toList.drop 0 = dktX7_editionByMissing_0 := by decide +kernel
theorem dksX7_editionByMissing_1 : cX7_editionByMissing.data.toList.drop 24 = dktX7_editionByMissing_1 := dk_seg dksX7_editionByMissing_0 24 rfl rfl
theorem dksX7_editionByMissing_2 : cX7_editionByMissing.data.toList.drop 48 = dktX7_editionByMissing_2 := dk_seg dksX7_editionByMissing_1 24 rfl rfl
theorem dksX7_editionByMissing_3 : cX7_editionByMissing.data.toList.drop 72 = dktX7_editionByMissing_3 := dk_seg dksX7_editionByMissing_2 24 rfl rfl
theorem dksX7_editionByMissing_4 : cX7_editionByMissing.data.toList.drop 96 = dktX7_editionByMissing_4 := dk_seg dksX7_editionByMissing_3 24 rfl rfl
theorem dX7_editionByMissing_0 : decode cX7_editionByMissing 0 = .ok (.aload_n 0, 1) := dk_42 (dk_at dksX7_editionByMissing_0 0 rfl rfl)
theorem dX7_editionByMissing_1 : decode cX7_editionByMissing 1 = .ok (.iconst 0, 1) := dk_3 (dk_at dksX7_editionByMissing_0 1 rfl rfl)
theorem dX7_editionByMissing_2 : decode cX7_editionByMissing 2 = .ok (.putfield 37, 3) := dk_181 0 37 (dk_at dksX7_editionByMissing_0 2 rfl rfl)
theorem dX7_editionByMissing_5 : decode cX7_editionByMissing 5 = .ok (.iconst 0, 1) := dk_3 (dk_at dksX7_editionByMissing_0 5 rfl rfl)
theorem dX7_editionByMissing_6 : decode cX7_editionByMissing 6 = .ok (.istore_n 2, 1) := dk_61 (dk_at dksX7_editionByMissing_0 6 rfl rfl)
theorem dX7_editionByMissing_7 : decode cX7_editionByMissing 7 = .ok (.iload_n 2, 1) := dk_28 (dk_at dksX7_editionByMissing_0 7 rfl rfl)
theorem dX7_editionByMissing_8 : decode cX7_editionByMissing 8 = .ok (.aload_n 0, 1) := dk_42 (dk_at dksX7_editionByMissing_0 8 rfl rfl)
theorem dX7_editionByMissing_9 : decode cX7_editionByMissing 9 = .ok (.getfield 7, 3) := dk_180 0 7 (dk_at dksX7_editionByMissing_0 9 rfl rfl)
theorem dX7_editionByMissing_12 : decode cX7_editionByMissing 12 = .ok (.iconst 0, 1) := dk_3 (dk_at dksX7_editionByMissing_0 12 rfl rfl)
theorem dX7_editionByMissing_13 : decode cX7_editionByMissing 13 = .ok (.iaload, 1) := dk_46 (dk_at dksX7_editionByMissing_0 13 rfl rfl)
theorem dX7_editionByMissing_14 : decode cX7_editionByMissing 14 = .ok (.if_icmp .ge 80, 3) := dk_162 0 80 (dk_at dksX7_editionByMissing_0 14 rfl rfl)
theorem dX7_editionByMissing_17 : decode cX7_editionByMissing 17 = .ok (.iconst 0, 1) := dk_3 (dk_at dksX7_editionByMissing_0 17 rfl rfl)
theorem dX7_editionByMissing_18 : decode cX7_editionByMissing 18 = .ok (.istore_n 3, 1) := dk_62 (dk_at dksX7_editionByMissing_0 18 rfl rfl)
theorem dX7_editionByMissing_19 : decode cX7_editionByMissing 19 = .ok (.iconst 0, 1) := dk_3 (dk_at dksX7_editionByMissing_0 19 rfl rfl)
theorem dX7_editionByMissing_20 : decode cX7_editionByMissing 20 = .ok (.istore 4, 2) := dk_54 4 (dk_at dksX7_editionByMissing_0 20 rfl rfl)
theorem dX7_editionByMissing_22 : decode cX7_editionByMissing 22 = .ok (.iload 4, 2) := dk_21 4 (dk_at dksX7_editionByMissing_0 22 rfl rfl)
theorem dX7_editionByMissing_24 : decode cX7_editionByMissing 24 = .ok (.aload_n 0, 1) := dk_42 (dk_at dksX7_editionByMissing_1 0 rfl rfl)
theorem dX7_editionByMissing_25 : decode cX7_editionByMissing 25 = .ok (.getfield 7, 3) := dk_180 0 7 (dk_at dksX7_editionByMissing_1 1 rfl rfl)
theorem dX7_editionByMissing_28 : decode cX7_editionByMissing 28 = .ok (.iconst 0, 1) := dk_3 (dk_at dksX7_editionByMissing_1 4 rfl rfl)
theorem dX7_editionByMissing_29 : decode cX7_editionByMissing 29 = .ok (.iaload, 1) := dk_46 (dk_at dksX7_editionByMissing_1 5 rfl rfl)
theorem dX7_editionByMissing_30 : decode cX7_editionByMissing 30 = .ok (.if_icmp .ge 51, 3) := dk_162 0 51 (dk_at dksX7_editionByMissing_1 6 rfl rfl)
theorem dX7_editionByMissing_33 : decode cX7_editionByMissing 33 = .ok (.iload_n 3, 1) := dk_29 (dk_at dksX7_editionByMissing_1 9 rfl rfl)
theorem dX7_editionByMissing_34 : decode cX7_editionByMissing 34 = .ok (.aload_n 0, 1) := dk_42 (dk_at dksX7_editionByMissing_1 10 rfl rfl)
theorem dX7_editionByMissing_35 : decode cX7_editionByMissing 35 = .ok (.iload 4, 2) := dk_21 4 (dk_at dksX7_editionByMissing_1 11 rfl rfl)
theorem dX7_editionByMissing_37 : decode cX7_editionByMissing 37 = .ok (.invokevirtual 156, 3) := dk_182 0 156 (dk_at dksX7_editionByMissing_1 13 rfl rfl)
theorem dX7_editionByMissing_40 : decode cX7_editionByMissing 40 = .ok (.aload_n 0, 1) := dk_42 (dk_at dksX7_editionByMissing_1 16 rfl rfl)
theorem dX7_editionByMissing_41 : decode cX7_editionByMissing 41 = .ok (.iload_n 2, 1) := dk_28 (dk_at dksX7_editionByMissing_1 17 rfl rfl)
theorem dX7_editionByMissing_42 : decode cX7_editionByMissing 42 = .ok (.invokevirtual 156, 3) := dk_182 0 156 (dk_at dksX7_editionByMissing_1 18 rfl rfl)
theorem dX7_editionByMissing_45 : decode cX7_editionByMissing 45 = .ok (.if_icmp .gt 23, 3) := dk_163 0 23 (dk_at dksX7_editionByMissing_1 21 rfl rfl)
theorem dX7_editionByMissing_48 : decode cX7_editionByMissing 48 = .ok (.aload_n 0, 1) := dk_42 (dk_at dksX7_editionByMissing_2 0 rfl rfl)
theorem dX7_editionByMissing_49 : decode cX7_editionByMissing 49 = .ok (.iload 4, 2) := dk_21 4 (dk_at dksX7_editionByMissing_2 1 rfl rfl)
theorem dX7_editionByMissing_51 : decode cX7_editionByMissing 51 = .ok (.invokevirtual 156, 3) := dk_182 0 156 (dk_at dksX7_editionByMissing_2 3 rfl rfl)
theorem dX7_editionByMissing_54 : decode cX7_editionByMissing 54 = .ok (.aload_n 0, 1) := dk_42 (dk_at dksX7_editionByMissing_2 6 rfl rfl)
theorem dX7_editionByMissing_55 : decode cX7_editionByMissing 55 = .ok (.iload_n 2, 1) := dk_28 (dk_at dksX7_editionByMissing_2 7 rfl rfl)
theorem dX7_editionByMissing_56 : decode cX7_editionByMissing 56 = .ok (.invokevirtual 156, 3) := dk_182 0 156 (dk_at dksX7_editionByMissing_2 8 rfl rfl)
theorem dX7_editionByMissing_59 : decode cX7_editionByMissing 59 = .ok (.if_icmp .ne 13, 3) := dk_160 0 13 (dk_at dksX7_editionByMissing_2 11 rfl rfl)
theorem dX7_editionByMissing_62 : decode cX7_editionByMissing 62 = .ok (.iload 4, 2) := dk_21 4 (dk_at dksX7_editionByMissing_2 14 rfl rfl)
theorem dX7_editionByMissing_64 : decode cX7_editionByMissing 64 = .ok (.iload_n 2, 1) := dk_28 (dk_at dksX7_editionByMissing_2 16 rfl rfl)
theorem dX7_editionByMissing_65 : decode cX7_editionByMissing 65 = .ok (.if_icmp .ge 7, 3) := dk_162 0 7 (dk_at dksX7_editionByMissing_2 17 rfl rfl)
theorem dX7_editionByMissing_68 : decode cX7_editionByMissing 68 = .ok (.iconst 1, 1) := dk_4 (dk_at dksX7_editionByMissing_2 20 rfl rfl)
theorem dX7_editionByMissing_69 : decode cX7_editionByMissing 69 = .ok (.goto 4, 3) := dk_167 0 4 (dk_at dksX7_editionByMissing_2 21 rfl rfl)
theorem dX7_editionByMissing_72 : decode cX7_editionByMissing 72 = .ok (.iconst 0, 1) := dk_3 (dk_at dksX7_editionByMissing_3 0 rfl rfl)
theorem dX7_editionByMissing_73 : decode cX7_editionByMissing 73 = .ok (.iadd, 1) := dk_96 (dk_at dksX7_editionByMissing_3 1 rfl rfl)
theorem dX7_editionByMissing_74 : decode cX7_editionByMissing 74 = .ok (.istore_n 3, 1) := dk_62 (dk_at dksX7_editionByMissing_3 2 rfl rfl)
theorem dX7_editionByMissing_75 : decode cX7_editionByMissing 75 = .ok (.iinc 4 1, 3) := dk_132 4 1 (dk_at dksX7_editionByMissing_3 3 rfl rfl)
theorem dX7_editionByMissing_78 : decode cX7_editionByMissing 78 = .ok (.goto (-56), 3) := dk_167 255 200 (dk_at dksX7_editionByMissing_3 6 rfl rfl)
theorem dX7_editionByMissing_81 : decode cX7_editionByMissing 81 = .ok (.iload_n 3, 1) := dk_29 (dk_at dksX7_editionByMissing_3 9 rfl rfl)
theorem dX7_editionByMissing_82 : decode cX7_editionByMissing 82 = .ok (.iload_n 1, 1) := dk_27 (dk_at dksX7_editionByMissing_3 10 rfl rfl)
theorem dX7_editionByMissing_83 : decode cX7_editionByMissing 83 = .ok (.if_icmp .ne 5, 3) := dk_160 0 5 (dk_at dksX7_editionByMissing_3 11 rfl rfl)
theorem dX7_editionByMissing_86 : decode cX7_editionByMissing 86 = .ok (.iload_n 2, 1) := dk_28 (dk_at dksX7_editionByMissing_3 14 rfl rfl)
theorem dX7_editionByMissing_87 : decode cX7_editionByMissing 87 = .ok (.ireturn, 1) := dk_172 (dk_at dksX7_editionByMissing_3 15 rfl rfl)
theorem dX7_editionByMissing_88 : decode cX7_editionByMissing 88 = .ok (.iinc 2 1, 3) := dk_132 2 1 (dk_at dksX7_editionByMissing_3 16 rfl rfl)
theorem dX7_editionByMissing_91 : decode cX7_editionByMissing 91 = .ok (.goto (-84), 3) := dk_167 255 172 (dk_at dksX7_editionByMissing_3 19 rfl rfl)
theorem dX7_editionByMissing_94 : decode cX7_editionByMissing 94 = .ok (.aload_n 0, 1) := dk_42 (dk_at dksX7_editionByMissing_3 22 rfl rfl)
theorem dX7_editionByMissing_95 : decode cX7_editionByMissing 95 = .ok (.iconst 1, 1) := dk_4 (dk_at dksX7_editionByMissing_3 23 rfl rfl)
theorem dX7_editionByMissing_96 : decode cX7_editionByMissing 96 = .ok (.invokevirtual 106, 3) := dk_182 0 106 (dk_at dksX7_editionByMissing_4 0 rfl rfl)
theorem dX7_editionByMissing_99 : decode cX7_editionByMissing 99 = .ok (.ireturn, 1) := dk_172 (dk_at dksX7_editionByMissing_4 3 rfl rfl)
abbrev cX7_addProof : ByteArray := prog_12_method_71_code
def yX7_addProof : MethodName := ⟨RX7, "addProof", "(I)I"⟩
def dkwX7_addProof_1 : List UInt8 := [27, 182, 0, 213, 182, 0, 113, 172]
abbrev dktX7_addProof_1 : List UInt8 := dkwX7_addProof_1 ++ []
def dkwX7_addProof_0 : List UInt8 := [42, 182, 0, 99, 42, 27, 182, 0, 210, 61, 28, 158, 0, 11, 42, 28, 182, 0, 106, 167, 0, 12, 42, 42]
abbrev dktX7_addProof_0 : List UInt8 := dkwX7_addProof_0 ++ dktX7_addProof_1
theorem dksX7_addProof_0 : cX7_addProof.data.toList.drop 0 = dktX7_addProof_0 := by decide +kernel
theorem dksX7_addProof_1 : cX7_addProof.data.toList.drop 24 = dktX7_addProof_1 := dk_seg dksX7_addProof_0 24 rfl rfl
theorem dX7_addProof_0 : decode cX7_addProof 0 = .ok (.aload_n 0, 1) := dk_42 (dk_at dksX7_addProof_0 0 rfl rfl)
theorem dX7_addProof_1 : decode cX7_addProof 1 = .ok (.invokevirtual 99, 3) := dk_182 0 99 (dk_at dksX7_addProof_0 1 rfl rfl)
theorem dX7_addProof_4 : decode cX7_addProof 4 = .ok (.aload_n 0, 1) := dk_42 (dk_at dksX7_addProof_0 4 rfl rfl)
theorem dX7_addProof_5 : decode cX7_addProof 5 = .ok (.iload_n 1, 1) := dk_27 (dk_at dksX7_addProof_0 5 rfl rfl)
theorem dX7_addProof_6 : decode cX7_addProof 6 = .ok (.invokevirtual 210, 3) := dk_182 0 210 (dk_at dksX7_addProof_0 6 rfl rfl)
theorem dX7_addProof_9 : decode cX7_addProof 9 = .ok (.istore_n 2, 1) := dk_61 (dk_at dksX7_addProof_0 9 rfl rfl)
theorem dX7_addProof_10 : decode cX7_addProof 10 = .ok (.iload_n 2, 1) := dk_28 (dk_at dksX7_addProof_0 10 rfl rfl)
theorem dX7_addProof_11 : decode cX7_addProof 11 = .ok (.ifCond .le 11, 3) := dk_158 0 11 (dk_at dksX7_addProof_0 11 rfl rfl)
theorem dX7_addProof_14 : decode cX7_addProof 14 = .ok (.aload_n 0, 1) := dk_42 (dk_at dksX7_addProof_0 14 rfl rfl)
theorem dX7_addProof_15 : decode cX7_addProof 15 = .ok (.iload_n 2, 1) := dk_28 (dk_at dksX7_addProof_0 15 rfl rfl)
theorem dX7_addProof_16 : decode cX7_addProof 16 = .ok (.invokevirtual 106, 3) := dk_182 0 106 (dk_at dksX7_addProof_0 16 rfl rfl)
theorem dX7_addProof_19 : decode cX7_addProof 19 = .ok (.goto 12, 3) := dk_167 0 12 (dk_at dksX7_addProof_0 19 rfl rfl)
theorem dX7_addProof_22 : decode cX7_addProof 22 = .ok (.aload_n 0, 1) := dk_42 (dk_at dksX7_addProof_0 22 rfl rfl)
theorem dX7_addProof_23 : decode cX7_addProof 23 = .ok (.aload_n 0, 1) := dk_42 (dk_at dksX7_addProof_0 23 rfl rfl)
theorem dX7_addProof_24 : decode cX7_addProof 24 = .ok (.iload_n 1, 1) := dk_27 (dk_at dksX7_addProof_1 0 rfl rfl)
theorem dX7_addProof_25 : decode cX7_addProof 25 = .ok (.invokevirtual 213, 3) := dk_182 0 213 (dk_at dksX7_addProof_1 1 rfl rfl)
theorem dX7_addProof_28 : decode cX7_addProof 28 = .ok (.invokevirtual 113, 3) := dk_182 0 113 (dk_at dksX7_addProof_1 4 rfl rfl)
theorem dX7_addProof_31 : decode cX7_addProof 31 = .ok (.ireturn, 1) := dk_172 (dk_at dksX7_addProof_1 7 rfl rfl)
abbrev cX7_cannotProve : ByteArray := prog_12_method_69_code
def yX7_cannotProve : MethodName := ⟨RX7, "cannotProve", "(I)I"⟩
def dkwX7_cannotProve_1 : List UInt8 := [160, 0, 7, 5, 167, 0, 4, 3, 172]
abbrev dktX7_cannotProve_1 : List UInt8 := dkwX7_cannotProve_1 ++ []
def dkwX7_cannotProve_0 : List UInt8 := [27, 3, 16, 99, 184, 0, 91, 154, 0, 7, 4, 167, 0, 19, 42, 180, 0, 7, 4, 46, 16, 12]
abbrev dktX7_cannotProve_0 : List UInt8 := dkwX7_cannotProve_0 ++ dktX7_cannotProve_1
theorem dksX7_cannotProve_0 : cX7_cannotProve.data.toList.drop 0 = dktX7_cannotProve_0 := by decide +kernel
theorem dksX7_cannotProve_1 : cX7_cannotProve.data.toList.drop 22 = dktX7_cannotProve_1 := dk_seg dksX7_cannotProve_0 22 rfl rfl
theorem dX7_cannotProve_0 : decode cX7_cannotProve 0 = .ok (.iload_n 1, 1) := dk_27 (dk_at dksX7_cannotProve_0 0 rfl rfl)
theorem dX7_cannotProve_1 : decode cX7_cannotProve 1 = .ok (.iconst 0, 1) := dk_3 (dk_at dksX7_cannotProve_0 1 rfl rfl)
theorem dX7_cannotProve_2 : decode cX7_cannotProve 2 = .ok (.bipush 99, 2) := dk_16 99 (dk_at dksX7_cannotProve_0 2 rfl rfl)
theorem dX7_cannotProve_4 : decode cX7_cannotProve 4 = .ok (.invokestatic 91, 3) := dk_184 0 91 (dk_at dksX7_cannotProve_0 4 rfl rfl)
theorem dX7_cannotProve_7 : decode cX7_cannotProve 7 = .ok (.ifCond .ne 7, 3) := dk_154 0 7 (dk_at dksX7_cannotProve_0 7 rfl rfl)
theorem dX7_cannotProve_10 : decode cX7_cannotProve 10 = .ok (.iconst 1, 1) := dk_4 (dk_at dksX7_cannotProve_0 10 rfl rfl)
theorem dX7_cannotProve_11 : decode cX7_cannotProve 11 = .ok (.goto 19, 3) := dk_167 0 19 (dk_at dksX7_cannotProve_0 11 rfl rfl)
theorem dX7_cannotProve_14 : decode cX7_cannotProve 14 = .ok (.aload_n 0, 1) := dk_42 (dk_at dksX7_cannotProve_0 14 rfl rfl)
theorem dX7_cannotProve_15 : decode cX7_cannotProve 15 = .ok (.getfield 7, 3) := dk_180 0 7 (dk_at dksX7_cannotProve_0 15 rfl rfl)
theorem dX7_cannotProve_18 : decode cX7_cannotProve 18 = .ok (.iconst 1, 1) := dk_4 (dk_at dksX7_cannotProve_0 18 rfl rfl)
theorem dX7_cannotProve_19 : decode cX7_cannotProve 19 = .ok (.iaload, 1) := dk_46 (dk_at dksX7_cannotProve_0 19 rfl rfl)
theorem dX7_cannotProve_20 : decode cX7_cannotProve 20 = .ok (.bipush 12, 2) := dk_16 12 (dk_at dksX7_cannotProve_0 20 rfl rfl)
theorem dX7_cannotProve_22 : decode cX7_cannotProve 22 = .ok (.if_icmp .ne 7, 3) := dk_160 0 7 (dk_at dksX7_cannotProve_1 0 rfl rfl)
theorem dX7_cannotProve_25 : decode cX7_cannotProve 25 = .ok (.iconst 2, 1) := dk_5 (dk_at dksX7_cannotProve_1 3 rfl rfl)
theorem dX7_cannotProve_26 : decode cX7_cannotProve 26 = .ok (.goto 4, 3) := dk_167 0 4 (dk_at dksX7_cannotProve_1 4 rfl rfl)
theorem dX7_cannotProve_29 : decode cX7_cannotProve 29 = .ok (.iconst 0, 1) := dk_3 (dk_at dksX7_cannotProve_1 7 rfl rfl)
theorem dX7_cannotProve_30 : decode cX7_cannotProve 30 = .ok (.ireturn, 1) := dk_172 (dk_at dksX7_cannotProve_1 8 rfl rfl)
abbrev cX7_proves : ByteArray := prog_12_method_70_code
def yX7_proves : MethodName := ⟨RX7, "proves", "(I)I"⟩
def dkwX7_proves_2 : List UInt8 := [4, 92, 46, 4, 96, 79, 42, 180, 0, 7, 4, 46, 4, 100, 172]
abbrev dktX7_proves_2 : List UInt8 := dkwX7_proves_2 ++ []
def dkwX7_proves_1 : List UInt8 := [16, 48, 5, 42, 180, 0, 7, 4, 46, 104, 96, 4, 96, 42, 180, 0, 7, 6, 46, 79, 42, 180, 0, 7]
abbrev dktX7_proves_1 : List UInt8 := dkwX7_proves_1 ++ dktX7_proves_2
def dkwX7_proves_0 : List UInt8 := [42, 180, 0, 7, 16, 48, 5, 42, 180, 0, 7, 4, 46, 104, 96, 3, 96, 27, 79, 42, 180, 0, 7]
abbrev dktX7_proves_0 : List UInt8 := dkwX7_proves_0 ++ dktX7_proves_1
theorem dksX7_proves_0 : cX7_proves.data.toList.drop 0 = dktX7_proves_0 := by decide +kernel
theorem dksX7_proves_1 : cX7_proves.data.toList.drop 23 = dktX7_proves_1 := dk_seg dksX7_proves_0 23 rfl rfl
theorem dksX7_proves_2 : cX7_proves.data.toList.drop 47 = dktX7_proves_2 := dk_seg dksX7_proves_1 24 rfl rfl
theorem dX7_proves_0 : decode cX7_proves 0 = .ok (.aload_n 0, 1) := dk_42 (dk_at dksX7_proves_0 0 rfl rfl)
theorem dX7_proves_1 : decode cX7_proves 1 = .ok (.getfield 7, 3) := dk_180 0 7 (dk_at dksX7_proves_0 1 rfl rfl)
theorem dX7_proves_4 : decode cX7_proves 4 = .ok (.bipush 48, 2) := dk_16 48 (dk_at dksX7_proves_0 4 rfl rfl)
theorem dX7_proves_6 : decode cX7_proves 6 = .ok (.iconst 2, 1) := dk_5 (dk_at dksX7_proves_0 6 rfl rfl)
theorem dX7_proves_7 : decode cX7_proves 7 = .ok (.aload_n 0, 1) := dk_42 (dk_at dksX7_proves_0 7 rfl rfl)
theorem dX7_proves_8 : decode cX7_proves 8 = .ok (.getfield 7, 3) := dk_180 0 7 (dk_at dksX7_proves_0 8 rfl rfl)
theorem dX7_proves_11 : decode cX7_proves 11 = .ok (.iconst 1, 1) := dk_4 (dk_at dksX7_proves_0 11 rfl rfl)
theorem dX7_proves_12 : decode cX7_proves 12 = .ok (.iaload, 1) := dk_46 (dk_at dksX7_proves_0 12 rfl rfl)
theorem dX7_proves_13 : decode cX7_proves 13 = .ok (.imul, 1) := dk_104 (dk_at dksX7_proves_0 13 rfl rfl)
theorem dX7_proves_14 : decode cX7_proves 14 = .ok (.iadd, 1) := dk_96 (dk_at dksX7_proves_0 14 rfl rfl)
theorem dX7_proves_15 : decode cX7_proves 15 = .ok (.iconst 0, 1) := dk_3 (dk_at dksX7_proves_0 15 rfl rfl)
theorem dX7_proves_16 : decode cX7_proves 16 = .ok (.iadd, 1) := dk_96 (dk_at dksX7_proves_0 16 rfl rfl)
theorem dX7_proves_17 : decode cX7_proves 17 = .ok (.iload_n 1, 1) := dk_27 (dk_at dksX7_proves_0 17 rfl rfl)
theorem dX7_proves_18 : decode cX7_proves 18 = .ok (.iastore, 1) := dk_79 (dk_at dksX7_proves_0 18 rfl rfl)
theorem dX7_proves_19 : decode cX7_proves 19 = .ok (.aload_n 0, 1) := dk_42 (dk_at dksX7_proves_0 19 rfl rfl)
theorem dX7_proves_20 : decode cX7_proves 20 = .ok (.getfield 7, 3) := dk_180 0 7 (dk_at dksX7_proves_0 20 rfl rfl)
theorem dX7_proves_23 : decode cX7_proves 23 = .ok (.bipush 48, 2) := dk_16 48 (dk_at dksX7_proves_1 0 rfl rfl)
theorem dX7_proves_25 : decode cX7_proves 25 = .ok (.iconst 2, 1) := dk_5 (dk_at dksX7_proves_1 2 rfl rfl)
theorem dX7_proves_26 : decode cX7_proves 26 = .ok (.aload_n 0, 1) := dk_42 (dk_at dksX7_proves_1 3 rfl rfl)
theorem dX7_proves_27 : decode cX7_proves 27 = .ok (.getfield 7, 3) := dk_180 0 7 (dk_at dksX7_proves_1 4 rfl rfl)
theorem dX7_proves_30 : decode cX7_proves 30 = .ok (.iconst 1, 1) := dk_4 (dk_at dksX7_proves_1 7 rfl rfl)
theorem dX7_proves_31 : decode cX7_proves 31 = .ok (.iaload, 1) := dk_46 (dk_at dksX7_proves_1 8 rfl rfl)
theorem dX7_proves_32 : decode cX7_proves 32 = .ok (.imul, 1) := dk_104 (dk_at dksX7_proves_1 9 rfl rfl)
theorem dX7_proves_33 : decode cX7_proves 33 = .ok (.iadd, 1) := dk_96 (dk_at dksX7_proves_1 10 rfl rfl)
theorem dX7_proves_34 : decode cX7_proves 34 = .ok (.iconst 1, 1) := dk_4 (dk_at dksX7_proves_1 11 rfl rfl)
theorem dX7_proves_35 : decode cX7_proves 35 = .ok (.iadd, 1) := dk_96 (dk_at dksX7_proves_1 12 rfl rfl)
theorem dX7_proves_36 : decode cX7_proves 36 = .ok (.aload_n 0, 1) := dk_42 (dk_at dksX7_proves_1 13 rfl rfl)
theorem dX7_proves_37 : decode cX7_proves 37 = .ok (.getfield 7, 3) := dk_180 0 7 (dk_at dksX7_proves_1 14 rfl rfl)
theorem dX7_proves_40 : decode cX7_proves 40 = .ok (.iconst 3, 1) := dk_6 (dk_at dksX7_proves_1 17 rfl rfl)
theorem dX7_proves_41 : decode cX7_proves 41 = .ok (.iaload, 1) := dk_46 (dk_at dksX7_proves_1 18 rfl rfl)
theorem dX7_proves_42 : decode cX7_proves 42 = .ok (.iastore, 1) := dk_79 (dk_at dksX7_proves_1 19 rfl rfl)
theorem dX7_proves_43 : decode cX7_proves 43 = .ok (.aload_n 0, 1) := dk_42 (dk_at dksX7_proves_1 20 rfl rfl)
theorem dX7_proves_44 : decode cX7_proves 44 = .ok (.getfield 7, 3) := dk_180 0 7 (dk_at dksX7_proves_1 21 rfl rfl)
theorem dX7_proves_47 : decode cX7_proves 47 = .ok (.iconst 1, 1) := dk_4 (dk_at dksX7_proves_2 0 rfl rfl)
theorem dX7_proves_48 : decode cX7_proves 48 = .ok (.dup2, 1) := dk_92 (dk_at dksX7_proves_2 1 rfl rfl)
theorem dX7_proves_49 : decode cX7_proves 49 = .ok (.iaload, 1) := dk_46 (dk_at dksX7_proves_2 2 rfl rfl)
theorem dX7_proves_50 : decode cX7_proves 50 = .ok (.iconst 1, 1) := dk_4 (dk_at dksX7_proves_2 3 rfl rfl)
theorem dX7_proves_51 : decode cX7_proves 51 = .ok (.iadd, 1) := dk_96 (dk_at dksX7_proves_2 4 rfl rfl)
theorem dX7_proves_52 : decode cX7_proves 52 = .ok (.iastore, 1) := dk_79 (dk_at dksX7_proves_2 5 rfl rfl)
theorem dX7_proves_53 : decode cX7_proves 53 = .ok (.aload_n 0, 1) := dk_42 (dk_at dksX7_proves_2 6 rfl rfl)
theorem dX7_proves_54 : decode cX7_proves 54 = .ok (.getfield 7, 3) := dk_180 0 7 (dk_at dksX7_proves_2 7 rfl rfl)
theorem dX7_proves_57 : decode cX7_proves 57 = .ok (.iconst 1, 1) := dk_4 (dk_at dksX7_proves_2 10 rfl rfl)
theorem dX7_proves_58 : decode cX7_proves 58 = .ok (.iaload, 1) := dk_46 (dk_at dksX7_proves_2 11 rfl rfl)
theorem dX7_proves_59 : decode cX7_proves 59 = .ok (.iconst 1, 1) := dk_4 (dk_at dksX7_proves_2 12 rfl rfl)
theorem dX7_proves_60 : decode cX7_proves 60 = .ok (.isub, 1) := dk_100 (dk_at dksX7_proves_2 13 rfl rfl)
theorem dX7_proves_61 : decode cX7_proves 61 = .ok (.ireturn, 1) := dk_172 (dk_at dksX7_proves_2 14 rfl rfl)
abbrev cX7_dropProof : ByteArray := prog_12_method_73_code
def yX7_dropProof : MethodName := ⟨RX7, "dropProof", "(I)I"⟩
def dkwX7_dropProof_1 : List UInt8 := [42, 4, 182, 0, 106, 172]
abbrev dktX7_dropProof_1 : List UInt8 := dkwX7_dropProof_1 ++ []
def dkwX7_dropProof_0 : List UInt8 := [42, 182, 0, 99, 42, 27, 182, 0, 216, 153, 0, 15, 42, 42, 27, 182, 0, 219, 182, 0, 113, 167, 0, 8]
abbrev dktX7_dropProof_0 : List UInt8 := dkwX7_dropProof_0 ++ dktX7_dropProof_1
theorem dksX7_dropProof_0 : cX7_dropProof.data.toList.drop 0 = dktX7_dropProof_0 := by decide +kernel
theorem dksX7_dropProof_1 : cX7_dropProof.data.toList.drop 24 = dktX7_dropProof_1 := dk_seg dksX7_dropProof_0 24 rfl rfl
theorem dX7_dropProof_0 : decode cX7_dropProof 0 = .ok (.aload_n 0, 1) := dk_42 (dk_at dksX7_dropProof_0 0 rfl rfl)
theorem dX7_dropProof_1 : decode cX7_dropProof 1 = .ok (.invokevirtual 99, 3) := dk_182 0 99 (dk_at dksX7_dropProof_0 1 rfl rfl)
theorem dX7_dropProof_4 : decode cX7_dropProof 4 = .ok (.aload_n 0, 1) := dk_42 (dk_at dksX7_dropProof_0 4 rfl rfl)
theorem dX7_dropProof_5 : decode cX7_dropProof 5 = .ok (.iload_n 1, 1) := dk_27 (dk_at dksX7_dropProof_0 5 rfl rfl)
theorem dX7_dropProof_6 : decode cX7_dropProof 6 = .ok (.invokevirtual 216, 3) := dk_182 0 216 (dk_at dksX7_dropProof_0 6 rfl rfl)
theorem dX7_dropProof_9 : decode cX7_dropProof 9 = .ok (.ifCond .eq 15, 3) := dk_153 0 15 (dk_at dksX7_dropProof_0 9 rfl rfl)
theorem dX7_dropProof_12 : decode cX7_dropProof 12 = .ok (.aload_n 0, 1) := dk_42 (dk_at dksX7_dropProof_0 12 rfl rfl)
theorem dX7_dropProof_13 : decode cX7_dropProof 13 = .ok (.aload_n 0, 1) := dk_42 (dk_at dksX7_dropProof_0 13 rfl rfl)
theorem dX7_dropProof_14 : decode cX7_dropProof 14 = .ok (.iload_n 1, 1) := dk_27 (dk_at dksX7_dropProof_0 14 rfl rfl)
theorem dX7_dropProof_15 : decode cX7_dropProof 15 = .ok (.invokevirtual 219, 3) := dk_182 0 219 (dk_at dksX7_dropProof_0 15 rfl rfl)
theorem dX7_dropProof_18 : decode cX7_dropProof 18 = .ok (.invokevirtual 113, 3) := dk_182 0 113 (dk_at dksX7_dropProof_0 18 rfl rfl)
theorem dX7_dropProof_21 : decode cX7_dropProof 21 = .ok (.goto 8, 3) := dk_167 0 8 (dk_at dksX7_dropProof_0 21 rfl rfl)
theorem dX7_dropProof_24 : decode cX7_dropProof 24 = .ok (.aload_n 0, 1) := dk_42 (dk_at dksX7_dropProof_1 0 rfl rfl)
theorem dX7_dropProof_25 : decode cX7_dropProof 25 = .ok (.iconst 1, 1) := dk_4 (dk_at dksX7_dropProof_1 1 rfl rfl)
theorem dX7_dropProof_26 : decode cX7_dropProof 26 = .ok (.invokevirtual 106, 3) := dk_182 0 106 (dk_at dksX7_dropProof_1 2 rfl rfl)
theorem dX7_dropProof_29 : decode cX7_dropProof 29 = .ok (.ireturn, 1) := dk_172 (dk_at dksX7_dropProof_1 5 rfl rfl)
abbrev cX7_isProof : ByteArray := prog_12_method_68_code
def yX7_isProof : MethodName := ⟨RX7, "isProof", "(I)Z"⟩
def dkwX7_isProof_0 : List UInt8 := [27, 3, 42, 180, 0, 7, 4, 46, 4, 100, 184, 0, 91, 172]
abbrev dktX7_isProof_0 : List UInt8 := dkwX7_isProof_0 ++ []
theorem dksX7_isProof_0 : cX7_isProof.data.toList.drop 0 = dktX7_isProof_0 := by decide +kernel
theorem dX7_isProof_0 : decode cX7_isProof 0 = .ok (.iload_n 1, 1) := dk_27 (dk_at dksX7_isProof_0 0 rfl rfl)
theorem dX7_isProof_1 : decode cX7_isProof 1 = .ok (.iconst 0, 1) := dk_3 (dk_at dksX7_isProof_0 1 rfl rfl)
theorem dX7_isProof_2 : decode cX7_isProof 2 = .ok (.aload_n 0, 1) := dk_42 (dk_at dksX7_isProof_0 2 rfl rfl)
theorem dX7_isProof_3 : decode cX7_isProof 3 = .ok (.getfield 7, 3) := dk_180 0 7 (dk_at dksX7_isProof_0 3 rfl rfl)
theorem dX7_isProof_6 : decode cX7_isProof 6 = .ok (.iconst 1, 1) := dk_4 (dk_at dksX7_isProof_0 6 rfl rfl)
theorem dX7_isProof_7 : decode cX7_isProof 7 = .ok (.iaload, 1) := dk_46 (dk_at dksX7_isProof_0 7 rfl rfl)
theorem dX7_isProof_8 : decode cX7_isProof 8 = .ok (.iconst 1, 1) := dk_4 (dk_at dksX7_isProof_0 8 rfl rfl)
theorem dX7_isProof_9 : decode cX7_isProof 9 = .ok (.isub, 1) := dk_100 (dk_at dksX7_isProof_0 9 rfl rfl)
theorem dX7_isProof_10 : decode cX7_isProof 10 = .ok (.invokestatic 91, 3) := dk_184 0 91 (dk_at dksX7_isProof_0 10 rfl rfl)
theorem dX7_isProof_13 : decode cX7_isProof 13 = .ok (.ireturn, 1) := dk_172 (dk_at dksX7_isProof_0 13 rfl rfl)
abbrev cX7_drops : ByteArray := prog_12_method_72_code
def yX7_drops : MethodName := ⟨RX7, "drops", "(I)I"⟩
def dkwX7_drops_2 : List UInt8 := [132, 2, 1, 167, 255, 224, 42, 180, 0, 7, 4, 46, 172]
abbrev dktX7_drops_2 : List UInt8 := dkwX7_drops_2 ++ []
def dkwX7_drops_1 : List UInt8 := [180, 0, 7, 4, 46, 104, 96, 162, 0, 23, 42, 180, 0, 7, 28, 42, 180, 0, 7, 28, 5, 96, 46, 79]
abbrev dktX7_drops_1 : List UInt8 := dkwX7_drops_1 ++ dktX7_drops_2
def dkwX7_drops_0 : List UInt8 := [42, 180, 0, 7, 4, 92, 46, 4, 100, 79, 16, 48, 5, 27, 104, 96, 61, 28, 16, 48, 5, 42]
abbrev dktX7_drops_0 : List UInt8 := dkwX7_drops_0 ++ dktX7_drops_1
theorem dksX7_drops_0 : cX7_drops.data.toList.drop 0 = dktX7_drops_0 := by decide +kernel
theorem dksX7_drops_1 : cX7_drops.data.toList.drop 22 = dktX7_drops_1 := dk_seg dksX7_drops_0 22 rfl rfl
theorem dksX7_drops_2 : cX7_drops.data.toList.drop 46 = dktX7_drops_2 := dk_seg dksX7_drops_1 24 rfl rfl
theorem dX7_drops_0 : decode cX7_drops 0 = .ok (.aload_n 0, 1) := dk_42 (dk_at dksX7_drops_0 0 rfl rfl)
theorem dX7_drops_1 : decode cX7_drops 1 = .ok (.getfield 7, 3) := dk_180 0 7 (dk_at dksX7_drops_0 1 rfl rfl)
theorem dX7_drops_4 : decode cX7_drops 4 = .ok (.iconst 1, 1) := dk_4 (dk_at dksX7_drops_0 4 rfl rfl)
theorem dX7_drops_5 : decode cX7_drops 5 = .ok (.dup2, 1) := dk_92 (dk_at dksX7_drops_0 5 rfl rfl)
theorem dX7_drops_6 : decode cX7_drops 6 = .ok (.iaload, 1) := dk_46 (dk_at dksX7_drops_0 6 rfl rfl)
theorem dX7_drops_7 : decode cX7_drops 7 = .ok (.iconst 1, 1) := dk_4 (dk_at dksX7_drops_0 7 rfl rfl)
theorem dX7_drops_8 : decode cX7_drops 8 = .ok (.isub, 1) := dk_100 (dk_at dksX7_drops_0 8 rfl rfl)
theorem dX7_drops_9 : decode cX7_drops 9 = .ok (.iastore, 1) := dk_79 (dk_at dksX7_drops_0 9 rfl rfl)
theorem dX7_drops_10 : decode cX7_drops 10 = .ok (.bipush 48, 2) := dk_16 48 (dk_at dksX7_drops_0 10 rfl rfl)
theorem dX7_drops_12 : decode cX7_drops 12 = .ok (.iconst 2, 1) := dk_5 (dk_at dksX7_drops_0 12 rfl rfl)
theorem dX7_drops_13 : decode cX7_drops 13 = .ok (.iload_n 1, 1) := dk_27 (dk_at dksX7_drops_0 13 rfl rfl)
theorem dX7_drops_14 : decode cX7_drops 14 = .ok (.imul, 1) := dk_104 (dk_at dksX7_drops_0 14 rfl rfl)
theorem dX7_drops_15 : decode cX7_drops 15 = .ok (.iadd, 1) := dk_96 (dk_at dksX7_drops_0 15 rfl rfl)
theorem dX7_drops_16 : decode cX7_drops 16 = .ok (.istore_n 2, 1) := dk_61 (dk_at dksX7_drops_0 16 rfl rfl)
theorem dX7_drops_17 : decode cX7_drops 17 = .ok (.iload_n 2, 1) := dk_28 (dk_at dksX7_drops_0 17 rfl rfl)
theorem dX7_drops_18 : decode cX7_drops 18 = .ok (.bipush 48, 2) := dk_16 48 (dk_at dksX7_drops_0 18 rfl rfl)
theorem dX7_drops_20 : decode cX7_drops 20 = .ok (.iconst 2, 1) := dk_5 (dk_at dksX7_drops_0 20 rfl rfl)
theorem dX7_drops_21 : decode cX7_drops 21 = .ok (.aload_n 0, 1) := dk_42 (dk_at dksX7_drops_0 21 rfl rfl)
theorem dX7_drops_22 : decode cX7_drops 22 = .ok (.getfield 7, 3) := dk_180 0 7 (dk_at dksX7_drops_1 0 rfl rfl)
theorem dX7_drops_25 : decode cX7_drops 25 = .ok (.iconst 1, 1) := dk_4 (dk_at dksX7_drops_1 3 rfl rfl)
theorem dX7_drops_26 : decode cX7_drops 26 = .ok (.iaload, 1) := dk_46 (dk_at dksX7_drops_1 4 rfl rfl)
theorem dX7_drops_27 : decode cX7_drops 27 = .ok (.imul, 1) := dk_104 (dk_at dksX7_drops_1 5 rfl rfl)
theorem dX7_drops_28 : decode cX7_drops 28 = .ok (.iadd, 1) := dk_96 (dk_at dksX7_drops_1 6 rfl rfl)
theorem dX7_drops_29 : decode cX7_drops 29 = .ok (.if_icmp .ge 23, 3) := dk_162 0 23 (dk_at dksX7_drops_1 7 rfl rfl)
theorem dX7_drops_32 : decode cX7_drops 32 = .ok (.aload_n 0, 1) := dk_42 (dk_at dksX7_drops_1 10 rfl rfl)
theorem dX7_drops_33 : decode cX7_drops 33 = .ok (.getfield 7, 3) := dk_180 0 7 (dk_at dksX7_drops_1 11 rfl rfl)
theorem dX7_drops_36 : decode cX7_drops 36 = .ok (.iload_n 2, 1) := dk_28 (dk_at dksX7_drops_1 14 rfl rfl)
theorem dX7_drops_37 : decode cX7_drops 37 = .ok (.aload_n 0, 1) := dk_42 (dk_at dksX7_drops_1 15 rfl rfl)
theorem dX7_drops_38 : decode cX7_drops 38 = .ok (.getfield 7, 3) := dk_180 0 7 (dk_at dksX7_drops_1 16 rfl rfl)
theorem dX7_drops_41 : decode cX7_drops 41 = .ok (.iload_n 2, 1) := dk_28 (dk_at dksX7_drops_1 19 rfl rfl)
theorem dX7_drops_42 : decode cX7_drops 42 = .ok (.iconst 2, 1) := dk_5 (dk_at dksX7_drops_1 20 rfl rfl)
theorem dX7_drops_43 : decode cX7_drops 43 = .ok (.iadd, 1) := dk_96 (dk_at dksX7_drops_1 21 rfl rfl)
theorem dX7_drops_44 : decode cX7_drops 44 = .ok (.iaload, 1) := dk_46 (dk_at dksX7_drops_1 22 rfl rfl)
theorem dX7_drops_45 : decode cX7_drops 45 = .ok (.iastore, 1) := dk_79 (dk_at dksX7_drops_1 23 rfl rfl)
theorem dX7_drops_46 : decode cX7_drops 46 = .ok (.iinc 2 1, 3) := dk_132 2 1 (dk_at dksX7_drops_2 0 rfl rfl)
theorem dX7_drops_49 : decode cX7_drops 49 = .ok (.goto (-32), 3) := dk_167 255 224 (dk_at dksX7_drops_2 3 rfl rfl)
theorem dX7_drops_52 : decode cX7_drops 52 = .ok (.aload_n 0, 1) := dk_42 (dk_at dksX7_drops_2 6 rfl rfl)
theorem dX7_drops_53 : decode cX7_drops 53 = .ok (.getfield 7, 3) := dk_180 0 7 (dk_at dksX7_drops_2 7 rfl rfl)
theorem dX7_drops_56 : decode cX7_drops 56 = .ok (.iconst 1, 1) := dk_4 (dk_at dksX7_drops_2 10 rfl rfl)
theorem dX7_drops_57 : decode cX7_drops 57 = .ok (.iaload, 1) := dk_46 (dk_at dksX7_drops_2 11 rfl rfl)
theorem dX7_drops_58 : decode cX7_drops 58 = .ok (.ireturn, 1) := dk_172 (dk_at dksX7_drops_2 12 rfl rfl)
abbrev cX7_proofCount : ByteArray := prog_12_method_74_code
def yX7_proofCount : MethodName := ⟨RX7, "proofCount", "()I"⟩
def dkwX7_proofCount_0 : List UInt8 := [42, 42, 180, 0, 7, 4, 46, 182, 0, 129, 172]
abbrev dktX7_proofCount_0 : List UInt8 := dkwX7_proofCount_0 ++ []
theorem dksX7_proofCount_0 : cX7_proofCount.data.toList.drop 0 = dktX7_proofCount_0 := by decide +kernel
theorem dX7_proofCount_0 : decode cX7_proofCount 0 = .ok (.aload_n 0, 1) := dk_42 (dk_at dksX7_proofCount_0 0 rfl rfl)
theorem dX7_proofCount_1 : decode cX7_proofCount 1 = .ok (.aload_n 0, 1) := dk_42 (dk_at dksX7_proofCount_0 1 rfl rfl)
theorem dX7_proofCount_2 : decode cX7_proofCount 2 = .ok (.getfield 7, 3) := dk_180 0 7 (dk_at dksX7_proofCount_0 2 rfl rfl)
theorem dX7_proofCount_5 : decode cX7_proofCount 5 = .ok (.iconst 1, 1) := dk_4 (dk_at dksX7_proofCount_0 5 rfl rfl)
theorem dX7_proofCount_6 : decode cX7_proofCount 6 = .ok (.iaload, 1) := dk_46 (dk_at dksX7_proofCount_0 6 rfl rfl)
theorem dX7_proofCount_7 : decode cX7_proofCount 7 = .ok (.invokevirtual 129, 3) := dk_182 0 129 (dk_at dksX7_proofCount_0 7 rfl rfl)
theorem dX7_proofCount_10 : decode cX7_proofCount 10 = .ok (.ireturn, 1) := dk_172 (dk_at dksX7_proofCount_0 10 rfl rfl)
abbrev cX7_marksOf : ByteArray := prog_12_method_75_code
def yX7_marksOf : MethodName := ⟨RX7, "marksOf", "(I)I"⟩
def dkwX7_marksOf_0 : List UInt8 := [42, 42, 27, 182, 0, 216, 182, 0, 125, 158, 0, 7, 3, 167, 0, 9, 42, 27, 3, 182, 0, 222, 172]
abbrev dktX7_marksOf_0 : List UInt8 := dkwX7_marksOf_0 ++ []
theorem dksX7_marksOf_0 : cX7_marksOf.data.toList.drop 0 = dktX7_marksOf_0 := by decide +kernel
theorem dX7_marksOf_0 : decode cX7_marksOf 0 = .ok (.aload_n 0, 1) := dk_42 (dk_at dksX7_marksOf_0 0 rfl rfl)
theorem dX7_marksOf_1 : decode cX7_marksOf 1 = .ok (.aload_n 0, 1) := dk_42 (dk_at dksX7_marksOf_0 1 rfl rfl)
theorem dX7_marksOf_2 : decode cX7_marksOf 2 = .ok (.iload_n 1, 1) := dk_27 (dk_at dksX7_marksOf_0 2 rfl rfl)
theorem dX7_marksOf_3 : decode cX7_marksOf 3 = .ok (.invokevirtual 216, 3) := dk_182 0 216 (dk_at dksX7_marksOf_0 3 rfl rfl)
theorem dX7_marksOf_6 : decode cX7_marksOf 6 = .ok (.invokevirtual 125, 3) := dk_182 0 125 (dk_at dksX7_marksOf_0 6 rfl rfl)
theorem dX7_marksOf_9 : decode cX7_marksOf 9 = .ok (.ifCond .le 7, 3) := dk_158 0 7 (dk_at dksX7_marksOf_0 9 rfl rfl)
theorem dX7_marksOf_12 : decode cX7_marksOf 12 = .ok (.iconst 0, 1) := dk_3 (dk_at dksX7_marksOf_0 12 rfl rfl)
theorem dX7_marksOf_13 : decode cX7_marksOf 13 = .ok (.goto 9, 3) := dk_167 0 9 (dk_at dksX7_marksOf_0 13 rfl rfl)
theorem dX7_marksOf_16 : decode cX7_marksOf 16 = .ok (.aload_n 0, 1) := dk_42 (dk_at dksX7_marksOf_0 16 rfl rfl)
theorem dX7_marksOf_17 : decode cX7_marksOf 17 = .ok (.iload_n 1, 1) := dk_27 (dk_at dksX7_marksOf_0 17 rfl rfl)
theorem dX7_marksOf_18 : decode cX7_marksOf 18 = .ok (.iconst 0, 1) := dk_3 (dk_at dksX7_marksOf_0 18 rfl rfl)
theorem dX7_marksOf_19 : decode cX7_marksOf 19 = .ok (.invokevirtual 222, 3) := dk_182 0 222 (dk_at dksX7_marksOf_0 19 rfl rfl)
theorem dX7_marksOf_22 : decode cX7_marksOf 22 = .ok (.ireturn, 1) := dk_172 (dk_at dksX7_marksOf_0 22 rfl rfl)
abbrev cX7_p : ByteArray := prog_12_method_67_code
def yX7_p : MethodName := ⟨RX7, "p", "(II)I"⟩
def dkwX7_p_0 : List UInt8 := [42, 180, 0, 7, 16, 48, 5, 27, 104, 96, 28, 96, 46, 172]
abbrev dktX7_p_0 : List UInt8 := dkwX7_p_0 ++ []
theorem dksX7_p_0 : cX7_p.data.toList.drop 0 = dktX7_p_0 := by decide +kernel
theorem dX7_p_0 : decode cX7_p 0 = .ok (.aload_n 0, 1) := dk_42 (dk_at dksX7_p_0 0 rfl rfl)
theorem dX7_p_1 : decode cX7_p 1 = .ok (.getfield 7, 3) := dk_180 0 7 (dk_at dksX7_p_0 1 rfl rfl)
theorem dX7_p_4 : decode cX7_p 4 = .ok (.bipush 48, 2) := dk_16 48 (dk_at dksX7_p_0 4 rfl rfl)
theorem dX7_p_6 : decode cX7_p 6 = .ok (.iconst 2, 1) := dk_5 (dk_at dksX7_p_0 6 rfl rfl)
theorem dX7_p_7 : decode cX7_p 7 = .ok (.iload_n 1, 1) := dk_27 (dk_at dksX7_p_0 7 rfl rfl)
theorem dX7_p_8 : decode cX7_p 8 = .ok (.imul, 1) := dk_104 (dk_at dksX7_p_0 8 rfl rfl)
theorem dX7_p_9 : decode cX7_p 9 = .ok (.iadd, 1) := dk_96 (dk_at dksX7_p_0 9 rfl rfl)
theorem dX7_p_10 : decode cX7_p 10 = .ok (.iload_n 2, 1) := dk_28 (dk_at dksX7_p_0 10 rfl rfl)
theorem dX7_p_11 : decode cX7_p 11 = .ok (.iadd, 1) := dk_96 (dk_at dksX7_p_0 11 rfl rfl)
theorem dX7_p_12 : decode cX7_p 12 = .ok (.iaload, 1) := dk_46 (dk_at dksX7_p_0 12 rfl rfl)
theorem dX7_p_13 : decode cX7_p 13 = .ok (.ireturn, 1) := dk_172 (dk_at dksX7_p_0 13 rfl rfl)
abbrev cX7_hourOf : ByteArray := prog_12_method_76_code
def yX7_hourOf : MethodName := ⟨RX7, "hourOf", "(I)I"⟩
def dkwX7_hourOf_0 : List UInt8 := [42, 42, 27, 182, 0, 216, 182, 0, 125, 158, 0, 7, 3, 167, 0, 9, 42, 27, 4, 182, 0, 222, 172]
abbrev dktX7_hourOf_0 : List UInt8 := dkwX7_hourOf_0 ++ []
theorem dksX7_hourOf_0 : cX7_hourOf.data.toList.drop 0 = dktX7_hourOf_0 := by decide +kernel
theorem dX7_hourOf_0 : decode cX7_hourOf 0 = .ok (.aload_n 0, 1) := dk_42 (dk_at dksX7_hourOf_0 0 rfl rfl)
theorem dX7_hourOf_1 : decode cX7_hourOf 1 = .ok (.aload_n 0, 1) := dk_42 (dk_at dksX7_hourOf_0 1 rfl rfl)
theorem dX7_hourOf_2 : decode cX7_hourOf 2 = .ok (.iload_n 1, 1) := dk_27 (dk_at dksX7_hourOf_0 2 rfl rfl)
theorem dX7_hourOf_3 : decode cX7_hourOf 3 = .ok (.invokevirtual 216, 3) := dk_182 0 216 (dk_at dksX7_hourOf_0 3 rfl rfl)
theorem dX7_hourOf_6 : decode cX7_hourOf 6 = .ok (.invokevirtual 125, 3) := dk_182 0 125 (dk_at dksX7_hourOf_0 6 rfl rfl)
theorem dX7_hourOf_9 : decode cX7_hourOf 9 = .ok (.ifCond .le 7, 3) := dk_158 0 7 (dk_at dksX7_hourOf_0 9 rfl rfl)
theorem dX7_hourOf_12 : decode cX7_hourOf 12 = .ok (.iconst 0, 1) := dk_3 (dk_at dksX7_hourOf_0 12 rfl rfl)
theorem dX7_hourOf_13 : decode cX7_hourOf 13 = .ok (.goto 9, 3) := dk_167 0 9 (dk_at dksX7_hourOf_0 13 rfl rfl)
theorem dX7_hourOf_16 : decode cX7_hourOf 16 = .ok (.aload_n 0, 1) := dk_42 (dk_at dksX7_hourOf_0 16 rfl rfl)
theorem dX7_hourOf_17 : decode cX7_hourOf 17 = .ok (.iload_n 1, 1) := dk_27 (dk_at dksX7_hourOf_0 17 rfl rfl)
theorem dX7_hourOf_18 : decode cX7_hourOf 18 = .ok (.iconst 1, 1) := dk_4 (dk_at dksX7_hourOf_0 18 rfl rfl)
theorem dX7_hourOf_19 : decode cX7_hourOf 19 = .ok (.invokevirtual 222, 3) := dk_182 0 222 (dk_at dksX7_hourOf_0 19 rfl rfl)
theorem dX7_hourOf_22 : decode cX7_hourOf 22 = .ok (.ireturn, 1) := dk_172 (dk_at dksX7_hourOf_0 22 rfl rfl)
abbrev cX7_longestRise : ByteArray := prog_12_method_78_code
def yX7_longestRise : MethodName := ⟨RX7, "longestRise", "()I"⟩
def dkwX7_longestRise_0 : List UInt8 := [42, 42, 182, 0, 225, 182, 0, 129, 172]
abbrev dktX7_longestRise_0 : List UInt8 := dkwX7_longestRise_0 ++ []
theorem dksX7_longestRise_0 : cX7_longestRise.data.toList.drop 0 = dktX7_longestRise_0 := by decide +kernel
theorem dX7_longestRise_0 : decode cX7_longestRise 0 = .ok (.aload_n 0, 1) := dk_42 (dk_at dksX7_longestRise_0 0 rfl rfl)
theorem dX7_longestRise_1 : decode cX7_longestRise 1 = .ok (.aload_n 0, 1) := dk_42 (dk_at dksX7_longestRise_0 1 rfl rfl)
theorem dX7_longestRise_2 : decode cX7_longestRise 2 = .ok (.invokevirtual 225, 3) := dk_182 0 225 (dk_at dksX7_longestRise_0 2 rfl rfl)
theorem dX7_longestRise_5 : decode cX7_longestRise 5 = .ok (.invokevirtual 129, 3) := dk_182 0 129 (dk_at dksX7_longestRise_0 5 rfl rfl)
theorem dX7_longestRise_8 : decode cX7_longestRise 8 = .ok (.ireturn, 1) := dk_172 (dk_at dksX7_longestRise_0 8 rfl rfl)
abbrev cX7_rises : ByteArray := prog_12_method_77_code
def yX7_rises : MethodName := ⟨RX7, "rises", "()I"⟩
def dkwX7_rises_7 : List UInt8 := [167, 255, 101, 27, 172]
abbrev dktX7_rises_7 : List UInt8 := dkwX7_rises_7 ++ []
def dkwX7_rises_6 : List UInt8 := [180, 0, 28, 28, 46, 27, 164, 0, 12, 42, 180, 0, 28, 28, 46, 167, 0, 4, 27, 60, 132, 2, 1]
abbrev dktX7_rises_6 : List UInt8 := dkwX7_rises_6 ++ dktX7_rises_7
def dkwX7_rises_5 : List UInt8 := [96, 79, 42, 180, 0, 28, 28, 42, 180, 0, 28, 29, 46, 4, 96, 79, 132, 3, 1, 167, 255, 154, 42]
abbrev dktX7_rises_5 : List UInt8 := dkwX7_rises_5 ++ dktX7_rises_6
def dkwX7_rises_4 : List UInt8 := [164, 0, 12, 42, 180, 0, 31, 29, 46, 167, 0, 16, 42, 180, 0, 31, 28, 46, 42, 180, 0, 31, 29, 46]
abbrev dktX7_rises_4 : List UInt8 := dkwX7_rises_4 ++ dktX7_rises_5
def dkwX7_rises_3 : List UInt8 := [167, 0, 62, 42, 180, 0, 31, 28, 42, 180, 0, 28, 29, 46, 4, 96, 42, 180, 0, 28, 28, 46]
abbrev dktX7_rises_3 : List UInt8 := dkwX7_rises_3 ++ dktX7_rises_4
def dkwX7_rises_2 : List UInt8 := [182, 0, 222, 162, 0, 82, 42, 180, 0, 28, 29, 46, 4, 96, 42, 180, 0, 28, 28, 46, 162, 0, 6]
abbrev dktX7_rises_2 : List UInt8 := dkwX7_rises_2 ++ dktX7_rises_3
def dkwX7_rises_1 : List UInt8 := [180, 0, 31, 28, 4, 79, 3, 62, 29, 28, 162, 0, 103, 42, 29, 3, 182, 0, 222, 42, 28, 3]
abbrev dktX7_rises_1 : List UInt8 := dkwX7_rises_1 ++ dktX7_rises_2
def dkwX7_rises_0 : List UInt8 := [3, 60, 3, 61, 28, 42, 180, 0, 7, 4, 46, 162, 0, 151, 42, 180, 0, 28, 28, 4, 79, 42]
abbrev dktX7_rises_0 : List UInt8 := dkwX7_rises_0 ++ dktX7_rises_1
theorem dksX7_rises_0 : cX7_rises.data.toList.drop 0 = dktX7_rises_0 := by decide +kernel
theorem dksX7_rises_1 : cX7_rises.data.toList.drop 22 = dktX7_rises_1 := dk_seg dksX7_rises_0 22 rfl rfl
theorem dksX7_rises_2 : cX7_rises.data.toList.drop 44 = dktX7_rises_2 := dk_seg dksX7_rises_1 22 rfl rfl
theorem dksX7_rises_3 : cX7_rises.data.toList.drop 67 = dktX7_rises_3 := dk_seg dksX7_rises_2 23 rfl rfl
theorem dksX7_rises_4 : cX7_rises.data.toList.drop 89 = dktX7_rises_4 := dk_seg dksX7_rises_3 22 rfl rfl
theorem dksX7_rises_5 : cX7_rises.data.toList.drop 113 = dktX7_rises_5 := dk_seg dksX7_rises_4 24 rfl rfl
theorem dksX7_rises_6 : cX7_rises.data.toList.drop 136 = dktX7_rises_6 := dk_seg dksX7_rises_5 23 rfl rfl
theorem dksX7_rises_7 : cX7_rises.data.toList.drop 159 = dktX7_rises_7 := dk_seg dksX7_rises_6 23 rfl rfl
theorem dX7_rises_0 : decode cX7_rises 0 = .ok (.iconst 0, 1) := dk_3 (dk_at dksX7_rises_0 0 rfl rfl)
theorem dX7_rises_1 : decode cX7_rises 1 = .ok (.istore_n 1, 1) := dk_60 (dk_at dksX7_rises_0 1 rfl rfl)
theorem dX7_rises_2 : decode cX7_rises 2 = .ok (.iconst 0, 1) := dk_3 (dk_at dksX7_rises_0 2 rfl rfl)
theorem dX7_rises_3 : decode cX7_rises 3 = .ok (.istore_n 2, 1) := dk_61 (dk_at dksX7_rises_0 3 rfl rfl)
theorem dX7_rises_4 : decode cX7_rises 4 = .ok (.iload_n 2, 1) := dk_28 (dk_at dksX7_rises_0 4 rfl rfl)
theorem dX7_rises_5 : decode cX7_rises 5 = .ok (.aload_n 0, 1) := dk_42 (dk_at dksX7_rises_0 5 rfl rfl)
theorem dX7_rises_6 : decode cX7_rises 6 = .ok (.getfield 7, 3) := dk_180 0 7 (dk_at dksX7_rises_0 6 rfl rfl)
theorem dX7_rises_9 : decode cX7_rises 9 = .ok (.iconst 1, 1) := dk_4 (dk_at dksX7_rises_0 9 rfl rfl)
theorem dX7_rises_10 : decode cX7_rises 10 = .ok (.iaload, 1) := dk_46 (dk_at dksX7_rises_0 10 rfl rfl)
theorem dX7_rises_11 : decode cX7_rises 11 = .ok (.if_icmp .ge 151, 3) := dk_162 0 151 (dk_at dksX7_rises_0 11 rfl rfl)
theorem dX7_rises_14 : decode cX7_rises 14 = .ok (.aload_n 0, 1) := dk_42 (dk_at dksX7_rises_0 14 rfl rfl)
theorem dX7_rises_15 : decode cX7_rises 15 = .ok (.getfield 28, 3) := dk_180 0 28 (dk_at dksX7_rises_0 15 rfl rfl)
theorem dX7_rises_18 : decode cX7_rises 18 = .ok (.iload_n 2, 1) := dk_28 (dk_at dksX7_rises_0 18 rfl rfl)
theorem dX7_rises_19 : decode cX7_rises 19 = .ok (.iconst 1, 1) := dk_4 (dk_at dksX7_rises_0 19 rfl rfl)
theorem dX7_rises_20 : decode cX7_rises 20 = .ok (.iastore, 1) := dk_79 (dk_at dksX7_rises_0 20 rfl rfl)
theorem dX7_rises_21 : decode cX7_rises 21 = .ok (.aload_n 0, 1) := dk_42 (dk_at dksX7_rises_0 21 rfl rfl)
theorem dX7_rises_22 : decode cX7_rises 22 = .ok (.getfield 31, 3) := dk_180 0 31 (dk_at dksX7_rises_1 0 rfl rfl)
theorem dX7_rises_25 : decode cX7_rises 25 = .ok (.iload_n 2, 1) := dk_28 (dk_at dksX7_rises_1 3 rfl rfl)
theorem dX7_rises_26 : decode cX7_rises 26 = .ok (.iconst 1, 1) := dk_4 (dk_at dksX7_rises_1 4 rfl rfl)
theorem dX7_rises_27 : decode cX7_rises 27 = .ok (.iastore, 1) := dk_79 (dk_at dksX7_rises_1 5 rfl rfl)
theorem dX7_rises_28 : decode cX7_rises 28 = .ok (.iconst 0, 1) := dk_3 (dk_at dksX7_rises_1 6 rfl rfl)
theorem dX7_rises_29 : decode cX7_rises 29 = .ok (.istore_n 3, 1) := dk_62 (dk_at dksX7_rises_1 7 rfl rfl)
theorem dX7_rises_30 : decode cX7_rises 30 = .ok (.iload_n 3, 1) := dk_29 (dk_at dksX7_rises_1 8 rfl rfl)
theorem dX7_rises_31 : decode cX7_rises 31 = .ok (.iload_n 2, 1) := dk_28 (dk_at dksX7_rises_1 9 rfl rfl)
theorem dX7_rises_32 : decode cX7_rises 32 = .ok (.if_icmp .ge 103, 3) := dk_162 0 103 (dk_at dksX7_rises_1 10 rfl rfl)
theorem dX7_rises_35 : decode cX7_rises 35 = .ok (.aload_n 0, 1) := dk_42 (dk_at dksX7_rises_1 13 rfl rfl)
theorem dX7_rises_36 : decode cX7_rises 36 = .ok (.iload_n 3, 1) := dk_29 (dk_at dksX7_rises_1 14 rfl rfl)
theorem dX7_rises_37 : decode cX7_rises 37 = .ok (.iconst 0, 1) := dk_3 (dk_at dksX7_rises_1 15 rfl rfl)
theorem dX7_rises_38 : decode cX7_rises 38 = .ok (.invokevirtual 222, 3) := dk_182 0 222 (dk_at dksX7_rises_1 16 rfl rfl)
theorem dX7_rises_41 : decode cX7_rises 41 = .ok (.aload_n 0, 1) := dk_42 (dk_at dksX7_rises_1 19 rfl rfl)
theorem dX7_rises_42 : decode cX7_rises 42 = .ok (.iload_n 2, 1) := dk_28 (dk_at dksX7_rises_1 20 rfl rfl)
theorem dX7_rises_43 : decode cX7_rises 43 = .ok (.iconst 0, 1) := dk_3 (dk_at dksX7_rises_1 21 rfl rfl)
theorem dX7_rises_44 : decode cX7_rises 44 = .ok (.invokevirtual 222, 3) := dk_182 0 222 (dk_at dksX7_rises_2 0 rfl rfl)
theorem dX7_rises_47 : decode cX7_rises 47 = .ok (.if_icmp .ge 82, 3) := dk_162 0 82 (dk_at dksX7_rises_2 3 rfl rfl)
theorem dX7_rises_50 : decode cX7_rises 50 = .ok (.aload_n 0, 1) := dk_42 (dk_at dksX7_rises_2 6 rfl rfl)
theorem dX7_rises_51 : decode cX7_rises 51 = .ok (.getfield 28, 3) := dk_180 0 28 (dk_at dksX7_rises_2 7 rfl rfl)
theorem dX7_rises_54 : decode cX7_rises 54 = .ok (.iload_n 3, 1) := dk_29 (dk_at dksX7_rises_2 10 rfl rfl)
theorem dX7_rises_55 : decode cX7_rises 55 = .ok (.iaload, 1) := dk_46 (dk_at dksX7_rises_2 11 rfl rfl)
theorem dX7_rises_56 : decode cX7_rises 56 = .ok (.iconst 1, 1) := dk_4 (dk_at dksX7_rises_2 12 rfl rfl)
theorem dX7_rises_57 : decode cX7_rises 57 = .ok (.iadd, 1) := dk_96 (dk_at dksX7_rises_2 13 rfl rfl)
theorem dX7_rises_58 : decode cX7_rises 58 = .ok (.aload_n 0, 1) := dk_42 (dk_at dksX7_rises_2 14 rfl rfl)
theorem dX7_rises_59 : decode cX7_rises 59 = .ok (.getfield 28, 3) := dk_180 0 28 (dk_at dksX7_rises_2 15 rfl rfl)
theorem dX7_rises_62 : decode cX7_rises 62 = .ok (.iload_n 2, 1) := dk_28 (dk_at dksX7_rises_2 18 rfl rfl)
theorem dX7_rises_63 : decode cX7_rises 63 = .ok (.iaload, 1) := dk_46 (dk_at dksX7_rises_2 19 rfl rfl)
theorem dX7_rises_64 : decode cX7_rises 64 = .ok (.if_icmp .ge 6, 3) := dk_162 0 6 (dk_at dksX7_rises_2 20 rfl rfl)
theorem dX7_rises_67 : decode cX7_rises 67 = .ok (.goto 62, 3) := dk_167 0 62 (dk_at dksX7_rises_3 0 rfl rfl)
theorem dX7_rises_70 : decode cX7_rises 70 = .ok (.aload_n 0, 1) := dk_42 (dk_at dksX7_rises_3 3 rfl rfl)
theorem dX7_rises_71 : decode cX7_rises 71 = .ok (.getfield 31, 3) := dk_180 0 31 (dk_at dksX7_rises_3 4 rfl rfl)
theorem dX7_rises_74 : decode cX7_rises 74 = .ok (.iload_n 2, 1) := dk_28 (dk_at dksX7_rises_3 7 rfl rfl)
theorem dX7_rises_75 : decode cX7_rises 75 = .ok (.aload_n 0, 1) := dk_42 (dk_at dksX7_rises_3 8 rfl rfl)
theorem dX7_rises_76 : decode cX7_rises 76 = .ok (.getfield 28, 3) := dk_180 0 28 (dk_at dksX7_rises_3 9 rfl rfl)
theorem dX7_rises_79 : decode cX7_rises 79 = .ok (.iload_n 3, 1) := dk_29 (dk_at dksX7_rises_3 12 rfl rfl)
theorem dX7_rises_80 : decode cX7_rises 80 = .ok (.iaload, 1) := dk_46 (dk_at dksX7_rises_3 13 rfl rfl)
theorem dX7_rises_81 : decode cX7_rises 81 = .ok (.iconst 1, 1) := dk_4 (dk_at dksX7_rises_3 14 rfl rfl)
theorem dX7_rises_82 : decode cX7_rises 82 = .ok (.iadd, 1) := dk_96 (dk_at dksX7_rises_3 15 rfl rfl)
theorem dX7_rises_83 : decode cX7_rises 83 = .ok (.aload_n 0, 1) := dk_42 (dk_at dksX7_rises_3 16 rfl rfl)
theorem dX7_rises_84 : decode cX7_rises 84 = .ok (.getfield 28, 3) := dk_180 0 28 (dk_at dksX7_rises_3 17 rfl rfl)
theorem dX7_rises_87 : decode cX7_rises 87 = .ok (.iload_n 2, 1) := dk_28 (dk_at dksX7_rises_3 20 rfl rfl)
theorem dX7_rises_88 : decode cX7_rises 88 = .ok (.iaload, 1) := dk_46 (dk_at dksX7_rises_3 21 rfl rfl)
theorem dX7_rises_89 : decode cX7_rises 89 = .ok (.if_icmp .le 12, 3) := dk_164 0 12 (dk_at dksX7_rises_4 0 rfl rfl)
theorem dX7_rises_92 : decode cX7_rises 92 = .ok (.aload_n 0, 1) := dk_42 (dk_at dksX7_rises_4 3 rfl rfl)
theorem dX7_rises_93 : decode cX7_rises 93 = .ok (.getfield 31, 3) := dk_180 0 31 (dk_at dksX7_rises_4 4 rfl rfl)
theorem dX7_rises_96 : decode cX7_rises 96 = .ok (.iload_n 3, 1) := dk_29 (dk_at dksX7_rises_4 7 rfl rfl)
theorem dX7_rises_97 : decode cX7_rises 97 = .ok (.iaload, 1) := dk_46 (dk_at dksX7_rises_4 8 rfl rfl)
theorem dX7_rises_98 : decode cX7_rises 98 = .ok (.goto 16, 3) := dk_167 0 16 (dk_at dksX7_rises_4 9 rfl rfl)
theorem dX7_rises_101 : decode cX7_rises 101 = .ok (.aload_n 0, 1) := dk_42 (dk_at dksX7_rises_4 12 rfl rfl)
theorem dX7_rises_102 : decode cX7_rises 102 = .ok (.getfield 31, 3) := dk_180 0 31 (dk_at dksX7_rises_4 13 rfl rfl)
theorem dX7_rises_105 : decode cX7_rises 105 = .ok (.iload_n 2, 1) := dk_28 (dk_at dksX7_rises_4 16 rfl rfl)
theorem dX7_rises_106 : decode cX7_rises 106 = .ok (.iaload, 1) := dk_46 (dk_at dksX7_rises_4 17 rfl rfl)
theorem dX7_rises_107 : decode cX7_rises 107 = .ok (.aload_n 0, 1) := dk_42 (dk_at dksX7_rises_4 18 rfl rfl)
theorem dX7_rises_108 : decode cX7_rises 108 = .ok (.getfield 31, 3) := dk_180 0 31 (dk_at dksX7_rises_4 19 rfl rfl)
theorem dX7_rises_111 : decode cX7_rises 111 = .ok (.iload_n 3, 1) := dk_29 (dk_at dksX7_rises_4 22 rfl rfl)
theorem dX7_rises_112 : decode cX7_rises 112 = .ok (.iaload, 1) := dk_46 (dk_at dksX7_rises_4 23 rfl rfl)
theorem dX7_rises_113 : decode cX7_rises 113 = .ok (.iadd, 1) := dk_96 (dk_at dksX7_rises_5 0 rfl rfl)
theorem dX7_rises_114 : decode cX7_rises 114 = .ok (.iastore, 1) := dk_79 (dk_at dksX7_rises_5 1 rfl rfl)
theorem dX7_rises_115 : decode cX7_rises 115 = .ok (.aload_n 0, 1) := dk_42 (dk_at dksX7_rises_5 2 rfl rfl)
theorem dX7_rises_116 : decode cX7_rises 116 = .ok (.getfield 28, 3) := dk_180 0 28 (dk_at dksX7_rises_5 3 rfl rfl)
theorem dX7_rises_119 : decode cX7_rises 119 = .ok (.iload_n 2, 1) := dk_28 (dk_at dksX7_rises_5 6 rfl rfl)
theorem dX7_rises_120 : decode cX7_rises 120 = .ok (.aload_n 0, 1) := dk_42 (dk_at dksX7_rises_5 7 rfl rfl)
theorem dX7_rises_121 : decode cX7_rises 121 = .ok (.getfield 28, 3) := dk_180 0 28 (dk_at dksX7_rises_5 8 rfl rfl)
theorem dX7_rises_124 : decode cX7_rises 124 = .ok (.iload_n 3, 1) := dk_29 (dk_at dksX7_rises_5 11 rfl rfl)
theorem dX7_rises_125 : decode cX7_rises 125 = .ok (.iaload, 1) := dk_46 (dk_at dksX7_rises_5 12 rfl rfl)
theorem dX7_rises_126 : decode cX7_rises 126 = .ok (.iconst 1, 1) := dk_4 (dk_at dksX7_rises_5 13 rfl rfl)
theorem dX7_rises_127 : decode cX7_rises 127 = .ok (.iadd, 1) := dk_96 (dk_at dksX7_rises_5 14 rfl rfl)
theorem dX7_rises_128 : decode cX7_rises 128 = .ok (.iastore, 1) := dk_79 (dk_at dksX7_rises_5 15 rfl rfl)
theorem dX7_rises_129 : decode cX7_rises 129 = .ok (.iinc 3 1, 3) := dk_132 3 1 (dk_at dksX7_rises_5 16 rfl rfl)
theorem dX7_rises_132 : decode cX7_rises 132 = .ok (.goto (-102), 3) := dk_167 255 154 (dk_at dksX7_rises_5 19 rfl rfl)
theorem dX7_rises_135 : decode cX7_rises 135 = .ok (.aload_n 0, 1) := dk_42 (dk_at dksX7_rises_5 22 rfl rfl)
theorem dX7_rises_136 : decode cX7_rises 136 = .ok (.getfield 28, 3) := dk_180 0 28 (dk_at dksX7_rises_6 0 rfl rfl)
theorem dX7_rises_139 : decode cX7_rises 139 = .ok (.iload_n 2, 1) := dk_28 (dk_at dksX7_rises_6 3 rfl rfl)
theorem dX7_rises_140 : decode cX7_rises 140 = .ok (.iaload, 1) := dk_46 (dk_at dksX7_rises_6 4 rfl rfl)
theorem dX7_rises_141 : decode cX7_rises 141 = .ok (.iload_n 1, 1) := dk_27 (dk_at dksX7_rises_6 5 rfl rfl)
theorem dX7_rises_142 : decode cX7_rises 142 = .ok (.if_icmp .le 12, 3) := dk_164 0 12 (dk_at dksX7_rises_6 6 rfl rfl)
theorem dX7_rises_145 : decode cX7_rises 145 = .ok (.aload_n 0, 1) := dk_42 (dk_at dksX7_rises_6 9 rfl rfl)
theorem dX7_rises_146 : decode cX7_rises 146 = .ok (.getfield 28, 3) := dk_180 0 28 (dk_at dksX7_rises_6 10 rfl rfl)
theorem dX7_rises_149 : decode cX7_rises 149 = .ok (.iload_n 2, 1) := dk_28 (dk_at dksX7_rises_6 13 rfl rfl)
theorem dX7_rises_150 : decode cX7_rises 150 = .ok (.iaload, 1) := dk_46 (dk_at dksX7_rises_6 14 rfl rfl)
theorem dX7_rises_151 : decode cX7_rises 151 = .ok (.goto 4, 3) := dk_167 0 4 (dk_at dksX7_rises_6 15 rfl rfl)
theorem dX7_rises_154 : decode cX7_rises 154 = .ok (.iload_n 1, 1) := dk_27 (dk_at dksX7_rises_6 18 rfl rfl)
theorem dX7_rises_155 : decode cX7_rises 155 = .ok (.istore_n 1, 1) := dk_60 (dk_at dksX7_rises_6 19 rfl rfl)
theorem dX7_rises_156 : decode cX7_rises 156 = .ok (.iinc 2 1, 3) := dk_132 2 1 (dk_at dksX7_rises_6 20 rfl rfl)
theorem dX7_rises_159 : decode cX7_rises 159 = .ok (.goto (-155), 3) := dk_167 255 101 (dk_at dksX7_rises_7 0 rfl rfl)
theorem dX7_rises_162 : decode cX7_rises 162 = .ok (.iload_n 1, 1) := dk_27 (dk_at dksX7_rises_7 3 rfl rfl)
theorem dX7_rises_163 : decode cX7_rises 163 = .ok (.ireturn, 1) := dk_172 (dk_at dksX7_rises_7 4 rfl rfl)
abbrev cX7_riseByEnds : ByteArray := prog_12_method_79_code
def yX7_riseByEnds : MethodName := ⟨RX7, "riseByEnds", "()I"⟩
def dkwX7_riseByEnds_0 : List UInt8 := [42, 42, 182, 0, 225, 182, 0, 129, 172]
abbrev dktX7_riseByEnds_0 : List UInt8 := dkwX7_riseByEnds_0 ++ []
theorem dksX7_riseByEnds_0 : cX7_riseByEnds.data.toList.drop 0 = dktX7_riseByEnds_0 := by decide +kernel
theorem dX7_riseByEnds_0 : decode cX7_riseByEnds 0 = .ok (.aload_n 0, 1) := dk_42 (dk_at dksX7_riseByEnds_0 0 rfl rfl)
theorem dX7_riseByEnds_1 : decode cX7_riseByEnds 1 = .ok (.aload_n 0, 1) := dk_42 (dk_at dksX7_riseByEnds_0 1 rfl rfl)
theorem dX7_riseByEnds_2 : decode cX7_riseByEnds 2 = .ok (.invokevirtual 225, 3) := dk_182 0 225 (dk_at dksX7_riseByEnds_0 2 rfl rfl)
theorem dX7_riseByEnds_5 : decode cX7_riseByEnds 5 = .ok (.invokevirtual 129, 3) := dk_182 0 129 (dk_at dksX7_riseByEnds_0 5 rfl rfl)
theorem dX7_riseByEnds_8 : decode cX7_riseByEnds 8 = .ok (.ireturn, 1) := dk_172 (dk_at dksX7_riseByEnds_0 8 rfl rfl)
abbrev cX7_riseCount : ByteArray := prog_12_method_80_code
def yX7_riseCount : MethodName := ⟨RX7, "riseCount", "()I"⟩
def dkwX7_riseCount_2 : List UInt8 := [46, 167, 0, 4, 3, 96, 61, 132, 3, 1, 167, 255, 220, 28, 172]
abbrev dktX7_riseCount_2 : List UInt8 := dkwX7_riseCount_2 ++ []
def dkwX7_riseCount_1 : List UInt8 := [180, 0, 7, 4, 46, 162, 0, 32, 28, 42, 180, 0, 28, 29, 46, 27, 160, 0, 12, 42, 180, 0, 31, 29]
abbrev dktX7_riseCount_1 : List UInt8 := dkwX7_riseCount_1 ++ dktX7_riseCount_2
def dkwX7_riseCount_0 : List UInt8 := [42, 3, 181, 0, 37, 42, 182, 0, 225, 60, 27, 154, 0, 7, 4, 167, 0, 4, 3, 61, 3, 62, 29, 42]
abbrev dktX7_riseCount_0 : List UInt8 := dkwX7_riseCount_0 ++ dktX7_riseCount_1
theorem dksX7_riseCount_0 : cX7_riseCount.data.toList.drop 0 = dktX7_riseCount_0 := by decide +kernel
theorem dksX7_riseCount_1 : cX7_riseCount.data.toList.drop 24 = dktX7_riseCount_1 := dk_seg dksX7_riseCount_0 24 rfl rfl
theorem dksX7_riseCount_2 : cX7_riseCount.data.toList.drop 48 = dktX7_riseCount_2 := dk_seg dksX7_riseCount_1 24 rfl rfl
theorem dX7_riseCount_0 : decode cX7_riseCount 0 = .ok (.aload_n 0, 1) := dk_42 (dk_at dksX7_riseCount_0 0 rfl rfl)
theorem dX7_riseCount_1 : decode cX7_riseCount 1 = .ok (.iconst 0, 1) := dk_3 (dk_at dksX7_riseCount_0 1 rfl rfl)
theorem dX7_riseCount_2 : decode cX7_riseCount 2 = .ok (.putfield 37, 3) := dk_181 0 37 (dk_at dksX7_riseCount_0 2 rfl rfl)
theorem dX7_riseCount_5 : decode cX7_riseCount 5 = .ok (.aload_n 0, 1) := dk_42 (dk_at dksX7_riseCount_0 5 rfl rfl)
theorem dX7_riseCount_6 : decode cX7_riseCount 6 = .ok (.invokevirtual 225, 3) := dk_182 0 225 (dk_at dksX7_riseCount_0 6 rfl rfl)
theorem dX7_riseCount_9 : decode cX7_riseCount 9 = .ok (.istore_n 1, 1) := dk_60 (dk_at dksX7_riseCount_0 9 rfl rfl)
theorem dX7_riseCount_10 : decode cX7_riseCount 10 = .ok (.iload_n 1, 1) := dk_27 (dk_at dksX7_riseCount_0 10 rfl rfl)
theorem dX7_riseCount_11 : decode cX7_riseCount 11 = .ok (.ifCond .ne 7, 3) := dk_154 0 7 (dk_at dksX7_riseCount_0 11 rfl rfl)
theorem dX7_riseCount_14 : decode cX7_riseCount 14 = .ok (.iconst 1, 1) := dk_4 (dk_at dksX7_riseCount_0 14 rfl rfl)
theorem dX7_riseCount_15 : decode cX7_riseCount 15 = .ok (.goto 4, 3) := dk_167 0 4 (dk_at dksX7_riseCount_0 15 rfl rfl)
theorem dX7_riseCount_18 : decode cX7_riseCount 18 = .ok (.iconst 0, 1) := dk_3 (dk_at dksX7_riseCount_0 18 rfl rfl)
theorem dX7_riseCount_19 : decode cX7_riseCount 19 = .ok (.istore_n 2, 1) := dk_61 (dk_at dksX7_riseCount_0 19 rfl rfl)
theorem dX7_riseCount_20 : decode cX7_riseCount 20 = .ok (.iconst 0, 1) := dk_3 (dk_at dksX7_riseCount_0 20 rfl rfl)
theorem dX7_riseCount_21 : decode cX7_riseCount 21 = .ok (.istore_n 3, 1) := dk_62 (dk_at dksX7_riseCount_0 21 rfl rfl)
theorem dX7_riseCount_22 : decode cX7_riseCount 22 = .ok (.iload_n 3, 1) := dk_29 (dk_at dksX7_riseCount_0 22 rfl rfl)
theorem dX7_riseCount_23 : decode cX7_riseCount 23 = .ok (.aload_n 0, 1) := dk_42 (dk_at dksX7_riseCount_0 23 rfl rfl)
theorem dX7_riseCount_24 : decode cX7_riseCount 24 = .ok (.getfield 7, 3) := dk_180 0 7 (dk_at dksX7_riseCount_1 0 rfl rfl)
theorem dX7_riseCount_27 : decode cX7_riseCount 27 = .ok (.iconst 1, 1) := dk_4 (dk_at dksX7_riseCount_1 3 rfl rfl)
theorem dX7_riseCount_28 : decode cX7_riseCount 28 = .ok (.iaload, 1) := dk_46 (dk_at dksX7_riseCount_1 4 rfl rfl)
theorem dX7_riseCount_29 : decode cX7_riseCount 29 = .ok (.if_icmp .ge 32, 3) := dk_162 0 32 (dk_at dksX7_riseCount_1 5 rfl rfl)
theorem dX7_riseCount_32 : decode cX7_riseCount 32 = .ok (.iload_n 2, 1) := dk_28 (dk_at dksX7_riseCount_1 8 rfl rfl)
theorem dX7_riseCount_33 : decode cX7_riseCount 33 = .ok (.aload_n 0, 1) := dk_42 (dk_at dksX7_riseCount_1 9 rfl rfl)
theorem dX7_riseCount_34 : decode cX7_riseCount 34 = .ok (.getfield 28, 3) := dk_180 0 28 (dk_at dksX7_riseCount_1 10 rfl rfl)
theorem dX7_riseCount_37 : decode cX7_riseCount 37 = .ok (.iload_n 3, 1) := dk_29 (dk_at dksX7_riseCount_1 13 rfl rfl)
theorem dX7_riseCount_38 : decode cX7_riseCount 38 = .ok (.iaload, 1) := dk_46 (dk_at dksX7_riseCount_1 14 rfl rfl)
theorem dX7_riseCount_39 : decode cX7_riseCount 39 = .ok (.iload_n 1, 1) := dk_27 (dk_at dksX7_riseCount_1 15 rfl rfl)
theorem dX7_riseCount_40 : decode cX7_riseCount 40 = .ok (.if_icmp .ne 12, 3) := dk_160 0 12 (dk_at dksX7_riseCount_1 16 rfl rfl)
theorem dX7_riseCount_43 : decode cX7_riseCount 43 = .ok (.aload_n 0, 1) := dk_42 (dk_at dksX7_riseCount_1 19 rfl rfl)
theorem dX7_riseCount_44 : decode cX7_riseCount 44 = .ok (.getfield 31, 3) := dk_180 0 31 (dk_at dksX7_riseCount_1 20 rfl rfl)
theorem dX7_riseCount_47 : decode cX7_riseCount 47 = .ok (.iload_n 3, 1) := dk_29 (dk_at dksX7_riseCount_1 23 rfl rfl)
theorem dX7_riseCount_48 : decode cX7_riseCount 48 = .ok (.iaload, 1) := dk_46 (dk_at dksX7_riseCount_2 0 rfl rfl)
theorem dX7_riseCount_49 : decode cX7_riseCount 49 = .ok (.goto 4, 3) := dk_167 0 4 (dk_at dksX7_riseCount_2 1 rfl rfl)
theorem dX7_riseCount_52 : decode cX7_riseCount 52 = .ok (.iconst 0, 1) := dk_3 (dk_at dksX7_riseCount_2 4 rfl rfl)
theorem dX7_riseCount_53 : decode cX7_riseCount 53 = .ok (.iadd, 1) := dk_96 (dk_at dksX7_riseCount_2 5 rfl rfl)
theorem dX7_riseCount_54 : decode cX7_riseCount 54 = .ok (.istore_n 2, 1) := dk_61 (dk_at dksX7_riseCount_2 6 rfl rfl)
theorem dX7_riseCount_55 : decode cX7_riseCount 55 = .ok (.iinc 3 1, 3) := dk_132 3 1 (dk_at dksX7_riseCount_2 7 rfl rfl)
theorem dX7_riseCount_58 : decode cX7_riseCount 58 = .ok (.goto (-36), 3) := dk_167 255 220 (dk_at dksX7_riseCount_2 10 rfl rfl)
theorem dX7_riseCount_61 : decode cX7_riseCount 61 = .ok (.iload_n 2, 1) := dk_28 (dk_at dksX7_riseCount_2 13 rfl rfl)
theorem dX7_riseCount_62 : decode cX7_riseCount 62 = .ok (.ireturn, 1) := dk_172 (dk_at dksX7_riseCount_2 14 rfl rfl)
abbrev cX7_minutes : ByteArray := prog_12_method_81_code
def yX7_minutes : MethodName := ⟨RX7, "minutes", "()I"⟩
def dkwX7_minutes_0 : List UInt8 := [42, 42, 180, 0, 7, 8, 46, 182, 0, 129, 172]
abbrev dktX7_minutes_0 : List UInt8 := dkwX7_minutes_0 ++ []
theorem dksX7_minutes_0 : cX7_minutes.data.toList.drop 0 = dktX7_minutes_0 := by decide +kernel
theorem dX7_minutes_0 : decode cX7_minutes 0 = .ok (.aload_n 0, 1) := dk_42 (dk_at dksX7_minutes_0 0 rfl rfl)
theorem dX7_minutes_1 : decode cX7_minutes 1 = .ok (.aload_n 0, 1) := dk_42 (dk_at dksX7_minutes_0 1 rfl rfl)
theorem dX7_minutes_2 : decode cX7_minutes 2 = .ok (.getfield 7, 3) := dk_180 0 7 (dk_at dksX7_minutes_0 2 rfl rfl)
theorem dX7_minutes_5 : decode cX7_minutes 5 = .ok (.iconst 5, 1) := dk_8 (dk_at dksX7_minutes_0 5 rfl rfl)
theorem dX7_minutes_6 : decode cX7_minutes 6 = .ok (.iaload, 1) := dk_46 (dk_at dksX7_minutes_0 6 rfl rfl)
theorem dX7_minutes_7 : decode cX7_minutes 7 = .ok (.invokevirtual 129, 3) := dk_182 0 129 (dk_at dksX7_minutes_0 7 rfl rfl)
theorem dX7_minutes_10 : decode cX7_minutes 10 = .ok (.ireturn, 1) := dk_172 (dk_at dksX7_minutes_0 10 rfl rfl)
abbrev cX7_poured : ByteArray := prog_12_method_82_code
def yX7_poured : MethodName := ⟨RX7, "poured", "()I"⟩
def dkwX7_poured_0 : List UInt8 := [42, 42, 180, 0, 7, 16, 6, 46, 182, 0, 129, 172]
abbrev dktX7_poured_0 : List UInt8 := dkwX7_poured_0 ++ []
theorem dksX7_poured_0 : cX7_poured.data.toList.drop 0 = dktX7_poured_0 := by decide +kernel
theorem dX7_poured_0 : decode cX7_poured 0 = .ok (.aload_n 0, 1) := dk_42 (dk_at dksX7_poured_0 0 rfl rfl)
theorem dX7_poured_1 : decode cX7_poured 1 = .ok (.aload_n 0, 1) := dk_42 (dk_at dksX7_poured_0 1 rfl rfl)
theorem dX7_poured_2 : decode cX7_poured 2 = .ok (.getfield 7, 3) := dk_180 0 7 (dk_at dksX7_poured_0 2 rfl rfl)
theorem dX7_poured_5 : decode cX7_poured 5 = .ok (.bipush 6, 2) := dk_16 6 (dk_at dksX7_poured_0 5 rfl rfl)
theorem dX7_poured_7 : decode cX7_poured 7 = .ok (.iaload, 1) := dk_46 (dk_at dksX7_poured_0 7 rfl rfl)
theorem dX7_poured_8 : decode cX7_poured 8 = .ok (.invokevirtual 129, 3) := dk_182 0 129 (dk_at dksX7_poured_0 8 rfl rfl)
theorem dX7_poured_11 : decode cX7_poured 11 = .ok (.ireturn, 1) := dk_172 (dk_at dksX7_poured_0 11 rfl rfl)
abbrev cX7_used : ByteArray := prog_12_method_83_code
def yX7_used : MethodName := ⟨RX7, "used", "()I"⟩
def dkwX7_used_0 : List UInt8 := [42, 42, 180, 0, 7, 16, 7, 46, 182, 0, 129, 172]
abbrev dktX7_used_0 : List UInt8 := dkwX7_used_0 ++ []
theorem dksX7_used_0 : cX7_used.data.toList.drop 0 = dktX7_used_0 := by decide +kernel
theorem dX7_used_0 : decode cX7_used 0 = .ok (.aload_n 0, 1) := dk_42 (dk_at dksX7_used_0 0 rfl rfl)
theorem dX7_used_1 : decode cX7_used 1 = .ok (.aload_n 0, 1) := dk_42 (dk_at dksX7_used_0 1 rfl rfl)
theorem dX7_used_2 : decode cX7_used 2 = .ok (.getfield 7, 3) := dk_180 0 7 (dk_at dksX7_used_0 2 rfl rfl)
theorem dX7_used_5 : decode cX7_used 5 = .ok (.bipush 7, 2) := dk_16 7 (dk_at dksX7_used_0 5 rfl rfl)
theorem dX7_used_7 : decode cX7_used 7 = .ok (.iaload, 1) := dk_46 (dk_at dksX7_used_0 7 rfl rfl)
theorem dX7_used_8 : decode cX7_used 8 = .ok (.invokevirtual 129, 3) := dk_182 0 129 (dk_at dksX7_used_0 8 rfl rfl)
theorem dX7_used_11 : decode cX7_used 11 = .ok (.ireturn, 1) := dk_172 (dk_at dksX7_used_0 11 rfl rfl)
abbrev cX7_faded : ByteArray := prog_12_method_84_code
def yX7_faded : MethodName := ⟨RX7, "faded", "()J"⟩
def dkwX7_faded_0 : List UInt8 := [42, 3, 181, 0, 37, 42, 180, 0, 7, 16, 18, 46, 133, 173]
abbrev dktX7_faded_0 : List UInt8 := dkwX7_faded_0 ++ []
theorem dksX7_faded_0 : cX7_faded.data.toList.drop 0 = dktX7_faded_0 := by decide +kernel
theorem dX7_faded_0 : decode cX7_faded 0 = .ok (.aload_n 0, 1) := dk_42 (dk_at dksX7_faded_0 0 rfl rfl)
theorem dX7_faded_1 : decode cX7_faded 1 = .ok (.iconst 0, 1) := dk_3 (dk_at dksX7_faded_0 1 rfl rfl)
theorem dX7_faded_2 : decode cX7_faded 2 = .ok (.putfield 37, 3) := dk_181 0 37 (dk_at dksX7_faded_0 2 rfl rfl)
theorem dX7_faded_5 : decode cX7_faded 5 = .ok (.aload_n 0, 1) := dk_42 (dk_at dksX7_faded_0 5 rfl rfl)
theorem dX7_faded_6 : decode cX7_faded 6 = .ok (.getfield 7, 3) := dk_180 0 7 (dk_at dksX7_faded_0 6 rfl rfl)
theorem dX7_faded_9 : decode cX7_faded 9 = .ok (.bipush 18, 2) := dk_16 18 (dk_at dksX7_faded_0 9 rfl rfl)
theorem dX7_faded_11 : decode cX7_faded 11 = .ok (.iaload, 1) := dk_46 (dk_at dksX7_faded_0 11 rfl rfl)
theorem dX7_faded_12 : decode cX7_faded 12 = .ok (.i2l, 1) := dk_133 (dk_at dksX7_faded_0 12 rfl rfl)
theorem dX7_faded_13 : decode cX7_faded 13 = .ok (.lreturn, 1) := dk_173 (dk_at dksX7_faded_0 13 rfl rfl)
abbrev cX7_inkInWells : ByteArray := prog_12_method_85_code
def yX7_inkInWells : MethodName := ⟨RX7, "inkInWells", "()I"⟩
def dkwX7_inkInWells_1 : List UInt8 := [46, 96, 60, 132, 2, 1, 167, 255, 235, 27, 172]
abbrev dktX7_inkInWells_1 : List UInt8 := dkwX7_inkInWells_1 ++ []
def dkwX7_inkInWells_0 : List UInt8 := [42, 3, 181, 0, 37, 3, 60, 3, 61, 28, 16, 10, 162, 0, 21, 27, 42, 180, 0, 7, 16, 8, 28, 96]
abbrev dktX7_inkInWells_0 : List UInt8 := dkwX7_inkInWells_0 ++ dktX7_inkInWells_1
theorem dksX7_inkInWells_0 : cX7_inkInWells.data.toList.drop 0 = dktX7_inkInWells_0 := by decide +kernel
theorem dksX7_inkInWells_1 : cX7_inkInWells.data.toList.drop 24 = dktX7_inkInWells_1 := dk_seg dksX7_inkInWells_0 24 rfl rfl
theorem dX7_inkInWells_0 : decode cX7_inkInWells 0 = .ok (.aload_n 0, 1) := dk_42 (dk_at dksX7_inkInWells_0 0 rfl rfl)
theorem dX7_inkInWells_1 : decode cX7_inkInWells 1 = .ok (.iconst 0, 1) := dk_3 (dk_at dksX7_inkInWells_0 1 rfl rfl)
theorem dX7_inkInWells_2 : decode cX7_inkInWells 2 = .ok (.putfield 37, 3) := dk_181 0 37 (dk_at dksX7_inkInWells_0 2 rfl rfl)
theorem dX7_inkInWells_5 : decode cX7_inkInWells 5 = .ok (.iconst 0, 1) := dk_3 (dk_at dksX7_inkInWells_0 5 rfl rfl)
theorem dX7_inkInWells_6 : decode cX7_inkInWells 6 = .ok (.istore_n 1, 1) := dk_60 (dk_at dksX7_inkInWells_0 6 rfl rfl)
theorem dX7_inkInWells_7 : decode cX7_inkInWells 7 = .ok (.iconst 0, 1) := dk_3 (dk_at dksX7_inkInWells_0 7 rfl rfl)
theorem dX7_inkInWells_8 : decode cX7_inkInWells 8 = .ok (.istore_n 2, 1) := dk_61 (dk_at dksX7_inkInWells_0 8 rfl rfl)
theorem dX7_inkInWells_9 : decode cX7_inkInWells 9 = .ok (.iload_n 2, 1) := dk_28 (dk_at dksX7_inkInWells_0 9 rfl rfl)
theorem dX7_inkInWells_10 : decode cX7_inkInWells 10 = .ok (.bipush 10, 2) := dk_16 10 (dk_at dksX7_inkInWells_0 10 rfl rfl)
theorem dX7_inkInWells_12 : decode cX7_inkInWells 12 = .ok (.if_icmp .ge 21, 3) := dk_162 0 21 (dk_at dksX7_inkInWells_0 12 rfl rfl)
theorem dX7_inkInWells_15 : decode cX7_inkInWells 15 = .ok (.iload_n 1, 1) := dk_27 (dk_at dksX7_inkInWells_0 15 rfl rfl)
theorem dX7_inkInWells_16 : decode cX7_inkInWells 16 = .ok (.aload_n 0, 1) := dk_42 (dk_at dksX7_inkInWells_0 16 rfl rfl)
theorem dX7_inkInWells_17 : decode cX7_inkInWells 17 = .ok (.getfield 7, 3) := dk_180 0 7 (dk_at dksX7_inkInWells_0 17 rfl rfl)
theorem dX7_inkInWells_20 : decode cX7_inkInWells 20 = .ok (.bipush 8, 2) := dk_16 8 (dk_at dksX7_inkInWells_0 20 rfl rfl)
theorem dX7_inkInWells_22 : decode cX7_inkInWells 22 = .ok (.iload_n 2, 1) := dk_28 (dk_at dksX7_inkInWells_0 22 rfl rfl)
theorem dX7_inkInWells_23 : decode cX7_inkInWells 23 = .ok (.iadd, 1) := dk_96 (dk_at dksX7_inkInWells_0 23 rfl rfl)
theorem dX7_inkInWells_24 : decode cX7_inkInWells 24 = .ok (.iaload, 1) := dk_46 (dk_at dksX7_inkInWells_1 0 rfl rfl)
theorem dX7_inkInWells_25 : decode cX7_inkInWells 25 = .ok (.iadd, 1) := dk_96 (dk_at dksX7_inkInWells_1 1 rfl rfl)
theorem dX7_inkInWells_26 : decode cX7_inkInWells 26 = .ok (.istore_n 1, 1) := dk_60 (dk_at dksX7_inkInWells_1 2 rfl rfl)
theorem dX7_inkInWells_27 : decode cX7_inkInWells 27 = .ok (.iinc 2 1, 3) := dk_132 2 1 (dk_at dksX7_inkInWells_1 3 rfl rfl)
theorem dX7_inkInWells_30 : decode cX7_inkInWells 30 = .ok (.goto (-21), 3) := dk_167 255 235 (dk_at dksX7_inkInWells_1 6 rfl rfl)
theorem dX7_inkInWells_33 : decode cX7_inkInWells 33 = .ok (.iload_n 1, 1) := dk_27 (dk_at dksX7_inkInWells_1 9 rfl rfl)
theorem dX7_inkInWells_34 : decode cX7_inkInWells 34 = .ok (.ireturn, 1) := dk_172 (dk_at dksX7_inkInWells_1 10 rfl rfl)
abbrev cX7_meanRun : ByteArray := prog_12_method_86_code
def yX7_meanRun : MethodName := ⟨RX7, "meanRun", "()D"⟩
def dkwX7_meanRun_2 : List UInt8 := [132, 2, 1, 167, 255, 234, 27, 135, 42, 180, 0, 7, 3, 46, 135, 111, 175]
abbrev dktX7_meanRun_2 : List UInt8 := dkwX7_meanRun_2 ++ []
def dkwX7_meanRun_1 : List UInt8 := [60, 3, 61, 28, 42, 180, 0, 7, 3, 46, 162, 0, 18, 27, 42, 28, 4, 182, 0, 138, 96, 60]
abbrev dktX7_meanRun_1 : List UInt8 := dkwX7_meanRun_1 ++ dktX7_meanRun_2
def dkwX7_meanRun_0 : List UInt8 := [42, 42, 180, 0, 7, 3, 46, 158, 0, 7, 4, 167, 0, 4, 3, 182, 0, 125, 158, 0, 5, 14, 175, 3]
abbrev dktX7_meanRun_0 : List UInt8 := dkwX7_meanRun_0 ++ dktX7_meanRun_1
theorem dksX7_meanRun_0 : cX7_meanRun.data.toList.drop 0 = dktX7_meanRun_0 := by decide +kernel
theorem dksX7_meanRun_1 : cX7_meanRun.data.toList.drop 24 = dktX7_meanRun_1 := dk_seg dksX7_meanRun_0 24 rfl rfl
theorem dksX7_meanRun_2 : cX7_meanRun.data.toList.drop 46 = dktX7_meanRun_2 := dk_seg dksX7_meanRun_1 22 rfl rfl
theorem dX7_meanRun_0 : decode cX7_meanRun 0 = .ok (.aload_n 0, 1) := dk_42 (dk_at dksX7_meanRun_0 0 rfl rfl)
theorem dX7_meanRun_1 : decode cX7_meanRun 1 = .ok (.aload_n 0, 1) := dk_42 (dk_at dksX7_meanRun_0 1 rfl rfl)
theorem dX7_meanRun_2 : decode cX7_meanRun 2 = .ok (.getfield 7, 3) := dk_180 0 7 (dk_at dksX7_meanRun_0 2 rfl rfl)
theorem dX7_meanRun_5 : decode cX7_meanRun 5 = .ok (.iconst 0, 1) := dk_3 (dk_at dksX7_meanRun_0 5 rfl rfl)
theorem dX7_meanRun_6 : decode cX7_meanRun 6 = .ok (.iaload, 1) := dk_46 (dk_at dksX7_meanRun_0 6 rfl rfl)
theorem dX7_meanRun_7 : decode cX7_meanRun 7 = .ok (.ifCond .le 7, 3) := dk_158 0 7 (dk_at dksX7_meanRun_0 7 rfl rfl)
theorem dX7_meanRun_10 : decode cX7_meanRun 10 = .ok (.iconst 1, 1) := dk_4 (dk_at dksX7_meanRun_0 10 rfl rfl)
theorem dX7_meanRun_11 : decode cX7_meanRun 11 = .ok (.goto 4, 3) := dk_167 0 4 (dk_at dksX7_meanRun_0 11 rfl rfl)
theorem dX7_meanRun_14 : decode cX7_meanRun 14 = .ok (.iconst 0, 1) := dk_3 (dk_at dksX7_meanRun_0 14 rfl rfl)
theorem dX7_meanRun_15 : decode cX7_meanRun 15 = .ok (.invokevirtual 125, 3) := dk_182 0 125 (dk_at dksX7_meanRun_0 15 rfl rfl)
theorem dX7_meanRun_18 : decode cX7_meanRun 18 = .ok (.ifCond .le 5, 3) := dk_158 0 5 (dk_at dksX7_meanRun_0 18 rfl rfl)
theorem dX7_meanRun_21 : decode cX7_meanRun 21 = .ok (.dconst 0, 1) := dk_14 (dk_at dksX7_meanRun_0 21 rfl rfl)
theorem dX7_meanRun_22 : decode cX7_meanRun 22 = .ok (.dreturn, 1) := dk_175 (dk_at dksX7_meanRun_0 22 rfl rfl)
theorem dX7_meanRun_23 : decode cX7_meanRun 23 = .ok (.iconst 0, 1) := dk_3 (dk_at dksX7_meanRun_0 23 rfl rfl)
theorem dX7_meanRun_24 : decode cX7_meanRun 24 = .ok (.istore_n 1, 1) := dk_60 (dk_at dksX7_meanRun_1 0 rfl rfl)
theorem dX7_meanRun_25 : decode cX7_meanRun 25 = .ok (.iconst 0, 1) := dk_3 (dk_at dksX7_meanRun_1 1 rfl rfl)
theorem dX7_meanRun_26 : decode cX7_meanRun 26 = .ok (.istore_n 2, 1) := dk_61 (dk_at dksX7_meanRun_1 2 rfl rfl)
theorem dX7_meanRun_27 : decode cX7_meanRun 27 = .ok (.iload_n 2, 1) := dk_28 (dk_at dksX7_meanRun_1 3 rfl rfl)
theorem dX7_meanRun_28 : decode cX7_meanRun 28 = .ok (.aload_n 0, 1) := dk_42 (dk_at dksX7_meanRun_1 4 rfl rfl)
theorem dX7_meanRun_29 : decode cX7_meanRun 29 = .ok (.getfield 7, 3) := dk_180 0 7 (dk_at dksX7_meanRun_1 5 rfl rfl)
theorem dX7_meanRun_32 : decode cX7_meanRun 32 = .ok (.iconst 0, 1) := dk_3 (dk_at dksX7_meanRun_1 8 rfl rfl)
theorem dX7_meanRun_33 : decode cX7_meanRun 33 = .ok (.iaload, 1) := dk_46 (dk_at dksX7_meanRun_1 9 rfl rfl)
theorem dX7_meanRun_34 : decode cX7_meanRun 34 = .ok (.if_icmp .ge 18, 3) := dk_162 0 18 (dk_at dksX7_meanRun_1 10 rfl rfl)
theorem dX7_meanRun_37 : decode cX7_meanRun 37 = .ok (.iload_n 1, 1) := dk_27 (dk_at dksX7_meanRun_1 13 rfl rfl)
theorem dX7_meanRun_38 : decode cX7_meanRun 38 = .ok (.aload_n 0, 1) := dk_42 (dk_at dksX7_meanRun_1 14 rfl rfl)
theorem dX7_meanRun_39 : decode cX7_meanRun 39 = .ok (.iload_n 2, 1) := dk_28 (dk_at dksX7_meanRun_1 15 rfl rfl)
theorem dX7_meanRun_40 : decode cX7_meanRun 40 = .ok (.iconst 1, 1) := dk_4 (dk_at dksX7_meanRun_1 16 rfl rfl)
theorem dX7_meanRun_41 : decode cX7_meanRun 41 = .ok (.invokevirtual 138, 3) := dk_182 0 138 (dk_at dksX7_meanRun_1 17 rfl rfl)
theorem dX7_meanRun_44 : decode cX7_meanRun 44 = .ok (.iadd, 1) := dk_96 (dk_at dksX7_meanRun_1 20 rfl rfl)
theorem dX7_meanRun_45 : decode cX7_meanRun 45 = .ok (.istore_n 1, 1) := dk_60 (dk_at dksX7_meanRun_1 21 rfl rfl)
theorem dX7_meanRun_46 : decode cX7_meanRun 46 = .ok (.iinc 2 1, 3) := dk_132 2 1 (dk_at dksX7_meanRun_2 0 rfl rfl)
theorem dX7_meanRun_49 : decode cX7_meanRun 49 = .ok (.goto (-22), 3) := dk_167 255 234 (dk_at dksX7_meanRun_2 3 rfl rfl)
theorem dX7_meanRun_52 : decode cX7_meanRun 52 = .ok (.iload_n 1, 1) := dk_27 (dk_at dksX7_meanRun_2 6 rfl rfl)
theorem dX7_meanRun_53 : decode cX7_meanRun 53 = .ok (.i2d, 1) := dk_135 (dk_at dksX7_meanRun_2 7 rfl rfl)
theorem dX7_meanRun_54 : decode cX7_meanRun 54 = .ok (.aload_n 0, 1) := dk_42 (dk_at dksX7_meanRun_2 8 rfl rfl)
theorem dX7_meanRun_55 : decode cX7_meanRun 55 = .ok (.getfield 7, 3) := dk_180 0 7 (dk_at dksX7_meanRun_2 9 rfl rfl)
theorem dX7_meanRun_58 : decode cX7_meanRun 58 = .ok (.iconst 0, 1) := dk_3 (dk_at dksX7_meanRun_2 12 rfl rfl)
theorem dX7_meanRun_59 : decode cX7_meanRun 59 = .ok (.iaload, 1) := dk_46 (dk_at dksX7_meanRun_2 13 rfl rfl)
theorem dX7_meanRun_60 : decode cX7_meanRun 60 = .ok (.i2d, 1) := dk_135 (dk_at dksX7_meanRun_2 14 rfl rfl)
theorem dX7_meanRun_61 : decode cX7_meanRun 61 = .ok (.ddiv, 1) := dk_111 (dk_at dksX7_meanRun_2 15 rfl rfl)
theorem dX7_meanRun_62 : decode cX7_meanRun 62 = .ok (.dreturn, 1) := dk_175 (dk_at dksX7_meanRun_2 16 rfl rfl)
abbrev cX7_fadedShare : ByteArray := prog_12_method_87_code
def yX7_fadedShare : MethodName := ⟨RX7, "fadedShare", "()F"⟩
def dkwX7_fadedShare_1 : List UInt8 := [167, 0, 20, 42, 180, 0, 7, 16, 18, 46, 134, 42, 180, 0, 7, 16, 6, 46, 134, 110, 174]
abbrev dktX7_fadedShare_1 : List UInt8 := dkwX7_fadedShare_1 ++ []
def dkwX7_fadedShare_0 : List UInt8 := [42, 42, 180, 0, 7, 16, 6, 46, 158, 0, 7, 4, 167, 0, 4, 3, 182, 0, 125, 158, 0, 7, 11]
abbrev dktX7_fadedShare_0 : List UInt8 := dkwX7_fadedShare_0 ++ dktX7_fadedShare_1
theorem dksX7_fadedShare_0 : cX7_fadedShare.data.toList.drop 0 = dktX7_fadedShare_0 := by decide +kernel
theorem dksX7_fadedShare_1 : cX7_fadedShare.data.toList.drop 23 = dktX7_fadedShare_1 := dk_seg dksX7_fadedShare_0 23 rfl rfl
theorem dX7_fadedShare_0 : decode cX7_fadedShare 0 = .ok (.aload_n 0, 1) := dk_42 (dk_at dksX7_fadedShare_0 0 rfl rfl)
theorem dX7_fadedShare_1 : decode cX7_fadedShare 1 = .ok (.aload_n 0, 1) := dk_42 (dk_at dksX7_fadedShare_0 1 rfl rfl)
theorem dX7_fadedShare_2 : decode cX7_fadedShare 2 = .ok (.getfield 7, 3) := dk_180 0 7 (dk_at dksX7_fadedShare_0 2 rfl rfl)
theorem dX7_fadedShare_5 : decode cX7_fadedShare 5 = .ok (.bipush 6, 2) := dk_16 6 (dk_at dksX7_fadedShare_0 5 rfl rfl)
theorem dX7_fadedShare_7 : decode cX7_fadedShare 7 = .ok (.iaload, 1) := dk_46 (dk_at dksX7_fadedShare_0 7 rfl rfl)
theorem dX7_fadedShare_8 : decode cX7_fadedShare 8 = .ok (.ifCond .le 7, 3) := dk_158 0 7 (dk_at dksX7_fadedShare_0 8 rfl rfl)
theorem dX7_fadedShare_11 : decode cX7_fadedShare 11 = .ok (.iconst 1, 1) := dk_4 (dk_at dksX7_fadedShare_0 11 rfl rfl)
theorem dX7_fadedShare_12 : decode cX7_fadedShare 12 = .ok (.goto 4, 3) := dk_167 0 4 (dk_at dksX7_fadedShare_0 12 rfl rfl)
theorem dX7_fadedShare_15 : decode cX7_fadedShare 15 = .ok (.iconst 0, 1) := dk_3 (dk_at dksX7_fadedShare_0 15 rfl rfl)
theorem dX7_fadedShare_16 : decode cX7_fadedShare 16 = .ok (.invokevirtual 125, 3) := dk_182 0 125 (dk_at dksX7_fadedShare_0 16 rfl rfl)
theorem dX7_fadedShare_19 : decode cX7_fadedShare 19 = .ok (.ifCond .le 7, 3) := dk_158 0 7 (dk_at dksX7_fadedShare_0 19 rfl rfl)
theorem dX7_fadedShare_22 : decode cX7_fadedShare 22 = .ok (.fconst 0, 1) := dk_11 (dk_at dksX7_fadedShare_0 22 rfl rfl)
theorem dX7_fadedShare_23 : decode cX7_fadedShare 23 = .ok (.goto 20, 3) := dk_167 0 20 (dk_at dksX7_fadedShare_1 0 rfl rfl)
theorem dX7_fadedShare_26 : decode cX7_fadedShare 26 = .ok (.aload_n 0, 1) := dk_42 (dk_at dksX7_fadedShare_1 3 rfl rfl)
theorem dX7_fadedShare_27 : decode cX7_fadedShare 27 = .ok (.getfield 7, 3) := dk_180 0 7 (dk_at dksX7_fadedShare_1 4 rfl rfl)
theorem dX7_fadedShare_30 : decode cX7_fadedShare 30 = .ok (.bipush 18, 2) := dk_16 18 (dk_at dksX7_fadedShare_1 7 rfl rfl)
theorem dX7_fadedShare_32 : decode cX7_fadedShare 32 = .ok (.iaload, 1) := dk_46 (dk_at dksX7_fadedShare_1 9 rfl rfl)
theorem dX7_fadedShare_33 : decode cX7_fadedShare 33 = .ok (.i2f, 1) := dk_134 (dk_at dksX7_fadedShare_1 10 rfl rfl)
theorem dX7_fadedShare_34 : decode cX7_fadedShare 34 = .ok (.aload_n 0, 1) := dk_42 (dk_at dksX7_fadedShare_1 11 rfl rfl)
theorem dX7_fadedShare_35 : decode cX7_fadedShare 35 = .ok (.getfield 7, 3) := dk_180 0 7 (dk_at dksX7_fadedShare_1 12 rfl rfl)
theorem dX7_fadedShare_38 : decode cX7_fadedShare 38 = .ok (.bipush 6, 2) := dk_16 6 (dk_at dksX7_fadedShare_1 15 rfl rfl)
theorem dX7_fadedShare_40 : decode cX7_fadedShare 40 = .ok (.iaload, 1) := dk_46 (dk_at dksX7_fadedShare_1 17 rfl rfl)
theorem dX7_fadedShare_41 : decode cX7_fadedShare 41 = .ok (.i2f, 1) := dk_134 (dk_at dksX7_fadedShare_1 18 rfl rfl)
theorem dX7_fadedShare_42 : decode cX7_fadedShare 42 = .ok (.fdiv, 1) := dk_110 (dk_at dksX7_fadedShare_1 19 rfl rfl)
theorem dX7_fadedShare_43 : decode cX7_fadedShare 43 = .ok (.freturn, 1) := dk_174 (dk_at dksX7_fadedShare_1 20 rfl rfl)
abbrev cX7_isConsistent : ByteArray := prog_12_method_88_code
def yX7_isConsistent : MethodName := ⟨RX7, "isConsistent", "()Z"⟩
def dkwX7_isConsistent_0 : List UInt8 := [42, 4, 182, 0, 129, 4, 160, 0, 7, 4, 167, 0, 4, 3, 172]
abbrev dktX7_isConsistent_0 : List UInt8 := dkwX7_isConsistent_0 ++ []
theorem dksX7_isConsistent_0 : cX7_isConsistent.data.toList.drop 0 = dktX7_isConsistent_0 := by decide +kernel
theorem dX7_isConsistent_0 : decode cX7_isConsistent 0 = .ok (.aload_n 0, 1) := dk_42 (dk_at dksX7_isConsistent_0 0 rfl rfl)
theorem dX7_isConsistent_1 : decode cX7_isConsistent 1 = .ok (.iconst 1, 1) := dk_4 (dk_at dksX7_isConsistent_0 1 rfl rfl)
theorem dX7_isConsistent_2 : decode cX7_isConsistent 2 = .ok (.invokevirtual 129, 3) := dk_182 0 129 (dk_at dksX7_isConsistent_0 2 rfl rfl)
theorem dX7_isConsistent_5 : decode cX7_isConsistent 5 = .ok (.iconst 1, 1) := dk_4 (dk_at dksX7_isConsistent_0 5 rfl rfl)
theorem dX7_isConsistent_6 : decode cX7_isConsistent 6 = .ok (.if_icmp .ne 7, 3) := dk_160 0 7 (dk_at dksX7_isConsistent_0 6 rfl rfl)
theorem dX7_isConsistent_9 : decode cX7_isConsistent 9 = .ok (.iconst 1, 1) := dk_4 (dk_at dksX7_isConsistent_0 9 rfl rfl)
theorem dX7_isConsistent_10 : decode cX7_isConsistent 10 = .ok (.goto 4, 3) := dk_167 0 4 (dk_at dksX7_isConsistent_0 10 rfl rfl)
theorem dX7_isConsistent_13 : decode cX7_isConsistent 13 = .ok (.iconst 0, 1) := dk_3 (dk_at dksX7_isConsistent_0 13 rfl rfl)
theorem dX7_isConsistent_14 : decode cX7_isConsistent 14 = .ok (.ireturn, 1) := dk_172 (dk_at dksX7_isConsistent_0 14 rfl rfl)
abbrev cX7_writeEdition : ByteArray := prog_12_method_91_code
def yX7_writeEdition : MethodName := ⟨RX7, "writeEdition", "(I)I"⟩
def dkwX7_writeEdition_3 : List UInt8 := [42, 180, 0, 57, 172]
abbrev dktX7_writeEdition_3 : List UInt8 := dkwX7_writeEdition_3 ++ []
def dkwX7_writeEdition_2 : List UInt8 := [27, 5, 182, 0, 138, 182, 0, 232, 42, 16, 47, 182, 0, 228, 42, 42, 27, 4, 182, 0, 138, 182, 0, 232]
abbrev dktX7_writeEdition_2 : List UInt8 := dkwX7_writeEdition_2 ++ dktX7_writeEdition_3
def dkwX7_writeEdition_1 : List UInt8 := [42, 16, 99, 182, 0, 228, 42, 42, 27, 3, 182, 0, 138, 182, 0, 232, 42, 16, 58, 182, 0, 228, 42, 42]
abbrev dktX7_writeEdition_1 : List UInt8 := dkwX7_writeEdition_1 ++ dktX7_writeEdition_2
def dkwX7_writeEdition_0 : List UInt8 := [42, 42, 27, 182, 0, 147, 182, 0, 125, 158, 0, 5, 3, 172, 42, 3, 181, 0, 57, 42, 27, 182, 0, 232]
abbrev dktX7_writeEdition_0 : List UInt8 := dkwX7_writeEdition_0 ++ dktX7_writeEdition_1
theorem dksX7_writeEdition_0 : cX7_writeEdition.data.toList.drop 0 = dktX7_writeEdition_0 := by decide +kernel
theorem dksX7_writeEdition_1 : cX7_writeEdition.data.toList.drop 24 = dktX7_writeEdition_1 := dk_seg dksX7_writeEdition_0 24 rfl rfl
theorem dksX7_writeEdition_2 : cX7_writeEdition.data.toList.drop 48 = dktX7_writeEdition_2 := dk_seg dksX7_writeEdition_1 24 rfl rfl
theorem dksX7_writeEdition_3 : cX7_writeEdition.data.toList.drop 72 = dktX7_writeEdition_3 := dk_seg dksX7_writeEdition_2 24 rfl rfl
theorem dX7_writeEdition_0 : decode cX7_writeEdition 0 = .ok (.aload_n 0, 1) := dk_42 (dk_at dksX7_writeEdition_0 0 rfl rfl)
theorem dX7_writeEdition_1 : decode cX7_writeEdition 1 = .ok (.aload_n 0, 1) := dk_42 (dk_at dksX7_writeEdition_0 1 rfl rfl)
theorem dX7_writeEdition_2 : decode cX7_writeEdition 2 = .ok (.iload_n 1, 1) := dk_27 (dk_at dksX7_writeEdition_0 2 rfl rfl)
theorem dX7_writeEdition_3 : decode cX7_writeEdition 3 = .ok (.invokevirtual 147, 3) := dk_182 0 147 (dk_at dksX7_writeEdition_0 3 rfl rfl)
theorem dX7_writeEdition_6 : decode cX7_writeEdition 6 = .ok (.invokevirtual 125, 3) := dk_182 0 125 (dk_at dksX7_writeEdition_0 6 rfl rfl)
theorem dX7_writeEdition_9 : decode cX7_writeEdition 9 = .ok (.ifCond .le 5, 3) := dk_158 0 5 (dk_at dksX7_writeEdition_0 9 rfl rfl)
theorem dX7_writeEdition_12 : decode cX7_writeEdition 12 = .ok (.iconst 0, 1) := dk_3 (dk_at dksX7_writeEdition_0 12 rfl rfl)
theorem dX7_writeEdition_13 : decode cX7_writeEdition 13 = .ok (.ireturn, 1) := dk_172 (dk_at dksX7_writeEdition_0 13 rfl rfl)
theorem dX7_writeEdition_14 : decode cX7_writeEdition 14 = .ok (.aload_n 0, 1) := dk_42 (dk_at dksX7_writeEdition_0 14 rfl rfl)
theorem dX7_writeEdition_15 : decode cX7_writeEdition 15 = .ok (.iconst 0, 1) := dk_3 (dk_at dksX7_writeEdition_0 15 rfl rfl)
theorem dX7_writeEdition_16 : decode cX7_writeEdition 16 = .ok (.putfield 57, 3) := dk_181 0 57 (dk_at dksX7_writeEdition_0 16 rfl rfl)
theorem dX7_writeEdition_19 : decode cX7_writeEdition 19 = .ok (.aload_n 0, 1) := dk_42 (dk_at dksX7_writeEdition_0 19 rfl rfl)
theorem dX7_writeEdition_20 : decode cX7_writeEdition 20 = .ok (.iload_n 1, 1) := dk_27 (dk_at dksX7_writeEdition_0 20 rfl rfl)
theorem dX7_writeEdition_21 : decode cX7_writeEdition 21 = .ok (.invokevirtual 232, 3) := dk_182 0 232 (dk_at dksX7_writeEdition_0 21 rfl rfl)
theorem dX7_writeEdition_24 : decode cX7_writeEdition 24 = .ok (.aload_n 0, 1) := dk_42 (dk_at dksX7_writeEdition_1 0 rfl rfl)
theorem dX7_writeEdition_25 : decode cX7_writeEdition 25 = .ok (.bipush 99, 2) := dk_16 99 (dk_at dksX7_writeEdition_1 1 rfl rfl)
theorem dX7_writeEdition_27 : decode cX7_writeEdition 27 = .ok (.invokevirtual 228, 3) := dk_182 0 228 (dk_at dksX7_writeEdition_1 3 rfl rfl)
theorem dX7_writeEdition_30 : decode cX7_writeEdition 30 = .ok (.aload_n 0, 1) := dk_42 (dk_at dksX7_writeEdition_1 6 rfl rfl)
theorem dX7_writeEdition_31 : decode cX7_writeEdition 31 = .ok (.aload_n 0, 1) := dk_42 (dk_at dksX7_writeEdition_1 7 rfl rfl)
theorem dX7_writeEdition_32 : decode cX7_writeEdition 32 = .ok (.iload_n 1, 1) := dk_27 (dk_at dksX7_writeEdition_1 8 rfl rfl)
theorem dX7_writeEdition_33 : decode cX7_writeEdition 33 = .ok (.iconst 0, 1) := dk_3 (dk_at dksX7_writeEdition_1 9 rfl rfl)
theorem dX7_writeEdition_34 : decode cX7_writeEdition 34 = .ok (.invokevirtual 138, 3) := dk_182 0 138 (dk_at dksX7_writeEdition_1 10 rfl rfl)
theorem dX7_writeEdition_37 : decode cX7_writeEdition 37 = .ok (.invokevirtual 232, 3) := dk_182 0 232 (dk_at dksX7_writeEdition_1 13 rfl rfl)
theorem dX7_writeEdition_40 : decode cX7_writeEdition 40 = .ok (.aload_n 0, 1) := dk_42 (dk_at dksX7_writeEdition_1 16 rfl rfl)
theorem dX7_writeEdition_41 : decode cX7_writeEdition 41 = .ok (.bipush 58, 2) := dk_16 58 (dk_at dksX7_writeEdition_1 17 rfl rfl)
theorem dX7_writeEdition_43 : decode cX7_writeEdition 43 = .ok (.invokevirtual 228, 3) := dk_182 0 228 (dk_at dksX7_writeEdition_1 19 rfl rfl)
theorem dX7_writeEdition_46 : decode cX7_writeEdition 46 = .ok (.aload_n 0, 1) := dk_42 (dk_at dksX7_writeEdition_1 22 rfl rfl)
theorem dX7_writeEdition_47 : decode cX7_writeEdition 47 = .ok (.aload_n 0, 1) := dk_42 (dk_at dksX7_writeEdition_1 23 rfl rfl)
theorem dX7_writeEdition_48 : decode cX7_writeEdition 48 = .ok (.iload_n 1, 1) := dk_27 (dk_at dksX7_writeEdition_2 0 rfl rfl)
theorem dX7_writeEdition_49 : decode cX7_writeEdition 49 = .ok (.iconst 2, 1) := dk_5 (dk_at dksX7_writeEdition_2 1 rfl rfl)
theorem dX7_writeEdition_50 : decode cX7_writeEdition 50 = .ok (.invokevirtual 138, 3) := dk_182 0 138 (dk_at dksX7_writeEdition_2 2 rfl rfl)
theorem dX7_writeEdition_53 : decode cX7_writeEdition 53 = .ok (.invokevirtual 232, 3) := dk_182 0 232 (dk_at dksX7_writeEdition_2 5 rfl rfl)
theorem dX7_writeEdition_56 : decode cX7_writeEdition 56 = .ok (.aload_n 0, 1) := dk_42 (dk_at dksX7_writeEdition_2 8 rfl rfl)
theorem dX7_writeEdition_57 : decode cX7_writeEdition 57 = .ok (.bipush 47, 2) := dk_16 47 (dk_at dksX7_writeEdition_2 9 rfl rfl)
theorem dX7_writeEdition_59 : decode cX7_writeEdition 59 = .ok (.invokevirtual 228, 3) := dk_182 0 228 (dk_at dksX7_writeEdition_2 11 rfl rfl)
theorem dX7_writeEdition_62 : decode cX7_writeEdition 62 = .ok (.aload_n 0, 1) := dk_42 (dk_at dksX7_writeEdition_2 14 rfl rfl)
theorem dX7_writeEdition_63 : decode cX7_writeEdition 63 = .ok (.aload_n 0, 1) := dk_42 (dk_at dksX7_writeEdition_2 15 rfl rfl)
theorem dX7_writeEdition_64 : decode cX7_writeEdition 64 = .ok (.iload_n 1, 1) := dk_27 (dk_at dksX7_writeEdition_2 16 rfl rfl)
theorem dX7_writeEdition_65 : decode cX7_writeEdition 65 = .ok (.iconst 1, 1) := dk_4 (dk_at dksX7_writeEdition_2 17 rfl rfl)
theorem dX7_writeEdition_66 : decode cX7_writeEdition 66 = .ok (.invokevirtual 138, 3) := dk_182 0 138 (dk_at dksX7_writeEdition_2 18 rfl rfl)
theorem dX7_writeEdition_69 : decode cX7_writeEdition 69 = .ok (.invokevirtual 232, 3) := dk_182 0 232 (dk_at dksX7_writeEdition_2 21 rfl rfl)
theorem dX7_writeEdition_72 : decode cX7_writeEdition 72 = .ok (.aload_n 0, 1) := dk_42 (dk_at dksX7_writeEdition_3 0 rfl rfl)
theorem dX7_writeEdition_73 : decode cX7_writeEdition 73 = .ok (.getfield 57, 3) := dk_180 0 57 (dk_at dksX7_writeEdition_3 1 rfl rfl)
theorem dX7_writeEdition_76 : decode cX7_writeEdition 76 = .ok (.ireturn, 1) := dk_172 (dk_at dksX7_writeEdition_3 4 rfl rfl)
abbrev cX7_writeNumber : ByteArray := prog_12_method_90_code
def yX7_writeNumber : MethodName := ⟨RX7, "writeNumber", "(I)V"⟩
def dkwX7_writeNumber_1 : List UInt8 := [16, 48, 27, 28, 108, 16, 10, 112, 96, 182, 0, 228, 28, 16, 10, 108, 61, 167, 255, 234, 177]
abbrev dktX7_writeNumber_1 : List UInt8 := dkwX7_writeNumber_1 ++ []
def dkwX7_writeNumber_0 : List UInt8 := [4, 61, 27, 28, 108, 16, 9, 164, 0, 11, 28, 16, 10, 104, 61, 167, 255, 243, 28, 158, 0, 24, 42]
abbrev dktX7_writeNumber_0 : List UInt8 := dkwX7_writeNumber_0 ++ dktX7_writeNumber_1
theorem dksX7_writeNumber_0 : cX7_writeNumber.data.toList.drop 0 = dktX7_writeNumber_0 := by decide +kernel
theorem dksX7_writeNumber_1 : cX7_writeNumber.data.toList.drop 23 = dktX7_writeNumber_1 := dk_seg dksX7_writeNumber_0 23 rfl rfl
theorem dX7_writeNumber_0 : decode cX7_writeNumber 0 = .ok (.iconst 1, 1) := dk_4 (dk_at dksX7_writeNumber_0 0 rfl rfl)
theorem dX7_writeNumber_1 : decode cX7_writeNumber 1 = .ok (.istore_n 2, 1) := dk_61 (dk_at dksX7_writeNumber_0 1 rfl rfl)
theorem dX7_writeNumber_2 : decode cX7_writeNumber 2 = .ok (.iload_n 1, 1) := dk_27 (dk_at dksX7_writeNumber_0 2 rfl rfl)
theorem dX7_writeNumber_3 : decode cX7_writeNumber 3 = .ok (.iload_n 2, 1) := dk_28 (dk_at dksX7_writeNumber_0 3 rfl rfl)
theorem dX7_writeNumber_4 : decode cX7_writeNumber 4 = .ok (.idiv, 1) := dk_108 (dk_at dksX7_writeNumber_0 4 rfl rfl)
theorem dX7_writeNumber_5 : decode cX7_writeNumber 5 = .ok (.bipush 9, 2) := dk_16 9 (dk_at dksX7_writeNumber_0 5 rfl rfl)
theorem dX7_writeNumber_7 : decode cX7_writeNumber 7 = .ok (.if_icmp .le 11, 3) := dk_164 0 11 (dk_at dksX7_writeNumber_0 7 rfl rfl)
theorem dX7_writeNumber_10 : decode cX7_writeNumber 10 = .ok (.iload_n 2, 1) := dk_28 (dk_at dksX7_writeNumber_0 10 rfl rfl)
theorem dX7_writeNumber_11 : decode cX7_writeNumber 11 = .ok (.bipush 10, 2) := dk_16 10 (dk_at dksX7_writeNumber_0 11 rfl rfl)
theorem dX7_writeNumber_13 : decode cX7_writeNumber 13 = .ok (.imul, 1) := dk_104 (dk_at dksX7_writeNumber_0 13 rfl rfl)
theorem dX7_writeNumber_14 : decode cX7_writeNumber 14 = .ok (.istore_n 2, 1) := dk_61 (dk_at dksX7_writeNumber_0 14 rfl rfl)
theorem dX7_writeNumber_15 : decode cX7_writeNumber 15 = .ok (.goto (-13), 3) := dk_167 255 243 (dk_at dksX7_writeNumber_0 15 rfl rfl)
theorem dX7_writeNumber_18 : decode cX7_writeNumber 18 = .ok (.iload_n 2, 1) := dk_28 (dk_at dksX7_writeNumber_0 18 rfl rfl)
theorem dX7_writeNumber_19 : decode cX7_writeNumber 19 = .ok (.ifCond .le 24, 3) := dk_158 0 24 (dk_at dksX7_writeNumber_0 19 rfl rfl)
theorem dX7_writeNumber_22 : decode cX7_writeNumber 22 = .ok (.aload_n 0, 1) := dk_42 (dk_at dksX7_writeNumber_0 22 rfl rfl)
theorem dX7_writeNumber_23 : decode cX7_writeNumber 23 = .ok (.bipush 48, 2) := dk_16 48 (dk_at dksX7_writeNumber_1 0 rfl rfl)
theorem dX7_writeNumber_25 : decode cX7_writeNumber 25 = .ok (.iload_n 1, 1) := dk_27 (dk_at dksX7_writeNumber_1 2 rfl rfl)
theorem dX7_writeNumber_26 : decode cX7_writeNumber 26 = .ok (.iload_n 2, 1) := dk_28 (dk_at dksX7_writeNumber_1 3 rfl rfl)
theorem dX7_writeNumber_27 : decode cX7_writeNumber 27 = .ok (.idiv, 1) := dk_108 (dk_at dksX7_writeNumber_1 4 rfl rfl)
theorem dX7_writeNumber_28 : decode cX7_writeNumber 28 = .ok (.bipush 10, 2) := dk_16 10 (dk_at dksX7_writeNumber_1 5 rfl rfl)
theorem dX7_writeNumber_30 : decode cX7_writeNumber 30 = .ok (.irem, 1) := dk_112 (dk_at dksX7_writeNumber_1 7 rfl rfl)
theorem dX7_writeNumber_31 : decode cX7_writeNumber 31 = .ok (.iadd, 1) := dk_96 (dk_at dksX7_writeNumber_1 8 rfl rfl)
theorem dX7_writeNumber_32 : decode cX7_writeNumber 32 = .ok (.invokevirtual 228, 3) := dk_182 0 228 (dk_at dksX7_writeNumber_1 9 rfl rfl)
theorem dX7_writeNumber_35 : decode cX7_writeNumber 35 = .ok (.iload_n 2, 1) := dk_28 (dk_at dksX7_writeNumber_1 12 rfl rfl)
theorem dX7_writeNumber_36 : decode cX7_writeNumber 36 = .ok (.bipush 10, 2) := dk_16 10 (dk_at dksX7_writeNumber_1 13 rfl rfl)
theorem dX7_writeNumber_38 : decode cX7_writeNumber 38 = .ok (.idiv, 1) := dk_108 (dk_at dksX7_writeNumber_1 15 rfl rfl)
theorem dX7_writeNumber_39 : decode cX7_writeNumber 39 = .ok (.istore_n 2, 1) := dk_61 (dk_at dksX7_writeNumber_1 16 rfl rfl)
theorem dX7_writeNumber_40 : decode cX7_writeNumber 40 = .ok (.goto (-22), 3) := dk_167 255 234 (dk_at dksX7_writeNumber_1 17 rfl rfl)
theorem dX7_writeNumber_43 : decode cX7_writeNumber 43 = .ok (.return_, 1) := dk_177 (dk_at dksX7_writeNumber_1 20 rfl rfl)
abbrev cX7_write : ByteArray := prog_12_method_89_code
def yX7_write : MethodName := ⟨RX7, "write", "(I)V"⟩
def dkwX7_write_0 : List UInt8 := [42, 180, 0, 54, 42, 180, 0, 57, 27, 79, 42, 89, 180, 0, 57, 4, 96, 181, 0, 57, 177]
abbrev dktX7_write_0 : List UInt8 := dkwX7_write_0 ++ []
theorem dksX7_write_0 : cX7_write.data.toList.drop 0 = dktX7_write_0 := by decide +kernel
theorem dX7_write_0 : decode cX7_write 0 = .ok (.aload_n 0, 1) := dk_42 (dk_at dksX7_write_0 0 rfl rfl)
theorem dX7_write_1 : decode cX7_write 1 = .ok (.getfield 54, 3) := dk_180 0 54 (dk_at dksX7_write_0 1 rfl rfl)
theorem dX7_write_4 : decode cX7_write 4 = .ok (.aload_n 0, 1) := dk_42 (dk_at dksX7_write_0 4 rfl rfl)
theorem dX7_write_5 : decode cX7_write 5 = .ok (.getfield 57, 3) := dk_180 0 57 (dk_at dksX7_write_0 5 rfl rfl)
theorem dX7_write_8 : decode cX7_write 8 = .ok (.iload_n 1, 1) := dk_27 (dk_at dksX7_write_0 8 rfl rfl)
theorem dX7_write_9 : decode cX7_write 9 = .ok (.iastore, 1) := dk_79 (dk_at dksX7_write_0 9 rfl rfl)
theorem dX7_write_10 : decode cX7_write 10 = .ok (.aload_n 0, 1) := dk_42 (dk_at dksX7_write_0 10 rfl rfl)
theorem dX7_write_11 : decode cX7_write 11 = .ok (.dup, 1) := dk_89 (dk_at dksX7_write_0 11 rfl rfl)
theorem dX7_write_12 : decode cX7_write 12 = .ok (.getfield 57, 3) := dk_180 0 57 (dk_at dksX7_write_0 12 rfl rfl)
theorem dX7_write_15 : decode cX7_write 15 = .ok (.iconst 1, 1) := dk_4 (dk_at dksX7_write_0 15 rfl rfl)
theorem dX7_write_16 : decode cX7_write 16 = .ok (.iadd, 1) := dk_96 (dk_at dksX7_write_0 16 rfl rfl)
theorem dX7_write_17 : decode cX7_write 17 = .ok (.putfield 57, 3) := dk_181 0 57 (dk_at dksX7_write_0 17 rfl rfl)
theorem dX7_write_20 : decode cX7_write 20 = .ok (.return_, 1) := dk_177 (dk_at dksX7_write_0 20 rfl rfl)
abbrev cX7_writeWells : ByteArray := prog_12_method_92_code
def yX7_writeWells : MethodName := ⟨RX7, "writeWells", "()I"⟩
def dkwX7_writeWells_2 : List UInt8 := [42, 180, 0, 57, 172]
abbrev dktX7_writeWells_2 : List UInt8 := dkwX7_writeWells_2 ++ []
def dkwX7_writeWells_1 : List UInt8 := [16, 32, 182, 0, 228, 42, 42, 180, 0, 7, 16, 8, 27, 96, 46, 182, 0, 232, 132, 1, 1, 167, 255, 224]
abbrev dktX7_writeWells_1 : List UInt8 := dkwX7_writeWells_1 ++ dktX7_writeWells_2
def dkwX7_writeWells_0 : List UInt8 := [42, 3, 181, 0, 37, 42, 3, 181, 0, 57, 3, 60, 27, 16, 10, 162, 0, 32, 27, 158, 0, 9, 42]
abbrev dktX7_writeWells_0 : List UInt8 := dkwX7_writeWells_0 ++ dktX7_writeWells_1
theorem dksX7_writeWells_0 : cX7_writeWells.data.toList.drop 0 = dktX7_writeWells_0 := by decide +kernel
theorem dksX7_writeWells_1 : cX7_writeWells.data.toList.drop 23 = dktX7_writeWells_1 := dk_seg dksX7_writeWells_0 23 rfl rfl
theorem dksX7_writeWells_2 : cX7_writeWells.data.toList.drop 47 = dktX7_writeWells_2 := dk_seg dksX7_writeWells_1 24 rfl rfl
theorem dX7_writeWells_0 : decode cX7_writeWells 0 = .ok (.aload_n 0, 1) := dk_42 (dk_at dksX7_writeWells_0 0 rfl rfl)
theorem dX7_writeWells_1 : decode cX7_writeWells 1 = .ok (.iconst 0, 1) := dk_3 (dk_at dksX7_writeWells_0 1 rfl rfl)
theorem dX7_writeWells_2 : decode cX7_writeWells 2 = .ok (.putfield 37, 3) := dk_181 0 37 (dk_at dksX7_writeWells_0 2 rfl rfl)
theorem dX7_writeWells_5 : decode cX7_writeWells 5 = .ok (.aload_n 0, 1) := dk_42 (dk_at dksX7_writeWells_0 5 rfl rfl)
theorem dX7_writeWells_6 : decode cX7_writeWells 6 = .ok (.iconst 0, 1) := dk_3 (dk_at dksX7_writeWells_0 6 rfl rfl)
theorem dX7_writeWells_7 : decode cX7_writeWells 7 = .ok (.putfield 57, 3) := dk_181 0 57 (dk_at dksX7_writeWells_0 7 rfl rfl)
theorem dX7_writeWells_10 : decode cX7_writeWells 10 = .ok (.iconst 0, 1) := dk_3 (dk_at dksX7_writeWells_0 10 rfl rfl)
theorem dX7_writeWells_11 : decode cX7_writeWells 11 = .ok (.istore_n 1, 1) := dk_60 (dk_at dksX7_writeWells_0 11 rfl rfl)
theorem dX7_writeWells_12 : decode cX7_writeWells 12 = .ok (.iload_n 1, 1) := dk_27 (dk_at dksX7_writeWells_0 12 rfl rfl)
theorem dX7_writeWells_13 : decode cX7_writeWells 13 = .ok (.bipush 10, 2) := dk_16 10 (dk_at dksX7_writeWells_0 13 rfl rfl)
theorem dX7_writeWells_15 : decode cX7_writeWells 15 = .ok (.if_icmp .ge 32, 3) := dk_162 0 32 (dk_at dksX7_writeWells_0 15 rfl rfl)
theorem dX7_writeWells_18 : decode cX7_writeWells 18 = .ok (.iload_n 1, 1) := dk_27 (dk_at dksX7_writeWells_0 18 rfl rfl)
theorem dX7_writeWells_19 : decode cX7_writeWells 19 = .ok (.ifCond .le 9, 3) := dk_158 0 9 (dk_at dksX7_writeWells_0 19 rfl rfl)
theorem dX7_writeWells_22 : decode cX7_writeWells 22 = .ok (.aload_n 0, 1) := dk_42 (dk_at dksX7_writeWells_0 22 rfl rfl)
theorem dX7_writeWells_23 : decode cX7_writeWells 23 = .ok (.bipush 32, 2) := dk_16 32 (dk_at dksX7_writeWells_1 0 rfl rfl)
theorem dX7_writeWells_25 : decode cX7_writeWells 25 = .ok (.invokevirtual 228, 3) := dk_182 0 228 (dk_at dksX7_writeWells_1 2 rfl rfl)
theorem dX7_writeWells_28 : decode cX7_writeWells 28 = .ok (.aload_n 0, 1) := dk_42 (dk_at dksX7_writeWells_1 5 rfl rfl)
theorem dX7_writeWells_29 : decode cX7_writeWells 29 = .ok (.aload_n 0, 1) := dk_42 (dk_at dksX7_writeWells_1 6 rfl rfl)
theorem dX7_writeWells_30 : decode cX7_writeWells 30 = .ok (.getfield 7, 3) := dk_180 0 7 (dk_at dksX7_writeWells_1 7 rfl rfl)
theorem dX7_writeWells_33 : decode cX7_writeWells 33 = .ok (.bipush 8, 2) := dk_16 8 (dk_at dksX7_writeWells_1 10 rfl rfl)
theorem dX7_writeWells_35 : decode cX7_writeWells 35 = .ok (.iload_n 1, 1) := dk_27 (dk_at dksX7_writeWells_1 12 rfl rfl)
theorem dX7_writeWells_36 : decode cX7_writeWells 36 = .ok (.iadd, 1) := dk_96 (dk_at dksX7_writeWells_1 13 rfl rfl)
theorem dX7_writeWells_37 : decode cX7_writeWells 37 = .ok (.iaload, 1) := dk_46 (dk_at dksX7_writeWells_1 14 rfl rfl)
theorem dX7_writeWells_38 : decode cX7_writeWells 38 = .ok (.invokevirtual 232, 3) := dk_182 0 232 (dk_at dksX7_writeWells_1 15 rfl rfl)
theorem dX7_writeWells_41 : decode cX7_writeWells 41 = .ok (.iinc 1 1, 3) := dk_132 1 1 (dk_at dksX7_writeWells_1 18 rfl rfl)
theorem dX7_writeWells_44 : decode cX7_writeWells 44 = .ok (.goto (-32), 3) := dk_167 255 224 (dk_at dksX7_writeWells_1 21 rfl rfl)
theorem dX7_writeWells_47 : decode cX7_writeWells 47 = .ok (.aload_n 0, 1) := dk_42 (dk_at dksX7_writeWells_2 0 rfl rfl)
theorem dX7_writeWells_48 : decode cX7_writeWells 48 = .ok (.getfield 57, 3) := dk_180 0 57 (dk_at dksX7_writeWells_2 1 rfl rfl)
theorem dX7_writeWells_51 : decode cX7_writeWells 51 = .ok (.ireturn, 1) := dk_172 (dk_at dksX7_writeWells_2 4 rfl rfl)
abbrev cX7_lineAt : ByteArray := prog_12_method_93_code
def yX7_lineAt : MethodName := ⟨RX7, "lineAt", "(I)C"⟩
def dkwX7_lineAt_1 : List UInt8 := [180, 0, 54, 27, 46, 146, 172]
abbrev dktX7_lineAt_1 : List UInt8 := dkwX7_lineAt_1 ++ []
def dkwX7_lineAt_0 : List UInt8 := [42, 27, 3, 42, 180, 0, 57, 4, 100, 184, 0, 91, 182, 0, 125, 158, 0, 8, 16, 32, 167, 0, 10, 42]
abbrev dktX7_lineAt_0 : List UInt8 := dkwX7_lineAt_0 ++ dktX7_lineAt_1
theorem dksX7_lineAt_0 : cX7_lineAt.data.toList.drop 0 = dktX7_lineAt_0 := by decide +kernel
theorem dksX7_lineAt_1 : cX7_lineAt.data.toList.drop 24 = dktX7_lineAt_1 := dk_seg dksX7_lineAt_0 24 rfl rfl
theorem dX7_lineAt_0 : decode cX7_lineAt 0 = .ok (.aload_n 0, 1) := dk_42 (dk_at dksX7_lineAt_0 0 rfl rfl)
theorem dX7_lineAt_1 : decode cX7_lineAt 1 = .ok (.iload_n 1, 1) := dk_27 (dk_at dksX7_lineAt_0 1 rfl rfl)
theorem dX7_lineAt_2 : decode cX7_lineAt 2 = .ok (.iconst 0, 1) := dk_3 (dk_at dksX7_lineAt_0 2 rfl rfl)
theorem dX7_lineAt_3 : decode cX7_lineAt 3 = .ok (.aload_n 0, 1) := dk_42 (dk_at dksX7_lineAt_0 3 rfl rfl)
theorem dX7_lineAt_4 : decode cX7_lineAt 4 = .ok (.getfield 57, 3) := dk_180 0 57 (dk_at dksX7_lineAt_0 4 rfl rfl)
theorem dX7_lineAt_7 : decode cX7_lineAt 7 = .ok (.iconst 1, 1) := dk_4 (dk_at dksX7_lineAt_0 7 rfl rfl)
theorem dX7_lineAt_8 : decode cX7_lineAt 8 = .ok (.isub, 1) := dk_100 (dk_at dksX7_lineAt_0 8 rfl rfl)
theorem dX7_lineAt_9 : decode cX7_lineAt 9 = .ok (.invokestatic 91, 3) := dk_184 0 91 (dk_at dksX7_lineAt_0 9 rfl rfl)
theorem dX7_lineAt_12 : decode cX7_lineAt 12 = .ok (.invokevirtual 125, 3) := dk_182 0 125 (dk_at dksX7_lineAt_0 12 rfl rfl)
theorem dX7_lineAt_15 : decode cX7_lineAt 15 = .ok (.ifCond .le 8, 3) := dk_158 0 8 (dk_at dksX7_lineAt_0 15 rfl rfl)
theorem dX7_lineAt_18 : decode cX7_lineAt 18 = .ok (.bipush 32, 2) := dk_16 32 (dk_at dksX7_lineAt_0 18 rfl rfl)
theorem dX7_lineAt_20 : decode cX7_lineAt 20 = .ok (.goto 10, 3) := dk_167 0 10 (dk_at dksX7_lineAt_0 20 rfl rfl)
theorem dX7_lineAt_23 : decode cX7_lineAt 23 = .ok (.aload_n 0, 1) := dk_42 (dk_at dksX7_lineAt_0 23 rfl rfl)
theorem dX7_lineAt_24 : decode cX7_lineAt 24 = .ok (.getfield 54, 3) := dk_180 0 54 (dk_at dksX7_lineAt_1 0 rfl rfl)
theorem dX7_lineAt_27 : decode cX7_lineAt 27 = .ok (.iload_n 1, 1) := dk_27 (dk_at dksX7_lineAt_1 3 rfl rfl)
theorem dX7_lineAt_28 : decode cX7_lineAt 28 = .ok (.iaload, 1) := dk_46 (dk_at dksX7_lineAt_1 4 rfl rfl)
theorem dX7_lineAt_29 : decode cX7_lineAt 29 = .ok (.i2c, 1) := dk_146 (dk_at dksX7_lineAt_1 5 rfl rfl)
theorem dX7_lineAt_30 : decode cX7_lineAt 30 = .ok (.ireturn, 1) := dk_172 (dk_at dksX7_lineAt_1 6 rfl rfl)
abbrev cX7_type : ByteArray := prog_12_method_94_code
def yX7_type : MethodName := ⟨RX7, "type", "(C)I"⟩
def dkwX7_type_2 : List UInt8 := [42, 180, 0, 72, 27, 79, 42, 89, 180, 0, 72, 4, 96, 181, 0, 72, 42, 180, 0, 72, 172]
abbrev dktX7_type_2 : List UInt8 := dkwX7_type_2 ++ []
def dkwX7_type_1 : List UInt8 := [160, 0, 7, 5, 167, 0, 4, 3, 181, 0, 37, 42, 180, 0, 37, 158, 0, 5, 3, 172, 42, 180, 0, 60]
abbrev dktX7_type_1 : List UInt8 := dkwX7_type_1 ++ dktX7_type_2
def dkwX7_type_0 : List UInt8 := [42, 27, 16, 32, 16, 126, 184, 0, 91, 154, 0, 7, 4, 167, 0, 17, 42, 180, 0, 72, 16, 60]
abbrev dktX7_type_0 : List UInt8 := dkwX7_type_0 ++ dktX7_type_1
theorem dksX7_type_0 : cX7_type.data.toList.drop 0 = dktX7_type_0 := by decide +kernel
theorem dksX7_type_1 : cX7_type.data.toList.drop 22 = dktX7_type_1 := dk_seg dksX7_type_0 22 rfl rfl
theorem dksX7_type_2 : cX7_type.data.toList.drop 46 = dktX7_type_2 := dk_seg dksX7_type_1 24 rfl rfl
theorem dX7_type_0 : decode cX7_type 0 = .ok (.aload_n 0, 1) := dk_42 (dk_at dksX7_type_0 0 rfl rfl)
theorem dX7_type_1 : decode cX7_type 1 = .ok (.iload_n 1, 1) := dk_27 (dk_at dksX7_type_0 1 rfl rfl)
theorem dX7_type_2 : decode cX7_type 2 = .ok (.bipush 32, 2) := dk_16 32 (dk_at dksX7_type_0 2 rfl rfl)
theorem dX7_type_4 : decode cX7_type 4 = .ok (.bipush 126, 2) := dk_16 126 (dk_at dksX7_type_0 4 rfl rfl)
theorem dX7_type_6 : decode cX7_type 6 = .ok (.invokestatic 91, 3) := dk_184 0 91 (dk_at dksX7_type_0 6 rfl rfl)
theorem dX7_type_9 : decode cX7_type 9 = .ok (.ifCond .ne 7, 3) := dk_154 0 7 (dk_at dksX7_type_0 9 rfl rfl)
theorem dX7_type_12 : decode cX7_type 12 = .ok (.iconst 1, 1) := dk_4 (dk_at dksX7_type_0 12 rfl rfl)
theorem dX7_type_13 : decode cX7_type 13 = .ok (.goto 17, 3) := dk_167 0 17 (dk_at dksX7_type_0 13 rfl rfl)
theorem dX7_type_16 : decode cX7_type 16 = .ok (.aload_n 0, 1) := dk_42 (dk_at dksX7_type_0 16 rfl rfl)
theorem dX7_type_17 : decode cX7_type 17 = .ok (.getfield 72, 3) := dk_180 0 72 (dk_at dksX7_type_0 17 rfl rfl)
theorem dX7_type_20 : decode cX7_type 20 = .ok (.bipush 60, 2) := dk_16 60 (dk_at dksX7_type_0 20 rfl rfl)
theorem dX7_type_22 : decode cX7_type 22 = .ok (.if_icmp .ne 7, 3) := dk_160 0 7 (dk_at dksX7_type_1 0 rfl rfl)
theorem dX7_type_25 : decode cX7_type 25 = .ok (.iconst 2, 1) := dk_5 (dk_at dksX7_type_1 3 rfl rfl)
theorem dX7_type_26 : decode cX7_type 26 = .ok (.goto 4, 3) := dk_167 0 4 (dk_at dksX7_type_1 4 rfl rfl)
theorem dX7_type_29 : decode cX7_type 29 = .ok (.iconst 0, 1) := dk_3 (dk_at dksX7_type_1 7 rfl rfl)
theorem dX7_type_30 : decode cX7_type 30 = .ok (.putfield 37, 3) := dk_181 0 37 (dk_at dksX7_type_1 8 rfl rfl)
theorem dX7_type_33 : decode cX7_type 33 = .ok (.aload_n 0, 1) := dk_42 (dk_at dksX7_type_1 11 rfl rfl)
theorem dX7_type_34 : decode cX7_type 34 = .ok (.getfield 37, 3) := dk_180 0 37 (dk_at dksX7_type_1 12 rfl rfl)
theorem dX7_type_37 : decode cX7_type 37 = .ok (.ifCond .le 5, 3) := dk_158 0 5 (dk_at dksX7_type_1 15 rfl rfl)
theorem dX7_type_40 : decode cX7_type 40 = .ok (.iconst 0, 1) := dk_3 (dk_at dksX7_type_1 18 rfl rfl)
theorem dX7_type_41 : decode cX7_type 41 = .ok (.ireturn, 1) := dk_172 (dk_at dksX7_type_1 19 rfl rfl)
theorem dX7_type_42 : decode cX7_type 42 = .ok (.aload_n 0, 1) := dk_42 (dk_at dksX7_type_1 20 rfl rfl)
theorem dX7_type_43 : decode cX7_type 43 = .ok (.getfield 60, 3) := dk_180 0 60 (dk_at dksX7_type_1 21 rfl rfl)
theorem dX7_type_46 : decode cX7_type 46 = .ok (.aload_n 0, 1) := dk_42 (dk_at dksX7_type_2 0 rfl rfl)
theorem dX7_type_47 : decode cX7_type 47 = .ok (.getfield 72, 3) := dk_180 0 72 (dk_at dksX7_type_2 1 rfl rfl)
theorem dX7_type_50 : decode cX7_type 50 = .ok (.iload_n 1, 1) := dk_27 (dk_at dksX7_type_2 4 rfl rfl)
theorem dX7_type_51 : decode cX7_type 51 = .ok (.iastore, 1) := dk_79 (dk_at dksX7_type_2 5 rfl rfl)
theorem dX7_type_52 : decode cX7_type 52 = .ok (.aload_n 0, 1) := dk_42 (dk_at dksX7_type_2 6 rfl rfl)
theorem dX7_type_53 : decode cX7_type 53 = .ok (.dup, 1) := dk_89 (dk_at dksX7_type_2 7 rfl rfl)
theorem dX7_type_54 : decode cX7_type 54 = .ok (.getfield 72, 3) := dk_180 0 72 (dk_at dksX7_type_2 8 rfl rfl)
theorem dX7_type_57 : decode cX7_type 57 = .ok (.iconst 1, 1) := dk_4 (dk_at dksX7_type_2 11 rfl rfl)
theorem dX7_type_58 : decode cX7_type 58 = .ok (.iadd, 1) := dk_96 (dk_at dksX7_type_2 12 rfl rfl)
theorem dX7_type_59 : decode cX7_type 59 = .ok (.putfield 72, 3) := dk_181 0 72 (dk_at dksX7_type_2 13 rfl rfl)
theorem dX7_type_62 : decode cX7_type 62 = .ok (.aload_n 0, 1) := dk_42 (dk_at dksX7_type_2 16 rfl rfl)
theorem dX7_type_63 : decode cX7_type 63 = .ok (.getfield 72, 3) := dk_180 0 72 (dk_at dksX7_type_2 17 rfl rfl)
theorem dX7_type_66 : decode cX7_type 66 = .ok (.ireturn, 1) := dk_172 (dk_at dksX7_type_2 20 rfl rfl)
abbrev cX7_execute : ByteArray := prog_12_method_105_code
def yX7_execute : MethodName := ⟨RX7, "execute", "()I"⟩
def dkwX7_execute_5 : List UInt8 := [167, 255, 170, 42, 42, 180, 0, 81, 182, 0, 113, 172]
abbrev dktX7_execute_5 : List UInt8 := dkwX7_execute_5 ++ []
def dkwX7_execute_4 : List UInt8 := [3, 42, 180, 0, 7, 3, 184, 0, 87, 42, 28, 181, 0, 47, 42, 5, 182, 0, 106, 172, 132, 2, 1]
abbrev dktX7_execute_4 : List UInt8 := dkwX7_execute_4 ++ dktX7_execute_5
def dkwX7_execute_3 : List UInt8 := [46, 42, 180, 0, 66, 28, 46, 42, 180, 0, 69, 28, 46, 182, 1, 7, 60, 167, 0, 27, 42, 180, 0, 13]
abbrev dktX7_execute_3 : List UInt8 := dkwX7_execute_3 ++ dktX7_execute_4
def dkwX7_execute_2 : List UInt8 := [42, 180, 0, 66, 28, 46, 42, 180, 0, 69, 28, 46, 182, 1, 4, 154, 0, 29, 42, 42, 180, 0, 63, 28]
abbrev dktX7_execute_2 : List UInt8 := dkwX7_execute_2 ++ dktX7_execute_3
def dkwX7_execute_1 : List UInt8 := [4, 182, 0, 106, 172, 3, 60, 3, 61, 28, 42, 180, 0, 81, 162, 0, 84, 42, 42, 180, 0, 63, 28, 46]
abbrev dktX7_execute_1 : List UInt8 := dkwX7_execute_1 ++ dktX7_execute_2
def dkwX7_execute_0 : List UInt8 := [42, 182, 0, 99, 42, 182, 1, 1, 42, 180, 0, 84, 153, 0, 17, 42, 42, 180, 0, 78, 181, 0, 44, 42]
abbrev dktX7_execute_0 : List UInt8 := dkwX7_execute_0 ++ dktX7_execute_1
theorem dksX7_execute_0 : cX7_execute.data.toList.drop 0 = dktX7_execute_0 := by decide +kernel
theorem dksX7_execute_1 : cX7_execute.data.toList.drop 24 = dktX7_execute_1 := dk_seg dksX7_execute_0 24 rfl rfl
theorem dksX7_execute_2 : cX7_execute.data.toList.drop 48 = dktX7_execute_2 := dk_seg dksX7_execute_1 24 rfl rfl
theorem dksX7_execute_3 : cX7_execute.data.toList.drop 72 = dktX7_execute_3 := dk_seg dksX7_execute_2 24 rfl rfl
theorem dksX7_execute_4 : cX7_execute.data.toList.drop 96 = dktX7_execute_4 := dk_seg dksX7_execute_3 24 rfl rfl
theorem dksX7_execute_5 : cX7_execute.data.toList.drop 119 = dktX7_execute_5 := dk_seg dksX7_execute_4 23 rfl rfl
theorem dX7_execute_0 : decode cX7_execute 0 = .ok (.aload_n 0, 1) := dk_42 (dk_at dksX7_execute_0 0 rfl rfl)
theorem dX7_execute_1 : decode cX7_execute 1 = .ok (.invokevirtual 99, 3) := dk_182 0 99 (dk_at dksX7_execute_0 1 rfl rfl)
theorem dX7_execute_4 : decode cX7_execute 4 = .ok (.aload_n 0, 1) := dk_42 (dk_at dksX7_execute_0 4 rfl rfl)
theorem dX7_execute_5 : decode cX7_execute 5 = .ok (.invokevirtual 257, 3) := dk_182 1 1 (dk_at dksX7_execute_0 5 rfl rfl)
theorem dX7_execute_8 : decode cX7_execute 8 = .ok (.aload_n 0, 1) := dk_42 (dk_at dksX7_execute_0 8 rfl rfl)
theorem dX7_execute_9 : decode cX7_execute 9 = .ok (.getfield 84, 3) := dk_180 0 84 (dk_at dksX7_execute_0 9 rfl rfl)
theorem dX7_execute_12 : decode cX7_execute 12 = .ok (.ifCond .eq 17, 3) := dk_153 0 17 (dk_at dksX7_execute_0 12 rfl rfl)
theorem dX7_execute_15 : decode cX7_execute 15 = .ok (.aload_n 0, 1) := dk_42 (dk_at dksX7_execute_0 15 rfl rfl)
theorem dX7_execute_16 : decode cX7_execute 16 = .ok (.aload_n 0, 1) := dk_42 (dk_at dksX7_execute_0 16 rfl rfl)
theorem dX7_execute_17 : decode cX7_execute 17 = .ok (.getfield 78, 3) := dk_180 0 78 (dk_at dksX7_execute_0 17 rfl rfl)
theorem dX7_execute_20 : decode cX7_execute 20 = .ok (.putfield 44, 3) := dk_181 0 44 (dk_at dksX7_execute_0 20 rfl rfl)
theorem dX7_execute_23 : decode cX7_execute 23 = .ok (.aload_n 0, 1) := dk_42 (dk_at dksX7_execute_0 23 rfl rfl)
theorem dX7_execute_24 : decode cX7_execute 24 = .ok (.iconst 1, 1) := dk_4 (dk_at dksX7_execute_1 0 rfl rfl)
theorem dX7_execute_25 : decode cX7_execute 25 = .ok (.invokevirtual 106, 3) := dk_182 0 106 (dk_at dksX7_execute_1 1 rfl rfl)
theorem dX7_execute_28 : decode cX7_execute 28 = .ok (.ireturn, 1) := dk_172 (dk_at dksX7_execute_1 4 rfl rfl)
theorem dX7_execute_29 : decode cX7_execute 29 = .ok (.iconst 0, 1) := dk_3 (dk_at dksX7_execute_1 5 rfl rfl)
theorem dX7_execute_30 : decode cX7_execute 30 = .ok (.istore_n 1, 1) := dk_60 (dk_at dksX7_execute_1 6 rfl rfl)
theorem dX7_execute_31 : decode cX7_execute 31 = .ok (.iconst 0, 1) := dk_3 (dk_at dksX7_execute_1 7 rfl rfl)
theorem dX7_execute_32 : decode cX7_execute 32 = .ok (.istore_n 2, 1) := dk_61 (dk_at dksX7_execute_1 8 rfl rfl)
theorem dX7_execute_33 : decode cX7_execute 33 = .ok (.iload_n 2, 1) := dk_28 (dk_at dksX7_execute_1 9 rfl rfl)
theorem dX7_execute_34 : decode cX7_execute 34 = .ok (.aload_n 0, 1) := dk_42 (dk_at dksX7_execute_1 10 rfl rfl)
theorem dX7_execute_35 : decode cX7_execute 35 = .ok (.getfield 81, 3) := dk_180 0 81 (dk_at dksX7_execute_1 11 rfl rfl)
theorem dX7_execute_38 : decode cX7_execute 38 = .ok (.if_icmp .ge 84, 3) := dk_162 0 84 (dk_at dksX7_execute_1 14 rfl rfl)
theorem dX7_execute_41 : decode cX7_execute 41 = .ok (.aload_n 0, 1) := dk_42 (dk_at dksX7_execute_1 17 rfl rfl)
theorem dX7_execute_42 : decode cX7_execute 42 = .ok (.aload_n 0, 1) := dk_42 (dk_at dksX7_execute_1 18 rfl rfl)
theorem dX7_execute_43 : decode cX7_execute 43 = .ok (.getfield 63, 3) := dk_180 0 63 (dk_at dksX7_execute_1 19 rfl rfl)
theorem dX7_execute_46 : decode cX7_execute 46 = .ok (.iload_n 2, 1) := dk_28 (dk_at dksX7_execute_1 22 rfl rfl)
theorem dX7_execute_47 : decode cX7_execute 47 = .ok (.iaload, 1) := dk_46 (dk_at dksX7_execute_1 23 rfl rfl)
theorem dX7_execute_48 : decode cX7_execute 48 = .ok (.aload_n 0, 1) := dk_42 (dk_at dksX7_execute_2 0 rfl rfl)
theorem dX7_execute_49 : decode cX7_execute 49 = .ok (.getfield 66, 3) := dk_180 0 66 (dk_at dksX7_execute_2 1 rfl rfl)
theorem dX7_execute_52 : decode cX7_execute 52 = .ok (.iload_n 2, 1) := dk_28 (dk_at dksX7_execute_2 4 rfl rfl)
theorem dX7_execute_53 : decode cX7_execute 53 = .ok (.iaload, 1) := dk_46 (dk_at dksX7_execute_2 5 rfl rfl)
theorem dX7_execute_54 : decode cX7_execute 54 = .ok (.aload_n 0, 1) := dk_42 (dk_at dksX7_execute_2 6 rfl rfl)
theorem dX7_execute_55 : decode cX7_execute 55 = .ok (.getfield 69, 3) := dk_180 0 69 (dk_at dksX7_execute_2 7 rfl rfl)
theorem dX7_execute_58 : decode cX7_execute 58 = .ok (.iload_n 2, 1) := dk_28 (dk_at dksX7_execute_2 10 rfl rfl)
theorem dX7_execute_59 : decode cX7_execute 59 = .ok (.iaload, 1) := dk_46 (dk_at dksX7_execute_2 11 rfl rfl)
theorem dX7_execute_60 : decode cX7_execute 60 = .ok (.invokevirtual 260, 3) := dk_182 1 4 (dk_at dksX7_execute_2 12 rfl rfl)
theorem dX7_execute_63 : decode cX7_execute 63 = .ok (.ifCond .ne 29, 3) := dk_154 0 29 (dk_at dksX7_execute_2 15 rfl rfl)
theorem dX7_execute_66 : decode cX7_execute 66 = .ok (.aload_n 0, 1) := dk_42 (dk_at dksX7_execute_2 18 rfl rfl)
theorem dX7_execute_67 : decode cX7_execute 67 = .ok (.aload_n 0, 1) := dk_42 (dk_at dksX7_execute_2 19 rfl rfl)
theorem dX7_execute_68 : decode cX7_execute 68 = .ok (.getfield 63, 3) := dk_180 0 63 (dk_at dksX7_execute_2 20 rfl rfl)
theorem dX7_execute_71 : decode cX7_execute 71 = .ok (.iload_n 2, 1) := dk_28 (dk_at dksX7_execute_2 23 rfl rfl)
theorem dX7_execute_72 : decode cX7_execute 72 = .ok (.iaload, 1) := dk_46 (dk_at dksX7_execute_3 0 rfl rfl)
theorem dX7_execute_73 : decode cX7_execute 73 = .ok (.aload_n 0, 1) := dk_42 (dk_at dksX7_execute_3 1 rfl rfl)
theorem dX7_execute_74 : decode cX7_execute 74 = .ok (.getfield 66, 3) := dk_180 0 66 (dk_at dksX7_execute_3 2 rfl rfl)
theorem dX7_execute_77 : decode cX7_execute 77 = .ok (.iload_n 2, 1) := dk_28 (dk_at dksX7_execute_3 5 rfl rfl)
theorem dX7_execute_78 : decode cX7_execute 78 = .ok (.iaload, 1) := dk_46 (dk_at dksX7_execute_3 6 rfl rfl)
theorem dX7_execute_79 : decode cX7_execute 79 = .ok (.aload_n 0, 1) := dk_42 (dk_at dksX7_execute_3 7 rfl rfl)
theorem dX7_execute_80 : decode cX7_execute 80 = .ok (.getfield 69, 3) := dk_180 0 69 (dk_at dksX7_execute_3 8 rfl rfl)
theorem dX7_execute_83 : decode cX7_execute 83 = .ok (.iload_n 2, 1) := dk_28 (dk_at dksX7_execute_3 11 rfl rfl)
theorem dX7_execute_84 : decode cX7_execute 84 = .ok (.iaload, 1) := dk_46 (dk_at dksX7_execute_3 12 rfl rfl)
theorem dX7_execute_85 : decode cX7_execute 85 = .ok (.invokevirtual 263, 3) := dk_182 1 7 (dk_at dksX7_execute_3 13 rfl rfl)
theorem dX7_execute_88 : decode cX7_execute 88 = .ok (.istore_n 1, 1) := dk_60 (dk_at dksX7_execute_3 16 rfl rfl)
theorem dX7_execute_89 : decode cX7_execute 89 = .ok (.goto 27, 3) := dk_167 0 27 (dk_at dksX7_execute_3 17 rfl rfl)
theorem dX7_execute_92 : decode cX7_execute 92 = .ok (.aload_n 0, 1) := dk_42 (dk_at dksX7_execute_3 20 rfl rfl)
theorem dX7_execute_93 : decode cX7_execute 93 = .ok (.getfield 13, 3) := dk_180 0 13 (dk_at dksX7_execute_3 21 rfl rfl)
theorem dX7_execute_96 : decode cX7_execute 96 = .ok (.iconst 0, 1) := dk_3 (dk_at dksX7_execute_4 0 rfl rfl)
theorem dX7_execute_97 : decode cX7_execute 97 = .ok (.aload_n 0, 1) := dk_42 (dk_at dksX7_execute_4 1 rfl rfl)
theorem dX7_execute_98 : decode cX7_execute 98 = .ok (.getfield 7, 3) := dk_180 0 7 (dk_at dksX7_execute_4 2 rfl rfl)
theorem dX7_execute_101 : decode cX7_execute 101 = .ok (.iconst 0, 1) := dk_3 (dk_at dksX7_execute_4 5 rfl rfl)
theorem dX7_execute_102 : decode cX7_execute 102 = .ok (.invokestatic 87, 3) := dk_184 0 87 (dk_at dksX7_execute_4 6 rfl rfl)
theorem dX7_execute_105 : decode cX7_execute 105 = .ok (.aload_n 0, 1) := dk_42 (dk_at dksX7_execute_4 9 rfl rfl)
theorem dX7_execute_106 : decode cX7_execute 106 = .ok (.iload_n 2, 1) := dk_28 (dk_at dksX7_execute_4 10 rfl rfl)
theorem dX7_execute_107 : decode cX7_execute 107 = .ok (.putfield 47, 3) := dk_181 0 47 (dk_at dksX7_execute_4 11 rfl rfl)
theorem dX7_execute_110 : decode cX7_execute 110 = .ok (.aload_n 0, 1) := dk_42 (dk_at dksX7_execute_4 14 rfl rfl)
theorem dX7_execute_111 : decode cX7_execute 111 = .ok (.iconst 2, 1) := dk_5 (dk_at dksX7_execute_4 15 rfl rfl)
theorem dX7_execute_112 : decode cX7_execute 112 = .ok (.invokevirtual 106, 3) := dk_182 0 106 (dk_at dksX7_execute_4 16 rfl rfl)
theorem dX7_execute_115 : decode cX7_execute 115 = .ok (.ireturn, 1) := dk_172 (dk_at dksX7_execute_4 19 rfl rfl)
theorem dX7_execute_116 : decode cX7_execute 116 = .ok (.iinc 2 1, 3) := dk_132 2 1 (dk_at dksX7_execute_4 20 rfl rfl)
theorem dX7_execute_119 : decode cX7_execute 119 = .ok (.goto (-86), 3) := dk_167 255 170 (dk_at dksX7_execute_5 0 rfl rfl)
theorem dX7_execute_122 : decode cX7_execute 122 = .ok (.aload_n 0, 1) := dk_42 (dk_at dksX7_execute_5 3 rfl rfl)
theorem dX7_execute_123 : decode cX7_execute 123 = .ok (.aload_n 0, 1) := dk_42 (dk_at dksX7_execute_5 4 rfl rfl)
theorem dX7_execute_124 : decode cX7_execute 124 = .ok (.getfield 81, 3) := dk_180 0 81 (dk_at dksX7_execute_5 5 rfl rfl)
theorem dX7_execute_127 : decode cX7_execute 127 = .ok (.invokevirtual 113, 3) := dk_182 0 113 (dk_at dksX7_execute_5 8 rfl rfl)
theorem dX7_execute_130 : decode cX7_execute 130 = .ok (.ireturn, 1) := dk_172 (dk_at dksX7_execute_5 11 rfl rfl)
abbrev cX7_parse : ByteArray := prog_12_method_102_code
def yX7_parse : MethodName := ⟨RX7, "parse", "()V"⟩
def dkwX7_parse_3 : List UInt8 := [162, 0, 7, 4, 167, 0, 4, 3, 128, 181, 0, 84, 177]
abbrev dktX7_parse_3 : List UInt8 := dkwX7_parse_3 ++ []
def dkwX7_parse_2 : List UInt8 := [181, 0, 78, 42, 182, 0, 254, 167, 255, 233, 42, 89, 180, 0, 84, 42, 180, 0, 78, 42, 180, 0, 75]
abbrev dktX7_parse_2 : List UInt8 := dkwX7_parse_2 ++ dktX7_parse_3
def dkwX7_parse_1 : List UInt8 := [3, 181, 0, 84, 42, 182, 0, 254, 42, 182, 0, 235, 16, 59, 160, 0, 20, 42, 89, 180, 0, 78, 4, 96]
abbrev dktX7_parse_1 : List UInt8 := dkwX7_parse_1 ++ dktX7_parse_2
def dkwX7_parse_0 : List UInt8 := [42, 42, 180, 0, 72, 181, 0, 75, 42, 3, 181, 0, 72, 42, 3, 181, 0, 78, 42, 3, 181, 0, 81, 42]
abbrev dktX7_parse_0 : List UInt8 := dkwX7_parse_0 ++ dktX7_parse_1
theorem dksX7_parse_0 : cX7_parse.data.toList.drop 0 = dktX7_parse_0 := by decide +kernel
theorem dksX7_parse_1 : cX7_parse.data.toList.drop 24 = dktX7_parse_1 := dk_seg dksX7_parse_0 24 rfl rfl
theorem dksX7_parse_2 : cX7_parse.data.toList.drop 48 = dktX7_parse_2 := dk_seg dksX7_parse_1 24 rfl rfl
theorem dksX7_parse_3 : cX7_parse.data.toList.drop 71 = dktX7_parse_3 := dk_seg dksX7_parse_2 23 rfl rfl
theorem dX7_parse_0 : decode cX7_parse 0 = .ok (.aload_n 0, 1) := dk_42 (dk_at dksX7_parse_0 0 rfl rfl)
theorem dX7_parse_1 : decode cX7_parse 1 = .ok (.aload_n 0, 1) := dk_42 (dk_at dksX7_parse_0 1 rfl rfl)
theorem dX7_parse_2 : decode cX7_parse 2 = .ok (.getfield 72, 3) := dk_180 0 72 (dk_at dksX7_parse_0 2 rfl rfl)
theorem dX7_parse_5 : decode cX7_parse 5 = .ok (.putfield 75, 3) := dk_181 0 75 (dk_at dksX7_parse_0 5 rfl rfl)
theorem dX7_parse_8 : decode cX7_parse 8 = .ok (.aload_n 0, 1) := dk_42 (dk_at dksX7_parse_0 8 rfl rfl)
theorem dX7_parse_9 : decode cX7_parse 9 = .ok (.iconst 0, 1) := dk_3 (dk_at dksX7_parse_0 9 rfl rfl)
theorem dX7_parse_10 : decode cX7_parse 10 = .ok (.putfield 72, 3) := dk_181 0 72 (dk_at dksX7_parse_0 10 rfl rfl)
theorem dX7_parse_13 : decode cX7_parse 13 = .ok (.aload_n 0, 1) := dk_42 (dk_at dksX7_parse_0 13 rfl rfl)
theorem dX7_parse_14 : decode cX7_parse 14 = .ok (.iconst 0, 1) := dk_3 (dk_at dksX7_parse_0 14 rfl rfl)
theorem dX7_parse_15 : decode cX7_parse 15 = .ok (.putfield 78, 3) := dk_181 0 78 (dk_at dksX7_parse_0 15 rfl rfl)
theorem dX7_parse_18 : decode cX7_parse 18 = .ok (.aload_n 0, 1) := dk_42 (dk_at dksX7_parse_0 18 rfl rfl)
theorem dX7_parse_19 : decode cX7_parse 19 = .ok (.iconst 0, 1) := dk_3 (dk_at dksX7_parse_0 19 rfl rfl)
theorem dX7_parse_20 : decode cX7_parse 20 = .ok (.putfield 81, 3) := dk_181 0 81 (dk_at dksX7_parse_0 20 rfl rfl)
theorem dX7_parse_23 : decode cX7_parse 23 = .ok (.aload_n 0, 1) := dk_42 (dk_at dksX7_parse_0 23 rfl rfl)
theorem dX7_parse_24 : decode cX7_parse 24 = .ok (.iconst 0, 1) := dk_3 (dk_at dksX7_parse_1 0 rfl rfl)
theorem dX7_parse_25 : decode cX7_parse 25 = .ok (.putfield 84, 3) := dk_181 0 84 (dk_at dksX7_parse_1 1 rfl rfl)
theorem dX7_parse_28 : decode cX7_parse 28 = .ok (.aload_n 0, 1) := dk_42 (dk_at dksX7_parse_1 4 rfl rfl)
theorem dX7_parse_29 : decode cX7_parse 29 = .ok (.invokevirtual 254, 3) := dk_182 0 254 (dk_at dksX7_parse_1 5 rfl rfl)
theorem dX7_parse_32 : decode cX7_parse 32 = .ok (.aload_n 0, 1) := dk_42 (dk_at dksX7_parse_1 8 rfl rfl)
theorem dX7_parse_33 : decode cX7_parse 33 = .ok (.invokevirtual 235, 3) := dk_182 0 235 (dk_at dksX7_parse_1 9 rfl rfl)
theorem dX7_parse_36 : decode cX7_parse 36 = .ok (.bipush 59, 2) := dk_16 59 (dk_at dksX7_parse_1 12 rfl rfl)
theorem dX7_parse_38 : decode cX7_parse 38 = .ok (.if_icmp .ne 20, 3) := dk_160 0 20 (dk_at dksX7_parse_1 14 rfl rfl)
theorem dX7_parse_41 : decode cX7_parse 41 = .ok (.aload_n 0, 1) := dk_42 (dk_at dksX7_parse_1 17 rfl rfl)
theorem dX7_parse_42 : decode cX7_parse 42 = .ok (.dup, 1) := dk_89 (dk_at dksX7_parse_1 18 rfl rfl)
theorem dX7_parse_43 : decode cX7_parse 43 = .ok (.getfield 78, 3) := dk_180 0 78 (dk_at dksX7_parse_1 19 rfl rfl)
theorem dX7_parse_46 : decode cX7_parse 46 = .ok (.iconst 1, 1) := dk_4 (dk_at dksX7_parse_1 22 rfl rfl)
theorem dX7_parse_47 : decode cX7_parse 47 = .ok (.iadd, 1) := dk_96 (dk_at dksX7_parse_1 23 rfl rfl)
theorem dX7_parse_48 : decode cX7_parse 48 = .ok (.putfield 78, 3) := dk_181 0 78 (dk_at dksX7_parse_2 0 rfl rfl)
theorem dX7_parse_51 : decode cX7_parse 51 = .ok (.aload_n 0, 1) := dk_42 (dk_at dksX7_parse_2 3 rfl rfl)
theorem dX7_parse_52 : decode cX7_parse 52 = .ok (.invokevirtual 254, 3) := dk_182 0 254 (dk_at dksX7_parse_2 4 rfl rfl)
theorem dX7_parse_55 : decode cX7_parse 55 = .ok (.goto (-23), 3) := dk_167 255 233 (dk_at dksX7_parse_2 7 rfl rfl)
theorem dX7_parse_58 : decode cX7_parse 58 = .ok (.aload_n 0, 1) := dk_42 (dk_at dksX7_parse_2 10 rfl rfl)
theorem dX7_parse_59 : decode cX7_parse 59 = .ok (.dup, 1) := dk_89 (dk_at dksX7_parse_2 11 rfl rfl)
theorem dX7_parse_60 : decode cX7_parse 60 = .ok (.getfield 84, 3) := dk_180 0 84 (dk_at dksX7_parse_2 12 rfl rfl)
theorem dX7_parse_63 : decode cX7_parse 63 = .ok (.aload_n 0, 1) := dk_42 (dk_at dksX7_parse_2 15 rfl rfl)
theorem dX7_parse_64 : decode cX7_parse 64 = .ok (.getfield 78, 3) := dk_180 0 78 (dk_at dksX7_parse_2 16 rfl rfl)
theorem dX7_parse_67 : decode cX7_parse 67 = .ok (.aload_n 0, 1) := dk_42 (dk_at dksX7_parse_2 19 rfl rfl)
theorem dX7_parse_68 : decode cX7_parse 68 = .ok (.getfield 75, 3) := dk_180 0 75 (dk_at dksX7_parse_2 20 rfl rfl)
theorem dX7_parse_71 : decode cX7_parse 71 = .ok (.if_icmp .ge 7, 3) := dk_162 0 7 (dk_at dksX7_parse_3 0 rfl rfl)
theorem dX7_parse_74 : decode cX7_parse 74 = .ok (.iconst 1, 1) := dk_4 (dk_at dksX7_parse_3 3 rfl rfl)
theorem dX7_parse_75 : decode cX7_parse 75 = .ok (.goto 4, 3) := dk_167 0 4 (dk_at dksX7_parse_3 4 rfl rfl)
theorem dX7_parse_78 : decode cX7_parse 78 = .ok (.iconst 0, 1) := dk_3 (dk_at dksX7_parse_3 7 rfl rfl)
theorem dX7_parse_79 : decode cX7_parse 79 = .ok (.ior, 1) := dk_128 (dk_at dksX7_parse_3 8 rfl rfl)
theorem dX7_parse_80 : decode cX7_parse 80 = .ok (.putfield 84, 3) := dk_181 0 84 (dk_at dksX7_parse_3 9 rfl rfl)
theorem dX7_parse_83 : decode cX7_parse 83 = .ok (.return_, 1) := dk_177 (dk_at dksX7_parse_3 12 rfl rfl)
abbrev cX7_command : ByteArray := prog_12_method_101_code
def yX7_command : MethodName := ⟨RX7, "command", "()V"⟩
def dkwX7_command_4 : List UInt8 := [89, 180, 0, 81, 4, 96, 181, 0, 81, 177]
abbrev dktX7_command_4 : List UInt8 := dkwX7_command_4 ++ []
def dkwX7_command_3 : List UInt8 := [167, 0, 4, 3, 79, 42, 180, 0, 84, 153, 0, 4, 177, 42, 180, 0, 63, 42, 180, 0, 81, 27, 79, 42]
abbrev dktX7_command_3 : List UInt8 := dkwX7_command_3 ++ dktX7_command_4
def dkwX7_command_2 : List UInt8 := [27, 154, 0, 11, 42, 6, 182, 0, 251, 167, 0, 17, 27, 5, 160, 0, 11, 42, 5, 182, 0, 251]
abbrev dktX7_command_2 : List UInt8 := dkwX7_command_2 ++ dktX7_command_3
def dkwX7_command_1 : List UInt8 := [160, 0, 7, 3, 167, 0, 11, 42, 27, 184, 0, 248, 182, 0, 251, 79, 42, 180, 0, 69, 42, 180, 0, 81]
abbrev dktX7_command_1 : List UInt8 := dkwX7_command_1 ++ dktX7_command_2
def dkwX7_command_0 : List UInt8 := [42, 182, 0, 245, 60, 42, 180, 0, 84, 153, 0, 4, 177, 42, 180, 0, 66, 42, 180, 0, 81, 27, 8]
abbrev dktX7_command_0 : List UInt8 := dkwX7_command_0 ++ dktX7_command_1
theorem dksX7_command_0 : cX7_command.data.toList.drop 0 = dktX7_command_0 := by decide +kernel
theorem dksX7_command_1 : cX7_command.data.toList.drop 23 = dktX7_command_1 := dk_seg dksX7_command_0 23 rfl rfl
theorem dksX7_command_2 : cX7_command.data.toList.drop 47 = dktX7_command_2 := dk_seg dksX7_command_1 24 rfl rfl
theorem dksX7_command_3 : cX7_command.data.toList.drop 69 = dktX7_command_3 := dk_seg dksX7_command_2 22 rfl rfl
theorem dksX7_command_4 : cX7_command.data.toList.drop 93 = dktX7_command_4 := dk_seg dksX7_command_3 24 rfl rfl
theorem dX7_command_0 : decode cX7_command 0 = .ok (.aload_n 0, 1) := dk_42 (dk_at dksX7_command_0 0 rfl rfl)
theorem dX7_command_1 : decode cX7_command 1 = .ok (.invokevirtual 245, 3) := dk_182 0 245 (dk_at dksX7_command_0 1 rfl rfl)
theorem dX7_command_4 : decode cX7_command 4 = .ok (.istore_n 1, 1) := dk_60 (dk_at dksX7_command_0 4 rfl rfl)
theorem dX7_command_5 : decode cX7_command 5 = .ok (.aload_n 0, 1) := dk_42 (dk_at dksX7_command_0 5 rfl rfl)
theorem dX7_command_6 : decode cX7_command 6 = .ok (.getfield 84, 3) := dk_180 0 84 (dk_at dksX7_command_0 6 rfl rfl)
theorem dX7_command_9 : decode cX7_command 9 = .ok (.ifCond .eq 4, 3) := dk_153 0 4 (dk_at dksX7_command_0 9 rfl rfl)
theorem dX7_command_12 : decode cX7_command 12 = .ok (.return_, 1) := dk_177 (dk_at dksX7_command_0 12 rfl rfl)
theorem dX7_command_13 : decode cX7_command 13 = .ok (.aload_n 0, 1) := dk_42 (dk_at dksX7_command_0 13 rfl rfl)
theorem dX7_command_14 : decode cX7_command 14 = .ok (.getfield 66, 3) := dk_180 0 66 (dk_at dksX7_command_0 14 rfl rfl)
theorem dX7_command_17 : decode cX7_command 17 = .ok (.aload_n 0, 1) := dk_42 (dk_at dksX7_command_0 17 rfl rfl)
theorem dX7_command_18 : decode cX7_command 18 = .ok (.getfield 81, 3) := dk_180 0 81 (dk_at dksX7_command_0 18 rfl rfl)
theorem dX7_command_21 : decode cX7_command 21 = .ok (.iload_n 1, 1) := dk_27 (dk_at dksX7_command_0 21 rfl rfl)
theorem dX7_command_22 : decode cX7_command 22 = .ok (.iconst 5, 1) := dk_8 (dk_at dksX7_command_0 22 rfl rfl)
theorem dX7_command_23 : decode cX7_command 23 = .ok (.if_icmp .ne 7, 3) := dk_160 0 7 (dk_at dksX7_command_1 0 rfl rfl)
theorem dX7_command_26 : decode cX7_command 26 = .ok (.iconst 0, 1) := dk_3 (dk_at dksX7_command_1 3 rfl rfl)
theorem dX7_command_27 : decode cX7_command 27 = .ok (.goto 11, 3) := dk_167 0 11 (dk_at dksX7_command_1 4 rfl rfl)
theorem dX7_command_30 : decode cX7_command 30 = .ok (.aload_n 0, 1) := dk_42 (dk_at dksX7_command_1 7 rfl rfl)
theorem dX7_command_31 : decode cX7_command 31 = .ok (.iload_n 1, 1) := dk_27 (dk_at dksX7_command_1 8 rfl rfl)
theorem dX7_command_32 : decode cX7_command 32 = .ok (.invokestatic 248, 3) := dk_184 0 248 (dk_at dksX7_command_1 9 rfl rfl)
theorem dX7_command_35 : decode cX7_command 35 = .ok (.invokevirtual 251, 3) := dk_182 0 251 (dk_at dksX7_command_1 12 rfl rfl)
theorem dX7_command_38 : decode cX7_command 38 = .ok (.iastore, 1) := dk_79 (dk_at dksX7_command_1 15 rfl rfl)
theorem dX7_command_39 : decode cX7_command 39 = .ok (.aload_n 0, 1) := dk_42 (dk_at dksX7_command_1 16 rfl rfl)
theorem dX7_command_40 : decode cX7_command 40 = .ok (.getfield 69, 3) := dk_180 0 69 (dk_at dksX7_command_1 17 rfl rfl)
theorem dX7_command_43 : decode cX7_command 43 = .ok (.aload_n 0, 1) := dk_42 (dk_at dksX7_command_1 20 rfl rfl)
theorem dX7_command_44 : decode cX7_command 44 = .ok (.getfield 81, 3) := dk_180 0 81 (dk_at dksX7_command_1 21 rfl rfl)
theorem dX7_command_47 : decode cX7_command 47 = .ok (.iload_n 1, 1) := dk_27 (dk_at dksX7_command_2 0 rfl rfl)
theorem dX7_command_48 : decode cX7_command 48 = .ok (.ifCond .ne 11, 3) := dk_154 0 11 (dk_at dksX7_command_2 1 rfl rfl)
theorem dX7_command_51 : decode cX7_command 51 = .ok (.aload_n 0, 1) := dk_42 (dk_at dksX7_command_2 4 rfl rfl)
theorem dX7_command_52 : decode cX7_command 52 = .ok (.iconst 3, 1) := dk_6 (dk_at dksX7_command_2 5 rfl rfl)
theorem dX7_command_53 : decode cX7_command 53 = .ok (.invokevirtual 251, 3) := dk_182 0 251 (dk_at dksX7_command_2 6 rfl rfl)
theorem dX7_command_56 : decode cX7_command 56 = .ok (.goto 17, 3) := dk_167 0 17 (dk_at dksX7_command_2 9 rfl rfl)
theorem dX7_command_59 : decode cX7_command 59 = .ok (.iload_n 1, 1) := dk_27 (dk_at dksX7_command_2 12 rfl rfl)
theorem dX7_command_60 : decode cX7_command 60 = .ok (.iconst 2, 1) := dk_5 (dk_at dksX7_command_2 13 rfl rfl)
theorem dX7_command_61 : decode cX7_command 61 = .ok (.if_icmp .ne 11, 3) := dk_160 0 11 (dk_at dksX7_command_2 14 rfl rfl)
theorem dX7_command_64 : decode cX7_command 64 = .ok (.aload_n 0, 1) := dk_42 (dk_at dksX7_command_2 17 rfl rfl)
theorem dX7_command_65 : decode cX7_command 65 = .ok (.iconst 2, 1) := dk_5 (dk_at dksX7_command_2 18 rfl rfl)
theorem dX7_command_66 : decode cX7_command 66 = .ok (.invokevirtual 251, 3) := dk_182 0 251 (dk_at dksX7_command_2 19 rfl rfl)
theorem dX7_command_69 : decode cX7_command 69 = .ok (.goto 4, 3) := dk_167 0 4 (dk_at dksX7_command_3 0 rfl rfl)
theorem dX7_command_72 : decode cX7_command 72 = .ok (.iconst 0, 1) := dk_3 (dk_at dksX7_command_3 3 rfl rfl)
theorem dX7_command_73 : decode cX7_command 73 = .ok (.iastore, 1) := dk_79 (dk_at dksX7_command_3 4 rfl rfl)
theorem dX7_command_74 : decode cX7_command 74 = .ok (.aload_n 0, 1) := dk_42 (dk_at dksX7_command_3 5 rfl rfl)
theorem dX7_command_75 : decode cX7_command 75 = .ok (.getfield 84, 3) := dk_180 0 84 (dk_at dksX7_command_3 6 rfl rfl)
theorem dX7_command_78 : decode cX7_command 78 = .ok (.ifCond .eq 4, 3) := dk_153 0 4 (dk_at dksX7_command_3 9 rfl rfl)
theorem dX7_command_81 : decode cX7_command 81 = .ok (.return_, 1) := dk_177 (dk_at dksX7_command_3 12 rfl rfl)
theorem dX7_command_82 : decode cX7_command 82 = .ok (.aload_n 0, 1) := dk_42 (dk_at dksX7_command_3 13 rfl rfl)
theorem dX7_command_83 : decode cX7_command 83 = .ok (.getfield 63, 3) := dk_180 0 63 (dk_at dksX7_command_3 14 rfl rfl)
theorem dX7_command_86 : decode cX7_command 86 = .ok (.aload_n 0, 1) := dk_42 (dk_at dksX7_command_3 17 rfl rfl)
theorem dX7_command_87 : decode cX7_command 87 = .ok (.getfield 81, 3) := dk_180 0 81 (dk_at dksX7_command_3 18 rfl rfl)
theorem dX7_command_90 : decode cX7_command 90 = .ok (.iload_n 1, 1) := dk_27 (dk_at dksX7_command_3 21 rfl rfl)
theorem dX7_command_91 : decode cX7_command 91 = .ok (.iastore, 1) := dk_79 (dk_at dksX7_command_3 22 rfl rfl)
theorem dX7_command_92 : decode cX7_command 92 = .ok (.aload_n 0, 1) := dk_42 (dk_at dksX7_command_3 23 rfl rfl)
theorem dX7_command_93 : decode cX7_command 93 = .ok (.dup, 1) := dk_89 (dk_at dksX7_command_4 0 rfl rfl)
theorem dX7_command_94 : decode cX7_command 94 = .ok (.getfield 81, 3) := dk_180 0 81 (dk_at dksX7_command_4 1 rfl rfl)
theorem dX7_command_97 : decode cX7_command 97 = .ok (.iconst 1, 1) := dk_4 (dk_at dksX7_command_4 4 rfl rfl)
theorem dX7_command_98 : decode cX7_command 98 = .ok (.iadd, 1) := dk_96 (dk_at dksX7_command_4 5 rfl rfl)
theorem dX7_command_99 : decode cX7_command 99 = .ok (.putfield 81, 3) := dk_181 0 81 (dk_at dksX7_command_4 6 rfl rfl)
theorem dX7_command_102 : decode cX7_command 102 = .ok (.return_, 1) := dk_177 (dk_at dksX7_command_4 9 rfl rfl)
abbrev cX7_word : ByteArray := prog_12_method_99_code
def yX7_word : MethodName := ⟨RX7, "word", "()I"⟩
def dkwX7_word_4 : List UInt8 := [167, 255, 168, 42, 89, 180, 0, 78, 27, 96, 181, 0, 78, 42, 4, 181, 0, 84, 3, 172]
abbrev dktX7_word_4 : List UInt8 := dkwX7_word_4 ++ []
def dkwX7_word_3 : List UInt8 := [180, 0, 78, 29, 96, 181, 0, 78, 28, 172, 29, 27, 164, 0, 7, 29, 167, 0, 4, 27, 60, 132, 2, 1]
abbrev dktX7_word_3 : List UInt8 := dkwX7_word_3 ++ dktX7_word_4
def dkwX7_word_2 : List UInt8 := [184, 0, 242, 160, 0, 9, 132, 3, 1, 167, 255, 213, 28, 29, 184, 0, 242, 154, 0, 15, 42, 89]
abbrev dktX7_word_2 : List UInt8 := dkwX7_word_2 ++ dktX7_word_3
def dkwX7_word_1 : List UInt8 := [29, 96, 42, 180, 0, 75, 162, 0, 28, 42, 180, 0, 60, 42, 180, 0, 78, 29, 96, 46, 28, 29]
abbrev dktX7_word_1 : List UInt8 := dkwX7_word_1 ++ dktX7_word_2
def dkwX7_word_0 : List UInt8 := [3, 60, 3, 61, 28, 16, 9, 162, 0, 88, 3, 62, 28, 29, 184, 0, 242, 158, 0, 41, 42, 180, 0, 78]
abbrev dktX7_word_0 : List UInt8 := dkwX7_word_0 ++ dktX7_word_1
theorem dksX7_word_0 : cX7_word.data.toList.drop 0 = dktX7_word_0 := by decide +kernel
theorem dksX7_word_1 : cX7_word.data.toList.drop 24 = dktX7_word_1 := dk_seg dksX7_word_0 24 rfl rfl
theorem dksX7_word_2 : cX7_word.data.toList.drop 46 = dktX7_word_2 := dk_seg dksX7_word_1 22 rfl rfl
theorem dksX7_word_3 : cX7_word.data.toList.drop 68 = dktX7_word_3 := dk_seg dksX7_word_2 22 rfl rfl
theorem dksX7_word_4 : cX7_word.data.toList.drop 92 = dktX7_word_4 := dk_seg dksX7_word_3 24 rfl rfl
theorem dX7_word_0 : decode cX7_word 0 = .ok (.iconst 0, 1) := dk_3 (dk_at dksX7_word_0 0 rfl rfl)
theorem dX7_word_1 : decode cX7_word 1 = .ok (.istore_n 1, 1) := dk_60 (dk_at dksX7_word_0 1 rfl rfl)
theorem dX7_word_2 : decode cX7_word 2 = .ok (.iconst 0, 1) := dk_3 (dk_at dksX7_word_0 2 rfl rfl)
theorem dX7_word_3 : decode cX7_word 3 = .ok (.istore_n 2, 1) := dk_61 (dk_at dksX7_word_0 3 rfl rfl)
theorem dX7_word_4 : decode cX7_word 4 = .ok (.iload_n 2, 1) := dk_28 (dk_at dksX7_word_0 4 rfl rfl)
theorem dX7_word_5 : decode cX7_word 5 = .ok (.bipush 9, 2) := dk_16 9 (dk_at dksX7_word_0 5 rfl rfl)
theorem dX7_word_7 : decode cX7_word 7 = .ok (.if_icmp .ge 88, 3) := dk_162 0 88 (dk_at dksX7_word_0 7 rfl rfl)
theorem dX7_word_10 : decode cX7_word 10 = .ok (.iconst 0, 1) := dk_3 (dk_at dksX7_word_0 10 rfl rfl)
theorem dX7_word_11 : decode cX7_word 11 = .ok (.istore_n 3, 1) := dk_62 (dk_at dksX7_word_0 11 rfl rfl)
theorem dX7_word_12 : decode cX7_word 12 = .ok (.iload_n 2, 1) := dk_28 (dk_at dksX7_word_0 12 rfl rfl)
theorem dX7_word_13 : decode cX7_word 13 = .ok (.iload_n 3, 1) := dk_29 (dk_at dksX7_word_0 13 rfl rfl)
theorem dX7_word_14 : decode cX7_word 14 = .ok (.invokestatic 242, 3) := dk_184 0 242 (dk_at dksX7_word_0 14 rfl rfl)
theorem dX7_word_17 : decode cX7_word 17 = .ok (.ifCond .le 41, 3) := dk_158 0 41 (dk_at dksX7_word_0 17 rfl rfl)
theorem dX7_word_20 : decode cX7_word 20 = .ok (.aload_n 0, 1) := dk_42 (dk_at dksX7_word_0 20 rfl rfl)
theorem dX7_word_21 : decode cX7_word 21 = .ok (.getfield 78, 3) := dk_180 0 78 (dk_at dksX7_word_0 21 rfl rfl)
theorem dX7_word_24 : decode cX7_word 24 = .ok (.iload_n 3, 1) := dk_29 (dk_at dksX7_word_1 0 rfl rfl)
theorem dX7_word_25 : decode cX7_word 25 = .ok (.iadd, 1) := dk_96 (dk_at dksX7_word_1 1 rfl rfl)
theorem dX7_word_26 : decode cX7_word 26 = .ok (.aload_n 0, 1) := dk_42 (dk_at dksX7_word_1 2 rfl rfl)
theorem dX7_word_27 : decode cX7_word 27 = .ok (.getfield 75, 3) := dk_180 0 75 (dk_at dksX7_word_1 3 rfl rfl)
theorem dX7_word_30 : decode cX7_word 30 = .ok (.if_icmp .ge 28, 3) := dk_162 0 28 (dk_at dksX7_word_1 6 rfl rfl)
theorem dX7_word_33 : decode cX7_word 33 = .ok (.aload_n 0, 1) := dk_42 (dk_at dksX7_word_1 9 rfl rfl)
theorem dX7_word_34 : decode cX7_word 34 = .ok (.getfield 60, 3) := dk_180 0 60 (dk_at dksX7_word_1 10 rfl rfl)
theorem dX7_word_37 : decode cX7_word 37 = .ok (.aload_n 0, 1) := dk_42 (dk_at dksX7_word_1 13 rfl rfl)
theorem dX7_word_38 : decode cX7_word 38 = .ok (.getfield 78, 3) := dk_180 0 78 (dk_at dksX7_word_1 14 rfl rfl)
theorem dX7_word_41 : decode cX7_word 41 = .ok (.iload_n 3, 1) := dk_29 (dk_at dksX7_word_1 17 rfl rfl)
theorem dX7_word_42 : decode cX7_word 42 = .ok (.iadd, 1) := dk_96 (dk_at dksX7_word_1 18 rfl rfl)
theorem dX7_word_43 : decode cX7_word 43 = .ok (.iaload, 1) := dk_46 (dk_at dksX7_word_1 19 rfl rfl)
theorem dX7_word_44 : decode cX7_word 44 = .ok (.iload_n 2, 1) := dk_28 (dk_at dksX7_word_1 20 rfl rfl)
theorem dX7_word_45 : decode cX7_word 45 = .ok (.iload_n 3, 1) := dk_29 (dk_at dksX7_word_1 21 rfl rfl)
theorem dX7_word_46 : decode cX7_word 46 = .ok (.invokestatic 242, 3) := dk_184 0 242 (dk_at dksX7_word_2 0 rfl rfl)
theorem dX7_word_49 : decode cX7_word 49 = .ok (.if_icmp .ne 9, 3) := dk_160 0 9 (dk_at dksX7_word_2 3 rfl rfl)
theorem dX7_word_52 : decode cX7_word 52 = .ok (.iinc 3 1, 3) := dk_132 3 1 (dk_at dksX7_word_2 6 rfl rfl)
theorem dX7_word_55 : decode cX7_word 55 = .ok (.goto (-43), 3) := dk_167 255 213 (dk_at dksX7_word_2 9 rfl rfl)
theorem dX7_word_58 : decode cX7_word 58 = .ok (.iload_n 2, 1) := dk_28 (dk_at dksX7_word_2 12 rfl rfl)
theorem dX7_word_59 : decode cX7_word 59 = .ok (.iload_n 3, 1) := dk_29 (dk_at dksX7_word_2 13 rfl rfl)
theorem dX7_word_60 : decode cX7_word 60 = .ok (.invokestatic 242, 3) := dk_184 0 242 (dk_at dksX7_word_2 14 rfl rfl)
theorem dX7_word_63 : decode cX7_word 63 = .ok (.ifCond .ne 15, 3) := dk_154 0 15 (dk_at dksX7_word_2 17 rfl rfl)
theorem dX7_word_66 : decode cX7_word 66 = .ok (.aload_n 0, 1) := dk_42 (dk_at dksX7_word_2 20 rfl rfl)
theorem dX7_word_67 : decode cX7_word 67 = .ok (.dup, 1) := dk_89 (dk_at dksX7_word_2 21 rfl rfl)
theorem dX7_word_68 : decode cX7_word 68 = .ok (.getfield 78, 3) := dk_180 0 78 (dk_at dksX7_word_3 0 rfl rfl)
theorem dX7_word_71 : decode cX7_word 71 = .ok (.iload_n 3, 1) := dk_29 (dk_at dksX7_word_3 3 rfl rfl)
theorem dX7_word_72 : decode cX7_word 72 = .ok (.iadd, 1) := dk_96 (dk_at dksX7_word_3 4 rfl rfl)
theorem dX7_word_73 : decode cX7_word 73 = .ok (.putfield 78, 3) := dk_181 0 78 (dk_at dksX7_word_3 5 rfl rfl)
theorem dX7_word_76 : decode cX7_word 76 = .ok (.iload_n 2, 1) := dk_28 (dk_at dksX7_word_3 8 rfl rfl)
theorem dX7_word_77 : decode cX7_word 77 = .ok (.ireturn, 1) := dk_172 (dk_at dksX7_word_3 9 rfl rfl)
theorem dX7_word_78 : decode cX7_word 78 = .ok (.iload_n 3, 1) := dk_29 (dk_at dksX7_word_3 10 rfl rfl)
theorem dX7_word_79 : decode cX7_word 79 = .ok (.iload_n 1, 1) := dk_27 (dk_at dksX7_word_3 11 rfl rfl)
theorem dX7_word_80 : decode cX7_word 80 = .ok (.if_icmp .le 7, 3) := dk_164 0 7 (dk_at dksX7_word_3 12 rfl rfl)
theorem dX7_word_83 : decode cX7_word 83 = .ok (.iload_n 3, 1) := dk_29 (dk_at dksX7_word_3 15 rfl rfl)
theorem dX7_word_84 : decode cX7_word 84 = .ok (.goto 4, 3) := dk_167 0 4 (dk_at dksX7_word_3 16 rfl rfl)
theorem dX7_word_87 : decode cX7_word 87 = .ok (.iload_n 1, 1) := dk_27 (dk_at dksX7_word_3 19 rfl rfl)
theorem dX7_word_88 : decode cX7_word 88 = .ok (.istore_n 1, 1) := dk_60 (dk_at dksX7_word_3 20 rfl rfl)
theorem dX7_word_89 : decode cX7_word 89 = .ok (.iinc 2 1, 3) := dk_132 2 1 (dk_at dksX7_word_3 21 rfl rfl)
theorem dX7_word_92 : decode cX7_word 92 = .ok (.goto (-88), 3) := dk_167 255 168 (dk_at dksX7_word_4 0 rfl rfl)
theorem dX7_word_95 : decode cX7_word 95 = .ok (.aload_n 0, 1) := dk_42 (dk_at dksX7_word_4 3 rfl rfl)
theorem dX7_word_96 : decode cX7_word 96 = .ok (.dup, 1) := dk_89 (dk_at dksX7_word_4 4 rfl rfl)
theorem dX7_word_97 : decode cX7_word 97 = .ok (.getfield 78, 3) := dk_180 0 78 (dk_at dksX7_word_4 5 rfl rfl)
theorem dX7_word_100 : decode cX7_word 100 = .ok (.iload_n 1, 1) := dk_27 (dk_at dksX7_word_4 8 rfl rfl)
theorem dX7_word_101 : decode cX7_word 101 = .ok (.iadd, 1) := dk_96 (dk_at dksX7_word_4 9 rfl rfl)
theorem dX7_word_102 : decode cX7_word 102 = .ok (.putfield 78, 3) := dk_181 0 78 (dk_at dksX7_word_4 10 rfl rfl)
theorem dX7_word_105 : decode cX7_word 105 = .ok (.aload_n 0, 1) := dk_42 (dk_at dksX7_word_4 13 rfl rfl)
theorem dX7_word_106 : decode cX7_word 106 = .ok (.iconst 1, 1) := dk_4 (dk_at dksX7_word_4 14 rfl rfl)
theorem dX7_word_107 : decode cX7_word 107 = .ok (.putfield 84, 3) := dk_181 0 84 (dk_at dksX7_word_4 15 rfl rfl)
theorem dX7_word_110 : decode cX7_word 110 = .ok (.iconst 0, 1) := dk_3 (dk_at dksX7_word_4 18 rfl rfl)
theorem dX7_word_111 : decode cX7_word 111 = .ok (.ireturn, 1) := dk_172 (dk_at dksX7_word_4 19 rfl rfl)
abbrev cX7_spelled : ByteArray := prog_12_method_98_code
def yX7_spelled : MethodName := ⟨RX7, "spelled", "(II)I"⟩
def dkwX7_spelled_8 : List UInt8 := [16, 112, 3, 3, 3, 184, 0, 238, 172]
abbrev dktX7_spelled_8 : List UInt8 := dkwX7_spelled_8 ++ []
def dkwX7_spelled_7 : List UInt8 := [27, 16, 112, 16, 114, 16, 111, 16, 111, 16, 102, 3, 3, 184, 0, 238, 172, 27, 16, 100, 16, 114, 16, 111]
abbrev dktX7_spelled_7 : List UInt8 := dkwX7_spelled_7 ++ dktX7_spelled_8
def dkwX7_spelled_6 : List UInt8 := [3, 3, 3, 184, 0, 238, 172, 27, 16, 104, 16, 111, 16, 117, 16, 114, 16, 115, 3, 3, 184, 0, 238, 172]
abbrev dktX7_spelled_6 : List UInt8 := dkwX7_spelled_6 ++ dktX7_spelled_7
def dkwX7_spelled_5 : List UInt8 := [16, 112, 16, 114, 16, 105, 16, 110, 16, 116, 3, 3, 184, 0, 238, 172, 27, 16, 97, 16, 108, 16, 108, 3]
abbrev dktX7_spelled_5 : List UInt8 := dkwX7_spelled_5 ++ dktX7_spelled_6
def dkwX7_spelled_4 : List UInt8 := [184, 0, 238, 172, 27, 16, 114, 16, 101, 16, 109, 16, 111, 16, 118, 16, 101, 3, 184, 0, 238, 172, 27]
abbrev dktX7_spelled_4 : List UInt8 := dkwX7_spelled_4 ++ dktX7_spelled_5
def dkwX7_spelled_3 : List UInt8 := [16, 114, 3, 3, 184, 0, 238, 172, 27, 16, 101, 16, 100, 16, 105, 16, 116, 16, 105, 16, 111, 16, 110]
abbrev dktX7_spelled_3 : List UInt8 := dkwX7_spelled_3 ++ dktX7_spelled_4
def dkwX7_spelled_2 : List UInt8 := [27, 16, 105, 16, 110, 16, 107, 3, 3, 3, 3, 184, 0, 238, 172, 27, 16, 112, 16, 97, 16, 112, 16, 101]
abbrev dktX7_spelled_2 : List UInt8 := dkwX7_spelled_2 ++ dktX7_spelled_3
def dkwX7_spelled_1 : List UInt8 := [170, 0, 0, 0, 0, 0, 182, 0, 0, 0, 0, 0, 0, 0, 7, 0, 0, 0, 47, 0, 0, 0, 62, 0, 0, 0, 79, 0, 0, 0, 98, 0, 0, 0, 116, 0, 0, 0, 133, 0, 0, 0, 148, 0, 0, 0, 165]
abbrev dktX7_spelled_1 : List UInt8 := dkwX7_spelled_1 ++ dktX7_spelled_2
def dkwX7_spelled_0 : List UInt8 := [26]
abbrev dktX7_spelled_0 : List UInt8 := dkwX7_spelled_0 ++ dktX7_spelled_1
theorem dksX7_spelled_0 : cX7_spelled.data.toList.drop 0 = dktX7_spelled_0 := by decide +kernel
theorem dksX7_spelled_1 : cX7_spelled.data.toList.drop 1 = dktX7_spelled_1 := dk_seg dksX7_spelled_0 1 rfl rfl
theorem dksX7_spelled_2 : cX7_spelled.data.toList.drop 48 = dktX7_spelled_2 := dk_seg dksX7_spelled_1 47 rfl rfl
theorem dksX7_spelled_3 : cX7_spelled.data.toList.drop 72 = dktX7_spelled_3 := dk_seg dksX7_spelled_2 24 rfl rfl
theorem dksX7_spelled_4 : cX7_spelled.data.toList.drop 95 = dktX7_spelled_4 := dk_seg dksX7_spelled_3 23 rfl rfl
theorem dksX7_spelled_5 : cX7_spelled.data.toList.drop 118 = dktX7_spelled_5 := dk_seg dksX7_spelled_4 23 rfl rfl
theorem dksX7_spelled_6 : cX7_spelled.data.toList.drop 142 = dktX7_spelled_6 := dk_seg dksX7_spelled_5 24 rfl rfl
theorem dksX7_spelled_7 : cX7_spelled.data.toList.drop 166 = dktX7_spelled_7 := dk_seg dksX7_spelled_6 24 rfl rfl
theorem dksX7_spelled_8 : cX7_spelled.data.toList.drop 190 = dktX7_spelled_8 := dk_seg dksX7_spelled_7 24 rfl rfl
theorem dX7_spelled_0 : decode cX7_spelled 0 = .ok (.iload_n 0, 1) := dk_26 (dk_at dksX7_spelled_0 0 rfl rfl)
theorem dX7_spelled_1 : decode cX7_spelled 1 = .ok (.tableswitch 182 0 7 #[47, 62, 79, 98, 116, 133, 148, 165], 47) := by decide +kernel
theorem dX7_spelled_48 : decode cX7_spelled 48 = .ok (.iload_n 1, 1) := dk_27 (dk_at dksX7_spelled_2 0 rfl rfl)
theorem dX7_spelled_49 : decode cX7_spelled 49 = .ok (.bipush 105, 2) := dk_16 105 (dk_at dksX7_spelled_2 1 rfl rfl)
theorem dX7_spelled_51 : decode cX7_spelled 51 = .ok (.bipush 110, 2) := dk_16 110 (dk_at dksX7_spelled_2 3 rfl rfl)
theorem dX7_spelled_53 : decode cX7_spelled 53 = .ok (.bipush 107, 2) := dk_16 107 (dk_at dksX7_spelled_2 5 rfl rfl)
theorem dX7_spelled_55 : decode cX7_spelled 55 = .ok (.iconst 0, 1) := dk_3 (dk_at dksX7_spelled_2 7 rfl rfl)
theorem dX7_spelled_56 : decode cX7_spelled 56 = .ok (.iconst 0, 1) := dk_3 (dk_at dksX7_spelled_2 8 rfl rfl)
theorem dX7_spelled_57 : decode cX7_spelled 57 = .ok (.iconst 0, 1) := dk_3 (dk_at dksX7_spelled_2 9 rfl rfl)
theorem dX7_spelled_58 : decode cX7_spelled 58 = .ok (.iconst 0, 1) := dk_3 (dk_at dksX7_spelled_2 10 rfl rfl)
theorem dX7_spelled_59 : decode cX7_spelled 59 = .ok (.invokestatic 238, 3) := dk_184 0 238 (dk_at dksX7_spelled_2 11 rfl rfl)
theorem dX7_spelled_62 : decode cX7_spelled 62 = .ok (.ireturn, 1) := dk_172 (dk_at dksX7_spelled_2 14 rfl rfl)
theorem dX7_spelled_63 : decode cX7_spelled 63 = .ok (.iload_n 1, 1) := dk_27 (dk_at dksX7_spelled_2 15 rfl rfl)
theorem dX7_spelled_64 : decode cX7_spelled 64 = .ok (.bipush 112, 2) := dk_16 112 (dk_at dksX7_spelled_2 16 rfl rfl)
theorem dX7_spelled_66 : decode cX7_spelled 66 = .ok (.bipush 97, 2) := dk_16 97 (dk_at dksX7_spelled_2 18 rfl rfl)
theorem dX7_spelled_68 : decode cX7_spelled 68 = .ok (.bipush 112, 2) := dk_16 112 (dk_at dksX7_spelled_2 20 rfl rfl)
theorem dX7_spelled_70 : decode cX7_spelled 70 = .ok (.bipush 101, 2) := dk_16 101 (dk_at dksX7_spelled_2 22 rfl rfl)
theorem dX7_spelled_72 : decode cX7_spelled 72 = .ok (.bipush 114, 2) := dk_16 114 (dk_at dksX7_spelled_3 0 rfl rfl)
theorem dX7_spelled_74 : decode cX7_spelled 74 = .ok (.iconst 0, 1) := dk_3 (dk_at dksX7_spelled_3 2 rfl rfl)
theorem dX7_spelled_75 : decode cX7_spelled 75 = .ok (.iconst 0, 1) := dk_3 (dk_at dksX7_spelled_3 3 rfl rfl)
theorem dX7_spelled_76 : decode cX7_spelled 76 = .ok (.invokestatic 238, 3) := dk_184 0 238 (dk_at dksX7_spelled_3 4 rfl rfl)
theorem dX7_spelled_79 : decode cX7_spelled 79 = .ok (.ireturn, 1) := dk_172 (dk_at dksX7_spelled_3 7 rfl rfl)
theorem dX7_spelled_80 : decode cX7_spelled 80 = .ok (.iload_n 1, 1) := dk_27 (dk_at dksX7_spelled_3 8 rfl rfl)
theorem dX7_spelled_81 : decode cX7_spelled 81 = .ok (.bipush 101, 2) := dk_16 101 (dk_at dksX7_spelled_3 9 rfl rfl)
theorem dX7_spelled_83 : decode cX7_spelled 83 = .ok (.bipush 100, 2) := dk_16 100 (dk_at dksX7_spelled_3 11 rfl rfl)
theorem dX7_spelled_85 : decode cX7_spelled 85 = .ok (.bipush 105, 2) := dk_16 105 (dk_at dksX7_spelled_3 13 rfl rfl)
theorem dX7_spelled_87 : decode cX7_spelled 87 = .ok (.bipush 116, 2) := dk_16 116 (dk_at dksX7_spelled_3 15 rfl rfl)
theorem dX7_spelled_89 : decode cX7_spelled 89 = .ok (.bipush 105, 2) := dk_16 105 (dk_at dksX7_spelled_3 17 rfl rfl)
theorem dX7_spelled_91 : decode cX7_spelled 91 = .ok (.bipush 111, 2) := dk_16 111 (dk_at dksX7_spelled_3 19 rfl rfl)
theorem dX7_spelled_93 : decode cX7_spelled 93 = .ok (.bipush 110, 2) := dk_16 110 (dk_at dksX7_spelled_3 21 rfl rfl)
theorem dX7_spelled_95 : decode cX7_spelled 95 = .ok (.invokestatic 238, 3) := dk_184 0 238 (dk_at dksX7_spelled_4 0 rfl rfl)
theorem dX7_spelled_98 : decode cX7_spelled 98 = .ok (.ireturn, 1) := dk_172 (dk_at dksX7_spelled_4 3 rfl rfl)
theorem dX7_spelled_99 : decode cX7_spelled 99 = .ok (.iload_n 1, 1) := dk_27 (dk_at dksX7_spelled_4 4 rfl rfl)
theorem dX7_spelled_100 : decode cX7_spelled 100 = .ok (.bipush 114, 2) := dk_16 114 (dk_at dksX7_spelled_4 5 rfl rfl)
theorem dX7_spelled_102 : decode cX7_spelled 102 = .ok (.bipush 101, 2) := dk_16 101 (dk_at dksX7_spelled_4 7 rfl rfl)
theorem dX7_spelled_104 : decode cX7_spelled 104 = .ok (.bipush 109, 2) := dk_16 109 (dk_at dksX7_spelled_4 9 rfl rfl)
theorem dX7_spelled_106 : decode cX7_spelled 106 = .ok (.bipush 111, 2) := dk_16 111 (dk_at dksX7_spelled_4 11 rfl rfl)
theorem dX7_spelled_108 : decode cX7_spelled 108 = .ok (.bipush 118, 2) := dk_16 118 (dk_at dksX7_spelled_4 13 rfl rfl)
theorem dX7_spelled_110 : decode cX7_spelled 110 = .ok (.bipush 101, 2) := dk_16 101 (dk_at dksX7_spelled_4 15 rfl rfl)
theorem dX7_spelled_112 : decode cX7_spelled 112 = .ok (.iconst 0, 1) := dk_3 (dk_at dksX7_spelled_4 17 rfl rfl)
theorem dX7_spelled_113 : decode cX7_spelled 113 = .ok (.invokestatic 238, 3) := dk_184 0 238 (dk_at dksX7_spelled_4 18 rfl rfl)
theorem dX7_spelled_116 : decode cX7_spelled 116 = .ok (.ireturn, 1) := dk_172 (dk_at dksX7_spelled_4 21 rfl rfl)
theorem dX7_spelled_117 : decode cX7_spelled 117 = .ok (.iload_n 1, 1) := dk_27 (dk_at dksX7_spelled_4 22 rfl rfl)
theorem dX7_spelled_118 : decode cX7_spelled 118 = .ok (.bipush 112, 2) := dk_16 112 (dk_at dksX7_spelled_5 0 rfl rfl)
theorem dX7_spelled_120 : decode cX7_spelled 120 = .ok (.bipush 114, 2) := dk_16 114 (dk_at dksX7_spelled_5 2 rfl rfl)
theorem dX7_spelled_122 : decode cX7_spelled 122 = .ok (.bipush 105, 2) := dk_16 105 (dk_at dksX7_spelled_5 4 rfl rfl)
theorem dX7_spelled_124 : decode cX7_spelled 124 = .ok (.bipush 110, 2) := dk_16 110 (dk_at dksX7_spelled_5 6 rfl rfl)
theorem dX7_spelled_126 : decode cX7_spelled 126 = .ok (.bipush 116, 2) := dk_16 116 (dk_at dksX7_spelled_5 8 rfl rfl)
theorem dX7_spelled_128 : decode cX7_spelled 128 = .ok (.iconst 0, 1) := dk_3 (dk_at dksX7_spelled_5 10 rfl rfl)
theorem dX7_spelled_129 : decode cX7_spelled 129 = .ok (.iconst 0, 1) := dk_3 (dk_at dksX7_spelled_5 11 rfl rfl)
theorem dX7_spelled_130 : decode cX7_spelled 130 = .ok (.invokestatic 238, 3) := dk_184 0 238 (dk_at dksX7_spelled_5 12 rfl rfl)
theorem dX7_spelled_133 : decode cX7_spelled 133 = .ok (.ireturn, 1) := dk_172 (dk_at dksX7_spelled_5 15 rfl rfl)
theorem dX7_spelled_134 : decode cX7_spelled 134 = .ok (.iload_n 1, 1) := dk_27 (dk_at dksX7_spelled_5 16 rfl rfl)
theorem dX7_spelled_135 : decode cX7_spelled 135 = .ok (.bipush 97, 2) := dk_16 97 (dk_at dksX7_spelled_5 17 rfl rfl)
theorem dX7_spelled_137 : decode cX7_spelled 137 = .ok (.bipush 108, 2) := dk_16 108 (dk_at dksX7_spelled_5 19 rfl rfl)
theorem dX7_spelled_139 : decode cX7_spelled 139 = .ok (.bipush 108, 2) := dk_16 108 (dk_at dksX7_spelled_5 21 rfl rfl)
theorem dX7_spelled_141 : decode cX7_spelled 141 = .ok (.iconst 0, 1) := dk_3 (dk_at dksX7_spelled_5 23 rfl rfl)
theorem dX7_spelled_142 : decode cX7_spelled 142 = .ok (.iconst 0, 1) := dk_3 (dk_at dksX7_spelled_6 0 rfl rfl)
theorem dX7_spelled_143 : decode cX7_spelled 143 = .ok (.iconst 0, 1) := dk_3 (dk_at dksX7_spelled_6 1 rfl rfl)
theorem dX7_spelled_144 : decode cX7_spelled 144 = .ok (.iconst 0, 1) := dk_3 (dk_at dksX7_spelled_6 2 rfl rfl)
theorem dX7_spelled_145 : decode cX7_spelled 145 = .ok (.invokestatic 238, 3) := dk_184 0 238 (dk_at dksX7_spelled_6 3 rfl rfl)
theorem dX7_spelled_148 : decode cX7_spelled 148 = .ok (.ireturn, 1) := dk_172 (dk_at dksX7_spelled_6 6 rfl rfl)
theorem dX7_spelled_149 : decode cX7_spelled 149 = .ok (.iload_n 1, 1) := dk_27 (dk_at dksX7_spelled_6 7 rfl rfl)
theorem dX7_spelled_150 : decode cX7_spelled 150 = .ok (.bipush 104, 2) := dk_16 104 (dk_at dksX7_spelled_6 8 rfl rfl)
theorem dX7_spelled_152 : decode cX7_spelled 152 = .ok (.bipush 111, 2) := dk_16 111 (dk_at dksX7_spelled_6 10 rfl rfl)
theorem dX7_spelled_154 : decode cX7_spelled 154 = .ok (.bipush 117, 2) := dk_16 117 (dk_at dksX7_spelled_6 12 rfl rfl)
theorem dX7_spelled_156 : decode cX7_spelled 156 = .ok (.bipush 114, 2) := dk_16 114 (dk_at dksX7_spelled_6 14 rfl rfl)
theorem dX7_spelled_158 : decode cX7_spelled 158 = .ok (.bipush 115, 2) := dk_16 115 (dk_at dksX7_spelled_6 16 rfl rfl)
theorem dX7_spelled_160 : decode cX7_spelled 160 = .ok (.iconst 0, 1) := dk_3 (dk_at dksX7_spelled_6 18 rfl rfl)
theorem dX7_spelled_161 : decode cX7_spelled 161 = .ok (.iconst 0, 1) := dk_3 (dk_at dksX7_spelled_6 19 rfl rfl)
theorem dX7_spelled_162 : decode cX7_spelled 162 = .ok (.invokestatic 238, 3) := dk_184 0 238 (dk_at dksX7_spelled_6 20 rfl rfl)
theorem dX7_spelled_165 : decode cX7_spelled 165 = .ok (.ireturn, 1) := dk_172 (dk_at dksX7_spelled_6 23 rfl rfl)
theorem dX7_spelled_166 : decode cX7_spelled 166 = .ok (.iload_n 1, 1) := dk_27 (dk_at dksX7_spelled_7 0 rfl rfl)
theorem dX7_spelled_167 : decode cX7_spelled 167 = .ok (.bipush 112, 2) := dk_16 112 (dk_at dksX7_spelled_7 1 rfl rfl)
theorem dX7_spelled_169 : decode cX7_spelled 169 = .ok (.bipush 114, 2) := dk_16 114 (dk_at dksX7_spelled_7 3 rfl rfl)
theorem dX7_spelled_171 : decode cX7_spelled 171 = .ok (.bipush 111, 2) := dk_16 111 (dk_at dksX7_spelled_7 5 rfl rfl)
theorem dX7_spelled_173 : decode cX7_spelled 173 = .ok (.bipush 111, 2) := dk_16 111 (dk_at dksX7_spelled_7 7 rfl rfl)
theorem dX7_spelled_175 : decode cX7_spelled 175 = .ok (.bipush 102, 2) := dk_16 102 (dk_at dksX7_spelled_7 9 rfl rfl)
theorem dX7_spelled_177 : decode cX7_spelled 177 = .ok (.iconst 0, 1) := dk_3 (dk_at dksX7_spelled_7 11 rfl rfl)
theorem dX7_spelled_178 : decode cX7_spelled 178 = .ok (.iconst 0, 1) := dk_3 (dk_at dksX7_spelled_7 12 rfl rfl)
theorem dX7_spelled_179 : decode cX7_spelled 179 = .ok (.invokestatic 238, 3) := dk_184 0 238 (dk_at dksX7_spelled_7 13 rfl rfl)
theorem dX7_spelled_182 : decode cX7_spelled 182 = .ok (.ireturn, 1) := dk_172 (dk_at dksX7_spelled_7 16 rfl rfl)
theorem dX7_spelled_183 : decode cX7_spelled 183 = .ok (.iload_n 1, 1) := dk_27 (dk_at dksX7_spelled_7 17 rfl rfl)
theorem dX7_spelled_184 : decode cX7_spelled 184 = .ok (.bipush 100, 2) := dk_16 100 (dk_at dksX7_spelled_7 18 rfl rfl)
theorem dX7_spelled_186 : decode cX7_spelled 186 = .ok (.bipush 114, 2) := dk_16 114 (dk_at dksX7_spelled_7 20 rfl rfl)
theorem dX7_spelled_188 : decode cX7_spelled 188 = .ok (.bipush 111, 2) := dk_16 111 (dk_at dksX7_spelled_7 22 rfl rfl)
theorem dX7_spelled_190 : decode cX7_spelled 190 = .ok (.bipush 112, 2) := dk_16 112 (dk_at dksX7_spelled_8 0 rfl rfl)
theorem dX7_spelled_192 : decode cX7_spelled 192 = .ok (.iconst 0, 1) := dk_3 (dk_at dksX7_spelled_8 2 rfl rfl)
theorem dX7_spelled_193 : decode cX7_spelled 193 = .ok (.iconst 0, 1) := dk_3 (dk_at dksX7_spelled_8 3 rfl rfl)
theorem dX7_spelled_194 : decode cX7_spelled 194 = .ok (.iconst 0, 1) := dk_3 (dk_at dksX7_spelled_8 4 rfl rfl)
theorem dX7_spelled_195 : decode cX7_spelled 195 = .ok (.invokestatic 238, 3) := dk_184 0 238 (dk_at dksX7_spelled_8 5 rfl rfl)
theorem dX7_spelled_198 : decode cX7_spelled 198 = .ok (.ireturn, 1) := dk_172 (dk_at dksX7_spelled_8 8 rfl rfl)
abbrev cX7_pick : ByteArray := prog_12_method_97_code
def yX7_pick : MethodName := ⟨RX7, "pick", "(IIIIIIII)I"⟩
def dkwX7_pick_2 : List UInt8 := [27, 172, 28, 172, 29, 172, 21, 4, 172, 21, 5, 172, 21, 6, 172, 21, 7, 172, 3, 172]
abbrev dktX7_pick_2 : List UInt8 := dkwX7_pick_2 ++ []
def dkwX7_pick_1 : List UInt8 := [170, 0, 0, 0, 0, 0, 61, 0, 0, 0, 0, 0, 0, 0, 6, 0, 0, 0, 43, 0, 0, 0, 45, 0, 0, 0, 47, 0, 0, 0, 49, 0, 0, 0, 52, 0, 0, 0, 55, 0, 0, 0, 58]
abbrev dktX7_pick_1 : List UInt8 := dkwX7_pick_1 ++ dktX7_pick_2
def dkwX7_pick_0 : List UInt8 := [26]
abbrev dktX7_pick_0 : List UInt8 := dkwX7_pick_0 ++ dktX7_pick_1
theorem dksX7_pick_0 : cX7_pick.data.toList.drop 0 = dktX7_pick_0 := by decide +kernel
theorem dksX7_pick_1 : cX7_pick.data.toList.drop 1 = dktX7_pick_1 := dk_seg dksX7_pick_0 1 rfl rfl
theorem dksX7_pick_2 : cX7_pick.data.toList.drop 44 = dktX7_pick_2 := dk_seg dksX7_pick_1 43 rfl rfl
theorem dX7_pick_0 : decode cX7_pick 0 = .ok (.iload_n 0, 1) := dk_26 (dk_at dksX7_pick_0 0 rfl rfl)
theorem dX7_pick_1 : decode cX7_pick 1 = .ok (.tableswitch 61 0 6 #[43, 45, 47, 49, 52, 55, 58], 43) := by decide +kernel
theorem dX7_pick_44 : decode cX7_pick 44 = .ok (.iload_n 1, 1) := dk_27 (dk_at dksX7_pick_2 0 rfl rfl)
theorem dX7_pick_45 : decode cX7_pick 45 = .ok (.ireturn, 1) := dk_172 (dk_at dksX7_pick_2 1 rfl rfl)
theorem dX7_pick_46 : decode cX7_pick 46 = .ok (.iload_n 2, 1) := dk_28 (dk_at dksX7_pick_2 2 rfl rfl)
theorem dX7_pick_47 : decode cX7_pick 47 = .ok (.ireturn, 1) := dk_172 (dk_at dksX7_pick_2 3 rfl rfl)
theorem dX7_pick_48 : decode cX7_pick 48 = .ok (.iload_n 3, 1) := dk_29 (dk_at dksX7_pick_2 4 rfl rfl)
theorem dX7_pick_49 : decode cX7_pick 49 = .ok (.ireturn, 1) := dk_172 (dk_at dksX7_pick_2 5 rfl rfl)
theorem dX7_pick_50 : decode cX7_pick 50 = .ok (.iload 4, 2) := dk_21 4 (dk_at dksX7_pick_2 6 rfl rfl)
theorem dX7_pick_52 : decode cX7_pick 52 = .ok (.ireturn, 1) := dk_172 (dk_at dksX7_pick_2 8 rfl rfl)
theorem dX7_pick_53 : decode cX7_pick 53 = .ok (.iload 5, 2) := dk_21 5 (dk_at dksX7_pick_2 9 rfl rfl)
theorem dX7_pick_55 : decode cX7_pick 55 = .ok (.ireturn, 1) := dk_172 (dk_at dksX7_pick_2 11 rfl rfl)
theorem dX7_pick_56 : decode cX7_pick 56 = .ok (.iload 6, 2) := dk_21 6 (dk_at dksX7_pick_2 12 rfl rfl)
theorem dX7_pick_58 : decode cX7_pick 58 = .ok (.ireturn, 1) := dk_172 (dk_at dksX7_pick_2 14 rfl rfl)
theorem dX7_pick_59 : decode cX7_pick 59 = .ok (.iload 7, 2) := dk_21 7 (dk_at dksX7_pick_2 15 rfl rfl)
theorem dX7_pick_61 : decode cX7_pick 61 = .ok (.ireturn, 1) := dk_172 (dk_at dksX7_pick_2 17 rfl rfl)
theorem dX7_pick_62 : decode cX7_pick 62 = .ok (.iconst 0, 1) := dk_3 (dk_at dksX7_pick_2 18 rfl rfl)
theorem dX7_pick_63 : decode cX7_pick 63 = .ok (.ireturn, 1) := dk_172 (dk_at dksX7_pick_2 19 rfl rfl)
abbrev cX7_firstDigits : ByteArray := prog_12_method_100_code
def yX7_firstDigits : MethodName := ⟨RX7, "firstDigits", "(I)I"⟩
def dkwX7_firstDigits_1 : List UInt8 := [160, 0, 7, 5, 167, 0, 4, 4, 172]
abbrev dktX7_firstDigits_1 : List UInt8 := dkwX7_firstDigits_1 ++ []
def dkwX7_firstDigits_0 : List UInt8 := [26, 4, 160, 0, 7, 6, 167, 0, 26, 26, 16, 6, 159, 0, 15, 26, 16, 7, 159, 0, 9, 26, 16, 8]
abbrev dktX7_firstDigits_0 : List UInt8 := dkwX7_firstDigits_0 ++ dktX7_firstDigits_1
theorem dksX7_firstDigits_0 : cX7_firstDigits.data.toList.drop 0 = dktX7_firstDigits_0 := by decide +kernel
theorem dksX7_firstDigits_1 : cX7_firstDigits.data.toList.drop 24 = dktX7_firstDigits_1 := dk_seg dksX7_firstDigits_0 24 rfl rfl
theorem dX7_firstDigits_0 : decode cX7_firstDigits 0 = .ok (.iload_n 0, 1) := dk_26 (dk_at dksX7_firstDigits_0 0 rfl rfl)
theorem dX7_firstDigits_1 : decode cX7_firstDigits 1 = .ok (.iconst 1, 1) := dk_4 (dk_at dksX7_firstDigits_0 1 rfl rfl)
theorem dX7_firstDigits_2 : decode cX7_firstDigits 2 = .ok (.if_icmp .ne 7, 3) := dk_160 0 7 (dk_at dksX7_firstDigits_0 2 rfl rfl)
theorem dX7_firstDigits_5 : decode cX7_firstDigits 5 = .ok (.iconst 3, 1) := dk_6 (dk_at dksX7_firstDigits_0 5 rfl rfl)
theorem dX7_firstDigits_6 : decode cX7_firstDigits 6 = .ok (.goto 26, 3) := dk_167 0 26 (dk_at dksX7_firstDigits_0 6 rfl rfl)
theorem dX7_firstDigits_9 : decode cX7_firstDigits 9 = .ok (.iload_n 0, 1) := dk_26 (dk_at dksX7_firstDigits_0 9 rfl rfl)
theorem dX7_firstDigits_10 : decode cX7_firstDigits 10 = .ok (.bipush 6, 2) := dk_16 6 (dk_at dksX7_firstDigits_0 10 rfl rfl)
theorem dX7_firstDigits_12 : decode cX7_firstDigits 12 = .ok (.if_icmp .eq 15, 3) := dk_159 0 15 (dk_at dksX7_firstDigits_0 12 rfl rfl)
theorem dX7_firstDigits_15 : decode cX7_firstDigits 15 = .ok (.iload_n 0, 1) := dk_26 (dk_at dksX7_firstDigits_0 15 rfl rfl)
theorem dX7_firstDigits_16 : decode cX7_firstDigits 16 = .ok (.bipush 7, 2) := dk_16 7 (dk_at dksX7_firstDigits_0 16 rfl rfl)
theorem dX7_firstDigits_18 : decode cX7_firstDigits 18 = .ok (.if_icmp .eq 9, 3) := dk_159 0 9 (dk_at dksX7_firstDigits_0 18 rfl rfl)
theorem dX7_firstDigits_21 : decode cX7_firstDigits 21 = .ok (.iload_n 0, 1) := dk_26 (dk_at dksX7_firstDigits_0 21 rfl rfl)
theorem dX7_firstDigits_22 : decode cX7_firstDigits 22 = .ok (.bipush 8, 2) := dk_16 8 (dk_at dksX7_firstDigits_0 22 rfl rfl)
theorem dX7_firstDigits_24 : decode cX7_firstDigits 24 = .ok (.if_icmp .ne 7, 3) := dk_160 0 7 (dk_at dksX7_firstDigits_1 0 rfl rfl)
theorem dX7_firstDigits_27 : decode cX7_firstDigits 27 = .ok (.iconst 2, 1) := dk_5 (dk_at dksX7_firstDigits_1 3 rfl rfl)
theorem dX7_firstDigits_28 : decode cX7_firstDigits 28 = .ok (.goto 4, 3) := dk_167 0 4 (dk_at dksX7_firstDigits_1 4 rfl rfl)
theorem dX7_firstDigits_31 : decode cX7_firstDigits 31 = .ok (.iconst 1, 1) := dk_4 (dk_at dksX7_firstDigits_1 7 rfl rfl)
theorem dX7_firstDigits_32 : decode cX7_firstDigits 32 = .ok (.ireturn, 1) := dk_172 (dk_at dksX7_firstDigits_1 8 rfl rfl)
abbrev cX7_number : ByteArray := prog_12_method_96_code
def yX7_number : MethodName := ⟨RX7, "number", "(I)I"⟩
def dkwX7_number_5 : List UInt8 := [180, 0, 78, 4, 96, 181, 0, 78, 132, 3, 1, 167, 255, 206, 28, 172]
abbrev dktX7_number_5 : List UInt8 := dkwX7_number_5 ++ []
def dkwX7_number_4 : List UInt8 := [153, 0, 37, 16, 10, 28, 104, 42, 180, 0, 60, 42, 180, 0, 78, 46, 96, 16, 48, 100, 61, 42, 89]
abbrev dktX7_number_4 : List UInt8 := dkwX7_number_4 ++ dktX7_number_5
def dkwX7_number_3 : List UInt8 := [181, 0, 84, 3, 61, 3, 62, 29, 27, 162, 0, 51, 42, 182, 0, 235, 16, 48, 16, 57, 184, 0, 91]
abbrev dktX7_number_3 : List UInt8 := dkwX7_number_3 ++ dktX7_number_4
def dkwX7_number_2 : List UInt8 := [180, 0, 84, 42, 182, 0, 235, 16, 48, 16, 57, 184, 0, 91, 154, 0, 7, 4, 167, 0, 4, 3, 128]
abbrev dktX7_number_2 : List UInt8 := dkwX7_number_2 ++ dktX7_number_3
def dkwX7_number_1 : List UInt8 := [89, 180, 0, 78, 42, 180, 0, 84, 153, 0, 7, 3, 167, 0, 4, 4, 96, 181, 0, 78, 42, 89]
abbrev dktX7_number_1 : List UInt8 := dkwX7_number_1 ++ dktX7_number_2
def dkwX7_number_0 : List UInt8 := [42, 89, 180, 0, 84, 42, 182, 0, 235, 16, 32, 159, 0, 7, 4, 167, 0, 4, 3, 128, 181, 0, 84, 42]
abbrev dktX7_number_0 : List UInt8 := dkwX7_number_0 ++ dktX7_number_1
theorem dksX7_number_0 : cX7_number.data.toList.drop 0 = dktX7_number_0 := by decide +kernel
theorem dksX7_number_1 : cX7_number.data.toList.drop 24 = dktX7_number_1 := dk_seg dksX7_number_0 24 rfl rfl
theorem dksX7_number_2 : cX7_number.data.toList.drop 46 = dktX7_number_2 := dk_seg dksX7_number_1 22 rfl rfl
theorem dksX7_number_3 : cX7_number.data.toList.drop 69 = dktX7_number_3 := dk_seg dksX7_number_2 23 rfl rfl
theorem dksX7_number_4 : cX7_number.data.toList.drop 92 = dktX7_number_4 := dk_seg dksX7_number_3 23 rfl rfl
theorem dksX7_number_5 : cX7_number.data.toList.drop 115 = dktX7_number_5 := dk_seg dksX7_number_4 23 rfl rfl
theorem dX7_number_0 : decode cX7_number 0 = .ok (.aload_n 0, 1) := dk_42 (dk_at dksX7_number_0 0 rfl rfl)
theorem dX7_number_1 : decode cX7_number 1 = .ok (.dup, 1) := dk_89 (dk_at dksX7_number_0 1 rfl rfl)
theorem dX7_number_2 : decode cX7_number 2 = .ok (.getfield 84, 3) := dk_180 0 84 (dk_at dksX7_number_0 2 rfl rfl)
theorem dX7_number_5 : decode cX7_number 5 = .ok (.aload_n 0, 1) := dk_42 (dk_at dksX7_number_0 5 rfl rfl)
theorem dX7_number_6 : decode cX7_number 6 = .ok (.invokevirtual 235, 3) := dk_182 0 235 (dk_at dksX7_number_0 6 rfl rfl)
theorem dX7_number_9 : decode cX7_number 9 = .ok (.bipush 32, 2) := dk_16 32 (dk_at dksX7_number_0 9 rfl rfl)
theorem dX7_number_11 : decode cX7_number 11 = .ok (.if_icmp .eq 7, 3) := dk_159 0 7 (dk_at dksX7_number_0 11 rfl rfl)
theorem dX7_number_14 : decode cX7_number 14 = .ok (.iconst 1, 1) := dk_4 (dk_at dksX7_number_0 14 rfl rfl)
theorem dX7_number_15 : decode cX7_number 15 = .ok (.goto 4, 3) := dk_167 0 4 (dk_at dksX7_number_0 15 rfl rfl)
theorem dX7_number_18 : decode cX7_number 18 = .ok (.iconst 0, 1) := dk_3 (dk_at dksX7_number_0 18 rfl rfl)
theorem dX7_number_19 : decode cX7_number 19 = .ok (.ior, 1) := dk_128 (dk_at dksX7_number_0 19 rfl rfl)
theorem dX7_number_20 : decode cX7_number 20 = .ok (.putfield 84, 3) := dk_181 0 84 (dk_at dksX7_number_0 20 rfl rfl)
theorem dX7_number_23 : decode cX7_number 23 = .ok (.aload_n 0, 1) := dk_42 (dk_at dksX7_number_0 23 rfl rfl)
theorem dX7_number_24 : decode cX7_number 24 = .ok (.dup, 1) := dk_89 (dk_at dksX7_number_1 0 rfl rfl)
theorem dX7_number_25 : decode cX7_number 25 = .ok (.getfield 78, 3) := dk_180 0 78 (dk_at dksX7_number_1 1 rfl rfl)
theorem dX7_number_28 : decode cX7_number 28 = .ok (.aload_n 0, 1) := dk_42 (dk_at dksX7_number_1 4 rfl rfl)
theorem dX7_number_29 : decode cX7_number 29 = .ok (.getfield 84, 3) := dk_180 0 84 (dk_at dksX7_number_1 5 rfl rfl)
theorem dX7_number_32 : decode cX7_number 32 = .ok (.ifCond .eq 7, 3) := dk_153 0 7 (dk_at dksX7_number_1 8 rfl rfl)
theorem dX7_number_35 : decode cX7_number 35 = .ok (.iconst 0, 1) := dk_3 (dk_at dksX7_number_1 11 rfl rfl)
theorem dX7_number_36 : decode cX7_number 36 = .ok (.goto 4, 3) := dk_167 0 4 (dk_at dksX7_number_1 12 rfl rfl)
theorem dX7_number_39 : decode cX7_number 39 = .ok (.iconst 1, 1) := dk_4 (dk_at dksX7_number_1 15 rfl rfl)
theorem dX7_number_40 : decode cX7_number 40 = .ok (.iadd, 1) := dk_96 (dk_at dksX7_number_1 16 rfl rfl)
theorem dX7_number_41 : decode cX7_number 41 = .ok (.putfield 78, 3) := dk_181 0 78 (dk_at dksX7_number_1 17 rfl rfl)
theorem dX7_number_44 : decode cX7_number 44 = .ok (.aload_n 0, 1) := dk_42 (dk_at dksX7_number_1 20 rfl rfl)
theorem dX7_number_45 : decode cX7_number 45 = .ok (.dup, 1) := dk_89 (dk_at dksX7_number_1 21 rfl rfl)
theorem dX7_number_46 : decode cX7_number 46 = .ok (.getfield 84, 3) := dk_180 0 84 (dk_at dksX7_number_2 0 rfl rfl)
theorem dX7_number_49 : decode cX7_number 49 = .ok (.aload_n 0, 1) := dk_42 (dk_at dksX7_number_2 3 rfl rfl)
theorem dX7_number_50 : decode cX7_number 50 = .ok (.invokevirtual 235, 3) := dk_182 0 235 (dk_at dksX7_number_2 4 rfl rfl)
theorem dX7_number_53 : decode cX7_number 53 = .ok (.bipush 48, 2) := dk_16 48 (dk_at dksX7_number_2 7 rfl rfl)
theorem dX7_number_55 : decode cX7_number 55 = .ok (.bipush 57, 2) := dk_16 57 (dk_at dksX7_number_2 9 rfl rfl)
theorem dX7_number_57 : decode cX7_number 57 = .ok (.invokestatic 91, 3) := dk_184 0 91 (dk_at dksX7_number_2 11 rfl rfl)
theorem dX7_number_60 : decode cX7_number 60 = .ok (.ifCond .ne 7, 3) := dk_154 0 7 (dk_at dksX7_number_2 14 rfl rfl)
theorem dX7_number_63 : decode cX7_number 63 = .ok (.iconst 1, 1) := dk_4 (dk_at dksX7_number_2 17 rfl rfl)
theorem dX7_number_64 : decode cX7_number 64 = .ok (.goto 4, 3) := dk_167 0 4 (dk_at dksX7_number_2 18 rfl rfl)
theorem dX7_number_67 : decode cX7_number 67 = .ok (.iconst 0, 1) := dk_3 (dk_at dksX7_number_2 21 rfl rfl)
theorem dX7_number_68 : decode cX7_number 68 = .ok (.ior, 1) := dk_128 (dk_at dksX7_number_2 22 rfl rfl)
theorem dX7_number_69 : decode cX7_number 69 = .ok (.putfield 84, 3) := dk_181 0 84 (dk_at dksX7_number_3 0 rfl rfl)
theorem dX7_number_72 : decode cX7_number 72 = .ok (.iconst 0, 1) := dk_3 (dk_at dksX7_number_3 3 rfl rfl)
theorem dX7_number_73 : decode cX7_number 73 = .ok (.istore_n 2, 1) := dk_61 (dk_at dksX7_number_3 4 rfl rfl)
theorem dX7_number_74 : decode cX7_number 74 = .ok (.iconst 0, 1) := dk_3 (dk_at dksX7_number_3 5 rfl rfl)
theorem dX7_number_75 : decode cX7_number 75 = .ok (.istore_n 3, 1) := dk_62 (dk_at dksX7_number_3 6 rfl rfl)
theorem dX7_number_76 : decode cX7_number 76 = .ok (.iload_n 3, 1) := dk_29 (dk_at dksX7_number_3 7 rfl rfl)
theorem dX7_number_77 : decode cX7_number 77 = .ok (.iload_n 1, 1) := dk_27 (dk_at dksX7_number_3 8 rfl rfl)
theorem dX7_number_78 : decode cX7_number 78 = .ok (.if_icmp .ge 51, 3) := dk_162 0 51 (dk_at dksX7_number_3 9 rfl rfl)
theorem dX7_number_81 : decode cX7_number 81 = .ok (.aload_n 0, 1) := dk_42 (dk_at dksX7_number_3 12 rfl rfl)
theorem dX7_number_82 : decode cX7_number 82 = .ok (.invokevirtual 235, 3) := dk_182 0 235 (dk_at dksX7_number_3 13 rfl rfl)
theorem dX7_number_85 : decode cX7_number 85 = .ok (.bipush 48, 2) := dk_16 48 (dk_at dksX7_number_3 16 rfl rfl)
theorem dX7_number_87 : decode cX7_number 87 = .ok (.bipush 57, 2) := dk_16 57 (dk_at dksX7_number_3 18 rfl rfl)
theorem dX7_number_89 : decode cX7_number 89 = .ok (.invokestatic 91, 3) := dk_184 0 91 (dk_at dksX7_number_3 20 rfl rfl)
theorem dX7_number_92 : decode cX7_number 92 = .ok (.ifCond .eq 37, 3) := dk_153 0 37 (dk_at dksX7_number_4 0 rfl rfl)
theorem dX7_number_95 : decode cX7_number 95 = .ok (.bipush 10, 2) := dk_16 10 (dk_at dksX7_number_4 3 rfl rfl)
theorem dX7_number_97 : decode cX7_number 97 = .ok (.iload_n 2, 1) := dk_28 (dk_at dksX7_number_4 5 rfl rfl)
theorem dX7_number_98 : decode cX7_number 98 = .ok (.imul, 1) := dk_104 (dk_at dksX7_number_4 6 rfl rfl)
theorem dX7_number_99 : decode cX7_number 99 = .ok (.aload_n 0, 1) := dk_42 (dk_at dksX7_number_4 7 rfl rfl)
theorem dX7_number_100 : decode cX7_number 100 = .ok (.getfield 60, 3) := dk_180 0 60 (dk_at dksX7_number_4 8 rfl rfl)
theorem dX7_number_103 : decode cX7_number 103 = .ok (.aload_n 0, 1) := dk_42 (dk_at dksX7_number_4 11 rfl rfl)
theorem dX7_number_104 : decode cX7_number 104 = .ok (.getfield 78, 3) := dk_180 0 78 (dk_at dksX7_number_4 12 rfl rfl)
theorem dX7_number_107 : decode cX7_number 107 = .ok (.iaload, 1) := dk_46 (dk_at dksX7_number_4 15 rfl rfl)
theorem dX7_number_108 : decode cX7_number 108 = .ok (.iadd, 1) := dk_96 (dk_at dksX7_number_4 16 rfl rfl)
theorem dX7_number_109 : decode cX7_number 109 = .ok (.bipush 48, 2) := dk_16 48 (dk_at dksX7_number_4 17 rfl rfl)
theorem dX7_number_111 : decode cX7_number 111 = .ok (.isub, 1) := dk_100 (dk_at dksX7_number_4 19 rfl rfl)
theorem dX7_number_112 : decode cX7_number 112 = .ok (.istore_n 2, 1) := dk_61 (dk_at dksX7_number_4 20 rfl rfl)
theorem dX7_number_113 : decode cX7_number 113 = .ok (.aload_n 0, 1) := dk_42 (dk_at dksX7_number_4 21 rfl rfl)
theorem dX7_number_114 : decode cX7_number 114 = .ok (.dup, 1) := dk_89 (dk_at dksX7_number_4 22 rfl rfl)
theorem dX7_number_115 : decode cX7_number 115 = .ok (.getfield 78, 3) := dk_180 0 78 (dk_at dksX7_number_5 0 rfl rfl)
theorem dX7_number_118 : decode cX7_number 118 = .ok (.iconst 1, 1) := dk_4 (dk_at dksX7_number_5 3 rfl rfl)
theorem dX7_number_119 : decode cX7_number 119 = .ok (.iadd, 1) := dk_96 (dk_at dksX7_number_5 4 rfl rfl)
theorem dX7_number_120 : decode cX7_number 120 = .ok (.putfield 78, 3) := dk_181 0 78 (dk_at dksX7_number_5 5 rfl rfl)
theorem dX7_number_123 : decode cX7_number 123 = .ok (.iinc 3 1, 3) := dk_132 3 1 (dk_at dksX7_number_5 8 rfl rfl)
theorem dX7_number_126 : decode cX7_number 126 = .ok (.goto (-50), 3) := dk_167 255 206 (dk_at dksX7_number_5 11 rfl rfl)
theorem dX7_number_129 : decode cX7_number 129 = .ok (.iload_n 2, 1) := dk_28 (dk_at dksX7_number_5 14 rfl rfl)
theorem dX7_number_130 : decode cX7_number 130 = .ok (.ireturn, 1) := dk_172 (dk_at dksX7_number_5 15 rfl rfl)
abbrev cX7_mark : ByteArray := prog_12_method_95_code
def yX7_mark : MethodName := ⟨RX7, "mark", "()I"⟩
def dkwX7_mark_1 : List UInt8 := [180, 0, 78, 46, 167, 0, 4, 2, 172]
abbrev dktX7_mark_1 : List UInt8 := dkwX7_mark_1 ++ []
def dkwX7_mark_0 : List UInt8 := [42, 180, 0, 84, 154, 0, 26, 42, 180, 0, 78, 42, 180, 0, 75, 162, 0, 15, 42, 180, 0, 60, 42]
abbrev dktX7_mark_0 : List UInt8 := dkwX7_mark_0 ++ dktX7_mark_1
theorem dksX7_mark_0 : cX7_mark.data.toList.drop 0 = dktX7_mark_0 := by decide +kernel
theorem dksX7_mark_1 : cX7_mark.data.toList.drop 23 = dktX7_mark_1 := dk_seg dksX7_mark_0 23 rfl rfl
theorem dX7_mark_0 : decode cX7_mark 0 = .ok (.aload_n 0, 1) := dk_42 (dk_at dksX7_mark_0 0 rfl rfl)
theorem dX7_mark_1 : decode cX7_mark 1 = .ok (.getfield 84, 3) := dk_180 0 84 (dk_at dksX7_mark_0 1 rfl rfl)
theorem dX7_mark_4 : decode cX7_mark 4 = .ok (.ifCond .ne 26, 3) := dk_154 0 26 (dk_at dksX7_mark_0 4 rfl rfl)
theorem dX7_mark_7 : decode cX7_mark 7 = .ok (.aload_n 0, 1) := dk_42 (dk_at dksX7_mark_0 7 rfl rfl)
theorem dX7_mark_8 : decode cX7_mark 8 = .ok (.getfield 78, 3) := dk_180 0 78 (dk_at dksX7_mark_0 8 rfl rfl)
theorem dX7_mark_11 : decode cX7_mark 11 = .ok (.aload_n 0, 1) := dk_42 (dk_at dksX7_mark_0 11 rfl rfl)
theorem dX7_mark_12 : decode cX7_mark 12 = .ok (.getfield 75, 3) := dk_180 0 75 (dk_at dksX7_mark_0 12 rfl rfl)
theorem dX7_mark_15 : decode cX7_mark 15 = .ok (.if_icmp .ge 15, 3) := dk_162 0 15 (dk_at dksX7_mark_0 15 rfl rfl)
theorem dX7_mark_18 : decode cX7_mark 18 = .ok (.aload_n 0, 1) := dk_42 (dk_at dksX7_mark_0 18 rfl rfl)
theorem dX7_mark_19 : decode cX7_mark 19 = .ok (.getfield 60, 3) := dk_180 0 60 (dk_at dksX7_mark_0 19 rfl rfl)
theorem dX7_mark_22 : decode cX7_mark 22 = .ok (.aload_n 0, 1) := dk_42 (dk_at dksX7_mark_0 22 rfl rfl)
theorem dX7_mark_23 : decode cX7_mark 23 = .ok (.getfield 78, 3) := dk_180 0 78 (dk_at dksX7_mark_1 0 rfl rfl)
theorem dX7_mark_26 : decode cX7_mark 26 = .ok (.iaload, 1) := dk_46 (dk_at dksX7_mark_1 3 rfl rfl)
theorem dX7_mark_27 : decode cX7_mark 27 = .ok (.goto 4, 3) := dk_167 0 4 (dk_at dksX7_mark_1 4 rfl rfl)
theorem dX7_mark_30 : decode cX7_mark 30 = .ok (.iconst (-1), 1) := dk_2 (dk_at dksX7_mark_1 7 rfl rfl)
theorem dX7_mark_31 : decode cX7_mark 31 = .ok (.ireturn, 1) := dk_172 (dk_at dksX7_mark_1 8 rfl rfl)
abbrev cX7_why : ByteArray := prog_12_method_103_code
def yX7_why : MethodName := ⟨RX7, "why", "(III)I"⟩
def dkwX7_why_5 : List UInt8 := [153, 0, 7, 3, 167, 0, 4, 4, 172]
abbrev dktX7_why_5 : List UInt8 := dkwX7_why_5 ++ []
def dkwX7_why_4 : List UInt8 := [184, 0, 91, 153, 0, 7, 3, 167, 0, 4, 4, 172, 42, 28, 182, 0, 210, 172, 42, 28, 182, 0, 216]
abbrev dktX7_why_4 : List UInt8 := dkwX7_why_4 ++ dktX7_why_5
def dkwX7_why_3 : List UInt8 := [182, 0, 147, 153, 0, 7, 3, 167, 0, 4, 4, 172, 42, 28, 182, 0, 168, 172, 3, 172, 28, 4, 16, 48]
abbrev dktX7_why_3 : List UInt8 := dkwX7_why_3 ++ dktX7_why_4
def dkwX7_why_2 : List UInt8 := [42, 28, 29, 182, 0, 102, 172, 42, 28, 182, 0, 116, 172, 42, 28, 29, 182, 0, 141, 172, 42, 28]
abbrev dktX7_why_2 : List UInt8 := dkwX7_why_2 ++ dktX7_why_3
def dkwX7_why_1 : List UInt8 := [170, 0, 0, 0, 0, 0, 111, 0, 0, 0, 0, 0, 0, 0, 7, 0, 0, 0, 47, 0, 0, 0, 54, 0, 0, 0, 60, 0, 0, 0, 67, 0, 0, 0, 81, 0, 0, 0, 87, 0, 0, 0, 89, 0, 0, 0, 105]
abbrev dktX7_why_1 : List UInt8 := dkwX7_why_1 ++ dktX7_why_2
def dkwX7_why_0 : List UInt8 := [27]
abbrev dktX7_why_0 : List UInt8 := dkwX7_why_0 ++ dktX7_why_1
theorem dksX7_why_0 : cX7_why.data.toList.drop 0 = dktX7_why_0 := by decide +kernel
theorem dksX7_why_1 : cX7_why.data.toList.drop 1 = dktX7_why_1 := dk_seg dksX7_why_0 1 rfl rfl
theorem dksX7_why_2 : cX7_why.data.toList.drop 48 = dktX7_why_2 := dk_seg dksX7_why_1 47 rfl rfl
theorem dksX7_why_3 : cX7_why.data.toList.drop 70 = dktX7_why_3 := dk_seg dksX7_why_2 22 rfl rfl
theorem dksX7_why_4 : cX7_why.data.toList.drop 94 = dktX7_why_4 := dk_seg dksX7_why_3 24 rfl rfl
theorem dksX7_why_5 : cX7_why.data.toList.drop 117 = dktX7_why_5 := dk_seg dksX7_why_4 23 rfl rfl
theorem dX7_why_0 : decode cX7_why 0 = .ok (.iload_n 1, 1) := dk_27 (dk_at dksX7_why_0 0 rfl rfl)
theorem dX7_why_1 : decode cX7_why 1 = .ok (.tableswitch 111 0 7 #[47, 54, 60, 67, 81, 87, 89, 105], 47) := by decide +kernel
theorem dX7_why_48 : decode cX7_why 48 = .ok (.aload_n 0, 1) := dk_42 (dk_at dksX7_why_2 0 rfl rfl)
theorem dX7_why_49 : decode cX7_why 49 = .ok (.iload_n 2, 1) := dk_28 (dk_at dksX7_why_2 1 rfl rfl)
theorem dX7_why_50 : decode cX7_why 50 = .ok (.iload_n 3, 1) := dk_29 (dk_at dksX7_why_2 2 rfl rfl)
theorem dX7_why_51 : decode cX7_why 51 = .ok (.invokevirtual 102, 3) := dk_182 0 102 (dk_at dksX7_why_2 3 rfl rfl)
theorem dX7_why_54 : decode cX7_why 54 = .ok (.ireturn, 1) := dk_172 (dk_at dksX7_why_2 6 rfl rfl)
theorem dX7_why_55 : decode cX7_why 55 = .ok (.aload_n 0, 1) := dk_42 (dk_at dksX7_why_2 7 rfl rfl)
theorem dX7_why_56 : decode cX7_why 56 = .ok (.iload_n 2, 1) := dk_28 (dk_at dksX7_why_2 8 rfl rfl)
theorem dX7_why_57 : decode cX7_why 57 = .ok (.invokevirtual 116, 3) := dk_182 0 116 (dk_at dksX7_why_2 9 rfl rfl)
theorem dX7_why_60 : decode cX7_why 60 = .ok (.ireturn, 1) := dk_172 (dk_at dksX7_why_2 12 rfl rfl)
theorem dX7_why_61 : decode cX7_why 61 = .ok (.aload_n 0, 1) := dk_42 (dk_at dksX7_why_2 13 rfl rfl)
theorem dX7_why_62 : decode cX7_why 62 = .ok (.iload_n 2, 1) := dk_28 (dk_at dksX7_why_2 14 rfl rfl)
theorem dX7_why_63 : decode cX7_why 63 = .ok (.iload_n 3, 1) := dk_29 (dk_at dksX7_why_2 15 rfl rfl)
theorem dX7_why_64 : decode cX7_why 64 = .ok (.invokevirtual 141, 3) := dk_182 0 141 (dk_at dksX7_why_2 16 rfl rfl)
theorem dX7_why_67 : decode cX7_why 67 = .ok (.ireturn, 1) := dk_172 (dk_at dksX7_why_2 19 rfl rfl)
theorem dX7_why_68 : decode cX7_why 68 = .ok (.aload_n 0, 1) := dk_42 (dk_at dksX7_why_2 20 rfl rfl)
theorem dX7_why_69 : decode cX7_why 69 = .ok (.iload_n 2, 1) := dk_28 (dk_at dksX7_why_2 21 rfl rfl)
theorem dX7_why_70 : decode cX7_why 70 = .ok (.invokevirtual 147, 3) := dk_182 0 147 (dk_at dksX7_why_3 0 rfl rfl)
theorem dX7_why_73 : decode cX7_why 73 = .ok (.ifCond .eq 7, 3) := dk_153 0 7 (dk_at dksX7_why_3 3 rfl rfl)
theorem dX7_why_76 : decode cX7_why 76 = .ok (.iconst 0, 1) := dk_3 (dk_at dksX7_why_3 6 rfl rfl)
theorem dX7_why_77 : decode cX7_why 77 = .ok (.goto 4, 3) := dk_167 0 4 (dk_at dksX7_why_3 7 rfl rfl)
theorem dX7_why_80 : decode cX7_why 80 = .ok (.iconst 1, 1) := dk_4 (dk_at dksX7_why_3 10 rfl rfl)
theorem dX7_why_81 : decode cX7_why 81 = .ok (.ireturn, 1) := dk_172 (dk_at dksX7_why_3 11 rfl rfl)
theorem dX7_why_82 : decode cX7_why 82 = .ok (.aload_n 0, 1) := dk_42 (dk_at dksX7_why_3 12 rfl rfl)
theorem dX7_why_83 : decode cX7_why 83 = .ok (.iload_n 2, 1) := dk_28 (dk_at dksX7_why_3 13 rfl rfl)
theorem dX7_why_84 : decode cX7_why 84 = .ok (.invokevirtual 168, 3) := dk_182 0 168 (dk_at dksX7_why_3 14 rfl rfl)
theorem dX7_why_87 : decode cX7_why 87 = .ok (.ireturn, 1) := dk_172 (dk_at dksX7_why_3 17 rfl rfl)
theorem dX7_why_88 : decode cX7_why 88 = .ok (.iconst 0, 1) := dk_3 (dk_at dksX7_why_3 18 rfl rfl)
theorem dX7_why_89 : decode cX7_why 89 = .ok (.ireturn, 1) := dk_172 (dk_at dksX7_why_3 19 rfl rfl)
theorem dX7_why_90 : decode cX7_why 90 = .ok (.iload_n 2, 1) := dk_28 (dk_at dksX7_why_3 20 rfl rfl)
theorem dX7_why_91 : decode cX7_why 91 = .ok (.iconst 1, 1) := dk_4 (dk_at dksX7_why_3 21 rfl rfl)
theorem dX7_why_92 : decode cX7_why 92 = .ok (.bipush 48, 2) := dk_16 48 (dk_at dksX7_why_3 22 rfl rfl)
theorem dX7_why_94 : decode cX7_why 94 = .ok (.invokestatic 91, 3) := dk_184 0 91 (dk_at dksX7_why_4 0 rfl rfl)
theorem dX7_why_97 : decode cX7_why 97 = .ok (.ifCond .eq 7, 3) := dk_153 0 7 (dk_at dksX7_why_4 3 rfl rfl)
theorem dX7_why_100 : decode cX7_why 100 = .ok (.iconst 0, 1) := dk_3 (dk_at dksX7_why_4 6 rfl rfl)
theorem dX7_why_101 : decode cX7_why 101 = .ok (.goto 4, 3) := dk_167 0 4 (dk_at dksX7_why_4 7 rfl rfl)
theorem dX7_why_104 : decode cX7_why 104 = .ok (.iconst 1, 1) := dk_4 (dk_at dksX7_why_4 10 rfl rfl)
theorem dX7_why_105 : decode cX7_why 105 = .ok (.ireturn, 1) := dk_172 (dk_at dksX7_why_4 11 rfl rfl)
theorem dX7_why_106 : decode cX7_why 106 = .ok (.aload_n 0, 1) := dk_42 (dk_at dksX7_why_4 12 rfl rfl)
theorem dX7_why_107 : decode cX7_why 107 = .ok (.iload_n 2, 1) := dk_28 (dk_at dksX7_why_4 13 rfl rfl)
theorem dX7_why_108 : decode cX7_why 108 = .ok (.invokevirtual 210, 3) := dk_182 0 210 (dk_at dksX7_why_4 14 rfl rfl)
theorem dX7_why_111 : decode cX7_why 111 = .ok (.ireturn, 1) := dk_172 (dk_at dksX7_why_4 17 rfl rfl)
theorem dX7_why_112 : decode cX7_why 112 = .ok (.aload_n 0, 1) := dk_42 (dk_at dksX7_why_4 18 rfl rfl)
theorem dX7_why_113 : decode cX7_why 113 = .ok (.iload_n 2, 1) := dk_28 (dk_at dksX7_why_4 19 rfl rfl)
theorem dX7_why_114 : decode cX7_why 114 = .ok (.invokevirtual 216, 3) := dk_182 0 216 (dk_at dksX7_why_4 20 rfl rfl)
theorem dX7_why_117 : decode cX7_why 117 = .ok (.ifCond .eq 7, 3) := dk_153 0 7 (dk_at dksX7_why_5 0 rfl rfl)
theorem dX7_why_120 : decode cX7_why 120 = .ok (.iconst 0, 1) := dk_3 (dk_at dksX7_why_5 3 rfl rfl)
theorem dX7_why_121 : decode cX7_why 121 = .ok (.goto 4, 3) := dk_167 0 4 (dk_at dksX7_why_5 4 rfl rfl)
theorem dX7_why_124 : decode cX7_why 124 = .ok (.iconst 1, 1) := dk_4 (dk_at dksX7_why_5 7 rfl rfl)
theorem dX7_why_125 : decode cX7_why 125 = .ok (.ireturn, 1) := dk_172 (dk_at dksX7_why_5 8 rfl rfl)
abbrev cX7_does : ByteArray := prog_12_method_104_code
def yX7_does : MethodName := ⟨RX7, "does", "(III)I"⟩
def dkwX7_does_4 : List UInt8 := [182, 0, 213, 172, 42, 28, 182, 0, 219, 172]
abbrev dktX7_does_4 : List UInt8 := dkwX7_does_4 ++ []
def dkwX7_does_3 : List UInt8 := [182, 0, 150, 172, 42, 28, 182, 0, 171, 172, 42, 182, 0, 204, 172, 42, 28, 182, 0, 122, 172, 42, 28]
abbrev dktX7_does_3 : List UInt8 := dkwX7_does_3 ++ dktX7_does_4
def dkwX7_does_2 : List UInt8 := [42, 28, 29, 182, 0, 110, 172, 42, 28, 182, 0, 119, 172, 42, 28, 29, 182, 0, 144, 172, 42, 28]
abbrev dktX7_does_2 : List UInt8 := dkwX7_does_2 ++ dktX7_does_3
def dkwX7_does_1 : List UInt8 := [170, 0, 0, 0, 0, 0, 96, 0, 0, 0, 0, 0, 0, 0, 7, 0, 0, 0, 47, 0, 0, 0, 54, 0, 0, 0, 60, 0, 0, 0, 67, 0, 0, 0, 73, 0, 0, 0, 79, 0, 0, 0, 84, 0, 0, 0, 90]
abbrev dktX7_does_1 : List UInt8 := dkwX7_does_1 ++ dktX7_does_2
def dkwX7_does_0 : List UInt8 := [27]
abbrev dktX7_does_0 : List UInt8 := dkwX7_does_0 ++ dktX7_does_1
theorem dksX7_does_0 : cX7_does.data.toList.drop 0 = dktX7_does_0 := by decide +kernel
theorem dksX7_does_1 : cX7_does.data.toList.drop 1 = dktX7_does_1 := dk_seg dksX7_does_0 1 rfl rfl
theorem dksX7_does_2 : cX7_does.data.toList.drop 48 = dktX7_does_2 := dk_seg dksX7_does_1 47 rfl rfl
theorem dksX7_does_3 : cX7_does.data.toList.drop 70 = dktX7_does_3 := dk_seg dksX7_does_2 22 rfl rfl
theorem dksX7_does_4 : cX7_does.data.toList.drop 93 = dktX7_does_4 := dk_seg dksX7_does_3 23 rfl rfl
theorem dX7_does_0 : decode cX7_does 0 = .ok (.iload_n 1, 1) := dk_27 (dk_at dksX7_does_0 0 rfl rfl)
theorem dX7_does_1 : decode cX7_does 1 = .ok (.tableswitch 96 0 7 #[47, 54, 60, 67, 73, 79, 84, 90], 47) := by decide +kernel
theorem dX7_does_48 : decode cX7_does 48 = .ok (.aload_n 0, 1) := dk_42 (dk_at dksX7_does_2 0 rfl rfl)
theorem dX7_does_49 : decode cX7_does 49 = .ok (.iload_n 2, 1) := dk_28 (dk_at dksX7_does_2 1 rfl rfl)
theorem dX7_does_50 : decode cX7_does 50 = .ok (.iload_n 3, 1) := dk_29 (dk_at dksX7_does_2 2 rfl rfl)
theorem dX7_does_51 : decode cX7_does 51 = .ok (.invokevirtual 110, 3) := dk_182 0 110 (dk_at dksX7_does_2 3 rfl rfl)
theorem dX7_does_54 : decode cX7_does 54 = .ok (.ireturn, 1) := dk_172 (dk_at dksX7_does_2 6 rfl rfl)
theorem dX7_does_55 : decode cX7_does 55 = .ok (.aload_n 0, 1) := dk_42 (dk_at dksX7_does_2 7 rfl rfl)
theorem dX7_does_56 : decode cX7_does 56 = .ok (.iload_n 2, 1) := dk_28 (dk_at dksX7_does_2 8 rfl rfl)
theorem dX7_does_57 : decode cX7_does 57 = .ok (.invokevirtual 119, 3) := dk_182 0 119 (dk_at dksX7_does_2 9 rfl rfl)
theorem dX7_does_60 : decode cX7_does 60 = .ok (.ireturn, 1) := dk_172 (dk_at dksX7_does_2 12 rfl rfl)
theorem dX7_does_61 : decode cX7_does 61 = .ok (.aload_n 0, 1) := dk_42 (dk_at dksX7_does_2 13 rfl rfl)
theorem dX7_does_62 : decode cX7_does 62 = .ok (.iload_n 2, 1) := dk_28 (dk_at dksX7_does_2 14 rfl rfl)
theorem dX7_does_63 : decode cX7_does 63 = .ok (.iload_n 3, 1) := dk_29 (dk_at dksX7_does_2 15 rfl rfl)
theorem dX7_does_64 : decode cX7_does 64 = .ok (.invokevirtual 144, 3) := dk_182 0 144 (dk_at dksX7_does_2 16 rfl rfl)
theorem dX7_does_67 : decode cX7_does 67 = .ok (.ireturn, 1) := dk_172 (dk_at dksX7_does_2 19 rfl rfl)
theorem dX7_does_68 : decode cX7_does 68 = .ok (.aload_n 0, 1) := dk_42 (dk_at dksX7_does_2 20 rfl rfl)
theorem dX7_does_69 : decode cX7_does 69 = .ok (.iload_n 2, 1) := dk_28 (dk_at dksX7_does_2 21 rfl rfl)
theorem dX7_does_70 : decode cX7_does 70 = .ok (.invokevirtual 150, 3) := dk_182 0 150 (dk_at dksX7_does_3 0 rfl rfl)
theorem dX7_does_73 : decode cX7_does 73 = .ok (.ireturn, 1) := dk_172 (dk_at dksX7_does_3 3 rfl rfl)
theorem dX7_does_74 : decode cX7_does 74 = .ok (.aload_n 0, 1) := dk_42 (dk_at dksX7_does_3 4 rfl rfl)
theorem dX7_does_75 : decode cX7_does 75 = .ok (.iload_n 2, 1) := dk_28 (dk_at dksX7_does_3 5 rfl rfl)
theorem dX7_does_76 : decode cX7_does 76 = .ok (.invokevirtual 171, 3) := dk_182 0 171 (dk_at dksX7_does_3 6 rfl rfl)
theorem dX7_does_79 : decode cX7_does 79 = .ok (.ireturn, 1) := dk_172 (dk_at dksX7_does_3 9 rfl rfl)
theorem dX7_does_80 : decode cX7_does 80 = .ok (.aload_n 0, 1) := dk_42 (dk_at dksX7_does_3 10 rfl rfl)
theorem dX7_does_81 : decode cX7_does 81 = .ok (.invokevirtual 204, 3) := dk_182 0 204 (dk_at dksX7_does_3 11 rfl rfl)
theorem dX7_does_84 : decode cX7_does 84 = .ok (.ireturn, 1) := dk_172 (dk_at dksX7_does_3 14 rfl rfl)
theorem dX7_does_85 : decode cX7_does 85 = .ok (.aload_n 0, 1) := dk_42 (dk_at dksX7_does_3 15 rfl rfl)
theorem dX7_does_86 : decode cX7_does 86 = .ok (.iload_n 2, 1) := dk_28 (dk_at dksX7_does_3 16 rfl rfl)
theorem dX7_does_87 : decode cX7_does 87 = .ok (.invokevirtual 122, 3) := dk_182 0 122 (dk_at dksX7_does_3 17 rfl rfl)
theorem dX7_does_90 : decode cX7_does 90 = .ok (.ireturn, 1) := dk_172 (dk_at dksX7_does_3 20 rfl rfl)
theorem dX7_does_91 : decode cX7_does 91 = .ok (.aload_n 0, 1) := dk_42 (dk_at dksX7_does_3 21 rfl rfl)
theorem dX7_does_92 : decode cX7_does 92 = .ok (.iload_n 2, 1) := dk_28 (dk_at dksX7_does_3 22 rfl rfl)
theorem dX7_does_93 : decode cX7_does 93 = .ok (.invokevirtual 213, 3) := dk_182 0 213 (dk_at dksX7_does_4 0 rfl rfl)
theorem dX7_does_96 : decode cX7_does 96 = .ok (.ireturn, 1) := dk_172 (dk_at dksX7_does_4 3 rfl rfl)
theorem dX7_does_97 : decode cX7_does 97 = .ok (.aload_n 0, 1) := dk_42 (dk_at dksX7_does_4 4 rfl rfl)
theorem dX7_does_98 : decode cX7_does 98 = .ok (.iload_n 2, 1) := dk_28 (dk_at dksX7_does_4 5 rfl rfl)
theorem dX7_does_99 : decode cX7_does 99 = .ok (.invokevirtual 219, 3) := dk_182 0 219 (dk_at dksX7_does_4 6 rfl rfl)
theorem dX7_does_102 : decode cX7_does 102 = .ok (.ireturn, 1) := dk_172 (dk_at dksX7_does_4 9 rfl rfl)
abbrev cX7_errorPosition : ByteArray := prog_12_method_107_code
def yX7_errorPosition : MethodName := ⟨RX7, "errorPosition", "()I"⟩
def dkwX7_errorPosition_0 : List UInt8 := [42, 42, 180, 0, 44, 182, 1, 10, 172]
abbrev dktX7_errorPosition_0 : List UInt8 := dkwX7_errorPosition_0 ++ []
theorem dksX7_errorPosition_0 : cX7_errorPosition.data.toList.drop 0 = dktX7_errorPosition_0 := by decide +kernel
theorem dX7_errorPosition_0 : decode cX7_errorPosition 0 = .ok (.aload_n 0, 1) := dk_42 (dk_at dksX7_errorPosition_0 0 rfl rfl)
theorem dX7_errorPosition_1 : decode cX7_errorPosition 1 = .ok (.aload_n 0, 1) := dk_42 (dk_at dksX7_errorPosition_0 1 rfl rfl)
theorem dX7_errorPosition_2 : decode cX7_errorPosition 2 = .ok (.getfield 44, 3) := dk_180 0 44 (dk_at dksX7_errorPosition_0 2 rfl rfl)
theorem dX7_errorPosition_5 : decode cX7_errorPosition 5 = .ok (.invokevirtual 266, 3) := dk_182 1 10 (dk_at dksX7_errorPosition_0 5 rfl rfl)
theorem dX7_errorPosition_8 : decode cX7_errorPosition 8 = .ok (.ireturn, 1) := dk_172 (dk_at dksX7_errorPosition_0 8 rfl rfl)
abbrev cX7_present : ByteArray := prog_12_method_106_code
def yX7_present : MethodName := ⟨RX7, "present", "(I)I"⟩
def dkwX7_present_0 : List UInt8 := [42, 27, 155, 0, 7, 4, 167, 0, 4, 3, 182, 0, 125, 158, 0, 7, 3, 167, 0, 4, 27, 172]
abbrev dktX7_present_0 : List UInt8 := dkwX7_present_0 ++ []
theorem dksX7_present_0 : cX7_present.data.toList.drop 0 = dktX7_present_0 := by decide +kernel
theorem dX7_present_0 : decode cX7_present 0 = .ok (.aload_n 0, 1) := dk_42 (dk_at dksX7_present_0 0 rfl rfl)
theorem dX7_present_1 : decode cX7_present 1 = .ok (.iload_n 1, 1) := dk_27 (dk_at dksX7_present_0 1 rfl rfl)
theorem dX7_present_2 : decode cX7_present 2 = .ok (.ifCond .lt 7, 3) := dk_155 0 7 (dk_at dksX7_present_0 2 rfl rfl)
theorem dX7_present_5 : decode cX7_present 5 = .ok (.iconst 1, 1) := dk_4 (dk_at dksX7_present_0 5 rfl rfl)
theorem dX7_present_6 : decode cX7_present 6 = .ok (.goto 4, 3) := dk_167 0 4 (dk_at dksX7_present_0 6 rfl rfl)
theorem dX7_present_9 : decode cX7_present 9 = .ok (.iconst 0, 1) := dk_3 (dk_at dksX7_present_0 9 rfl rfl)
theorem dX7_present_10 : decode cX7_present 10 = .ok (.invokevirtual 125, 3) := dk_182 0 125 (dk_at dksX7_present_0 10 rfl rfl)
theorem dX7_present_13 : decode cX7_present 13 = .ok (.ifCond .le 7, 3) := dk_158 0 7 (dk_at dksX7_present_0 13 rfl rfl)
theorem dX7_present_16 : decode cX7_present 16 = .ok (.iconst 0, 1) := dk_3 (dk_at dksX7_present_0 16 rfl rfl)
theorem dX7_present_17 : decode cX7_present 17 = .ok (.goto 4, 3) := dk_167 0 4 (dk_at dksX7_present_0 17 rfl rfl)
theorem dX7_present_20 : decode cX7_present 20 = .ok (.iload_n 1, 1) := dk_27 (dk_at dksX7_present_0 20 rfl rfl)
theorem dX7_present_21 : decode cX7_present 21 = .ok (.ireturn, 1) := dk_172 (dk_at dksX7_present_0 21 rfl rfl)
abbrev cX7_failedCommand : ByteArray := prog_12_method_108_code
def yX7_failedCommand : MethodName := ⟨RX7, "failedCommand", "()I"⟩
def dkwX7_failedCommand_0 : List UInt8 := [42, 42, 180, 0, 47, 182, 1, 10, 172]
abbrev dktX7_failedCommand_0 : List UInt8 := dkwX7_failedCommand_0 ++ []
theorem dksX7_failedCommand_0 : cX7_failedCommand.data.toList.drop 0 = dktX7_failedCommand_0 := by decide +kernel
theorem dX7_failedCommand_0 : decode cX7_failedCommand 0 = .ok (.aload_n 0, 1) := dk_42 (dk_at dksX7_failedCommand_0 0 rfl rfl)
theorem dX7_failedCommand_1 : decode cX7_failedCommand 1 = .ok (.aload_n 0, 1) := dk_42 (dk_at dksX7_failedCommand_0 1 rfl rfl)
theorem dX7_failedCommand_2 : decode cX7_failedCommand 2 = .ok (.getfield 47, 3) := dk_180 0 47 (dk_at dksX7_failedCommand_0 2 rfl rfl)
theorem dX7_failedCommand_5 : decode cX7_failedCommand 5 = .ok (.invokevirtual 266, 3) := dk_182 1 10 (dk_at dksX7_failedCommand_0 5 rfl rfl)
theorem dX7_failedCommand_8 : decode cX7_failedCommand 8 = .ok (.ireturn, 1) := dk_172 (dk_at dksX7_failedCommand_0 8 rfl rfl)
abbrev cX7_undo : ByteArray := prog_12_method_109_code
def yX7_undo : MethodName := ⟨RX7, "undo", "()I"⟩
def dkwX7_undo_2 : List UInt8 := [184, 0, 87, 42, 180, 0, 41, 172]
abbrev dktX7_undo_2 : List UInt8 := dkwX7_undo_2 ++ []
def dkwX7_undo_1 : List UInt8 := [180, 0, 41, 4, 100, 181, 0, 41, 42, 180, 0, 19, 16, 72, 42, 180, 0, 41, 104, 42, 180, 0, 7, 3]
abbrev dktX7_undo_1 : List UInt8 := dkwX7_undo_1 ++ dktX7_undo_2
def dkwX7_undo_0 : List UInt8 := [42, 42, 180, 0, 41, 158, 0, 7, 4, 167, 0, 4, 3, 182, 0, 125, 158, 0, 5, 3, 172, 42, 89]
abbrev dktX7_undo_0 : List UInt8 := dkwX7_undo_0 ++ dktX7_undo_1
theorem dksX7_undo_0 : cX7_undo.data.toList.drop 0 = dktX7_undo_0 := by decide +kernel
theorem dksX7_undo_1 : cX7_undo.data.toList.drop 23 = dktX7_undo_1 := dk_seg dksX7_undo_0 23 rfl rfl
theorem dksX7_undo_2 : cX7_undo.data.toList.drop 47 = dktX7_undo_2 := dk_seg dksX7_undo_1 24 rfl rfl
theorem dX7_undo_0 : decode cX7_undo 0 = .ok (.aload_n 0, 1) := dk_42 (dk_at dksX7_undo_0 0 rfl rfl)
theorem dX7_undo_1 : decode cX7_undo 1 = .ok (.aload_n 0, 1) := dk_42 (dk_at dksX7_undo_0 1 rfl rfl)
theorem dX7_undo_2 : decode cX7_undo 2 = .ok (.getfield 41, 3) := dk_180 0 41 (dk_at dksX7_undo_0 2 rfl rfl)
theorem dX7_undo_5 : decode cX7_undo 5 = .ok (.ifCond .le 7, 3) := dk_158 0 7 (dk_at dksX7_undo_0 5 rfl rfl)
theorem dX7_undo_8 : decode cX7_undo 8 = .ok (.iconst 1, 1) := dk_4 (dk_at dksX7_undo_0 8 rfl rfl)
theorem dX7_undo_9 : decode cX7_undo 9 = .ok (.goto 4, 3) := dk_167 0 4 (dk_at dksX7_undo_0 9 rfl rfl)
theorem dX7_undo_12 : decode cX7_undo 12 = .ok (.iconst 0, 1) := dk_3 (dk_at dksX7_undo_0 12 rfl rfl)
theorem dX7_undo_13 : decode cX7_undo 13 = .ok (.invokevirtual 125, 3) := dk_182 0 125 (dk_at dksX7_undo_0 13 rfl rfl)
theorem dX7_undo_16 : decode cX7_undo 16 = .ok (.ifCond .le 5, 3) := dk_158 0 5 (dk_at dksX7_undo_0 16 rfl rfl)
theorem dX7_undo_19 : decode cX7_undo 19 = .ok (.iconst 0, 1) := dk_3 (dk_at dksX7_undo_0 19 rfl rfl)
theorem dX7_undo_20 : decode cX7_undo 20 = .ok (.ireturn, 1) := dk_172 (dk_at dksX7_undo_0 20 rfl rfl)
theorem dX7_undo_21 : decode cX7_undo 21 = .ok (.aload_n 0, 1) := dk_42 (dk_at dksX7_undo_0 21 rfl rfl)
theorem dX7_undo_22 : decode cX7_undo 22 = .ok (.dup, 1) := dk_89 (dk_at dksX7_undo_0 22 rfl rfl)
theorem dX7_undo_23 : decode cX7_undo 23 = .ok (.getfield 41, 3) := dk_180 0 41 (dk_at dksX7_undo_1 0 rfl rfl)
theorem dX7_undo_26 : decode cX7_undo 26 = .ok (.iconst 1, 1) := dk_4 (dk_at dksX7_undo_1 3 rfl rfl)
theorem dX7_undo_27 : decode cX7_undo 27 = .ok (.isub, 1) := dk_100 (dk_at dksX7_undo_1 4 rfl rfl)
theorem dX7_undo_28 : decode cX7_undo 28 = .ok (.putfield 41, 3) := dk_181 0 41 (dk_at dksX7_undo_1 5 rfl rfl)
theorem dX7_undo_31 : decode cX7_undo 31 = .ok (.aload_n 0, 1) := dk_42 (dk_at dksX7_undo_1 8 rfl rfl)
theorem dX7_undo_32 : decode cX7_undo 32 = .ok (.getfield 19, 3) := dk_180 0 19 (dk_at dksX7_undo_1 9 rfl rfl)
theorem dX7_undo_35 : decode cX7_undo 35 = .ok (.bipush 72, 2) := dk_16 72 (dk_at dksX7_undo_1 12 rfl rfl)
theorem dX7_undo_37 : decode cX7_undo 37 = .ok (.aload_n 0, 1) := dk_42 (dk_at dksX7_undo_1 14 rfl rfl)
theorem dX7_undo_38 : decode cX7_undo 38 = .ok (.getfield 41, 3) := dk_180 0 41 (dk_at dksX7_undo_1 15 rfl rfl)
theorem dX7_undo_41 : decode cX7_undo 41 = .ok (.imul, 1) := dk_104 (dk_at dksX7_undo_1 18 rfl rfl)
theorem dX7_undo_42 : decode cX7_undo 42 = .ok (.aload_n 0, 1) := dk_42 (dk_at dksX7_undo_1 19 rfl rfl)
theorem dX7_undo_43 : decode cX7_undo 43 = .ok (.getfield 7, 3) := dk_180 0 7 (dk_at dksX7_undo_1 20 rfl rfl)
theorem dX7_undo_46 : decode cX7_undo 46 = .ok (.iconst 0, 1) := dk_3 (dk_at dksX7_undo_1 23 rfl rfl)
theorem dX7_undo_47 : decode cX7_undo 47 = .ok (.invokestatic 87, 3) := dk_184 0 87 (dk_at dksX7_undo_2 0 rfl rfl)
theorem dX7_undo_50 : decode cX7_undo 50 = .ok (.aload_n 0, 1) := dk_42 (dk_at dksX7_undo_2 3 rfl rfl)
theorem dX7_undo_51 : decode cX7_undo 51 = .ok (.getfield 41, 3) := dk_180 0 41 (dk_at dksX7_undo_2 4 rfl rfl)
theorem dX7_undo_54 : decode cX7_undo 54 = .ok (.ireturn, 1) := dk_172 (dk_at dksX7_undo_2 7 rfl rfl)
abbrev cX7_save : ByteArray := prog_12_method_110_code
def yX7_save : MethodName := ⟨RX7, "save", "()I"⟩
def dkwX7_save_1 : List UInt8 := [180, 0, 7, 3, 46, 172]
abbrev dktX7_save_1 : List UInt8 := dkwX7_save_1 ++ []
def dkwX7_save_0 : List UInt8 := [42, 3, 181, 0, 37, 42, 180, 0, 7, 3, 42, 180, 0, 16, 3, 184, 0, 87, 42, 4, 181, 0, 50, 42]
abbrev dktX7_save_0 : List UInt8 := dkwX7_save_0 ++ dktX7_save_1
theorem dksX7_save_0 : cX7_save.data.toList.drop 0 = dktX7_save_0 := by decide +kernel
theorem dksX7_save_1 : cX7_save.data.toList.drop 24 = dktX7_save_1 := dk_seg dksX7_save_0 24 rfl rfl
theorem dX7_save_0 : decode cX7_save 0 = .ok (.aload_n 0, 1) := dk_42 (dk_at dksX7_save_0 0 rfl rfl)
theorem dX7_save_1 : decode cX7_save 1 = .ok (.iconst 0, 1) := dk_3 (dk_at dksX7_save_0 1 rfl rfl)
theorem dX7_save_2 : decode cX7_save 2 = .ok (.putfield 37, 3) := dk_181 0 37 (dk_at dksX7_save_0 2 rfl rfl)
theorem dX7_save_5 : decode cX7_save 5 = .ok (.aload_n 0, 1) := dk_42 (dk_at dksX7_save_0 5 rfl rfl)
theorem dX7_save_6 : decode cX7_save 6 = .ok (.getfield 7, 3) := dk_180 0 7 (dk_at dksX7_save_0 6 rfl rfl)
theorem dX7_save_9 : decode cX7_save 9 = .ok (.iconst 0, 1) := dk_3 (dk_at dksX7_save_0 9 rfl rfl)
theorem dX7_save_10 : decode cX7_save 10 = .ok (.aload_n 0, 1) := dk_42 (dk_at dksX7_save_0 10 rfl rfl)
theorem dX7_save_11 : decode cX7_save 11 = .ok (.getfield 16, 3) := dk_180 0 16 (dk_at dksX7_save_0 11 rfl rfl)
theorem dX7_save_14 : decode cX7_save 14 = .ok (.iconst 0, 1) := dk_3 (dk_at dksX7_save_0 14 rfl rfl)
theorem dX7_save_15 : decode cX7_save 15 = .ok (.invokestatic 87, 3) := dk_184 0 87 (dk_at dksX7_save_0 15 rfl rfl)
theorem dX7_save_18 : decode cX7_save 18 = .ok (.aload_n 0, 1) := dk_42 (dk_at dksX7_save_0 18 rfl rfl)
theorem dX7_save_19 : decode cX7_save 19 = .ok (.iconst 1, 1) := dk_4 (dk_at dksX7_save_0 19 rfl rfl)
theorem dX7_save_20 : decode cX7_save 20 = .ok (.putfield 50, 3) := dk_181 0 50 (dk_at dksX7_save_0 20 rfl rfl)
theorem dX7_save_23 : decode cX7_save 23 = .ok (.aload_n 0, 1) := dk_42 (dk_at dksX7_save_0 23 rfl rfl)
theorem dX7_save_24 : decode cX7_save 24 = .ok (.getfield 7, 3) := dk_180 0 7 (dk_at dksX7_save_1 0 rfl rfl)
theorem dX7_save_27 : decode cX7_save 27 = .ok (.iconst 0, 1) := dk_3 (dk_at dksX7_save_1 3 rfl rfl)
theorem dX7_save_28 : decode cX7_save 28 = .ok (.iaload, 1) := dk_46 (dk_at dksX7_save_1 4 rfl rfl)
theorem dX7_save_29 : decode cX7_save 29 = .ok (.ireturn, 1) := dk_172 (dk_at dksX7_save_1 5 rfl rfl)
abbrev cX7_restore : ByteArray := prog_12_method_111_code
def yX7_restore : MethodName := ⟨RX7, "restore", "()I"⟩
def dkwX7_restore_1 : List UInt8 := [184, 0, 87, 42, 3, 181, 0, 41, 42, 180, 0, 7, 3, 46, 172]
abbrev dktX7_restore_1 : List UInt8 := dkwX7_restore_1 ++ []
def dkwX7_restore_0 : List UInt8 := [42, 42, 180, 0, 50, 182, 0, 125, 158, 0, 5, 3, 172, 42, 180, 0, 16, 3, 42, 180, 0, 7, 3]
abbrev dktX7_restore_0 : List UInt8 := dkwX7_restore_0 ++ dktX7_restore_1
theorem dksX7_restore_0 : cX7_restore.data.toList.drop 0 = dktX7_restore_0 := by decide +kernel
theorem dksX7_restore_1 : cX7_restore.data.toList.drop 23 = dktX7_restore_1 := dk_seg dksX7_restore_0 23 rfl rfl
theorem dX7_restore_0 : decode cX7_restore 0 = .ok (.aload_n 0, 1) := dk_42 (dk_at dksX7_restore_0 0 rfl rfl)
theorem dX7_restore_1 : decode cX7_restore 1 = .ok (.aload_n 0, 1) := dk_42 (dk_at dksX7_restore_0 1 rfl rfl)
theorem dX7_restore_2 : decode cX7_restore 2 = .ok (.getfield 50, 3) := dk_180 0 50 (dk_at dksX7_restore_0 2 rfl rfl)
theorem dX7_restore_5 : decode cX7_restore 5 = .ok (.invokevirtual 125, 3) := dk_182 0 125 (dk_at dksX7_restore_0 5 rfl rfl)
theorem dX7_restore_8 : decode cX7_restore 8 = .ok (.ifCond .le 5, 3) := dk_158 0 5 (dk_at dksX7_restore_0 8 rfl rfl)
theorem dX7_restore_11 : decode cX7_restore 11 = .ok (.iconst 0, 1) := dk_3 (dk_at dksX7_restore_0 11 rfl rfl)
theorem dX7_restore_12 : decode cX7_restore 12 = .ok (.ireturn, 1) := dk_172 (dk_at dksX7_restore_0 12 rfl rfl)
theorem dX7_restore_13 : decode cX7_restore 13 = .ok (.aload_n 0, 1) := dk_42 (dk_at dksX7_restore_0 13 rfl rfl)
theorem dX7_restore_14 : decode cX7_restore 14 = .ok (.getfield 16, 3) := dk_180 0 16 (dk_at dksX7_restore_0 14 rfl rfl)
theorem dX7_restore_17 : decode cX7_restore 17 = .ok (.iconst 0, 1) := dk_3 (dk_at dksX7_restore_0 17 rfl rfl)
theorem dX7_restore_18 : decode cX7_restore 18 = .ok (.aload_n 0, 1) := dk_42 (dk_at dksX7_restore_0 18 rfl rfl)
theorem dX7_restore_19 : decode cX7_restore 19 = .ok (.getfield 7, 3) := dk_180 0 7 (dk_at dksX7_restore_0 19 rfl rfl)
theorem dX7_restore_22 : decode cX7_restore 22 = .ok (.iconst 0, 1) := dk_3 (dk_at dksX7_restore_0 22 rfl rfl)
theorem dX7_restore_23 : decode cX7_restore 23 = .ok (.invokestatic 87, 3) := dk_184 0 87 (dk_at dksX7_restore_1 0 rfl rfl)
theorem dX7_restore_26 : decode cX7_restore 26 = .ok (.aload_n 0, 1) := dk_42 (dk_at dksX7_restore_1 3 rfl rfl)
theorem dX7_restore_27 : decode cX7_restore 27 = .ok (.iconst 0, 1) := dk_3 (dk_at dksX7_restore_1 4 rfl rfl)
theorem dX7_restore_28 : decode cX7_restore 28 = .ok (.putfield 41, 3) := dk_181 0 41 (dk_at dksX7_restore_1 5 rfl rfl)
theorem dX7_restore_31 : decode cX7_restore 31 = .ok (.aload_n 0, 1) := dk_42 (dk_at dksX7_restore_1 8 rfl rfl)
theorem dX7_restore_32 : decode cX7_restore 32 = .ok (.getfield 7, 3) := dk_180 0 7 (dk_at dksX7_restore_1 9 rfl rfl)
theorem dX7_restore_35 : decode cX7_restore 35 = .ok (.iconst 0, 1) := dk_3 (dk_at dksX7_restore_1 12 rfl rfl)
theorem dX7_restore_36 : decode cX7_restore 36 = .ok (.iaload, 1) := dk_46 (dk_at dksX7_restore_1 13 rfl rfl)
theorem dX7_restore_37 : decode cX7_restore 37 = .ok (.ireturn, 1) := dk_172 (dk_at dksX7_restore_1 14 rfl rfl)
theorem q108 : (Jvm.Cond.initialized "InkPrinteryModel") ∈ lw_all := lw_g (lw_at lw_m1 25 rfl) rfl
theorem q505 : (Jvm.Cond.selects "InkPrinteryModel" ({ cls := "java/lang/Object", name := "getClass", desc := "()Ljava/lang/Class;" } : Jvm.MethodName) ({ cls := "java/lang/Object", name := "getClass", desc := "()Ljava/lang/Class;" } : Jvm.MethodName)) ∈ lw_all := lw_g (lw_at lw_m2 182 rfl) rfl
theorem q2236 : (Jvm.Cond.instantiable "InkPrinteryModel" (25 : Nat)) ∈ lw_all := lw_g (lw_at lw_m9 233 rfl) rfl
theorem q2238 : (Jvm.Cond.instanceMethod ({ cls := "InkPrinteryModel", name := "<init>", desc := "()V" } : Jvm.MethodName)) ∈ lw_all := lw_g (lw_at lw_m9 235 rfl) rfl
theorem q2239 : (Jvm.Cond.code ({ cls := "InkPrinteryModel", name := "<init>", desc := "()V" } : Jvm.MethodName) prog_12_method_1_code (1 : Nat) (Option.none : Option Jvm.ClassFile.FieldType)) ∈ lw_all := lw_g (lw_at lw_m9 236 rfl) rfl
theorem q2240 : (Jvm.Cond.methodLink "InkPrinteryModel" (1 : Nat) ({ cls := "java/lang/Object", name := "<init>", desc := "()V" } : Jvm.MethodName)) ∈ lw_all := lw_g (lw_at lw_m9 237 rfl) rfl
theorem q2241 : (Jvm.Cond.fieldLink "InkPrinteryModel" (7 : Nat) "InkPrinteryModel" "now" "[I") ∈ lw_all := lw_g (lw_at lw_m9 238 rfl) rfl
theorem q2242 : (Jvm.Cond.fieldLink "InkPrinteryModel" (13 : Nat) "InkPrinteryModel" "before" "[I") ∈ lw_all := lw_g (lw_at lw_m9 239 rfl) rfl
theorem q2243 : (Jvm.Cond.fieldLink "InkPrinteryModel" (16 : Nat) "InkPrinteryModel" "saved" "[I") ∈ lw_all := lw_g (lw_at lw_m10 0 rfl) rfl
theorem q2244 : (Jvm.Cond.fieldLink "InkPrinteryModel" (19 : Nat) "InkPrinteryModel" "history" "[I") ∈ lw_all := lw_g (lw_at lw_m10 1 rfl) rfl
theorem q2245 : (Jvm.Cond.fieldLink "InkPrinteryModel" (22 : Nat) "InkPrinteryModel" "fewest" "[I") ∈ lw_all := lw_g (lw_at lw_m10 2 rfl) rfl
theorem q2246 : (Jvm.Cond.fieldLink "InkPrinteryModel" (25 : Nat) "InkPrinteryModel" "shares" "[I") ∈ lw_all := lw_g (lw_at lw_m10 3 rfl) rfl
theorem q2247 : (Jvm.Cond.fieldLink "InkPrinteryModel" (28 : Nat) "InkPrinteryModel" "longest" "[I") ∈ lw_all := lw_g (lw_at lw_m10 4 rfl) rfl
theorem q2248 : (Jvm.Cond.fieldLink "InkPrinteryModel" (31 : Nat) "InkPrinteryModel" "ways" "[I") ∈ lw_all := lw_g (lw_at lw_m10 5 rfl) rfl
theorem q2249 : (Jvm.Cond.fieldLink "InkPrinteryModel" (34 : Nat) "InkPrinteryModel" "order" "[I") ∈ lw_all := lw_g (lw_at lw_m10 6 rfl) rfl
theorem q2250 : (Jvm.Cond.fieldLink "InkPrinteryModel" (37 : Nat) "InkPrinteryModel" "thrown" "I") ∈ lw_all := lw_g (lw_at lw_m10 7 rfl) rfl
theorem q2251 : (Jvm.Cond.fieldLink "InkPrinteryModel" (41 : Nat) "InkPrinteryModel" "depth" "I") ∈ lw_all := lw_g (lw_at lw_m10 8 rfl) rfl
theorem q2252 : (Jvm.Cond.fieldLink "InkPrinteryModel" (44 : Nat) "InkPrinteryModel" "wrongAt" "I") ∈ lw_all := lw_g (lw_at lw_m10 9 rfl) rfl
theorem q2253 : (Jvm.Cond.fieldLink "InkPrinteryModel" (47 : Nat) "InkPrinteryModel" "failedAt" "I") ∈ lw_all := lw_g (lw_at lw_m10 10 rfl) rfl
theorem q2254 : (Jvm.Cond.fieldLink "InkPrinteryModel" (50 : Nat) "InkPrinteryModel" "isSaved" "Z") ∈ lw_all := lw_g (lw_at lw_m10 11 rfl) rfl
theorem q2255 : (Jvm.Cond.fieldLink "InkPrinteryModel" (54 : Nat) "InkPrinteryModel" "line" "[I") ∈ lw_all := lw_g (lw_at lw_m10 12 rfl) rfl
theorem q2256 : (Jvm.Cond.fieldLink "InkPrinteryModel" (57 : Nat) "InkPrinteryModel" "lineLength" "I") ∈ lw_all := lw_g (lw_at lw_m10 13 rfl) rfl
theorem q2257 : (Jvm.Cond.fieldLink "InkPrinteryModel" (60 : Nat) "InkPrinteryModel" "input" "[I") ∈ lw_all := lw_g (lw_at lw_m10 14 rfl) rfl
theorem q2258 : (Jvm.Cond.fieldLink "InkPrinteryModel" (63 : Nat) "InkPrinteryModel" "kinds" "[I") ∈ lw_all := lw_g (lw_at lw_m10 15 rfl) rfl
theorem q2259 : (Jvm.Cond.fieldLink "InkPrinteryModel" (66 : Nat) "InkPrinteryModel" "firsts" "[I") ∈ lw_all := lw_g (lw_at lw_m10 16 rfl) rfl
theorem q2260 : (Jvm.Cond.fieldLink "InkPrinteryModel" (69 : Nat) "InkPrinteryModel" "seconds" "[I") ∈ lw_all := lw_g (lw_at lw_m10 17 rfl) rfl
theorem q2261 : (Jvm.Cond.fieldLink "InkPrinteryModel" (72 : Nat) "InkPrinteryModel" "length" "I") ∈ lw_all := lw_g (lw_at lw_m10 18 rfl) rfl
theorem q2262 : (Jvm.Cond.fieldLink "InkPrinteryModel" (75 : Nat) "InkPrinteryModel" "textLength" "I") ∈ lw_all := lw_g (lw_at lw_m10 19 rfl) rfl
theorem q2263 : (Jvm.Cond.fieldLink "InkPrinteryModel" (78 : Nat) "InkPrinteryModel" "at" "I") ∈ lw_all := lw_g (lw_at lw_m10 20 rfl) rfl
theorem q2264 : (Jvm.Cond.fieldLink "InkPrinteryModel" (81 : Nat) "InkPrinteryModel" "commands" "I") ∈ lw_all := lw_g (lw_at lw_m10 21 rfl) rfl
theorem q2265 : (Jvm.Cond.fieldLink "InkPrinteryModel" (84 : Nat) "InkPrinteryModel" "isWrong" "Z") ∈ lw_all := lw_g (lw_at lw_m10 22 rfl) rfl
theorem q2266 : (Jvm.Cond.laysFinal "InkPrinteryModel" "InkPrinteryModel" "now" "[I") ∈ lw_all := lw_g (lw_at lw_m10 23 rfl) rfl
theorem q2267 : (Jvm.Cond.soleField "InkPrinteryModel" "now") ∈ lw_all := lw_g (lw_at lw_m10 24 rfl) rfl
theorem q2268 : (Jvm.Cond.laysFinal "InkPrinteryModel" "InkPrinteryModel" "before" "[I") ∈ lw_all := lw_g (lw_at lw_m10 25 rfl) rfl
theorem q2269 : (Jvm.Cond.soleField "InkPrinteryModel" "before") ∈ lw_all := lw_g (lw_at lw_m10 26 rfl) rfl
theorem q2270 : (Jvm.Cond.laysFinal "InkPrinteryModel" "InkPrinteryModel" "saved" "[I") ∈ lw_all := lw_g (lw_at lw_m10 27 rfl) rfl
theorem q2271 : (Jvm.Cond.soleField "InkPrinteryModel" "saved") ∈ lw_all := lw_g (lw_at lw_m10 28 rfl) rfl
theorem q2272 : (Jvm.Cond.laysFinal "InkPrinteryModel" "InkPrinteryModel" "history" "[I") ∈ lw_all := lw_g (lw_at lw_m10 29 rfl) rfl
theorem q2273 : (Jvm.Cond.soleField "InkPrinteryModel" "history") ∈ lw_all := lw_g (lw_at lw_m10 30 rfl) rfl
theorem q2274 : (Jvm.Cond.laysFinal "InkPrinteryModel" "InkPrinteryModel" "fewest" "[I") ∈ lw_all := lw_g (lw_at lw_m10 31 rfl) rfl
theorem q2275 : (Jvm.Cond.soleField "InkPrinteryModel" "fewest") ∈ lw_all := lw_g (lw_at lw_m10 32 rfl) rfl
theorem q2276 : (Jvm.Cond.laysFinal "InkPrinteryModel" "InkPrinteryModel" "shares" "[I") ∈ lw_all := lw_g (lw_at lw_m10 33 rfl) rfl
theorem q2277 : (Jvm.Cond.soleField "InkPrinteryModel" "shares") ∈ lw_all := lw_g (lw_at lw_m10 34 rfl) rfl
theorem q2278 : (Jvm.Cond.laysFinal "InkPrinteryModel" "InkPrinteryModel" "longest" "[I") ∈ lw_all := lw_g (lw_at lw_m10 35 rfl) rfl
theorem q2279 : (Jvm.Cond.soleField "InkPrinteryModel" "longest") ∈ lw_all := lw_g (lw_at lw_m10 36 rfl) rfl
theorem q2280 : (Jvm.Cond.laysFinal "InkPrinteryModel" "InkPrinteryModel" "ways" "[I") ∈ lw_all := lw_g (lw_at lw_m10 37 rfl) rfl
theorem q2281 : (Jvm.Cond.soleField "InkPrinteryModel" "ways") ∈ lw_all := lw_g (lw_at lw_m10 38 rfl) rfl
theorem q2282 : (Jvm.Cond.laysFinal "InkPrinteryModel" "InkPrinteryModel" "order" "[I") ∈ lw_all := lw_g (lw_at lw_m10 39 rfl) rfl
theorem q2283 : (Jvm.Cond.soleField "InkPrinteryModel" "order") ∈ lw_all := lw_g (lw_at lw_m10 40 rfl) rfl
theorem q2284 : (Jvm.Cond.lays "InkPrinteryModel" "InkPrinteryModel" "thrown" "I") ∈ lw_all := lw_g (lw_at lw_m10 41 rfl) rfl
theorem q2285 : (Jvm.Cond.soleField "InkPrinteryModel" "thrown") ∈ lw_all := lw_g (lw_at lw_m10 42 rfl) rfl
theorem q2286 : (Jvm.Cond.lays "InkPrinteryModel" "InkPrinteryModel" "depth" "I") ∈ lw_all := lw_g (lw_at lw_m10 43 rfl) rfl
theorem q2287 : (Jvm.Cond.soleField "InkPrinteryModel" "depth") ∈ lw_all := lw_g (lw_at lw_m10 44 rfl) rfl
theorem q2288 : (Jvm.Cond.lays "InkPrinteryModel" "InkPrinteryModel" "wrongAt" "I") ∈ lw_all := lw_g (lw_at lw_m10 45 rfl) rfl
theorem q2289 : (Jvm.Cond.soleField "InkPrinteryModel" "wrongAt") ∈ lw_all := lw_g (lw_at lw_m10 46 rfl) rfl
theorem q2290 : (Jvm.Cond.lays "InkPrinteryModel" "InkPrinteryModel" "failedAt" "I") ∈ lw_all := lw_g (lw_at lw_m10 47 rfl) rfl
theorem q2291 : (Jvm.Cond.soleField "InkPrinteryModel" "failedAt") ∈ lw_all := lw_g (lw_at lw_m10 48 rfl) rfl
theorem q2292 : (Jvm.Cond.lays "InkPrinteryModel" "InkPrinteryModel" "isSaved" "Z") ∈ lw_all := lw_g (lw_at lw_m10 49 rfl) rfl
theorem q2293 : (Jvm.Cond.soleField "InkPrinteryModel" "isSaved") ∈ lw_all := lw_g (lw_at lw_m10 50 rfl) rfl
theorem q2294 : (Jvm.Cond.laysFinal "InkPrinteryModel" "InkPrinteryModel" "line" "[I") ∈ lw_all := lw_g (lw_at lw_m10 51 rfl) rfl
theorem q2295 : (Jvm.Cond.soleField "InkPrinteryModel" "line") ∈ lw_all := lw_g (lw_at lw_m10 52 rfl) rfl
theorem q2296 : (Jvm.Cond.lays "InkPrinteryModel" "InkPrinteryModel" "lineLength" "I") ∈ lw_all := lw_g (lw_at lw_m10 53 rfl) rfl
theorem q2297 : (Jvm.Cond.soleField "InkPrinteryModel" "lineLength") ∈ lw_all := lw_g (lw_at lw_m10 54 rfl) rfl
theorem q2298 : (Jvm.Cond.laysFinal "InkPrinteryModel" "InkPrinteryModel" "input" "[I") ∈ lw_all := lw_g (lw_at lw_m10 55 rfl) rfl
theorem q2299 : (Jvm.Cond.soleField "InkPrinteryModel" "input") ∈ lw_all := lw_g (lw_at lw_m10 56 rfl) rfl
theorem q2300 : (Jvm.Cond.laysFinal "InkPrinteryModel" "InkPrinteryModel" "kinds" "[I") ∈ lw_all := lw_g (lw_at lw_m10 57 rfl) rfl
theorem q2301 : (Jvm.Cond.soleField "InkPrinteryModel" "kinds") ∈ lw_all := lw_g (lw_at lw_m10 58 rfl) rfl
theorem q2302 : (Jvm.Cond.laysFinal "InkPrinteryModel" "InkPrinteryModel" "firsts" "[I") ∈ lw_all := lw_g (lw_at lw_m10 59 rfl) rfl
theorem q2303 : (Jvm.Cond.soleField "InkPrinteryModel" "firsts") ∈ lw_all := lw_g (lw_at lw_m10 60 rfl) rfl
theorem q2304 : (Jvm.Cond.laysFinal "InkPrinteryModel" "InkPrinteryModel" "seconds" "[I") ∈ lw_all := lw_g (lw_at lw_m10 61 rfl) rfl
theorem q2305 : (Jvm.Cond.soleField "InkPrinteryModel" "seconds") ∈ lw_all := lw_g (lw_at lw_m10 62 rfl) rfl
theorem q2306 : (Jvm.Cond.lays "InkPrinteryModel" "InkPrinteryModel" "length" "I") ∈ lw_all := lw_g (lw_at lw_m10 63 rfl) rfl
theorem q2307 : (Jvm.Cond.soleField "InkPrinteryModel" "length") ∈ lw_all := lw_g (lw_at lw_m10 64 rfl) rfl
theorem q2308 : (Jvm.Cond.lays "InkPrinteryModel" "InkPrinteryModel" "textLength" "I") ∈ lw_all := lw_g (lw_at lw_m10 65 rfl) rfl
theorem q2309 : (Jvm.Cond.soleField "InkPrinteryModel" "textLength") ∈ lw_all := lw_g (lw_at lw_m10 66 rfl) rfl
theorem q2310 : (Jvm.Cond.lays "InkPrinteryModel" "InkPrinteryModel" "at" "I") ∈ lw_all := lw_g (lw_at lw_m10 67 rfl) rfl
theorem q2311 : (Jvm.Cond.soleField "InkPrinteryModel" "at") ∈ lw_all := lw_g (lw_at lw_m10 68 rfl) rfl
theorem q2312 : (Jvm.Cond.lays "InkPrinteryModel" "InkPrinteryModel" "commands" "I") ∈ lw_all := lw_g (lw_at lw_m10 69 rfl) rfl
theorem q2313 : (Jvm.Cond.soleField "InkPrinteryModel" "commands") ∈ lw_all := lw_g (lw_at lw_m10 70 rfl) rfl
theorem q2314 : (Jvm.Cond.lays "InkPrinteryModel" "InkPrinteryModel" "isWrong" "Z") ∈ lw_all := lw_g (lw_at lw_m10 71 rfl) rfl
theorem q2315 : (Jvm.Cond.soleField "InkPrinteryModel" "isWrong") ∈ lw_all := lw_g (lw_at lw_m10 72 rfl) rfl
theorem q2316 : (Jvm.Cond.superclass "InkPrinteryModel" "java/lang/Object") ∈ lw_all := lw_g (lw_at lw_m10 73 rfl) rfl
theorem q2318 : (Jvm.Cond.instanceMethod ({ cls := "InkPrinteryModel", name := "thrown", desc := "()I" } : Jvm.MethodName)) ∈ lw_all := lw_g (lw_at lw_m10 75 rfl) rfl
theorem q2319 : (Jvm.Cond.selects "InkPrinteryModel" ({ cls := "InkPrinteryModel", name := "thrown", desc := "()I" } : Jvm.MethodName) ({ cls := "InkPrinteryModel", name := "thrown", desc := "()I" } : Jvm.MethodName)) ∈ lw_all := lw_g (lw_at lw_m10 76 rfl) rfl
theorem q2320 : (Jvm.Cond.code ({ cls := "InkPrinteryModel", name := "thrown", desc := "()I" } : Jvm.MethodName) prog_12_method_2_code (1 : Nat) (Option.some Jvm.ClassFile.FieldType.int)) ∈ lw_all := lw_g (lw_at lw_m10 77 rfl) rfl
theorem q2322 : (Jvm.Cond.instanceMethod ({ cls := "InkPrinteryModel", name := "addInk", desc := "(II)I" } : Jvm.MethodName)) ∈ lw_all := lw_g (lw_at lw_m10 79 rfl) rfl
theorem q2323 : (Jvm.Cond.selects "InkPrinteryModel" ({ cls := "InkPrinteryModel", name := "addInk", desc := "(II)I" } : Jvm.MethodName) ({ cls := "InkPrinteryModel", name := "addInk", desc := "(II)I" } : Jvm.MethodName)) ∈ lw_all := lw_g (lw_at lw_m10 80 rfl) rfl
theorem q2324 : (Jvm.Cond.code ({ cls := "InkPrinteryModel", name := "addInk", desc := "(II)I" } : Jvm.MethodName) prog_12_method_14_code (4 : Nat) (Option.some Jvm.ClassFile.FieldType.int)) ∈ lw_all := lw_g (lw_at lw_m10 81 rfl) rfl
theorem q2325 : (Jvm.Cond.methodLink "InkPrinteryModel" (99 : Nat) ({ cls := "InkPrinteryModel", name := "begin", desc := "()V" } : Jvm.MethodName)) ∈ lw_all := lw_g (lw_at lw_m10 82 rfl) rfl
theorem q2326 : (Jvm.Cond.privateMethod ({ cls := "InkPrinteryModel", name := "begin", desc := "()V" } : Jvm.MethodName)) ∈ lw_tbl := lw_at lw_m10 83 rfl
theorem q2327 : (Jvm.Cond.instanceMethod ({ cls := "InkPrinteryModel", name := "begin", desc := "()V" } : Jvm.MethodName)) ∈ lw_all := lw_g (lw_at lw_m10 84 rfl) rfl
theorem q2328 : (Jvm.Cond.code ({ cls := "InkPrinteryModel", name := "begin", desc := "()V" } : Jvm.MethodName) prog_12_method_7_code (1 : Nat) (Option.none : Option Jvm.ClassFile.FieldType)) ∈ lw_all := lw_g (lw_at lw_m10 85 rfl) rfl
theorem q2329 : (Jvm.Cond.methodLink "InkPrinteryModel" (87 : Nat) ({ cls := "InkPrinteryModel", name := "copy", desc := "([II[II)V" } : Jvm.MethodName)) ∈ lw_all := lw_g (lw_at lw_m10 86 rfl) rfl
theorem q2330 : (Jvm.Cond.static ({ cls := "InkPrinteryModel", name := "copy", desc := "([II[II)V" } : Jvm.MethodName)) ∈ lw_all := lw_g (lw_at lw_m10 87 rfl) rfl
theorem q2331 : (Jvm.Cond.code ({ cls := "InkPrinteryModel", name := "copy", desc := "([II[II)V" } : Jvm.MethodName) prog_12_method_5_code (5 : Nat) (Option.none : Option Jvm.ClassFile.FieldType)) ∈ lw_all := lw_g (lw_at lw_m10 88 rfl) rfl
theorem q2332 : (Jvm.Cond.methodLink "InkPrinteryModel" (102 : Nat) ({ cls := "InkPrinteryModel", name := "cannotPour", desc := "(II)I" } : Jvm.MethodName)) ∈ lw_all := lw_g (lw_at lw_m10 89 rfl) rfl
theorem q2333 : (Jvm.Cond.privateMethod ({ cls := "InkPrinteryModel", name := "cannotPour", desc := "(II)I" } : Jvm.MethodName)) ∈ lw_tbl := lw_at lw_m10 90 rfl
theorem q2334 : (Jvm.Cond.instanceMethod ({ cls := "InkPrinteryModel", name := "cannotPour", desc := "(II)I" } : Jvm.MethodName)) ∈ lw_all := lw_g (lw_at lw_m10 91 rfl) rfl
theorem q2335 : (Jvm.Cond.code ({ cls := "InkPrinteryModel", name := "cannotPour", desc := "(II)I" } : Jvm.MethodName) prog_12_method_12_code (3 : Nat) (Option.some Jvm.ClassFile.FieldType.int)) ∈ lw_all := lw_g (lw_at lw_m10 92 rfl) rfl
theorem q2336 : (Jvm.Cond.methodLink "InkPrinteryModel" (95 : Nat) ({ cls := "InkPrinteryModel", name := "isColour", desc := "(I)Z" } : Jvm.MethodName)) ∈ lw_all := lw_g (lw_at lw_m10 93 rfl) rfl
theorem q2337 : (Jvm.Cond.static ({ cls := "InkPrinteryModel", name := "isColour", desc := "(I)Z" } : Jvm.MethodName)) ∈ lw_all := lw_g (lw_at lw_m10 94 rfl) rfl
theorem q2338 : (Jvm.Cond.code ({ cls := "InkPrinteryModel", name := "isColour", desc := "(I)Z" } : Jvm.MethodName) prog_12_method_11_code (1 : Nat) (Option.some Jvm.ClassFile.FieldType.boolean)) ∈ lw_all := lw_g (lw_at lw_m10 95 rfl) rfl
theorem q2339 : (Jvm.Cond.methodLink "InkPrinteryModel" (91 : Nat) ({ cls := "InkPrinteryModel", name := "in", desc := "(III)Z" } : Jvm.MethodName)) ∈ lw_all := lw_g (lw_at lw_m10 96 rfl) rfl
theorem q2340 : (Jvm.Cond.static ({ cls := "InkPrinteryModel", name := "in", desc := "(III)Z" } : Jvm.MethodName)) ∈ lw_all := lw_g (lw_at lw_m10 97 rfl) rfl
theorem q2341 : (Jvm.Cond.code ({ cls := "InkPrinteryModel", name := "in", desc := "(III)Z" } : Jvm.MethodName) prog_12_method_3_code (3 : Nat) (Option.some Jvm.ClassFile.FieldType.boolean)) ∈ lw_all := lw_g (lw_at lw_m10 98 rfl) rfl
theorem q2342 : (Jvm.Cond.methodLink "InkPrinteryModel" (106 : Nat) ({ cls := "InkPrinteryModel", name := "fail", desc := "(I)I" } : Jvm.MethodName)) ∈ lw_all := lw_g (lw_at lw_m10 99 rfl) rfl
theorem q2343 : (Jvm.Cond.privateMethod ({ cls := "InkPrinteryModel", name := "fail", desc := "(I)I" } : Jvm.MethodName)) ∈ lw_tbl := lw_at lw_m10 100 rfl
theorem q2344 : (Jvm.Cond.instanceMethod ({ cls := "InkPrinteryModel", name := "fail", desc := "(I)I" } : Jvm.MethodName)) ∈ lw_all := lw_g (lw_at lw_m10 101 rfl) rfl
theorem q2345 : (Jvm.Cond.code ({ cls := "InkPrinteryModel", name := "fail", desc := "(I)I" } : Jvm.MethodName) prog_12_method_6_code (2 : Nat) (Option.some Jvm.ClassFile.FieldType.int)) ∈ lw_all := lw_g (lw_at lw_m10 102 rfl) rfl
theorem q2346 : (Jvm.Cond.methodLink "InkPrinteryModel" (110 : Nat) ({ cls := "InkPrinteryModel", name := "pours", desc := "(II)I" } : Jvm.MethodName)) ∈ lw_all := lw_g (lw_at lw_m10 103 rfl) rfl
theorem q2347 : (Jvm.Cond.privateMethod ({ cls := "InkPrinteryModel", name := "pours", desc := "(II)I" } : Jvm.MethodName)) ∈ lw_tbl := lw_at lw_m10 104 rfl
theorem q2348 : (Jvm.Cond.instanceMethod ({ cls := "InkPrinteryModel", name := "pours", desc := "(II)I" } : Jvm.MethodName)) ∈ lw_all := lw_g (lw_at lw_m10 105 rfl) rfl
theorem q2349 : (Jvm.Cond.code ({ cls := "InkPrinteryModel", name := "pours", desc := "(II)I" } : Jvm.MethodName) prog_12_method_13_code (3 : Nat) (Option.some Jvm.ClassFile.FieldType.int)) ∈ lw_all := lw_g (lw_at lw_m10 106 rfl) rfl
theorem q2350 : (Jvm.Cond.methodLink "InkPrinteryModel" (113 : Nat) ({ cls := "InkPrinteryModel", name := "commit", desc := "(I)I" } : Jvm.MethodName)) ∈ lw_all := lw_g (lw_at lw_m10 107 rfl) rfl
theorem q2351 : (Jvm.Cond.privateMethod ({ cls := "InkPrinteryModel", name := "commit", desc := "(I)I" } : Jvm.MethodName)) ∈ lw_tbl := lw_at lw_m10 108 rfl
theorem q2352 : (Jvm.Cond.instanceMethod ({ cls := "InkPrinteryModel", name := "commit", desc := "(I)I" } : Jvm.MethodName)) ∈ lw_all := lw_g (lw_at lw_m10 109 rfl) rfl
theorem q2353 : (Jvm.Cond.code ({ cls := "InkPrinteryModel", name := "commit", desc := "(I)I" } : Jvm.MethodName) prog_12_method_8_code (3 : Nat) (Option.some Jvm.ClassFile.FieldType.int)) ∈ lw_all := lw_g (lw_at lw_m10 110 rfl) rfl
theorem q2355 : (Jvm.Cond.instanceMethod ({ cls := "InkPrinteryModel", name := "addPaper", desc := "(I)I" } : Jvm.MethodName)) ∈ lw_all := lw_g (lw_at lw_m10 112 rfl) rfl
theorem q2356 : (Jvm.Cond.selects "InkPrinteryModel" ({ cls := "InkPrinteryModel", name := "addPaper", desc := "(I)I" } : Jvm.MethodName) ({ cls := "InkPrinteryModel", name := "addPaper", desc := "(I)I" } : Jvm.MethodName)) ∈ lw_all := lw_g (lw_at lw_m10 113 rfl) rfl
theorem q2357 : (Jvm.Cond.code ({ cls := "InkPrinteryModel", name := "addPaper", desc := "(I)I" } : Jvm.MethodName) prog_12_method_17_code (3 : Nat) (Option.some Jvm.ClassFile.FieldType.int)) ∈ lw_all := lw_g (lw_at lw_m10 114 rfl) rfl
theorem q2358 : (Jvm.Cond.methodLink "InkPrinteryModel" (116 : Nat) ({ cls := "InkPrinteryModel", name := "cannotBuy", desc := "(I)I" } : Jvm.MethodName)) ∈ lw_all := lw_g (lw_at lw_m10 115 rfl) rfl
theorem q2359 : (Jvm.Cond.privateMethod ({ cls := "InkPrinteryModel", name := "cannotBuy", desc := "(I)I" } : Jvm.MethodName)) ∈ lw_tbl := lw_at lw_m10 116 rfl
theorem q2360 : (Jvm.Cond.instanceMethod ({ cls := "InkPrinteryModel", name := "cannotBuy", desc := "(I)I" } : Jvm.MethodName)) ∈ lw_all := lw_g (lw_at lw_m10 117 rfl) rfl
theorem q2361 : (Jvm.Cond.code ({ cls := "InkPrinteryModel", name := "cannotBuy", desc := "(I)I" } : Jvm.MethodName) prog_12_method_15_code (2 : Nat) (Option.some Jvm.ClassFile.FieldType.int)) ∈ lw_all := lw_g (lw_at lw_m10 118 rfl) rfl
theorem q2362 : (Jvm.Cond.methodLink "InkPrinteryModel" (119 : Nat) ({ cls := "InkPrinteryModel", name := "buys", desc := "(I)I" } : Jvm.MethodName)) ∈ lw_all := lw_g (lw_at lw_m10 119 rfl) rfl
theorem q2363 : (Jvm.Cond.privateMethod ({ cls := "InkPrinteryModel", name := "buys", desc := "(I)I" } : Jvm.MethodName)) ∈ lw_tbl := lw_at lw_m10 120 rfl
theorem q2364 : (Jvm.Cond.instanceMethod ({ cls := "InkPrinteryModel", name := "buys", desc := "(I)I" } : Jvm.MethodName)) ∈ lw_all := lw_g (lw_at lw_m10 121 rfl) rfl
theorem q2365 : (Jvm.Cond.code ({ cls := "InkPrinteryModel", name := "buys", desc := "(I)I" } : Jvm.MethodName) prog_12_method_16_code (2 : Nat) (Option.some Jvm.ClassFile.FieldType.int)) ∈ lw_all := lw_g (lw_at lw_m10 122 rfl) rfl
theorem q2367 : (Jvm.Cond.instanceMethod ({ cls := "InkPrinteryModel", name := "pass", desc := "(I)I" } : Jvm.MethodName)) ∈ lw_all := lw_g (lw_at lw_m10 124 rfl) rfl
theorem q2368 : (Jvm.Cond.selects "InkPrinteryModel" ({ cls := "InkPrinteryModel", name := "pass", desc := "(I)I" } : Jvm.MethodName) ({ cls := "InkPrinteryModel", name := "pass", desc := "(I)I" } : Jvm.MethodName)) ∈ lw_all := lw_g (lw_at lw_m10 125 rfl) rfl
theorem q2369 : (Jvm.Cond.code ({ cls := "InkPrinteryModel", name := "pass", desc := "(I)I" } : Jvm.MethodName) prog_12_method_19_code (2 : Nat) (Option.some Jvm.ClassFile.FieldType.int)) ∈ lw_all := lw_g (lw_at lw_m10 126 rfl) rfl
theorem q2370 : (Jvm.Cond.methodLink "InkPrinteryModel" (122 : Nat) ({ cls := "InkPrinteryModel", name := "passes", desc := "(I)I" } : Jvm.MethodName)) ∈ lw_all := lw_g (lw_at lw_m10 127 rfl) rfl
theorem q2371 : (Jvm.Cond.privateMethod ({ cls := "InkPrinteryModel", name := "passes", desc := "(I)I" } : Jvm.MethodName)) ∈ lw_tbl := lw_at lw_m10 128 rfl
theorem q2372 : (Jvm.Cond.instanceMethod ({ cls := "InkPrinteryModel", name := "passes", desc := "(I)I" } : Jvm.MethodName)) ∈ lw_all := lw_g (lw_at lw_m10 129 rfl) rfl
theorem q2373 : (Jvm.Cond.code ({ cls := "InkPrinteryModel", name := "passes", desc := "(I)I" } : Jvm.MethodName) prog_12_method_18_code (6 : Nat) (Option.some Jvm.ClassFile.FieldType.int)) ∈ lw_all := lw_g (lw_at lw_m10 130 rfl) rfl
theorem q2375 : (Jvm.Cond.instanceMethod ({ cls := "InkPrinteryModel", name := "ink", desc := "(I)I" } : Jvm.MethodName)) ∈ lw_all := lw_g (lw_at lw_m10 132 rfl) rfl
theorem q2376 : (Jvm.Cond.selects "InkPrinteryModel" ({ cls := "InkPrinteryModel", name := "ink", desc := "(I)I" } : Jvm.MethodName) ({ cls := "InkPrinteryModel", name := "ink", desc := "(I)I" } : Jvm.MethodName)) ∈ lw_all := lw_g (lw_at lw_m10 133 rfl) rfl
theorem q2377 : (Jvm.Cond.code ({ cls := "InkPrinteryModel", name := "ink", desc := "(I)I" } : Jvm.MethodName) prog_12_method_20_code (2 : Nat) (Option.some Jvm.ClassFile.FieldType.int)) ∈ lw_all := lw_g (lw_at lw_m10 134 rfl) rfl
theorem q2378 : (Jvm.Cond.methodLink "InkPrinteryModel" (125 : Nat) ({ cls := "InkPrinteryModel", name := "checked", desc := "(Z)I" } : Jvm.MethodName)) ∈ lw_all := lw_g (lw_at lw_m10 135 rfl) rfl
theorem q2379 : (Jvm.Cond.privateMethod ({ cls := "InkPrinteryModel", name := "checked", desc := "(Z)I" } : Jvm.MethodName)) ∈ lw_tbl := lw_at lw_m10 136 rfl
theorem q2380 : (Jvm.Cond.instanceMethod ({ cls := "InkPrinteryModel", name := "checked", desc := "(Z)I" } : Jvm.MethodName)) ∈ lw_all := lw_g (lw_at lw_m10 137 rfl) rfl
theorem q2381 : (Jvm.Cond.code ({ cls := "InkPrinteryModel", name := "checked", desc := "(Z)I" } : Jvm.MethodName) prog_12_method_10_code (2 : Nat) (Option.some Jvm.ClassFile.FieldType.int)) ∈ lw_all := lw_g (lw_at lw_m10 138 rfl) rfl
theorem q2383 : (Jvm.Cond.instanceMethod ({ cls := "InkPrinteryModel", name := "paper", desc := "()I" } : Jvm.MethodName)) ∈ lw_all := lw_g (lw_at lw_m10 140 rfl) rfl
theorem q2384 : (Jvm.Cond.selects "InkPrinteryModel" ({ cls := "InkPrinteryModel", name := "paper", desc := "()I" } : Jvm.MethodName) ({ cls := "InkPrinteryModel", name := "paper", desc := "()I" } : Jvm.MethodName)) ∈ lw_all := lw_g (lw_at lw_m10 141 rfl) rfl
theorem q2385 : (Jvm.Cond.code ({ cls := "InkPrinteryModel", name := "paper", desc := "()I" } : Jvm.MethodName) prog_12_method_21_code (1 : Nat) (Option.some Jvm.ClassFile.FieldType.int)) ∈ lw_all := lw_g (lw_at lw_m10 142 rfl) rfl
theorem q2386 : (Jvm.Cond.methodLink "InkPrinteryModel" (129 : Nat) ({ cls := "InkPrinteryModel", name := "plain", desc := "(I)I" } : Jvm.MethodName)) ∈ lw_all := lw_g (lw_at lw_m10 143 rfl) rfl
theorem q2387 : (Jvm.Cond.privateMethod ({ cls := "InkPrinteryModel", name := "plain", desc := "(I)I" } : Jvm.MethodName)) ∈ lw_tbl := lw_at lw_m10 144 rfl
theorem q2388 : (Jvm.Cond.instanceMethod ({ cls := "InkPrinteryModel", name := "plain", desc := "(I)I" } : Jvm.MethodName)) ∈ lw_all := lw_g (lw_at lw_m10 145 rfl) rfl
theorem q2389 : (Jvm.Cond.code ({ cls := "InkPrinteryModel", name := "plain", desc := "(I)I" } : Jvm.MethodName) prog_12_method_9_code (2 : Nat) (Option.some Jvm.ClassFile.FieldType.int)) ∈ lw_all := lw_g (lw_at lw_m10 146 rfl) rfl
theorem q2391 : (Jvm.Cond.instanceMethod ({ cls := "InkPrinteryModel", name := "hour", desc := "()I" } : Jvm.MethodName)) ∈ lw_all := lw_g (lw_at lw_m10 148 rfl) rfl
theorem q2392 : (Jvm.Cond.selects "InkPrinteryModel" ({ cls := "InkPrinteryModel", name := "hour", desc := "()I" } : Jvm.MethodName) ({ cls := "InkPrinteryModel", name := "hour", desc := "()I" } : Jvm.MethodName)) ∈ lw_all := lw_g (lw_at lw_m10 149 rfl) rfl
theorem q2393 : (Jvm.Cond.code ({ cls := "InkPrinteryModel", name := "hour", desc := "()I" } : Jvm.MethodName) prog_12_method_22_code (1 : Nat) (Option.some Jvm.ClassFile.FieldType.int)) ∈ lw_all := lw_g (lw_at lw_m10 150 rfl) rfl
theorem q2395 : (Jvm.Cond.instanceMethod ({ cls := "InkPrinteryModel", name := "inkAfter", desc := "(II)I" } : Jvm.MethodName)) ∈ lw_all := lw_g (lw_at lw_m10 152 rfl) rfl
theorem q2396 : (Jvm.Cond.selects "InkPrinteryModel" ({ cls := "InkPrinteryModel", name := "inkAfter", desc := "(II)I" } : Jvm.MethodName) ({ cls := "InkPrinteryModel", name := "inkAfter", desc := "(II)I" } : Jvm.MethodName)) ∈ lw_all := lw_g (lw_at lw_m10 153 rfl) rfl
theorem q2397 : (Jvm.Cond.code ({ cls := "InkPrinteryModel", name := "inkAfter", desc := "(II)I" } : Jvm.MethodName) prog_12_method_25_code (3 : Nat) (Option.some Jvm.ClassFile.FieldType.int)) ∈ lw_all := lw_g (lw_at lw_m10 154 rfl) rfl
theorem q2398 : (Jvm.Cond.methodLink "InkPrinteryModel" (135 : Nat) ({ cls := "InkPrinteryModel", name := "after", desc := "(II)I" } : Jvm.MethodName)) ∈ lw_all := lw_g (lw_at lw_m10 155 rfl) rfl
theorem q2399 : (Jvm.Cond.privateMethod ({ cls := "InkPrinteryModel", name := "after", desc := "(II)I" } : Jvm.MethodName)) ∈ lw_tbl := lw_at lw_m10 156 rfl
theorem q2400 : (Jvm.Cond.instanceMethod ({ cls := "InkPrinteryModel", name := "after", desc := "(II)I" } : Jvm.MethodName)) ∈ lw_all := lw_g (lw_at lw_m10 157 rfl) rfl
theorem q2401 : (Jvm.Cond.code ({ cls := "InkPrinteryModel", name := "after", desc := "(II)I" } : Jvm.MethodName) prog_12_method_24_code (3 : Nat) (Option.some Jvm.ClassFile.FieldType.int)) ∈ lw_all := lw_g (lw_at lw_m10 158 rfl) rfl
theorem q2402 : (Jvm.Cond.methodLink "InkPrinteryModel" (132 : Nat) ({ cls := "InkPrinteryModel", name := "leftAfter", desc := "(II)I" } : Jvm.MethodName)) ∈ lw_all := lw_g (lw_at lw_m10 159 rfl) rfl
theorem q2403 : (Jvm.Cond.privateMethod ({ cls := "InkPrinteryModel", name := "leftAfter", desc := "(II)I" } : Jvm.MethodName)) ∈ lw_tbl := lw_at lw_m10 160 rfl
theorem q2404 : (Jvm.Cond.instanceMethod ({ cls := "InkPrinteryModel", name := "leftAfter", desc := "(II)I" } : Jvm.MethodName)) ∈ lw_all := lw_g (lw_at lw_m10 161 rfl) rfl
theorem q2405 : (Jvm.Cond.code ({ cls := "InkPrinteryModel", name := "leftAfter", desc := "(II)I" } : Jvm.MethodName) prog_12_method_23_code (5 : Nat) (Option.some Jvm.ClassFile.FieldType.int)) ∈ lw_all := lw_g (lw_at lw_m10 162 rfl) rfl
theorem q2407 : (Jvm.Cond.instanceMethod ({ cls := "InkPrinteryModel", name := "inkByHalvings", desc := "(II)I" } : Jvm.MethodName)) ∈ lw_all := lw_g (lw_at lw_m10 164 rfl) rfl
theorem q2408 : (Jvm.Cond.selects "InkPrinteryModel" ({ cls := "InkPrinteryModel", name := "inkByHalvings", desc := "(II)I" } : Jvm.MethodName) ({ cls := "InkPrinteryModel", name := "inkByHalvings", desc := "(II)I" } : Jvm.MethodName)) ∈ lw_all := lw_g (lw_at lw_m10 165 rfl) rfl
theorem q2409 : (Jvm.Cond.code ({ cls := "InkPrinteryModel", name := "inkByHalvings", desc := "(II)I" } : Jvm.MethodName) prog_12_method_26_code (3 : Nat) (Option.some Jvm.ClassFile.FieldType.int)) ∈ lw_all := lw_g (lw_at lw_m10 166 rfl) rfl
theorem q2411 : (Jvm.Cond.instanceMethod ({ cls := "InkPrinteryModel", name := "hoursUntilLess", desc := "(II)I" } : Jvm.MethodName)) ∈ lw_all := lw_g (lw_at lw_m10 168 rfl) rfl
theorem q2412 : (Jvm.Cond.selects "InkPrinteryModel" ({ cls := "InkPrinteryModel", name := "hoursUntilLess", desc := "(II)I" } : Jvm.MethodName) ({ cls := "InkPrinteryModel", name := "hoursUntilLess", desc := "(II)I" } : Jvm.MethodName)) ∈ lw_all := lw_g (lw_at lw_m10 169 rfl) rfl
theorem q2413 : (Jvm.Cond.code ({ cls := "InkPrinteryModel", name := "hoursUntilLess", desc := "(II)I" } : Jvm.MethodName) prog_12_method_27_code (4 : Nat) (Option.some Jvm.ClassFile.FieldType.int)) ∈ lw_all := lw_g (lw_at lw_m10 170 rfl) rfl
theorem q2415 : (Jvm.Cond.instanceMethod ({ cls := "InkPrinteryModel", name := "addEdition", desc := "(II)I" } : Jvm.MethodName)) ∈ lw_all := lw_g (lw_at lw_m10 172 rfl) rfl
theorem q2416 : (Jvm.Cond.selects "InkPrinteryModel" ({ cls := "InkPrinteryModel", name := "addEdition", desc := "(II)I" } : Jvm.MethodName) ({ cls := "InkPrinteryModel", name := "addEdition", desc := "(II)I" } : Jvm.MethodName)) ∈ lw_all := lw_g (lw_at lw_m10 173 rfl) rfl
theorem q2417 : (Jvm.Cond.code ({ cls := "InkPrinteryModel", name := "addEdition", desc := "(II)I" } : Jvm.MethodName) prog_12_method_33_code (4 : Nat) (Option.some Jvm.ClassFile.FieldType.int)) ∈ lw_all := lw_g (lw_at lw_m10 174 rfl) rfl
theorem q2418 : (Jvm.Cond.methodLink "InkPrinteryModel" (141 : Nat) ({ cls := "InkPrinteryModel", name := "cannotAdd", desc := "(II)I" } : Jvm.MethodName)) ∈ lw_all := lw_g (lw_at lw_m10 175 rfl) rfl
theorem q2419 : (Jvm.Cond.privateMethod ({ cls := "InkPrinteryModel", name := "cannotAdd", desc := "(II)I" } : Jvm.MethodName)) ∈ lw_tbl := lw_at lw_m10 176 rfl
theorem q2420 : (Jvm.Cond.instanceMethod ({ cls := "InkPrinteryModel", name := "cannotAdd", desc := "(II)I" } : Jvm.MethodName)) ∈ lw_all := lw_g (lw_at lw_m10 177 rfl) rfl
theorem q2421 : (Jvm.Cond.code ({ cls := "InkPrinteryModel", name := "cannotAdd", desc := "(II)I" } : Jvm.MethodName) prog_12_method_31_code (3 : Nat) (Option.some Jvm.ClassFile.FieldType.int)) ∈ lw_all := lw_g (lw_at lw_m10 178 rfl) rfl
theorem q2422 : (Jvm.Cond.methodLink "InkPrinteryModel" (144 : Nat) ({ cls := "InkPrinteryModel", name := "adds", desc := "(II)I" } : Jvm.MethodName)) ∈ lw_all := lw_g (lw_at lw_m10 179 rfl) rfl
theorem q2423 : (Jvm.Cond.privateMethod ({ cls := "InkPrinteryModel", name := "adds", desc := "(II)I" } : Jvm.MethodName)) ∈ lw_tbl := lw_at lw_m10 180 rfl
theorem q2424 : (Jvm.Cond.instanceMethod ({ cls := "InkPrinteryModel", name := "adds", desc := "(II)I" } : Jvm.MethodName)) ∈ lw_all := lw_g (lw_at lw_m10 181 rfl) rfl
theorem q2425 : (Jvm.Cond.code ({ cls := "InkPrinteryModel", name := "adds", desc := "(II)I" } : Jvm.MethodName) prog_12_method_32_code (4 : Nat) (Option.some Jvm.ClassFile.FieldType.int)) ∈ lw_all := lw_g (lw_at lw_m10 182 rfl) rfl
theorem q2427 : (Jvm.Cond.instanceMethod ({ cls := "InkPrinteryModel", name := "removeEdition", desc := "(I)I" } : Jvm.MethodName)) ∈ lw_all := lw_g (lw_at lw_m10 184 rfl) rfl
theorem q2428 : (Jvm.Cond.selects "InkPrinteryModel" ({ cls := "InkPrinteryModel", name := "removeEdition", desc := "(I)I" } : Jvm.MethodName) ({ cls := "InkPrinteryModel", name := "removeEdition", desc := "(I)I" } : Jvm.MethodName)) ∈ lw_all := lw_g (lw_at lw_m10 185 rfl) rfl
theorem q2429 : (Jvm.Cond.code ({ cls := "InkPrinteryModel", name := "removeEdition", desc := "(I)I" } : Jvm.MethodName) prog_12_method_35_code (2 : Nat) (Option.some Jvm.ClassFile.FieldType.int)) ∈ lw_all := lw_g (lw_at lw_m10 186 rfl) rfl
theorem q2430 : (Jvm.Cond.methodLink "InkPrinteryModel" (147 : Nat) ({ cls := "InkPrinteryModel", name := "isEdition", desc := "(I)Z" } : Jvm.MethodName)) ∈ lw_all := lw_g (lw_at lw_m10 187 rfl) rfl
theorem q2431 : (Jvm.Cond.privateMethod ({ cls := "InkPrinteryModel", name := "isEdition", desc := "(I)Z" } : Jvm.MethodName)) ∈ lw_tbl := lw_at lw_m10 188 rfl
theorem q2432 : (Jvm.Cond.instanceMethod ({ cls := "InkPrinteryModel", name := "isEdition", desc := "(I)Z" } : Jvm.MethodName)) ∈ lw_all := lw_g (lw_at lw_m10 189 rfl) rfl
theorem q2433 : (Jvm.Cond.code ({ cls := "InkPrinteryModel", name := "isEdition", desc := "(I)Z" } : Jvm.MethodName) prog_12_method_29_code (2 : Nat) (Option.some Jvm.ClassFile.FieldType.boolean)) ∈ lw_all := lw_g (lw_at lw_m10 190 rfl) rfl
theorem q2434 : (Jvm.Cond.methodLink "InkPrinteryModel" (150 : Nat) ({ cls := "InkPrinteryModel", name := "removes", desc := "(I)I" } : Jvm.MethodName)) ∈ lw_all := lw_g (lw_at lw_m10 191 rfl) rfl
theorem q2435 : (Jvm.Cond.privateMethod ({ cls := "InkPrinteryModel", name := "removes", desc := "(I)I" } : Jvm.MethodName)) ∈ lw_tbl := lw_at lw_m10 192 rfl
theorem q2436 : (Jvm.Cond.instanceMethod ({ cls := "InkPrinteryModel", name := "removes", desc := "(I)I" } : Jvm.MethodName)) ∈ lw_all := lw_g (lw_at lw_m10 193 rfl) rfl
theorem q2437 : (Jvm.Cond.code ({ cls := "InkPrinteryModel", name := "removes", desc := "(I)I" } : Jvm.MethodName) prog_12_method_34_code (3 : Nat) (Option.some Jvm.ClassFile.FieldType.int)) ∈ lw_all := lw_g (lw_at lw_m10 194 rfl) rfl
theorem q2439 : (Jvm.Cond.instanceMethod ({ cls := "InkPrinteryModel", name := "print", desc := "(I)I" } : Jvm.MethodName)) ∈ lw_all := lw_g (lw_at lw_m10 196 rfl) rfl
theorem q2440 : (Jvm.Cond.selects "InkPrinteryModel" ({ cls := "InkPrinteryModel", name := "print", desc := "(I)I" } : Jvm.MethodName) ({ cls := "InkPrinteryModel", name := "print", desc := "(I)I" } : Jvm.MethodName)) ∈ lw_all := lw_g (lw_at lw_m10 197 rfl) rfl
theorem q2441 : (Jvm.Cond.code ({ cls := "InkPrinteryModel", name := "print", desc := "(I)I" } : Jvm.MethodName) prog_12_method_41_code (3 : Nat) (Option.some Jvm.ClassFile.FieldType.int)) ∈ lw_all := lw_g (lw_at lw_m10 198 rfl) rfl
theorem q2442 : (Jvm.Cond.methodLink "InkPrinteryModel" (168 : Nat) ({ cls := "InkPrinteryModel", name := "cannotPrint", desc := "(I)I" } : Jvm.MethodName)) ∈ lw_all := lw_g (lw_at lw_m10 199 rfl) rfl
theorem q2443 : (Jvm.Cond.privateMethod ({ cls := "InkPrinteryModel", name := "cannotPrint", desc := "(I)I" } : Jvm.MethodName)) ∈ lw_tbl := lw_at lw_m10 200 rfl
theorem q2444 : (Jvm.Cond.instanceMethod ({ cls := "InkPrinteryModel", name := "cannotPrint", desc := "(I)I" } : Jvm.MethodName)) ∈ lw_all := lw_g (lw_at lw_m10 201 rfl) rfl
theorem q2445 : (Jvm.Cond.code ({ cls := "InkPrinteryModel", name := "cannotPrint", desc := "(I)I" } : Jvm.MethodName) prog_12_method_39_code (2 : Nat) (Option.some Jvm.ClassFile.FieldType.int)) ∈ lw_all := lw_g (lw_at lw_m10 202 rfl) rfl
theorem q2446 : (Jvm.Cond.methodLink "InkPrinteryModel" (156 : Nat) ({ cls := "InkPrinteryModel", name := "missing", desc := "(I)I" } : Jvm.MethodName)) ∈ lw_all := lw_g (lw_at lw_m10 203 rfl) rfl
theorem q2447 : (Jvm.Cond.privateMethod ({ cls := "InkPrinteryModel", name := "missing", desc := "(I)I" } : Jvm.MethodName)) ∈ lw_tbl := lw_at lw_m10 204 rfl
theorem q2448 : (Jvm.Cond.instanceMethod ({ cls := "InkPrinteryModel", name := "missing", desc := "(I)I" } : Jvm.MethodName)) ∈ lw_all := lw_g (lw_at lw_m10 205 rfl) rfl
theorem q2449 : (Jvm.Cond.code ({ cls := "InkPrinteryModel", name := "missing", desc := "(I)I" } : Jvm.MethodName) prog_12_method_30_code (2 : Nat) (Option.some Jvm.ClassFile.FieldType.int)) ∈ lw_all := lw_g (lw_at lw_m10 206 rfl) rfl
theorem q2450 : (Jvm.Cond.methodLink "InkPrinteryModel" (138 : Nat) ({ cls := "InkPrinteryModel", name := "e", desc := "(II)I" } : Jvm.MethodName)) ∈ lw_all := lw_g (lw_at lw_m10 207 rfl) rfl
theorem q2451 : (Jvm.Cond.privateMethod ({ cls := "InkPrinteryModel", name := "e", desc := "(II)I" } : Jvm.MethodName)) ∈ lw_tbl := lw_at lw_m10 208 rfl
theorem q2452 : (Jvm.Cond.instanceMethod ({ cls := "InkPrinteryModel", name := "e", desc := "(II)I" } : Jvm.MethodName)) ∈ lw_all := lw_g (lw_at lw_m10 209 rfl) rfl
theorem q2453 : (Jvm.Cond.code ({ cls := "InkPrinteryModel", name := "e", desc := "(II)I" } : Jvm.MethodName) prog_12_method_28_code (3 : Nat) (Option.some Jvm.ClassFile.FieldType.int)) ∈ lw_all := lw_g (lw_at lw_m10 210 rfl) rfl
theorem q2454 : (Jvm.Cond.methodLink "InkPrinteryModel" (159 : Nat) ({ cls := "InkPrinteryModel", name := "ofWell", desc := "(I)I" } : Jvm.MethodName)) ∈ lw_all := lw_g (lw_at lw_m10 211 rfl) rfl
theorem q2455 : (Jvm.Cond.privateMethod ({ cls := "InkPrinteryModel", name := "ofWell", desc := "(I)I" } : Jvm.MethodName)) ∈ lw_tbl := lw_at lw_m10 212 rfl
theorem q2456 : (Jvm.Cond.instanceMethod ({ cls := "InkPrinteryModel", name := "ofWell", desc := "(I)I" } : Jvm.MethodName)) ∈ lw_all := lw_g (lw_at lw_m10 213 rfl) rfl
theorem q2457 : (Jvm.Cond.code ({ cls := "InkPrinteryModel", name := "ofWell", desc := "(I)I" } : Jvm.MethodName) prog_12_method_37_code (2 : Nat) (Option.some Jvm.ClassFile.FieldType.int)) ∈ lw_all := lw_g (lw_at lw_m10 214 rfl) rfl
theorem q2458 : (Jvm.Cond.methodLink "InkPrinteryModel" (171 : Nat) ({ cls := "InkPrinteryModel", name := "printsOne", desc := "(I)I" } : Jvm.MethodName)) ∈ lw_all := lw_g (lw_at lw_m10 215 rfl) rfl
theorem q2459 : (Jvm.Cond.privateMethod ({ cls := "InkPrinteryModel", name := "printsOne", desc := "(I)I" } : Jvm.MethodName)) ∈ lw_tbl := lw_at lw_m10 216 rfl
theorem q2460 : (Jvm.Cond.instanceMethod ({ cls := "InkPrinteryModel", name := "printsOne", desc := "(I)I" } : Jvm.MethodName)) ∈ lw_all := lw_g (lw_at lw_m10 217 rfl) rfl
theorem q2461 : (Jvm.Cond.code ({ cls := "InkPrinteryModel", name := "printsOne", desc := "(I)I" } : Jvm.MethodName) prog_12_method_40_code (2 : Nat) (Option.some Jvm.ClassFile.FieldType.int)) ∈ lw_all := lw_g (lw_at lw_m10 218 rfl) rfl
theorem q2462 : (Jvm.Cond.methodLink "InkPrinteryModel" (162 : Nat) ({ cls := "InkPrinteryModel", name := "less", desc := "(II)I" } : Jvm.MethodName)) ∈ lw_all := lw_g (lw_at lw_m10 219 rfl) rfl
theorem q2463 : (Jvm.Cond.static ({ cls := "InkPrinteryModel", name := "less", desc := "(II)I" } : Jvm.MethodName)) ∈ lw_all := lw_g (lw_at lw_m10 220 rfl) rfl
theorem q2464 : (Jvm.Cond.code ({ cls := "InkPrinteryModel", name := "less", desc := "(II)I" } : Jvm.MethodName) prog_12_method_4_code (2 : Nat) (Option.some Jvm.ClassFile.FieldType.int)) ∈ lw_all := lw_g (lw_at lw_m10 221 rfl) rfl
theorem q2465 : (Jvm.Cond.methodLink "InkPrinteryModel" (165 : Nat) ({ cls := "InkPrinteryModel", name := "prints", desc := "(II)I" } : Jvm.MethodName)) ∈ lw_all := lw_g (lw_at lw_m10 222 rfl) rfl
theorem q2466 : (Jvm.Cond.privateMethod ({ cls := "InkPrinteryModel", name := "prints", desc := "(II)I" } : Jvm.MethodName)) ∈ lw_tbl := lw_at lw_m10 223 rfl
theorem q2467 : (Jvm.Cond.instanceMethod ({ cls := "InkPrinteryModel", name := "prints", desc := "(II)I" } : Jvm.MethodName)) ∈ lw_all := lw_g (lw_at lw_m10 224 rfl) rfl
theorem q2468 : (Jvm.Cond.code ({ cls := "InkPrinteryModel", name := "prints", desc := "(II)I" } : Jvm.MethodName) prog_12_method_38_code (4 : Nat) (Option.some Jvm.ClassFile.FieldType.int)) ∈ lw_all := lw_g (lw_at lw_m10 225 rfl) rfl
theorem q2469 : (Jvm.Cond.methodLink "InkPrinteryModel" (153 : Nat) ({ cls := "InkPrinteryModel", name := "change", desc := "(II)I" } : Jvm.MethodName)) ∈ lw_all := lw_g (lw_at lw_m10 226 rfl) rfl
theorem q2470 : (Jvm.Cond.static ({ cls := "InkPrinteryModel", name := "change", desc := "(II)I" } : Jvm.MethodName)) ∈ lw_all := lw_g (lw_at lw_m10 227 rfl) rfl
theorem q2471 : (Jvm.Cond.code ({ cls := "InkPrinteryModel", name := "change", desc := "(II)I" } : Jvm.MethodName) prog_12_method_36_code (2 : Nat) (Option.some Jvm.ClassFile.FieldType.int)) ∈ lw_all := lw_g (lw_at lw_m10 228 rfl) rfl
theorem q2473 : (Jvm.Cond.instanceMethod ({ cls := "InkPrinteryModel", name := "changeMinutes", desc := "(II)I" } : Jvm.MethodName)) ∈ lw_all := lw_g (lw_at lw_m10 230 rfl) rfl
theorem q2474 : (Jvm.Cond.selects "InkPrinteryModel" ({ cls := "InkPrinteryModel", name := "changeMinutes", desc := "(II)I" } : Jvm.MethodName) ({ cls := "InkPrinteryModel", name := "changeMinutes", desc := "(II)I" } : Jvm.MethodName)) ∈ lw_all := lw_g (lw_at lw_m10 231 rfl) rfl
theorem q2475 : (Jvm.Cond.code ({ cls := "InkPrinteryModel", name := "changeMinutes", desc := "(II)I" } : Jvm.MethodName) prog_12_method_48_code (3 : Nat) (Option.some Jvm.ClassFile.FieldType.int)) ∈ lw_all := lw_g (lw_at lw_m10 232 rfl) rfl
theorem q2477 : (Jvm.Cond.instanceMethod ({ cls := "InkPrinteryModel", name := "pressColour", desc := "()I" } : Jvm.MethodName)) ∈ lw_all := lw_g (lw_at lw_m10 234 rfl) rfl
theorem q2478 : (Jvm.Cond.selects "InkPrinteryModel" ({ cls := "InkPrinteryModel", name := "pressColour", desc := "()I" } : Jvm.MethodName) ({ cls := "InkPrinteryModel", name := "pressColour", desc := "()I" } : Jvm.MethodName)) ∈ lw_all := lw_g (lw_at lw_m10 235 rfl) rfl
theorem q2479 : (Jvm.Cond.code ({ cls := "InkPrinteryModel", name := "pressColour", desc := "()I" } : Jvm.MethodName) prog_12_method_49_code (1 : Nat) (Option.some Jvm.ClassFile.FieldType.int)) ∈ lw_all := lw_g (lw_at lw_m10 236 rfl) rfl
theorem q2481 : (Jvm.Cond.instanceMethod ({ cls := "InkPrinteryModel", name := "fewestMinutes", desc := "()I" } : Jvm.MethodName)) ∈ lw_all := lw_g (lw_at lw_m10 238 rfl) rfl
theorem q2482 : (Jvm.Cond.selects "InkPrinteryModel" ({ cls := "InkPrinteryModel", name := "fewestMinutes", desc := "()I" } : Jvm.MethodName) ({ cls := "InkPrinteryModel", name := "fewestMinutes", desc := "()I" } : Jvm.MethodName)) ∈ lw_all := lw_g (lw_at lw_m10 239 rfl) rfl
theorem q2483 : (Jvm.Cond.code ({ cls := "InkPrinteryModel", name := "fewestMinutes", desc := "()I" } : Jvm.MethodName) prog_12_method_50_code (1 : Nat) (Option.some Jvm.ClassFile.FieldType.int)) ∈ lw_all := lw_g (lw_at lw_m11 0 rfl) rfl
theorem q2484 : (Jvm.Cond.methodLink "InkPrinteryModel" (189 : Nat) ({ cls := "InkPrinteryModel", name := "minutesOfBest", desc := "()I" } : Jvm.MethodName)) ∈ lw_all := lw_g (lw_at lw_m11 1 rfl) rfl
theorem q2485 : (Jvm.Cond.privateMethod ({ cls := "InkPrinteryModel", name := "minutesOfBest", desc := "()I" } : Jvm.MethodName)) ∈ lw_tbl := lw_at lw_m11 2 rfl
theorem q2486 : (Jvm.Cond.instanceMethod ({ cls := "InkPrinteryModel", name := "minutesOfBest", desc := "()I" } : Jvm.MethodName)) ∈ lw_all := lw_g (lw_at lw_m11 3 rfl) rfl
theorem q2487 : (Jvm.Cond.code ({ cls := "InkPrinteryModel", name := "minutesOfBest", desc := "()I" } : Jvm.MethodName) prog_12_method_47_code (1 : Nat) (Option.some Jvm.ClassFile.FieldType.int)) ∈ lw_all := lw_g (lw_at lw_m11 4 rfl) rfl
theorem q2488 : (Jvm.Cond.methodLink "InkPrinteryModel" (182 : Nat) ({ cls := "InkPrinteryModel", name := "lay", desc := "()V" } : Jvm.MethodName)) ∈ lw_all := lw_g (lw_at lw_m11 5 rfl) rfl
theorem q2489 : (Jvm.Cond.privateMethod ({ cls := "InkPrinteryModel", name := "lay", desc := "()V" } : Jvm.MethodName)) ∈ lw_tbl := lw_at lw_m11 6 rfl
theorem q2490 : (Jvm.Cond.instanceMethod ({ cls := "InkPrinteryModel", name := "lay", desc := "()V" } : Jvm.MethodName)) ∈ lw_all := lw_g (lw_at lw_m11 7 rfl) rfl
theorem q2491 : (Jvm.Cond.code ({ cls := "InkPrinteryModel", name := "lay", desc := "()V" } : Jvm.MethodName) prog_12_method_45_code (5 : Nat) (Option.none : Option Jvm.ClassFile.FieldType)) ∈ lw_all := lw_g (lw_at lw_m11 8 rfl) rfl
theorem q2492 : (Jvm.Cond.constant "InkPrinteryModel" (177 : Nat) (1000000 : Int32)) ∈ lw_all := lw_g (lw_at lw_m11 9 rfl) rfl
theorem q2493 : (Jvm.Cond.methodLink "InkPrinteryModel" (178 : Nat) ({ cls := "InkPrinteryModel", name := "with", desc := "(III)I" } : Jvm.MethodName)) ∈ lw_all := lw_g (lw_at lw_m11 10 rfl) rfl
theorem q2494 : (Jvm.Cond.privateMethod ({ cls := "InkPrinteryModel", name := "with", desc := "(III)I" } : Jvm.MethodName)) ∈ lw_tbl := lw_at lw_m11 11 rfl
theorem q2495 : (Jvm.Cond.instanceMethod ({ cls := "InkPrinteryModel", name := "with", desc := "(III)I" } : Jvm.MethodName)) ∈ lw_all := lw_g (lw_at lw_m11 12 rfl) rfl
theorem q2496 : (Jvm.Cond.code ({ cls := "InkPrinteryModel", name := "with", desc := "(III)I" } : Jvm.MethodName) prog_12_method_44_code (4 : Nat) (Option.some Jvm.ClassFile.FieldType.int)) ∈ lw_all := lw_g (lw_at lw_m11 13 rfl) rfl
theorem q2497 : (Jvm.Cond.methodLink "InkPrinteryModel" (174 : Nat) ({ cls := "InkPrinteryModel", name := "changeTo", desc := "(II)I" } : Jvm.MethodName)) ∈ lw_all := lw_g (lw_at lw_m11 14 rfl) rfl
theorem q2498 : (Jvm.Cond.privateMethod ({ cls := "InkPrinteryModel", name := "changeTo", desc := "(II)I" } : Jvm.MethodName)) ∈ lw_tbl := lw_at lw_m11 15 rfl
theorem q2499 : (Jvm.Cond.instanceMethod ({ cls := "InkPrinteryModel", name := "changeTo", desc := "(II)I" } : Jvm.MethodName)) ∈ lw_all := lw_g (lw_at lw_m11 16 rfl) rfl
theorem q2500 : (Jvm.Cond.code ({ cls := "InkPrinteryModel", name := "changeTo", desc := "(II)I" } : Jvm.MethodName) prog_12_method_43_code (3 : Nat) (Option.some Jvm.ClassFile.FieldType.int)) ∈ lw_all := lw_g (lw_at lw_m11 17 rfl) rfl
theorem q2501 : (Jvm.Cond.methodLink "InkPrinteryModel" (185 : Nat) ({ cls := "InkPrinteryModel", name := "open", desc := "()I" } : Jvm.MethodName)) ∈ lw_all := lw_g (lw_at lw_m11 18 rfl) rfl
theorem q2502 : (Jvm.Cond.privateMethod ({ cls := "InkPrinteryModel", name := "open", desc := "()I" } : Jvm.MethodName)) ∈ lw_tbl := lw_at lw_m11 19 rfl
theorem q2503 : (Jvm.Cond.instanceMethod ({ cls := "InkPrinteryModel", name := "open", desc := "()I" } : Jvm.MethodName)) ∈ lw_all := lw_g (lw_at lw_m11 20 rfl) rfl
theorem q2504 : (Jvm.Cond.code ({ cls := "InkPrinteryModel", name := "open", desc := "()I" } : Jvm.MethodName) prog_12_method_42_code (3 : Nat) (Option.some Jvm.ClassFile.FieldType.int)) ∈ lw_all := lw_g (lw_at lw_m11 21 rfl) rfl
theorem q2506 : (Jvm.Cond.instanceMethod ({ cls := "InkPrinteryModel", name := "minutesByOrders", desc := "()I" } : Jvm.MethodName)) ∈ lw_all := lw_g (lw_at lw_m11 23 rfl) rfl
theorem q2507 : (Jvm.Cond.selects "InkPrinteryModel" ({ cls := "InkPrinteryModel", name := "minutesByOrders", desc := "()I" } : Jvm.MethodName) ({ cls := "InkPrinteryModel", name := "minutesByOrders", desc := "()I" } : Jvm.MethodName)) ∈ lw_all := lw_g (lw_at lw_m11 24 rfl) rfl
theorem q2508 : (Jvm.Cond.code ({ cls := "InkPrinteryModel", name := "minutesByOrders", desc := "()I" } : Jvm.MethodName) prog_12_method_51_code (1 : Nat) (Option.some Jvm.ClassFile.FieldType.int)) ∈ lw_all := lw_g (lw_at lw_m11 25 rfl) rfl
theorem q2510 : (Jvm.Cond.instanceMethod ({ cls := "InkPrinteryModel", name := "editionAt", desc := "(I)I" } : Jvm.MethodName)) ∈ lw_all := lw_g (lw_at lw_m11 27 rfl) rfl
theorem q2511 : (Jvm.Cond.selects "InkPrinteryModel" ({ cls := "InkPrinteryModel", name := "editionAt", desc := "(I)I" } : Jvm.MethodName) ({ cls := "InkPrinteryModel", name := "editionAt", desc := "(I)I" } : Jvm.MethodName)) ∈ lw_all := lw_g (lw_at lw_m11 28 rfl) rfl
theorem q2512 : (Jvm.Cond.code ({ cls := "InkPrinteryModel", name := "editionAt", desc := "(I)I" } : Jvm.MethodName) prog_12_method_52_code (3 : Nat) (Option.some Jvm.ClassFile.FieldType.int)) ∈ lw_all := lw_g (lw_at lw_m11 29 rfl) rfl
theorem q2513 : (Jvm.Cond.methodLink "InkPrinteryModel" (192 : Nat) ({ cls := "InkPrinteryModel", name := "laysOrder", desc := "()I" } : Jvm.MethodName)) ∈ lw_all := lw_g (lw_at lw_m11 30 rfl) rfl
theorem q2514 : (Jvm.Cond.privateMethod ({ cls := "InkPrinteryModel", name := "laysOrder", desc := "()I" } : Jvm.MethodName)) ∈ lw_tbl := lw_at lw_m11 31 rfl
theorem q2515 : (Jvm.Cond.instanceMethod ({ cls := "InkPrinteryModel", name := "laysOrder", desc := "()I" } : Jvm.MethodName)) ∈ lw_all := lw_g (lw_at lw_m11 32 rfl) rfl
theorem q2516 : (Jvm.Cond.code ({ cls := "InkPrinteryModel", name := "laysOrder", desc := "()I" } : Jvm.MethodName) prog_12_method_46_code (5 : Nat) (Option.some Jvm.ClassFile.FieldType.int)) ∈ lw_all := lw_g (lw_at lw_m11 33 rfl) rfl
theorem q2518 : (Jvm.Cond.instanceMethod ({ cls := "InkPrinteryModel", name := "shareOf", desc := "(I)I" } : Jvm.MethodName)) ∈ lw_all := lw_g (lw_at lw_m11 35 rfl) rfl
theorem q2519 : (Jvm.Cond.selects "InkPrinteryModel" ({ cls := "InkPrinteryModel", name := "shareOf", desc := "(I)I" } : Jvm.MethodName) ({ cls := "InkPrinteryModel", name := "shareOf", desc := "(I)I" } : Jvm.MethodName)) ∈ lw_all := lw_g (lw_at lw_m11 36 rfl) rfl
theorem q2520 : (Jvm.Cond.code ({ cls := "InkPrinteryModel", name := "shareOf", desc := "(I)I" } : Jvm.MethodName) prog_12_method_56_code (2 : Nat) (Option.some Jvm.ClassFile.FieldType.int)) ∈ lw_all := lw_g (lw_at lw_m11 37 rfl) rfl
theorem q2521 : (Jvm.Cond.methodLink "InkPrinteryModel" (201 : Nat) ({ cls := "InkPrinteryModel", name := "sharing", desc := "(I)I" } : Jvm.MethodName)) ∈ lw_all := lw_g (lw_at lw_m11 38 rfl) rfl
theorem q2522 : (Jvm.Cond.privateMethod ({ cls := "InkPrinteryModel", name := "sharing", desc := "(I)I" } : Jvm.MethodName)) ∈ lw_tbl := lw_at lw_m11 39 rfl
theorem q2523 : (Jvm.Cond.instanceMethod ({ cls := "InkPrinteryModel", name := "sharing", desc := "(I)I" } : Jvm.MethodName)) ∈ lw_all := lw_g (lw_at lw_m11 40 rfl) rfl
theorem q2524 : (Jvm.Cond.code ({ cls := "InkPrinteryModel", name := "sharing", desc := "(I)I" } : Jvm.MethodName) prog_12_method_55_code (2 : Nat) (Option.some Jvm.ClassFile.FieldType.int)) ∈ lw_all := lw_g (lw_at lw_m11 41 rfl) rfl
theorem q2525 : (Jvm.Cond.methodLink "InkPrinteryModel" (198 : Nat) ({ cls := "InkPrinteryModel", name := "share", desc := "()V" } : Jvm.MethodName)) ∈ lw_all := lw_g (lw_at lw_m11 42 rfl) rfl
theorem q2526 : (Jvm.Cond.privateMethod ({ cls := "InkPrinteryModel", name := "share", desc := "()V" } : Jvm.MethodName)) ∈ lw_tbl := lw_at lw_m11 43 rfl
theorem q2527 : (Jvm.Cond.instanceMethod ({ cls := "InkPrinteryModel", name := "share", desc := "()V" } : Jvm.MethodName)) ∈ lw_all := lw_g (lw_at lw_m11 44 rfl) rfl
theorem q2528 : (Jvm.Cond.code ({ cls := "InkPrinteryModel", name := "share", desc := "()V" } : Jvm.MethodName) prog_12_method_54_code (2 : Nat) (Option.none : Option Jvm.ClassFile.FieldType)) ∈ lw_all := lw_g (lw_at lw_m11 45 rfl) rfl
theorem q2529 : (Jvm.Cond.methodLink "InkPrinteryModel" (195 : Nat) ({ cls := "InkPrinteryModel", name := "nextShare", desc := "()I" } : Jvm.MethodName)) ∈ lw_all := lw_g (lw_at lw_m11 46 rfl) rfl
theorem q2530 : (Jvm.Cond.privateMethod ({ cls := "InkPrinteryModel", name := "nextShare", desc := "()I" } : Jvm.MethodName)) ∈ lw_tbl := lw_at lw_m11 47 rfl
theorem q2531 : (Jvm.Cond.instanceMethod ({ cls := "InkPrinteryModel", name := "nextShare", desc := "()I" } : Jvm.MethodName)) ∈ lw_all := lw_g (lw_at lw_m11 48 rfl) rfl
theorem q2532 : (Jvm.Cond.code ({ cls := "InkPrinteryModel", name := "nextShare", desc := "()I" } : Jvm.MethodName) prog_12_method_53_code (3 : Nat) (Option.some Jvm.ClassFile.FieldType.int)) ∈ lw_all := lw_g (lw_at lw_m11 49 rfl) rfl
theorem q2534 : (Jvm.Cond.instanceMethod ({ cls := "InkPrinteryModel", name := "shareByLevel", desc := "(I)I" } : Jvm.MethodName)) ∈ lw_all := lw_g (lw_at lw_m11 51 rfl) rfl
theorem q2535 : (Jvm.Cond.selects "InkPrinteryModel" ({ cls := "InkPrinteryModel", name := "shareByLevel", desc := "(I)I" } : Jvm.MethodName) ({ cls := "InkPrinteryModel", name := "shareByLevel", desc := "(I)I" } : Jvm.MethodName)) ∈ lw_all := lw_g (lw_at lw_m11 52 rfl) rfl
theorem q2536 : (Jvm.Cond.code ({ cls := "InkPrinteryModel", name := "shareByLevel", desc := "(I)I" } : Jvm.MethodName) prog_12_method_57_code (2 : Nat) (Option.some Jvm.ClassFile.FieldType.int)) ∈ lw_all := lw_g (lw_at lw_m11 53 rfl) rfl
theorem q2538 : (Jvm.Cond.instanceMethod ({ cls := "InkPrinteryModel", name := "printAll", desc := "()I" } : Jvm.MethodName)) ∈ lw_all := lw_g (lw_at lw_m11 55 rfl) rfl
theorem q2539 : (Jvm.Cond.selects "InkPrinteryModel" ({ cls := "InkPrinteryModel", name := "printAll", desc := "()I" } : Jvm.MethodName) ({ cls := "InkPrinteryModel", name := "printAll", desc := "()I" } : Jvm.MethodName)) ∈ lw_all := lw_g (lw_at lw_m11 56 rfl) rfl
theorem q2540 : (Jvm.Cond.code ({ cls := "InkPrinteryModel", name := "printAll", desc := "()I" } : Jvm.MethodName) prog_12_method_59_code (1 : Nat) (Option.some Jvm.ClassFile.FieldType.int)) ∈ lw_all := lw_g (lw_at lw_m11 57 rfl) rfl
theorem q2541 : (Jvm.Cond.methodLink "InkPrinteryModel" (204 : Nat) ({ cls := "InkPrinteryModel", name := "printsAll", desc := "()I" } : Jvm.MethodName)) ∈ lw_all := lw_g (lw_at lw_m11 58 rfl) rfl
theorem q2542 : (Jvm.Cond.privateMethod ({ cls := "InkPrinteryModel", name := "printsAll", desc := "()I" } : Jvm.MethodName)) ∈ lw_tbl := lw_at lw_m11 59 rfl
theorem q2543 : (Jvm.Cond.instanceMethod ({ cls := "InkPrinteryModel", name := "printsAll", desc := "()I" } : Jvm.MethodName)) ∈ lw_all := lw_g (lw_at lw_m11 60 rfl) rfl
theorem q2544 : (Jvm.Cond.code ({ cls := "InkPrinteryModel", name := "printsAll", desc := "()I" } : Jvm.MethodName) prog_12_method_58_code (5 : Nat) (Option.some Jvm.ClassFile.FieldType.int)) ∈ lw_all := lw_g (lw_at lw_m11 61 rfl) rfl
theorem q2546 : (Jvm.Cond.instanceMethod ({ cls := "InkPrinteryModel", name := "editionCount", desc := "()I" } : Jvm.MethodName)) ∈ lw_all := lw_g (lw_at lw_m11 63 rfl) rfl
theorem q2547 : (Jvm.Cond.selects "InkPrinteryModel" ({ cls := "InkPrinteryModel", name := "editionCount", desc := "()I" } : Jvm.MethodName) ({ cls := "InkPrinteryModel", name := "editionCount", desc := "()I" } : Jvm.MethodName)) ∈ lw_all := lw_g (lw_at lw_m11 64 rfl) rfl
theorem q2548 : (Jvm.Cond.code ({ cls := "InkPrinteryModel", name := "editionCount", desc := "()I" } : Jvm.MethodName) prog_12_method_60_code (1 : Nat) (Option.some Jvm.ClassFile.FieldType.int)) ∈ lw_all := lw_g (lw_at lw_m11 65 rfl) rfl
theorem q2550 : (Jvm.Cond.instanceMethod ({ cls := "InkPrinteryModel", name := "colourOf", desc := "(I)I" } : Jvm.MethodName)) ∈ lw_all := lw_g (lw_at lw_m11 67 rfl) rfl
theorem q2551 : (Jvm.Cond.selects "InkPrinteryModel" ({ cls := "InkPrinteryModel", name := "colourOf", desc := "(I)I" } : Jvm.MethodName) ({ cls := "InkPrinteryModel", name := "colourOf", desc := "(I)I" } : Jvm.MethodName)) ∈ lw_all := lw_g (lw_at lw_m11 68 rfl) rfl
theorem q2552 : (Jvm.Cond.code ({ cls := "InkPrinteryModel", name := "colourOf", desc := "(I)I" } : Jvm.MethodName) prog_12_method_62_code (2 : Nat) (Option.some Jvm.ClassFile.FieldType.int)) ∈ lw_all := lw_g (lw_at lw_m11 69 rfl) rfl
theorem q2553 : (Jvm.Cond.methodLink "InkPrinteryModel" (207 : Nat) ({ cls := "InkPrinteryModel", name := "of", desc := "(II)I" } : Jvm.MethodName)) ∈ lw_all := lw_g (lw_at lw_m11 70 rfl) rfl
theorem q2554 : (Jvm.Cond.privateMethod ({ cls := "InkPrinteryModel", name := "of", desc := "(II)I" } : Jvm.MethodName)) ∈ lw_tbl := lw_at lw_m11 71 rfl
theorem q2555 : (Jvm.Cond.instanceMethod ({ cls := "InkPrinteryModel", name := "of", desc := "(II)I" } : Jvm.MethodName)) ∈ lw_all := lw_g (lw_at lw_m11 72 rfl) rfl
theorem q2556 : (Jvm.Cond.code ({ cls := "InkPrinteryModel", name := "of", desc := "(II)I" } : Jvm.MethodName) prog_12_method_61_code (3 : Nat) (Option.some Jvm.ClassFile.FieldType.int)) ∈ lw_all := lw_g (lw_at lw_m11 73 rfl) rfl
theorem q2558 : (Jvm.Cond.instanceMethod ({ cls := "InkPrinteryModel", name := "runOf", desc := "(I)I" } : Jvm.MethodName)) ∈ lw_all := lw_g (lw_at lw_m11 75 rfl) rfl
theorem q2559 : (Jvm.Cond.selects "InkPrinteryModel" ({ cls := "InkPrinteryModel", name := "runOf", desc := "(I)I" } : Jvm.MethodName) ({ cls := "InkPrinteryModel", name := "runOf", desc := "(I)I" } : Jvm.MethodName)) ∈ lw_all := lw_g (lw_at lw_m11 76 rfl) rfl
theorem q2560 : (Jvm.Cond.code ({ cls := "InkPrinteryModel", name := "runOf", desc := "(I)I" } : Jvm.MethodName) prog_12_method_63_code (2 : Nat) (Option.some Jvm.ClassFile.FieldType.int)) ∈ lw_all := lw_g (lw_at lw_m11 77 rfl) rfl
theorem q2562 : (Jvm.Cond.instanceMethod ({ cls := "InkPrinteryModel", name := "printedOf", desc := "(I)I" } : Jvm.MethodName)) ∈ lw_all := lw_g (lw_at lw_m11 79 rfl) rfl
theorem q2563 : (Jvm.Cond.selects "InkPrinteryModel" ({ cls := "InkPrinteryModel", name := "printedOf", desc := "(I)I" } : Jvm.MethodName) ({ cls := "InkPrinteryModel", name := "printedOf", desc := "(I)I" } : Jvm.MethodName)) ∈ lw_all := lw_g (lw_at lw_m11 80 rfl) rfl
theorem q2564 : (Jvm.Cond.code ({ cls := "InkPrinteryModel", name := "printedOf", desc := "(I)I" } : Jvm.MethodName) prog_12_method_64_code (2 : Nat) (Option.some Jvm.ClassFile.FieldType.int)) ∈ lw_all := lw_g (lw_at lw_m11 81 rfl) rfl
theorem q2566 : (Jvm.Cond.instanceMethod ({ cls := "InkPrinteryModel", name := "isComplete", desc := "(I)Z" } : Jvm.MethodName)) ∈ lw_all := lw_g (lw_at lw_m11 83 rfl) rfl
theorem q2567 : (Jvm.Cond.selects "InkPrinteryModel" ({ cls := "InkPrinteryModel", name := "isComplete", desc := "(I)Z" } : Jvm.MethodName) ({ cls := "InkPrinteryModel", name := "isComplete", desc := "(I)Z" } : Jvm.MethodName)) ∈ lw_all := lw_g (lw_at lw_m11 84 rfl) rfl
theorem q2568 : (Jvm.Cond.code ({ cls := "InkPrinteryModel", name := "isComplete", desc := "(I)Z" } : Jvm.MethodName) prog_12_method_65_code (2 : Nat) (Option.some Jvm.ClassFile.FieldType.boolean)) ∈ lw_all := lw_g (lw_at lw_m11 85 rfl) rfl
theorem q2570 : (Jvm.Cond.instanceMethod ({ cls := "InkPrinteryModel", name := "editionByMissing", desc := "(I)I" } : Jvm.MethodName)) ∈ lw_all := lw_g (lw_at lw_m11 87 rfl) rfl
theorem q2571 : (Jvm.Cond.selects "InkPrinteryModel" ({ cls := "InkPrinteryModel", name := "editionByMissing", desc := "(I)I" } : Jvm.MethodName) ({ cls := "InkPrinteryModel", name := "editionByMissing", desc := "(I)I" } : Jvm.MethodName)) ∈ lw_all := lw_g (lw_at lw_m11 88 rfl) rfl
theorem q2572 : (Jvm.Cond.code ({ cls := "InkPrinteryModel", name := "editionByMissing", desc := "(I)I" } : Jvm.MethodName) prog_12_method_66_code (5 : Nat) (Option.some Jvm.ClassFile.FieldType.int)) ∈ lw_all := lw_g (lw_at lw_m11 89 rfl) rfl
theorem q2574 : (Jvm.Cond.instanceMethod ({ cls := "InkPrinteryModel", name := "addProof", desc := "(I)I" } : Jvm.MethodName)) ∈ lw_all := lw_g (lw_at lw_m11 91 rfl) rfl
theorem q2575 : (Jvm.Cond.selects "InkPrinteryModel" ({ cls := "InkPrinteryModel", name := "addProof", desc := "(I)I" } : Jvm.MethodName) ({ cls := "InkPrinteryModel", name := "addProof", desc := "(I)I" } : Jvm.MethodName)) ∈ lw_all := lw_g (lw_at lw_m11 92 rfl) rfl
theorem q2576 : (Jvm.Cond.code ({ cls := "InkPrinteryModel", name := "addProof", desc := "(I)I" } : Jvm.MethodName) prog_12_method_71_code (3 : Nat) (Option.some Jvm.ClassFile.FieldType.int)) ∈ lw_all := lw_g (lw_at lw_m11 93 rfl) rfl
theorem q2577 : (Jvm.Cond.methodLink "InkPrinteryModel" (210 : Nat) ({ cls := "InkPrinteryModel", name := "cannotProve", desc := "(I)I" } : Jvm.MethodName)) ∈ lw_all := lw_g (lw_at lw_m11 94 rfl) rfl
theorem q2578 : (Jvm.Cond.privateMethod ({ cls := "InkPrinteryModel", name := "cannotProve", desc := "(I)I" } : Jvm.MethodName)) ∈ lw_tbl := lw_at lw_m11 95 rfl
theorem q2579 : (Jvm.Cond.instanceMethod ({ cls := "InkPrinteryModel", name := "cannotProve", desc := "(I)I" } : Jvm.MethodName)) ∈ lw_all := lw_g (lw_at lw_m11 96 rfl) rfl
theorem q2580 : (Jvm.Cond.code ({ cls := "InkPrinteryModel", name := "cannotProve", desc := "(I)I" } : Jvm.MethodName) prog_12_method_69_code (2 : Nat) (Option.some Jvm.ClassFile.FieldType.int)) ∈ lw_all := lw_g (lw_at lw_m11 97 rfl) rfl
theorem q2581 : (Jvm.Cond.methodLink "InkPrinteryModel" (213 : Nat) ({ cls := "InkPrinteryModel", name := "proves", desc := "(I)I" } : Jvm.MethodName)) ∈ lw_all := lw_g (lw_at lw_m11 98 rfl) rfl
theorem q2582 : (Jvm.Cond.privateMethod ({ cls := "InkPrinteryModel", name := "proves", desc := "(I)I" } : Jvm.MethodName)) ∈ lw_tbl := lw_at lw_m11 99 rfl
theorem q2583 : (Jvm.Cond.instanceMethod ({ cls := "InkPrinteryModel", name := "proves", desc := "(I)I" } : Jvm.MethodName)) ∈ lw_all := lw_g (lw_at lw_m11 100 rfl) rfl
theorem q2584 : (Jvm.Cond.code ({ cls := "InkPrinteryModel", name := "proves", desc := "(I)I" } : Jvm.MethodName) prog_12_method_70_code (2 : Nat) (Option.some Jvm.ClassFile.FieldType.int)) ∈ lw_all := lw_g (lw_at lw_m11 101 rfl) rfl
theorem q2586 : (Jvm.Cond.instanceMethod ({ cls := "InkPrinteryModel", name := "dropProof", desc := "(I)I" } : Jvm.MethodName)) ∈ lw_all := lw_g (lw_at lw_m11 103 rfl) rfl
theorem q2587 : (Jvm.Cond.selects "InkPrinteryModel" ({ cls := "InkPrinteryModel", name := "dropProof", desc := "(I)I" } : Jvm.MethodName) ({ cls := "InkPrinteryModel", name := "dropProof", desc := "(I)I" } : Jvm.MethodName)) ∈ lw_all := lw_g (lw_at lw_m11 104 rfl) rfl
theorem q2588 : (Jvm.Cond.code ({ cls := "InkPrinteryModel", name := "dropProof", desc := "(I)I" } : Jvm.MethodName) prog_12_method_73_code (2 : Nat) (Option.some Jvm.ClassFile.FieldType.int)) ∈ lw_all := lw_g (lw_at lw_m11 105 rfl) rfl
theorem q2589 : (Jvm.Cond.methodLink "InkPrinteryModel" (216 : Nat) ({ cls := "InkPrinteryModel", name := "isProof", desc := "(I)Z" } : Jvm.MethodName)) ∈ lw_all := lw_g (lw_at lw_m11 106 rfl) rfl
theorem q2590 : (Jvm.Cond.privateMethod ({ cls := "InkPrinteryModel", name := "isProof", desc := "(I)Z" } : Jvm.MethodName)) ∈ lw_tbl := lw_at lw_m11 107 rfl
theorem q2591 : (Jvm.Cond.instanceMethod ({ cls := "InkPrinteryModel", name := "isProof", desc := "(I)Z" } : Jvm.MethodName)) ∈ lw_all := lw_g (lw_at lw_m11 108 rfl) rfl
theorem q2592 : (Jvm.Cond.code ({ cls := "InkPrinteryModel", name := "isProof", desc := "(I)Z" } : Jvm.MethodName) prog_12_method_68_code (2 : Nat) (Option.some Jvm.ClassFile.FieldType.boolean)) ∈ lw_all := lw_g (lw_at lw_m11 109 rfl) rfl
theorem q2593 : (Jvm.Cond.methodLink "InkPrinteryModel" (219 : Nat) ({ cls := "InkPrinteryModel", name := "drops", desc := "(I)I" } : Jvm.MethodName)) ∈ lw_all := lw_g (lw_at lw_m11 110 rfl) rfl
theorem q2594 : (Jvm.Cond.privateMethod ({ cls := "InkPrinteryModel", name := "drops", desc := "(I)I" } : Jvm.MethodName)) ∈ lw_tbl := lw_at lw_m11 111 rfl
theorem q2595 : (Jvm.Cond.instanceMethod ({ cls := "InkPrinteryModel", name := "drops", desc := "(I)I" } : Jvm.MethodName)) ∈ lw_all := lw_g (lw_at lw_m11 112 rfl) rfl
theorem q2596 : (Jvm.Cond.code ({ cls := "InkPrinteryModel", name := "drops", desc := "(I)I" } : Jvm.MethodName) prog_12_method_72_code (3 : Nat) (Option.some Jvm.ClassFile.FieldType.int)) ∈ lw_all := lw_g (lw_at lw_m11 113 rfl) rfl
theorem q2598 : (Jvm.Cond.instanceMethod ({ cls := "InkPrinteryModel", name := "proofCount", desc := "()I" } : Jvm.MethodName)) ∈ lw_all := lw_g (lw_at lw_m11 115 rfl) rfl
theorem q2599 : (Jvm.Cond.selects "InkPrinteryModel" ({ cls := "InkPrinteryModel", name := "proofCount", desc := "()I" } : Jvm.MethodName) ({ cls := "InkPrinteryModel", name := "proofCount", desc := "()I" } : Jvm.MethodName)) ∈ lw_all := lw_g (lw_at lw_m11 116 rfl) rfl
theorem q2600 : (Jvm.Cond.code ({ cls := "InkPrinteryModel", name := "proofCount", desc := "()I" } : Jvm.MethodName) prog_12_method_74_code (1 : Nat) (Option.some Jvm.ClassFile.FieldType.int)) ∈ lw_all := lw_g (lw_at lw_m11 117 rfl) rfl
theorem q2602 : (Jvm.Cond.instanceMethod ({ cls := "InkPrinteryModel", name := "marksOf", desc := "(I)I" } : Jvm.MethodName)) ∈ lw_all := lw_g (lw_at lw_m11 119 rfl) rfl
theorem q2603 : (Jvm.Cond.selects "InkPrinteryModel" ({ cls := "InkPrinteryModel", name := "marksOf", desc := "(I)I" } : Jvm.MethodName) ({ cls := "InkPrinteryModel", name := "marksOf", desc := "(I)I" } : Jvm.MethodName)) ∈ lw_all := lw_g (lw_at lw_m11 120 rfl) rfl
theorem q2604 : (Jvm.Cond.code ({ cls := "InkPrinteryModel", name := "marksOf", desc := "(I)I" } : Jvm.MethodName) prog_12_method_75_code (2 : Nat) (Option.some Jvm.ClassFile.FieldType.int)) ∈ lw_all := lw_g (lw_at lw_m11 121 rfl) rfl
theorem q2605 : (Jvm.Cond.methodLink "InkPrinteryModel" (222 : Nat) ({ cls := "InkPrinteryModel", name := "p", desc := "(II)I" } : Jvm.MethodName)) ∈ lw_all := lw_g (lw_at lw_m11 122 rfl) rfl
theorem q2606 : (Jvm.Cond.privateMethod ({ cls := "InkPrinteryModel", name := "p", desc := "(II)I" } : Jvm.MethodName)) ∈ lw_tbl := lw_at lw_m11 123 rfl
theorem q2607 : (Jvm.Cond.instanceMethod ({ cls := "InkPrinteryModel", name := "p", desc := "(II)I" } : Jvm.MethodName)) ∈ lw_all := lw_g (lw_at lw_m11 124 rfl) rfl
theorem q2608 : (Jvm.Cond.code ({ cls := "InkPrinteryModel", name := "p", desc := "(II)I" } : Jvm.MethodName) prog_12_method_67_code (3 : Nat) (Option.some Jvm.ClassFile.FieldType.int)) ∈ lw_all := lw_g (lw_at lw_m11 125 rfl) rfl
theorem q2610 : (Jvm.Cond.instanceMethod ({ cls := "InkPrinteryModel", name := "hourOf", desc := "(I)I" } : Jvm.MethodName)) ∈ lw_all := lw_g (lw_at lw_m11 127 rfl) rfl
theorem q2611 : (Jvm.Cond.selects "InkPrinteryModel" ({ cls := "InkPrinteryModel", name := "hourOf", desc := "(I)I" } : Jvm.MethodName) ({ cls := "InkPrinteryModel", name := "hourOf", desc := "(I)I" } : Jvm.MethodName)) ∈ lw_all := lw_g (lw_at lw_m11 128 rfl) rfl
theorem q2612 : (Jvm.Cond.code ({ cls := "InkPrinteryModel", name := "hourOf", desc := "(I)I" } : Jvm.MethodName) prog_12_method_76_code (2 : Nat) (Option.some Jvm.ClassFile.FieldType.int)) ∈ lw_all := lw_g (lw_at lw_m11 129 rfl) rfl
theorem q2614 : (Jvm.Cond.instanceMethod ({ cls := "InkPrinteryModel", name := "longestRise", desc := "()I" } : Jvm.MethodName)) ∈ lw_all := lw_g (lw_at lw_m11 131 rfl) rfl
theorem q2615 : (Jvm.Cond.selects "InkPrinteryModel" ({ cls := "InkPrinteryModel", name := "longestRise", desc := "()I" } : Jvm.MethodName) ({ cls := "InkPrinteryModel", name := "longestRise", desc := "()I" } : Jvm.MethodName)) ∈ lw_all := lw_g (lw_at lw_m11 132 rfl) rfl
theorem q2616 : (Jvm.Cond.code ({ cls := "InkPrinteryModel", name := "longestRise", desc := "()I" } : Jvm.MethodName) prog_12_method_78_code (1 : Nat) (Option.some Jvm.ClassFile.FieldType.int)) ∈ lw_all := lw_g (lw_at lw_m11 133 rfl) rfl
theorem q2617 : (Jvm.Cond.methodLink "InkPrinteryModel" (225 : Nat) ({ cls := "InkPrinteryModel", name := "rises", desc := "()I" } : Jvm.MethodName)) ∈ lw_all := lw_g (lw_at lw_m11 134 rfl) rfl
theorem q2618 : (Jvm.Cond.privateMethod ({ cls := "InkPrinteryModel", name := "rises", desc := "()I" } : Jvm.MethodName)) ∈ lw_tbl := lw_at lw_m11 135 rfl
theorem q2619 : (Jvm.Cond.instanceMethod ({ cls := "InkPrinteryModel", name := "rises", desc := "()I" } : Jvm.MethodName)) ∈ lw_all := lw_g (lw_at lw_m11 136 rfl) rfl
theorem q2620 : (Jvm.Cond.code ({ cls := "InkPrinteryModel", name := "rises", desc := "()I" } : Jvm.MethodName) prog_12_method_77_code (4 : Nat) (Option.some Jvm.ClassFile.FieldType.int)) ∈ lw_all := lw_g (lw_at lw_m11 137 rfl) rfl
theorem q2622 : (Jvm.Cond.instanceMethod ({ cls := "InkPrinteryModel", name := "riseByEnds", desc := "()I" } : Jvm.MethodName)) ∈ lw_all := lw_g (lw_at lw_m11 139 rfl) rfl
theorem q2623 : (Jvm.Cond.selects "InkPrinteryModel" ({ cls := "InkPrinteryModel", name := "riseByEnds", desc := "()I" } : Jvm.MethodName) ({ cls := "InkPrinteryModel", name := "riseByEnds", desc := "()I" } : Jvm.MethodName)) ∈ lw_all := lw_g (lw_at lw_m11 140 rfl) rfl
theorem q2624 : (Jvm.Cond.code ({ cls := "InkPrinteryModel", name := "riseByEnds", desc := "()I" } : Jvm.MethodName) prog_12_method_79_code (1 : Nat) (Option.some Jvm.ClassFile.FieldType.int)) ∈ lw_all := lw_g (lw_at lw_m11 141 rfl) rfl
theorem q2626 : (Jvm.Cond.instanceMethod ({ cls := "InkPrinteryModel", name := "riseCount", desc := "()I" } : Jvm.MethodName)) ∈ lw_all := lw_g (lw_at lw_m11 143 rfl) rfl
theorem q2627 : (Jvm.Cond.selects "InkPrinteryModel" ({ cls := "InkPrinteryModel", name := "riseCount", desc := "()I" } : Jvm.MethodName) ({ cls := "InkPrinteryModel", name := "riseCount", desc := "()I" } : Jvm.MethodName)) ∈ lw_all := lw_g (lw_at lw_m11 144 rfl) rfl
theorem q2628 : (Jvm.Cond.code ({ cls := "InkPrinteryModel", name := "riseCount", desc := "()I" } : Jvm.MethodName) prog_12_method_80_code (4 : Nat) (Option.some Jvm.ClassFile.FieldType.int)) ∈ lw_all := lw_g (lw_at lw_m11 145 rfl) rfl
theorem q2630 : (Jvm.Cond.instanceMethod ({ cls := "InkPrinteryModel", name := "minutes", desc := "()I" } : Jvm.MethodName)) ∈ lw_all := lw_g (lw_at lw_m11 147 rfl) rfl
theorem q2631 : (Jvm.Cond.selects "InkPrinteryModel" ({ cls := "InkPrinteryModel", name := "minutes", desc := "()I" } : Jvm.MethodName) ({ cls := "InkPrinteryModel", name := "minutes", desc := "()I" } : Jvm.MethodName)) ∈ lw_all := lw_g (lw_at lw_m11 148 rfl) rfl
theorem q2632 : (Jvm.Cond.code ({ cls := "InkPrinteryModel", name := "minutes", desc := "()I" } : Jvm.MethodName) prog_12_method_81_code (1 : Nat) (Option.some Jvm.ClassFile.FieldType.int)) ∈ lw_all := lw_g (lw_at lw_m11 149 rfl) rfl
theorem q2634 : (Jvm.Cond.instanceMethod ({ cls := "InkPrinteryModel", name := "poured", desc := "()I" } : Jvm.MethodName)) ∈ lw_all := lw_g (lw_at lw_m11 151 rfl) rfl
theorem q2635 : (Jvm.Cond.selects "InkPrinteryModel" ({ cls := "InkPrinteryModel", name := "poured", desc := "()I" } : Jvm.MethodName) ({ cls := "InkPrinteryModel", name := "poured", desc := "()I" } : Jvm.MethodName)) ∈ lw_all := lw_g (lw_at lw_m11 152 rfl) rfl
theorem q2636 : (Jvm.Cond.code ({ cls := "InkPrinteryModel", name := "poured", desc := "()I" } : Jvm.MethodName) prog_12_method_82_code (1 : Nat) (Option.some Jvm.ClassFile.FieldType.int)) ∈ lw_all := lw_g (lw_at lw_m11 153 rfl) rfl
theorem q2638 : (Jvm.Cond.instanceMethod ({ cls := "InkPrinteryModel", name := "used", desc := "()I" } : Jvm.MethodName)) ∈ lw_all := lw_g (lw_at lw_m11 155 rfl) rfl
theorem q2639 : (Jvm.Cond.selects "InkPrinteryModel" ({ cls := "InkPrinteryModel", name := "used", desc := "()I" } : Jvm.MethodName) ({ cls := "InkPrinteryModel", name := "used", desc := "()I" } : Jvm.MethodName)) ∈ lw_all := lw_g (lw_at lw_m11 156 rfl) rfl
theorem q2640 : (Jvm.Cond.code ({ cls := "InkPrinteryModel", name := "used", desc := "()I" } : Jvm.MethodName) prog_12_method_83_code (1 : Nat) (Option.some Jvm.ClassFile.FieldType.int)) ∈ lw_all := lw_g (lw_at lw_m11 157 rfl) rfl
theorem q2642 : (Jvm.Cond.instanceMethod ({ cls := "InkPrinteryModel", name := "faded", desc := "()J" } : Jvm.MethodName)) ∈ lw_all := lw_g (lw_at lw_m11 159 rfl) rfl
theorem q2643 : (Jvm.Cond.selects "InkPrinteryModel" ({ cls := "InkPrinteryModel", name := "faded", desc := "()J" } : Jvm.MethodName) ({ cls := "InkPrinteryModel", name := "faded", desc := "()J" } : Jvm.MethodName)) ∈ lw_all := lw_g (lw_at lw_m11 160 rfl) rfl
theorem q2644 : (Jvm.Cond.code ({ cls := "InkPrinteryModel", name := "faded", desc := "()J" } : Jvm.MethodName) prog_12_method_84_code (1 : Nat) (Option.some Jvm.ClassFile.FieldType.long)) ∈ lw_all := lw_g (lw_at lw_m11 161 rfl) rfl
theorem q2646 : (Jvm.Cond.instanceMethod ({ cls := "InkPrinteryModel", name := "inkInWells", desc := "()I" } : Jvm.MethodName)) ∈ lw_all := lw_g (lw_at lw_m11 163 rfl) rfl
theorem q2647 : (Jvm.Cond.selects "InkPrinteryModel" ({ cls := "InkPrinteryModel", name := "inkInWells", desc := "()I" } : Jvm.MethodName) ({ cls := "InkPrinteryModel", name := "inkInWells", desc := "()I" } : Jvm.MethodName)) ∈ lw_all := lw_g (lw_at lw_m11 164 rfl) rfl
theorem q2648 : (Jvm.Cond.code ({ cls := "InkPrinteryModel", name := "inkInWells", desc := "()I" } : Jvm.MethodName) prog_12_method_85_code (3 : Nat) (Option.some Jvm.ClassFile.FieldType.int)) ∈ lw_all := lw_g (lw_at lw_m11 165 rfl) rfl
theorem q2650 : (Jvm.Cond.instanceMethod ({ cls := "InkPrinteryModel", name := "meanRun", desc := "()D" } : Jvm.MethodName)) ∈ lw_all := lw_g (lw_at lw_m11 167 rfl) rfl
theorem q2651 : (Jvm.Cond.selects "InkPrinteryModel" ({ cls := "InkPrinteryModel", name := "meanRun", desc := "()D" } : Jvm.MethodName) ({ cls := "InkPrinteryModel", name := "meanRun", desc := "()D" } : Jvm.MethodName)) ∈ lw_all := lw_g (lw_at lw_m11 168 rfl) rfl
theorem q2652 : (Jvm.Cond.code ({ cls := "InkPrinteryModel", name := "meanRun", desc := "()D" } : Jvm.MethodName) prog_12_method_86_code (3 : Nat) (Option.some Jvm.ClassFile.FieldType.double)) ∈ lw_all := lw_g (lw_at lw_m11 169 rfl) rfl
theorem q2654 : (Jvm.Cond.instanceMethod ({ cls := "InkPrinteryModel", name := "fadedShare", desc := "()F" } : Jvm.MethodName)) ∈ lw_all := lw_g (lw_at lw_m11 171 rfl) rfl
theorem q2655 : (Jvm.Cond.selects "InkPrinteryModel" ({ cls := "InkPrinteryModel", name := "fadedShare", desc := "()F" } : Jvm.MethodName) ({ cls := "InkPrinteryModel", name := "fadedShare", desc := "()F" } : Jvm.MethodName)) ∈ lw_all := lw_g (lw_at lw_m11 172 rfl) rfl
theorem q2656 : (Jvm.Cond.code ({ cls := "InkPrinteryModel", name := "fadedShare", desc := "()F" } : Jvm.MethodName) prog_12_method_87_code (1 : Nat) (Option.some Jvm.ClassFile.FieldType.float)) ∈ lw_all := lw_g (lw_at lw_m11 173 rfl) rfl
theorem q2658 : (Jvm.Cond.instanceMethod ({ cls := "InkPrinteryModel", name := "isConsistent", desc := "()Z" } : Jvm.MethodName)) ∈ lw_all := lw_g (lw_at lw_m11 175 rfl) rfl
theorem q2659 : (Jvm.Cond.selects "InkPrinteryModel" ({ cls := "InkPrinteryModel", name := "isConsistent", desc := "()Z" } : Jvm.MethodName) ({ cls := "InkPrinteryModel", name := "isConsistent", desc := "()Z" } : Jvm.MethodName)) ∈ lw_all := lw_g (lw_at lw_m11 176 rfl) rfl
theorem q2660 : (Jvm.Cond.code ({ cls := "InkPrinteryModel", name := "isConsistent", desc := "()Z" } : Jvm.MethodName) prog_12_method_88_code (1 : Nat) (Option.some Jvm.ClassFile.FieldType.boolean)) ∈ lw_all := lw_g (lw_at lw_m11 177 rfl) rfl
theorem q2662 : (Jvm.Cond.instanceMethod ({ cls := "InkPrinteryModel", name := "writeEdition", desc := "(I)I" } : Jvm.MethodName)) ∈ lw_all := lw_g (lw_at lw_m11 179 rfl) rfl
theorem q2663 : (Jvm.Cond.selects "InkPrinteryModel" ({ cls := "InkPrinteryModel", name := "writeEdition", desc := "(I)I" } : Jvm.MethodName) ({ cls := "InkPrinteryModel", name := "writeEdition", desc := "(I)I" } : Jvm.MethodName)) ∈ lw_all := lw_g (lw_at lw_m11 180 rfl) rfl
theorem q2664 : (Jvm.Cond.code ({ cls := "InkPrinteryModel", name := "writeEdition", desc := "(I)I" } : Jvm.MethodName) prog_12_method_91_code (2 : Nat) (Option.some Jvm.ClassFile.FieldType.int)) ∈ lw_all := lw_g (lw_at lw_m11 181 rfl) rfl
theorem q2665 : (Jvm.Cond.methodLink "InkPrinteryModel" (232 : Nat) ({ cls := "InkPrinteryModel", name := "writeNumber", desc := "(I)V" } : Jvm.MethodName)) ∈ lw_all := lw_g (lw_at lw_m11 182 rfl) rfl
theorem q2666 : (Jvm.Cond.privateMethod ({ cls := "InkPrinteryModel", name := "writeNumber", desc := "(I)V" } : Jvm.MethodName)) ∈ lw_tbl := lw_at lw_m11 183 rfl
theorem q2667 : (Jvm.Cond.instanceMethod ({ cls := "InkPrinteryModel", name := "writeNumber", desc := "(I)V" } : Jvm.MethodName)) ∈ lw_all := lw_g (lw_at lw_m11 184 rfl) rfl
theorem q2668 : (Jvm.Cond.code ({ cls := "InkPrinteryModel", name := "writeNumber", desc := "(I)V" } : Jvm.MethodName) prog_12_method_90_code (3 : Nat) (Option.none : Option Jvm.ClassFile.FieldType)) ∈ lw_all := lw_g (lw_at lw_m11 185 rfl) rfl
theorem q2669 : (Jvm.Cond.methodLink "InkPrinteryModel" (228 : Nat) ({ cls := "InkPrinteryModel", name := "write", desc := "(I)V" } : Jvm.MethodName)) ∈ lw_all := lw_g (lw_at lw_m11 186 rfl) rfl
theorem q2670 : (Jvm.Cond.privateMethod ({ cls := "InkPrinteryModel", name := "write", desc := "(I)V" } : Jvm.MethodName)) ∈ lw_tbl := lw_at lw_m11 187 rfl
theorem q2671 : (Jvm.Cond.instanceMethod ({ cls := "InkPrinteryModel", name := "write", desc := "(I)V" } : Jvm.MethodName)) ∈ lw_all := lw_g (lw_at lw_m11 188 rfl) rfl
theorem q2672 : (Jvm.Cond.code ({ cls := "InkPrinteryModel", name := "write", desc := "(I)V" } : Jvm.MethodName) prog_12_method_89_code (2 : Nat) (Option.none : Option Jvm.ClassFile.FieldType)) ∈ lw_all := lw_g (lw_at lw_m11 189 rfl) rfl
theorem q2674 : (Jvm.Cond.instanceMethod ({ cls := "InkPrinteryModel", name := "writeWells", desc := "()I" } : Jvm.MethodName)) ∈ lw_all := lw_g (lw_at lw_m11 191 rfl) rfl
theorem q2675 : (Jvm.Cond.selects "InkPrinteryModel" ({ cls := "InkPrinteryModel", name := "writeWells", desc := "()I" } : Jvm.MethodName) ({ cls := "InkPrinteryModel", name := "writeWells", desc := "()I" } : Jvm.MethodName)) ∈ lw_all := lw_g (lw_at lw_m11 192 rfl) rfl
theorem q2676 : (Jvm.Cond.code ({ cls := "InkPrinteryModel", name := "writeWells", desc := "()I" } : Jvm.MethodName) prog_12_method_92_code (2 : Nat) (Option.some Jvm.ClassFile.FieldType.int)) ∈ lw_all := lw_g (lw_at lw_m11 193 rfl) rfl
theorem q2678 : (Jvm.Cond.instanceMethod ({ cls := "InkPrinteryModel", name := "lineAt", desc := "(I)C" } : Jvm.MethodName)) ∈ lw_all := lw_g (lw_at lw_m11 195 rfl) rfl
theorem q2679 : (Jvm.Cond.selects "InkPrinteryModel" ({ cls := "InkPrinteryModel", name := "lineAt", desc := "(I)C" } : Jvm.MethodName) ({ cls := "InkPrinteryModel", name := "lineAt", desc := "(I)C" } : Jvm.MethodName)) ∈ lw_all := lw_g (lw_at lw_m11 196 rfl) rfl
theorem q2680 : (Jvm.Cond.code ({ cls := "InkPrinteryModel", name := "lineAt", desc := "(I)C" } : Jvm.MethodName) prog_12_method_93_code (2 : Nat) (Option.some Jvm.ClassFile.FieldType.char)) ∈ lw_all := lw_g (lw_at lw_m11 197 rfl) rfl
theorem q2682 : (Jvm.Cond.instanceMethod ({ cls := "InkPrinteryModel", name := "type", desc := "(C)I" } : Jvm.MethodName)) ∈ lw_all := lw_g (lw_at lw_m11 199 rfl) rfl
theorem q2683 : (Jvm.Cond.selects "InkPrinteryModel" ({ cls := "InkPrinteryModel", name := "type", desc := "(C)I" } : Jvm.MethodName) ({ cls := "InkPrinteryModel", name := "type", desc := "(C)I" } : Jvm.MethodName)) ∈ lw_all := lw_g (lw_at lw_m11 200 rfl) rfl
theorem q2684 : (Jvm.Cond.code ({ cls := "InkPrinteryModel", name := "type", desc := "(C)I" } : Jvm.MethodName) prog_12_method_94_code (2 : Nat) (Option.some Jvm.ClassFile.FieldType.int)) ∈ lw_all := lw_g (lw_at lw_m11 201 rfl) rfl
theorem q2686 : (Jvm.Cond.instanceMethod ({ cls := "InkPrinteryModel", name := "execute", desc := "()I" } : Jvm.MethodName)) ∈ lw_all := lw_g (lw_at lw_m11 203 rfl) rfl
theorem q2687 : (Jvm.Cond.selects "InkPrinteryModel" ({ cls := "InkPrinteryModel", name := "execute", desc := "()I" } : Jvm.MethodName) ({ cls := "InkPrinteryModel", name := "execute", desc := "()I" } : Jvm.MethodName)) ∈ lw_all := lw_g (lw_at lw_m11 204 rfl) rfl
theorem q2688 : (Jvm.Cond.code ({ cls := "InkPrinteryModel", name := "execute", desc := "()I" } : Jvm.MethodName) prog_12_method_105_code (3 : Nat) (Option.some Jvm.ClassFile.FieldType.int)) ∈ lw_all := lw_g (lw_at lw_m11 205 rfl) rfl
theorem q2689 : (Jvm.Cond.methodLink "InkPrinteryModel" (257 : Nat) ({ cls := "InkPrinteryModel", name := "parse", desc := "()V" } : Jvm.MethodName)) ∈ lw_all := lw_g (lw_at lw_m11 206 rfl) rfl
theorem q2690 : (Jvm.Cond.privateMethod ({ cls := "InkPrinteryModel", name := "parse", desc := "()V" } : Jvm.MethodName)) ∈ lw_tbl := lw_at lw_m11 207 rfl
theorem q2691 : (Jvm.Cond.instanceMethod ({ cls := "InkPrinteryModel", name := "parse", desc := "()V" } : Jvm.MethodName)) ∈ lw_all := lw_g (lw_at lw_m11 208 rfl) rfl
theorem q2692 : (Jvm.Cond.code ({ cls := "InkPrinteryModel", name := "parse", desc := "()V" } : Jvm.MethodName) prog_12_method_102_code (1 : Nat) (Option.none : Option Jvm.ClassFile.FieldType)) ∈ lw_all := lw_g (lw_at lw_m11 209 rfl) rfl
theorem q2693 : (Jvm.Cond.methodLink "InkPrinteryModel" (254 : Nat) ({ cls := "InkPrinteryModel", name := "command", desc := "()V" } : Jvm.MethodName)) ∈ lw_all := lw_g (lw_at lw_m11 210 rfl) rfl
theorem q2694 : (Jvm.Cond.privateMethod ({ cls := "InkPrinteryModel", name := "command", desc := "()V" } : Jvm.MethodName)) ∈ lw_tbl := lw_at lw_m11 211 rfl
theorem q2695 : (Jvm.Cond.instanceMethod ({ cls := "InkPrinteryModel", name := "command", desc := "()V" } : Jvm.MethodName)) ∈ lw_all := lw_g (lw_at lw_m11 212 rfl) rfl
theorem q2696 : (Jvm.Cond.code ({ cls := "InkPrinteryModel", name := "command", desc := "()V" } : Jvm.MethodName) prog_12_method_101_code (2 : Nat) (Option.none : Option Jvm.ClassFile.FieldType)) ∈ lw_all := lw_g (lw_at lw_m11 213 rfl) rfl
theorem q2697 : (Jvm.Cond.methodLink "InkPrinteryModel" (245 : Nat) ({ cls := "InkPrinteryModel", name := "word", desc := "()I" } : Jvm.MethodName)) ∈ lw_all := lw_g (lw_at lw_m11 214 rfl) rfl
theorem q2698 : (Jvm.Cond.privateMethod ({ cls := "InkPrinteryModel", name := "word", desc := "()I" } : Jvm.MethodName)) ∈ lw_tbl := lw_at lw_m11 215 rfl
theorem q2699 : (Jvm.Cond.instanceMethod ({ cls := "InkPrinteryModel", name := "word", desc := "()I" } : Jvm.MethodName)) ∈ lw_all := lw_g (lw_at lw_m11 216 rfl) rfl
theorem q2700 : (Jvm.Cond.code ({ cls := "InkPrinteryModel", name := "word", desc := "()I" } : Jvm.MethodName) prog_12_method_99_code (4 : Nat) (Option.some Jvm.ClassFile.FieldType.int)) ∈ lw_all := lw_g (lw_at lw_m11 217 rfl) rfl
theorem q2701 : (Jvm.Cond.methodLink "InkPrinteryModel" (242 : Nat) ({ cls := "InkPrinteryModel", name := "spelled", desc := "(II)I" } : Jvm.MethodName)) ∈ lw_all := lw_g (lw_at lw_m11 218 rfl) rfl
theorem q2702 : (Jvm.Cond.static ({ cls := "InkPrinteryModel", name := "spelled", desc := "(II)I" } : Jvm.MethodName)) ∈ lw_all := lw_g (lw_at lw_m11 219 rfl) rfl
theorem q2703 : (Jvm.Cond.code ({ cls := "InkPrinteryModel", name := "spelled", desc := "(II)I" } : Jvm.MethodName) prog_12_method_98_code (2 : Nat) (Option.some Jvm.ClassFile.FieldType.int)) ∈ lw_all := lw_g (lw_at lw_m11 220 rfl) rfl
theorem q2704 : (Jvm.Cond.methodLink "InkPrinteryModel" (238 : Nat) ({ cls := "InkPrinteryModel", name := "pick", desc := "(IIIIIIII)I" } : Jvm.MethodName)) ∈ lw_all := lw_g (lw_at lw_m11 221 rfl) rfl
theorem q2705 : (Jvm.Cond.static ({ cls := "InkPrinteryModel", name := "pick", desc := "(IIIIIIII)I" } : Jvm.MethodName)) ∈ lw_all := lw_g (lw_at lw_m11 222 rfl) rfl
theorem q2706 : (Jvm.Cond.code ({ cls := "InkPrinteryModel", name := "pick", desc := "(IIIIIIII)I" } : Jvm.MethodName) prog_12_method_97_code (8 : Nat) (Option.some Jvm.ClassFile.FieldType.int)) ∈ lw_all := lw_g (lw_at lw_m11 223 rfl) rfl
theorem q2707 : (Jvm.Cond.methodLink "InkPrinteryModel" (248 : Nat) ({ cls := "InkPrinteryModel", name := "firstDigits", desc := "(I)I" } : Jvm.MethodName)) ∈ lw_all := lw_g (lw_at lw_m11 224 rfl) rfl
theorem q2708 : (Jvm.Cond.static ({ cls := "InkPrinteryModel", name := "firstDigits", desc := "(I)I" } : Jvm.MethodName)) ∈ lw_all := lw_g (lw_at lw_m11 225 rfl) rfl
theorem q2709 : (Jvm.Cond.code ({ cls := "InkPrinteryModel", name := "firstDigits", desc := "(I)I" } : Jvm.MethodName) prog_12_method_100_code (1 : Nat) (Option.some Jvm.ClassFile.FieldType.int)) ∈ lw_all := lw_g (lw_at lw_m11 226 rfl) rfl
theorem q2710 : (Jvm.Cond.methodLink "InkPrinteryModel" (251 : Nat) ({ cls := "InkPrinteryModel", name := "number", desc := "(I)I" } : Jvm.MethodName)) ∈ lw_all := lw_g (lw_at lw_m11 227 rfl) rfl
theorem q2711 : (Jvm.Cond.privateMethod ({ cls := "InkPrinteryModel", name := "number", desc := "(I)I" } : Jvm.MethodName)) ∈ lw_tbl := lw_at lw_m11 228 rfl
theorem q2712 : (Jvm.Cond.instanceMethod ({ cls := "InkPrinteryModel", name := "number", desc := "(I)I" } : Jvm.MethodName)) ∈ lw_all := lw_g (lw_at lw_m11 229 rfl) rfl
theorem q2713 : (Jvm.Cond.code ({ cls := "InkPrinteryModel", name := "number", desc := "(I)I" } : Jvm.MethodName) prog_12_method_96_code (4 : Nat) (Option.some Jvm.ClassFile.FieldType.int)) ∈ lw_all := lw_g (lw_at lw_m11 230 rfl) rfl
theorem q2714 : (Jvm.Cond.methodLink "InkPrinteryModel" (235 : Nat) ({ cls := "InkPrinteryModel", name := "mark", desc := "()I" } : Jvm.MethodName)) ∈ lw_all := lw_g (lw_at lw_m11 231 rfl) rfl
theorem q2715 : (Jvm.Cond.privateMethod ({ cls := "InkPrinteryModel", name := "mark", desc := "()I" } : Jvm.MethodName)) ∈ lw_tbl := lw_at lw_m11 232 rfl
theorem q2716 : (Jvm.Cond.instanceMethod ({ cls := "InkPrinteryModel", name := "mark", desc := "()I" } : Jvm.MethodName)) ∈ lw_all := lw_g (lw_at lw_m11 233 rfl) rfl
theorem q2717 : (Jvm.Cond.code ({ cls := "InkPrinteryModel", name := "mark", desc := "()I" } : Jvm.MethodName) prog_12_method_95_code (1 : Nat) (Option.some Jvm.ClassFile.FieldType.int)) ∈ lw_all := lw_g (lw_at lw_m11 234 rfl) rfl
theorem q2718 : (Jvm.Cond.methodLink "InkPrinteryModel" (260 : Nat) ({ cls := "InkPrinteryModel", name := "why", desc := "(III)I" } : Jvm.MethodName)) ∈ lw_all := lw_g (lw_at lw_m11 235 rfl) rfl
theorem q2719 : (Jvm.Cond.privateMethod ({ cls := "InkPrinteryModel", name := "why", desc := "(III)I" } : Jvm.MethodName)) ∈ lw_tbl := lw_at lw_m11 236 rfl
theorem q2720 : (Jvm.Cond.instanceMethod ({ cls := "InkPrinteryModel", name := "why", desc := "(III)I" } : Jvm.MethodName)) ∈ lw_all := lw_g (lw_at lw_m11 237 rfl) rfl
theorem q2721 : (Jvm.Cond.code ({ cls := "InkPrinteryModel", name := "why", desc := "(III)I" } : Jvm.MethodName) prog_12_method_103_code (4 : Nat) (Option.some Jvm.ClassFile.FieldType.int)) ∈ lw_all := lw_g (lw_at lw_m11 238 rfl) rfl
theorem q2722 : (Jvm.Cond.methodLink "InkPrinteryModel" (263 : Nat) ({ cls := "InkPrinteryModel", name := "does", desc := "(III)I" } : Jvm.MethodName)) ∈ lw_all := lw_g (lw_at lw_m11 239 rfl) rfl
theorem q2723 : (Jvm.Cond.privateMethod ({ cls := "InkPrinteryModel", name := "does", desc := "(III)I" } : Jvm.MethodName)) ∈ lw_tbl := lw_at lw_m12 0 rfl
theorem q2724 : (Jvm.Cond.instanceMethod ({ cls := "InkPrinteryModel", name := "does", desc := "(III)I" } : Jvm.MethodName)) ∈ lw_all := lw_g (lw_at lw_m12 1 rfl) rfl
theorem q2725 : (Jvm.Cond.code ({ cls := "InkPrinteryModel", name := "does", desc := "(III)I" } : Jvm.MethodName) prog_12_method_104_code (4 : Nat) (Option.some Jvm.ClassFile.FieldType.int)) ∈ lw_all := lw_g (lw_at lw_m12 2 rfl) rfl
theorem q2727 : (Jvm.Cond.instanceMethod ({ cls := "InkPrinteryModel", name := "errorPosition", desc := "()I" } : Jvm.MethodName)) ∈ lw_all := lw_g (lw_at lw_m12 4 rfl) rfl
theorem q2728 : (Jvm.Cond.selects "InkPrinteryModel" ({ cls := "InkPrinteryModel", name := "errorPosition", desc := "()I" } : Jvm.MethodName) ({ cls := "InkPrinteryModel", name := "errorPosition", desc := "()I" } : Jvm.MethodName)) ∈ lw_all := lw_g (lw_at lw_m12 5 rfl) rfl
theorem q2729 : (Jvm.Cond.code ({ cls := "InkPrinteryModel", name := "errorPosition", desc := "()I" } : Jvm.MethodName) prog_12_method_107_code (1 : Nat) (Option.some Jvm.ClassFile.FieldType.int)) ∈ lw_all := lw_g (lw_at lw_m12 6 rfl) rfl
theorem q2730 : (Jvm.Cond.methodLink "InkPrinteryModel" (266 : Nat) ({ cls := "InkPrinteryModel", name := "present", desc := "(I)I" } : Jvm.MethodName)) ∈ lw_all := lw_g (lw_at lw_m12 7 rfl) rfl
theorem q2731 : (Jvm.Cond.privateMethod ({ cls := "InkPrinteryModel", name := "present", desc := "(I)I" } : Jvm.MethodName)) ∈ lw_tbl := lw_at lw_m12 8 rfl
theorem q2732 : (Jvm.Cond.instanceMethod ({ cls := "InkPrinteryModel", name := "present", desc := "(I)I" } : Jvm.MethodName)) ∈ lw_all := lw_g (lw_at lw_m12 9 rfl) rfl
theorem q2733 : (Jvm.Cond.code ({ cls := "InkPrinteryModel", name := "present", desc := "(I)I" } : Jvm.MethodName) prog_12_method_106_code (2 : Nat) (Option.some Jvm.ClassFile.FieldType.int)) ∈ lw_all := lw_g (lw_at lw_m12 10 rfl) rfl
theorem q2735 : (Jvm.Cond.instanceMethod ({ cls := "InkPrinteryModel", name := "failedCommand", desc := "()I" } : Jvm.MethodName)) ∈ lw_all := lw_g (lw_at lw_m12 12 rfl) rfl
theorem q2736 : (Jvm.Cond.selects "InkPrinteryModel" ({ cls := "InkPrinteryModel", name := "failedCommand", desc := "()I" } : Jvm.MethodName) ({ cls := "InkPrinteryModel", name := "failedCommand", desc := "()I" } : Jvm.MethodName)) ∈ lw_all := lw_g (lw_at lw_m12 13 rfl) rfl
theorem q2737 : (Jvm.Cond.code ({ cls := "InkPrinteryModel", name := "failedCommand", desc := "()I" } : Jvm.MethodName) prog_12_method_108_code (1 : Nat) (Option.some Jvm.ClassFile.FieldType.int)) ∈ lw_all := lw_g (lw_at lw_m12 14 rfl) rfl
theorem q2739 : (Jvm.Cond.instanceMethod ({ cls := "InkPrinteryModel", name := "undo", desc := "()I" } : Jvm.MethodName)) ∈ lw_all := lw_g (lw_at lw_m12 16 rfl) rfl
theorem q2740 : (Jvm.Cond.selects "InkPrinteryModel" ({ cls := "InkPrinteryModel", name := "undo", desc := "()I" } : Jvm.MethodName) ({ cls := "InkPrinteryModel", name := "undo", desc := "()I" } : Jvm.MethodName)) ∈ lw_all := lw_g (lw_at lw_m12 17 rfl) rfl
theorem q2741 : (Jvm.Cond.code ({ cls := "InkPrinteryModel", name := "undo", desc := "()I" } : Jvm.MethodName) prog_12_method_109_code (1 : Nat) (Option.some Jvm.ClassFile.FieldType.int)) ∈ lw_all := lw_g (lw_at lw_m12 18 rfl) rfl
theorem q2743 : (Jvm.Cond.instanceMethod ({ cls := "InkPrinteryModel", name := "save", desc := "()I" } : Jvm.MethodName)) ∈ lw_all := lw_g (lw_at lw_m12 20 rfl) rfl
theorem q2744 : (Jvm.Cond.selects "InkPrinteryModel" ({ cls := "InkPrinteryModel", name := "save", desc := "()I" } : Jvm.MethodName) ({ cls := "InkPrinteryModel", name := "save", desc := "()I" } : Jvm.MethodName)) ∈ lw_all := lw_g (lw_at lw_m12 21 rfl) rfl
theorem q2745 : (Jvm.Cond.code ({ cls := "InkPrinteryModel", name := "save", desc := "()I" } : Jvm.MethodName) prog_12_method_110_code (1 : Nat) (Option.some Jvm.ClassFile.FieldType.int)) ∈ lw_all := lw_g (lw_at lw_m12 22 rfl) rfl
theorem q2747 : (Jvm.Cond.instanceMethod ({ cls := "InkPrinteryModel", name := "restore", desc := "()I" } : Jvm.MethodName)) ∈ lw_all := lw_g (lw_at lw_m12 24 rfl) rfl
theorem q2748 : (Jvm.Cond.selects "InkPrinteryModel" ({ cls := "InkPrinteryModel", name := "restore", desc := "()I" } : Jvm.MethodName) ({ cls := "InkPrinteryModel", name := "restore", desc := "()I" } : Jvm.MethodName)) ∈ lw_all := lw_g (lw_at lw_m12 25 rfl) rfl
theorem q2749 : (Jvm.Cond.code ({ cls := "InkPrinteryModel", name := "restore", desc := "()I" } : Jvm.MethodName) prog_12_method_111_code (1 : Nat) (Option.some Jvm.ClassFile.FieldType.int)) ∈ lw_all := lw_g (lw_at lw_m12 26 rfl) rfl
theorem q2797 : (Jvm.Cond.castable "InkPrinteryModel" "java/lang/Object") ∈ lw_tbl := lw_at lw_m12 74 rfl
theorem in_X7 : ∀ w ∈ wsX70, w ∈ lw_all := lw_in wsX70 [2266, 2268, 2270, 2272, 2274, 2276, 2278, 2280, 2282, 2284, 2286, 2288, 2290, 2292, 2294, 2296, 2298, 2300, 2302, 2304, 2306, 2308, 2310, 2312, 2314] (by decide +kernel) (by decide +kernel)
